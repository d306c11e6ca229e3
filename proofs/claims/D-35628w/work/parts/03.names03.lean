/-! RowenTongue$Term -/
set_option maxRecDepth 100000
def RX3 : String := "RowenTongue$Term"
def TX3 : u_T := fun k => match k with
  | 0 => ("RowenTongue$Term", "number", "I", true)
  | 1 => ("RowenTongue$Term", "kind", "I", true)
  | 2 => ("RowenTongue$Term", "which", "I", true)
  | 3 => ("RowenTongue$Term", "name", "I", true)
  | 4 => ("RowenTongue$Term", "of", "[LRowenTongue$Term;", true)
  | 5 => ("RowenTongue$Term", "heavy", "I", true)
  | _ => ("RowenTongue$Term", "found", "LRowenTongue$Found;", false)
def tyX3 : Nat → FieldType := fun k => match k with
  | 0 => .int
  | 1 => .int
  | 2 => .int
  | 3 => .int
  | 4 => .array (.object "RowenTongue$Term")
  | 5 => .int
  | _ => .object "RowenTongue$Found"
abbrev wsX30 : List Cond := u_ws RX3 TX3 7
theorem nmX3 : ∀ a, a < 7 → ∀ b, b < 7 → a ≠ b → (TX3 a).2.1 ≠ (TX3 b).2.1 := by decide +kernel
theorem tyX3_ok : ∀ k, k < 7 → parseFieldDescriptor (TX3 k).2.2.1 = some (tyX3 k) := by decide +kernel
abbrev cX3_init : ByteArray := prog_35_method_1_code
def yX3_init : MethodName := ⟨RX3, "<init>", "(IIII[LRowenTongue$Term;)V"⟩
def dkwX3_init_3 : List UInt8 := [132, 9, 1, 167, 255, 229, 42, 21, 6, 181, 0, 28, 177]
abbrev dktX3_init_3 : List UInt8 := dkwX3_init_3 ++ []
def dkwX3_init_2 : List UInt8 := [21, 9, 21, 8, 162, 0, 26, 25, 7, 21, 9, 50, 58, 10, 21, 6, 25, 10, 180, 0, 28, 96, 54, 6]
abbrev dktX3_init_2 : List UInt8 := dkwX3_init_2 ++ dktX3_init_3
def dkwX3_init_1 : List UInt8 := [181, 0, 21, 42, 25, 5, 181, 0, 24, 4, 54, 6, 25, 5, 58, 7, 25, 7, 190, 54, 8, 3, 54, 9]
abbrev dktX3_init_1 : List UInt8 := dkwX3_init_1 ++ dktX3_init_2
def dkwX3_init_0 : List UInt8 := [42, 183, 0, 3, 42, 27, 181, 0, 9, 42, 28, 181, 0, 15, 42, 29, 181, 0, 18, 42, 21, 4]
abbrev dktX3_init_0 : List UInt8 := dkwX3_init_0 ++ dktX3_init_1
theorem dksX3_init_0 : cX3_init.data.toList.drop 0 = dktX3_init_0 := by decide +kernel
theorem dksX3_init_1 : cX3_init.data.toList.drop 22 = dktX3_init_1 := dk_seg dksX3_init_0 22 rfl rfl
theorem dksX3_init_2 : cX3_init.data.toList.drop 46 = dktX3_init_2 := dk_seg dksX3_init_1 24 rfl rfl
theorem dksX3_init_3 : cX3_init.data.toList.drop 70 = dktX3_init_3 := dk_seg dksX3_init_2 24 rfl rfl
theorem dX3_init_0 : decode cX3_init 0 = .ok (.aload_n 0, 1) := dk_42 (dk_at dksX3_init_0 0 rfl rfl)
theorem dX3_init_1 : decode cX3_init 1 = .ok (.invokespecial 3, 3) := dk_183 0 3 (dk_at dksX3_init_0 1 rfl rfl)
theorem dX3_init_4 : decode cX3_init 4 = .ok (.aload_n 0, 1) := dk_42 (dk_at dksX3_init_0 4 rfl rfl)
theorem dX3_init_5 : decode cX3_init 5 = .ok (.iload_n 1, 1) := dk_27 (dk_at dksX3_init_0 5 rfl rfl)
theorem dX3_init_6 : decode cX3_init 6 = .ok (.putfield 9, 3) := dk_181 0 9 (dk_at dksX3_init_0 6 rfl rfl)
theorem dX3_init_9 : decode cX3_init 9 = .ok (.aload_n 0, 1) := dk_42 (dk_at dksX3_init_0 9 rfl rfl)
theorem dX3_init_10 : decode cX3_init 10 = .ok (.iload_n 2, 1) := dk_28 (dk_at dksX3_init_0 10 rfl rfl)
theorem dX3_init_11 : decode cX3_init 11 = .ok (.putfield 15, 3) := dk_181 0 15 (dk_at dksX3_init_0 11 rfl rfl)
theorem dX3_init_14 : decode cX3_init 14 = .ok (.aload_n 0, 1) := dk_42 (dk_at dksX3_init_0 14 rfl rfl)
theorem dX3_init_15 : decode cX3_init 15 = .ok (.iload_n 3, 1) := dk_29 (dk_at dksX3_init_0 15 rfl rfl)
theorem dX3_init_16 : decode cX3_init 16 = .ok (.putfield 18, 3) := dk_181 0 18 (dk_at dksX3_init_0 16 rfl rfl)
theorem dX3_init_19 : decode cX3_init 19 = .ok (.aload_n 0, 1) := dk_42 (dk_at dksX3_init_0 19 rfl rfl)
theorem dX3_init_20 : decode cX3_init 20 = .ok (.iload 4, 2) := dk_21 4 (dk_at dksX3_init_0 20 rfl rfl)
theorem dX3_init_22 : decode cX3_init 22 = .ok (.putfield 21, 3) := dk_181 0 21 (dk_at dksX3_init_1 0 rfl rfl)
theorem dX3_init_25 : decode cX3_init 25 = .ok (.aload_n 0, 1) := dk_42 (dk_at dksX3_init_1 3 rfl rfl)
theorem dX3_init_26 : decode cX3_init 26 = .ok (.aload 5, 2) := dk_25 5 (dk_at dksX3_init_1 4 rfl rfl)
theorem dX3_init_28 : decode cX3_init 28 = .ok (.putfield 24, 3) := dk_181 0 24 (dk_at dksX3_init_1 6 rfl rfl)
theorem dX3_init_31 : decode cX3_init 31 = .ok (.iconst 1, 1) := dk_4 (dk_at dksX3_init_1 9 rfl rfl)
theorem dX3_init_32 : decode cX3_init 32 = .ok (.istore 6, 2) := dk_54 6 (dk_at dksX3_init_1 10 rfl rfl)
theorem dX3_init_34 : decode cX3_init 34 = .ok (.aload 5, 2) := dk_25 5 (dk_at dksX3_init_1 12 rfl rfl)
theorem dX3_init_36 : decode cX3_init 36 = .ok (.astore 7, 2) := dk_58 7 (dk_at dksX3_init_1 14 rfl rfl)
theorem dX3_init_38 : decode cX3_init 38 = .ok (.aload 7, 2) := dk_25 7 (dk_at dksX3_init_1 16 rfl rfl)
theorem dX3_init_40 : decode cX3_init 40 = .ok (.arraylength, 1) := dk_190 (dk_at dksX3_init_1 18 rfl rfl)
theorem dX3_init_41 : decode cX3_init 41 = .ok (.istore 8, 2) := dk_54 8 (dk_at dksX3_init_1 19 rfl rfl)
theorem dX3_init_43 : decode cX3_init 43 = .ok (.iconst 0, 1) := dk_3 (dk_at dksX3_init_1 21 rfl rfl)
theorem dX3_init_44 : decode cX3_init 44 = .ok (.istore 9, 2) := dk_54 9 (dk_at dksX3_init_1 22 rfl rfl)
theorem dX3_init_46 : decode cX3_init 46 = .ok (.iload 9, 2) := dk_21 9 (dk_at dksX3_init_2 0 rfl rfl)
theorem dX3_init_48 : decode cX3_init 48 = .ok (.iload 8, 2) := dk_21 8 (dk_at dksX3_init_2 2 rfl rfl)
theorem dX3_init_50 : decode cX3_init 50 = .ok (.if_icmp .ge 26, 3) := dk_162 0 26 (dk_at dksX3_init_2 4 rfl rfl)
theorem dX3_init_53 : decode cX3_init 53 = .ok (.aload 7, 2) := dk_25 7 (dk_at dksX3_init_2 7 rfl rfl)
theorem dX3_init_55 : decode cX3_init 55 = .ok (.iload 9, 2) := dk_21 9 (dk_at dksX3_init_2 9 rfl rfl)
theorem dX3_init_57 : decode cX3_init 57 = .ok (.aaload, 1) := dk_50 (dk_at dksX3_init_2 11 rfl rfl)
theorem dX3_init_58 : decode cX3_init 58 = .ok (.astore 10, 2) := dk_58 10 (dk_at dksX3_init_2 12 rfl rfl)
theorem dX3_init_60 : decode cX3_init 60 = .ok (.iload 6, 2) := dk_21 6 (dk_at dksX3_init_2 14 rfl rfl)
theorem dX3_init_62 : decode cX3_init 62 = .ok (.aload 10, 2) := dk_25 10 (dk_at dksX3_init_2 16 rfl rfl)
theorem dX3_init_64 : decode cX3_init 64 = .ok (.getfield 28, 3) := dk_180 0 28 (dk_at dksX3_init_2 18 rfl rfl)
theorem dX3_init_67 : decode cX3_init 67 = .ok (.iadd, 1) := dk_96 (dk_at dksX3_init_2 21 rfl rfl)
theorem dX3_init_68 : decode cX3_init 68 = .ok (.istore 6, 2) := dk_54 6 (dk_at dksX3_init_2 22 rfl rfl)
theorem dX3_init_70 : decode cX3_init 70 = .ok (.iinc 9 1, 3) := dk_132 9 1 (dk_at dksX3_init_3 0 rfl rfl)
theorem dX3_init_73 : decode cX3_init 73 = .ok (.goto (-27), 3) := dk_167 255 229 (dk_at dksX3_init_3 3 rfl rfl)
theorem dX3_init_76 : decode cX3_init 76 = .ok (.aload_n 0, 1) := dk_42 (dk_at dksX3_init_3 6 rfl rfl)
theorem dX3_init_77 : decode cX3_init 77 = .ok (.iload 6, 2) := dk_21 6 (dk_at dksX3_init_3 7 rfl rfl)
theorem dX3_init_79 : decode cX3_init 79 = .ok (.putfield 28, 3) := dk_181 0 28 (dk_at dksX3_init_3 9 rfl rfl)
theorem dX3_init_82 : decode cX3_init 82 = .ok (.return_, 1) := dk_177 (dk_at dksX3_init_3 12 rfl rfl)
abbrev cX3_isCases : ByteArray := prog_35_method_2_code
def yX3_isCases : MethodName := ⟨RX3, "isCases", "()Z"⟩
def dkwX3_isCases_0 : List UInt8 := [42, 180, 0, 15, 16, 15, 161, 0, 7, 4, 167, 0, 4, 3, 172]
abbrev dktX3_isCases_0 : List UInt8 := dkwX3_isCases_0 ++ []
theorem dksX3_isCases_0 : cX3_isCases.data.toList.drop 0 = dktX3_isCases_0 := by decide +kernel
theorem dX3_isCases_0 : decode cX3_isCases 0 = .ok (.aload_n 0, 1) := dk_42 (dk_at dksX3_isCases_0 0 rfl rfl)
theorem dX3_isCases_1 : decode cX3_isCases 1 = .ok (.getfield 15, 3) := dk_180 0 15 (dk_at dksX3_isCases_0 1 rfl rfl)
theorem dX3_isCases_4 : decode cX3_isCases 4 = .ok (.bipush 15, 2) := dk_16 15 (dk_at dksX3_isCases_0 4 rfl rfl)
theorem dX3_isCases_6 : decode cX3_isCases 6 = .ok (.if_icmp .lt 7, 3) := dk_161 0 7 (dk_at dksX3_isCases_0 6 rfl rfl)
theorem dX3_isCases_9 : decode cX3_isCases 9 = .ok (.iconst 1, 1) := dk_4 (dk_at dksX3_isCases_0 9 rfl rfl)
theorem dX3_isCases_10 : decode cX3_isCases 10 = .ok (.goto 4, 3) := dk_167 0 4 (dk_at dksX3_isCases_0 10 rfl rfl)
theorem dX3_isCases_13 : decode cX3_isCases 13 = .ok (.iconst 0, 1) := dk_3 (dk_at dksX3_isCases_0 13 rfl rfl)
theorem dX3_isCases_14 : decode cX3_isCases 14 = .ok (.ireturn, 1) := dk_172 (dk_at dksX3_isCases_0 14 rfl rfl)
theorem q59 : (Jvm.Cond.initialized "RowenTongue$Term") ∈ lw_all := lw_g (lw_at lw_m1 10 rfl) rfl
theorem q276 : (Jvm.Cond.instantiable "RowenTongue$Term" (7 : Nat)) ∈ lw_all := lw_g (lw_at lw_m1 227 rfl) rfl
theorem q278 : (Jvm.Cond.instanceMethod ({ cls := "RowenTongue$Term", name := "<init>", desc := "(IIII[LRowenTongue$Term;)V" } : Jvm.MethodName)) ∈ lw_all := lw_g (lw_at lw_m1 229 rfl) rfl
theorem q279 : (Jvm.Cond.code ({ cls := "RowenTongue$Term", name := "<init>", desc := "(IIII[LRowenTongue$Term;)V" } : Jvm.MethodName) prog_35_method_1_code (11 : Nat) (Option.none : Option Jvm.ClassFile.FieldType)) ∈ lw_all := lw_g (lw_at lw_m1 230 rfl) rfl
theorem q280 : (Jvm.Cond.methodLink "RowenTongue$Term" (3 : Nat) ({ cls := "java/lang/Object", name := "<init>", desc := "()V" } : Jvm.MethodName)) ∈ lw_all := lw_g (lw_at lw_m1 231 rfl) rfl
theorem q281 : (Jvm.Cond.fieldLink "RowenTongue$Term" (9 : Nat) "RowenTongue$Term" "number" "I") ∈ lw_all := lw_g (lw_at lw_m1 232 rfl) rfl
theorem q284 : (Jvm.Cond.fieldLink "RowenTongue$Term" (15 : Nat) "RowenTongue$Term" "kind" "I") ∈ lw_all := lw_g (lw_at lw_m1 235 rfl) rfl
theorem q288 : (Jvm.Cond.fieldLink "RowenTongue$Term" (18 : Nat) "RowenTongue$Term" "which" "I") ∈ lw_all := lw_g (lw_at lw_m1 239 rfl) rfl
theorem q291 : (Jvm.Cond.fieldLink "RowenTongue$Term" (21 : Nat) "RowenTongue$Term" "name" "I") ∈ lw_all := lw_g (lw_at lw_m2 2 rfl) rfl
theorem q294 : (Jvm.Cond.fieldLink "RowenTongue$Term" (24 : Nat) "RowenTongue$Term" "of" "[LRowenTongue$Term;") ∈ lw_all := lw_g (lw_at lw_m2 5 rfl) rfl
theorem q298 : (Jvm.Cond.fieldLink "RowenTongue$Term" (28 : Nat) "RowenTongue$Term" "heavy" "I") ∈ lw_all := lw_g (lw_at lw_m2 9 rfl) rfl
theorem q301 : (Jvm.Cond.laysFinal "RowenTongue$Term" "RowenTongue$Term" "number" "I") ∈ lw_all := lw_g (lw_at lw_m2 12 rfl) rfl
theorem q302 : (Jvm.Cond.soleField "RowenTongue$Term" "number") ∈ lw_all := lw_g (lw_at lw_m2 13 rfl) rfl
theorem q303 : (Jvm.Cond.laysFinal "RowenTongue$Term" "RowenTongue$Term" "kind" "I") ∈ lw_all := lw_g (lw_at lw_m2 14 rfl) rfl
theorem q304 : (Jvm.Cond.soleField "RowenTongue$Term" "kind") ∈ lw_all := lw_g (lw_at lw_m2 15 rfl) rfl
theorem q305 : (Jvm.Cond.laysFinal "RowenTongue$Term" "RowenTongue$Term" "which" "I") ∈ lw_all := lw_g (lw_at lw_m2 16 rfl) rfl
theorem q306 : (Jvm.Cond.soleField "RowenTongue$Term" "which") ∈ lw_all := lw_g (lw_at lw_m2 17 rfl) rfl
theorem q307 : (Jvm.Cond.laysFinal "RowenTongue$Term" "RowenTongue$Term" "name" "I") ∈ lw_all := lw_g (lw_at lw_m2 18 rfl) rfl
theorem q308 : (Jvm.Cond.soleField "RowenTongue$Term" "name") ∈ lw_all := lw_g (lw_at lw_m2 19 rfl) rfl
theorem q309 : (Jvm.Cond.laysFinal "RowenTongue$Term" "RowenTongue$Term" "of" "[LRowenTongue$Term;") ∈ lw_all := lw_g (lw_at lw_m2 20 rfl) rfl
theorem q310 : (Jvm.Cond.soleField "RowenTongue$Term" "of") ∈ lw_all := lw_g (lw_at lw_m2 21 rfl) rfl
theorem q311 : (Jvm.Cond.laysFinal "RowenTongue$Term" "RowenTongue$Term" "heavy" "I") ∈ lw_all := lw_g (lw_at lw_m2 22 rfl) rfl
theorem q312 : (Jvm.Cond.soleField "RowenTongue$Term" "heavy") ∈ lw_all := lw_g (lw_at lw_m2 23 rfl) rfl
theorem q313 : (Jvm.Cond.lays "RowenTongue$Term" "RowenTongue$Term" "found" "LRowenTongue$Found;") ∈ lw_all := lw_g (lw_at lw_m2 24 rfl) rfl
theorem q314 : (Jvm.Cond.soleField "RowenTongue$Term" "found") ∈ lw_all := lw_g (lw_at lw_m2 25 rfl) rfl
theorem q315 : (Jvm.Cond.superclass "RowenTongue$Term" "java/lang/Object") ∈ lw_all := lw_g (lw_at lw_m2 26 rfl) rfl
theorem q399 : (Jvm.Cond.selects "RowenTongue$Term" ({ cls := "java/lang/Object", name := "getClass", desc := "()Ljava/lang/Class;" } : Jvm.MethodName) ({ cls := "java/lang/Object", name := "getClass", desc := "()Ljava/lang/Class;" } : Jvm.MethodName)) ∈ lw_all := lw_g (lw_at lw_m2 110 rfl) rfl
theorem q514 : (Jvm.Cond.instanceMethod ({ cls := "RowenTongue$Term", name := "isCases", desc := "()Z" } : Jvm.MethodName)) ∈ lw_all := lw_g (lw_at lw_m2 225 rfl) rfl
theorem q515 : (Jvm.Cond.selects "RowenTongue$Term" ({ cls := "RowenTongue$Term", name := "isCases", desc := "()Z" } : Jvm.MethodName) ({ cls := "RowenTongue$Term", name := "isCases", desc := "()Z" } : Jvm.MethodName)) ∈ lw_all := lw_g (lw_at lw_m2 226 rfl) rfl
theorem q516 : (Jvm.Cond.code ({ cls := "RowenTongue$Term", name := "isCases", desc := "()Z" } : Jvm.MethodName) prog_35_method_2_code (1 : Nat) (Option.some Jvm.ClassFile.FieldType.boolean)) ∈ lw_all := lw_g (lw_at lw_m2 227 rfl) rfl
theorem q773 : (Jvm.Cond.selects "RowenTongue$Term" ({ cls := "java/lang/Object", name := "equals", desc := "(Ljava/lang/Object;)Z" } : Jvm.MethodName) ({ cls := "java/lang/Object", name := "equals", desc := "(Ljava/lang/Object;)Z" } : Jvm.MethodName)) ∈ lw_all := lw_g (lw_at lw_m4 4 rfl) rfl
theorem q2881 : (Jvm.Cond.castable "RowenTongue$Term" "java/lang/Object") ∈ lw_tbl := lw_at lw_m12 192 rfl
theorem in_X3 : ∀ w ∈ wsX30, w ∈ lw_all := lw_in wsX30 [301, 303, 305, 307, 309, 311, 313] (by decide +kernel) (by decide +kernel)
/-! RowenTongue$Finder -/
set_option maxRecDepth 100000
def RX4 : String := "RowenTongue$Finder"
def TX4 : u_T := fun k => match k with
  | _ => ("RowenTongue$Finder", "handed", "[I", true)
def tyX4 : Nat → FieldType := fun k => match k with
  | _ => .array .int
abbrev wsX40 : List Cond := u_ws RX4 TX4 1
theorem nmX4 : ∀ a, a < 1 → ∀ b, b < 1 → a ≠ b → (TX4 a).2.1 ≠ (TX4 b).2.1 := by decide +kernel
theorem tyX4_ok : ∀ k, k < 1 → parseFieldDescriptor (TX4 k).2.2.1 = some (tyX4 k) := by decide +kernel
abbrev cX4_init : ByteArray := prog_13_method_1_code
def yX4_init : MethodName := ⟨RX4, "<init>", "()V"⟩
def dkwX4_init_1 : List UInt8 := [27, 2, 79, 132, 1, 1, 167, 255, 240, 177]
abbrev dktX4_init_1 : List UInt8 := dkwX4_init_1 ++ []
def dkwX4_init_0 : List UInt8 := [42, 183, 0, 3, 42, 16, 120, 188, 10, 181, 0, 9, 3, 60, 27, 16, 120, 162, 0, 16, 42, 180, 0, 9]
abbrev dktX4_init_0 : List UInt8 := dkwX4_init_0 ++ dktX4_init_1
theorem dksX4_init_0 : cX4_init.data.toList.drop 0 = dktX4_init_0 := by decide +kernel
theorem dksX4_init_1 : cX4_init.data.toList.drop 24 = dktX4_init_1 := dk_seg dksX4_init_0 24 rfl rfl
theorem dX4_init_0 : decode cX4_init 0 = .ok (.aload_n 0, 1) := dk_42 (dk_at dksX4_init_0 0 rfl rfl)
theorem dX4_init_1 : decode cX4_init 1 = .ok (.invokespecial 3, 3) := dk_183 0 3 (dk_at dksX4_init_0 1 rfl rfl)
theorem dX4_init_4 : decode cX4_init 4 = .ok (.aload_n 0, 1) := dk_42 (dk_at dksX4_init_0 4 rfl rfl)
theorem dX4_init_5 : decode cX4_init 5 = .ok (.bipush 120, 2) := dk_16 120 (dk_at dksX4_init_0 5 rfl rfl)
theorem dX4_init_7 : decode cX4_init 7 = .ok (.newarray .int, 2) := dk_188_10 (dk_at dksX4_init_0 7 rfl rfl)
theorem dX4_init_9 : decode cX4_init 9 = .ok (.putfield 9, 3) := dk_181 0 9 (dk_at dksX4_init_0 9 rfl rfl)
theorem dX4_init_12 : decode cX4_init 12 = .ok (.iconst 0, 1) := dk_3 (dk_at dksX4_init_0 12 rfl rfl)
theorem dX4_init_13 : decode cX4_init 13 = .ok (.istore_n 1, 1) := dk_60 (dk_at dksX4_init_0 13 rfl rfl)
theorem dX4_init_14 : decode cX4_init 14 = .ok (.iload_n 1, 1) := dk_27 (dk_at dksX4_init_0 14 rfl rfl)
theorem dX4_init_15 : decode cX4_init 15 = .ok (.bipush 120, 2) := dk_16 120 (dk_at dksX4_init_0 15 rfl rfl)
theorem dX4_init_17 : decode cX4_init 17 = .ok (.if_icmp .ge 16, 3) := dk_162 0 16 (dk_at dksX4_init_0 17 rfl rfl)
theorem dX4_init_20 : decode cX4_init 20 = .ok (.aload_n 0, 1) := dk_42 (dk_at dksX4_init_0 20 rfl rfl)
theorem dX4_init_21 : decode cX4_init 21 = .ok (.getfield 9, 3) := dk_180 0 9 (dk_at dksX4_init_0 21 rfl rfl)
theorem dX4_init_24 : decode cX4_init 24 = .ok (.iload_n 1, 1) := dk_27 (dk_at dksX4_init_1 0 rfl rfl)
theorem dX4_init_25 : decode cX4_init 25 = .ok (.iconst (-1), 1) := dk_2 (dk_at dksX4_init_1 1 rfl rfl)
theorem dX4_init_26 : decode cX4_init 26 = .ok (.iastore, 1) := dk_79 (dk_at dksX4_init_1 2 rfl rfl)
theorem dX4_init_27 : decode cX4_init 27 = .ok (.iinc 1 1, 3) := dk_132 1 1 (dk_at dksX4_init_1 3 rfl rfl)
theorem dX4_init_30 : decode cX4_init 30 = .ok (.goto (-16), 3) := dk_167 255 240 (dk_at dksX4_init_1 6 rfl rfl)
theorem dX4_init_33 : decode cX4_init 33 = .ok (.return_, 1) := dk_177 (dk_at dksX4_init_1 9 rfl rfl)
abbrev cX4_find : ByteArray := prog_13_method_3_code
def yX4_find : MethodName := ⟨RX4, "find", "(LRowenTongue$Term;LRowenTongue$Known;I)LRowenTongue$Typed;"⟩
def dkwX4_find_7 : List UInt8 := [182, 0, 84, 176]
abbrev dktX4_find_7 : List UInt8 := dkwX4_find_7 ++ []
def dkwX4_find_6 : List UInt8 := [182, 0, 75, 176, 42, 43, 44, 29, 182, 0, 78, 176, 42, 43, 44, 29, 182, 0, 81, 176, 42, 43, 44, 29]
abbrev dktX4_find_6 : List UInt8 := dkwX4_find_6 ++ dktX4_find_7
def dkwX4_find_5 : List UInt8 := [182, 0, 65, 176, 42, 43, 44, 29, 182, 0, 69, 176, 42, 43, 44, 29, 182, 0, 72, 176, 42, 43, 44, 29]
abbrev dktX4_find_5 : List UInt8 := dkwX4_find_5 ++ dktX4_find_6
def dkwX4_find_4 : List UInt8 := [187, 0, 41, 89, 18, 63, 3, 1, 1, 3, 189, 0, 41, 183, 0, 48, 183, 0, 51, 176, 42, 43, 44, 29]
abbrev dktX4_find_4 : List UInt8 := dkwX4_find_4 ++ dktX4_find_5
def dkwX4_find_3 : List UInt8 := [183, 0, 48, 183, 0, 51, 176, 187, 0, 35, 89, 187, 0, 54, 89, 3, 178, 0, 56, 183, 0, 60]
abbrev dktX4_find_3 : List UInt8 := dkwX4_find_3 ++ dktX4_find_4
def dkwX4_find_2 : List UInt8 := [187, 0, 35, 89, 178, 0, 37, 187, 0, 41, 89, 18, 43, 43, 180, 0, 45, 1, 1, 3, 189, 0, 41]
abbrev dktX4_find_2 : List UInt8 := dkwX4_find_2 ++ dktX4_find_3
def dkwX4_find_1 : List UInt8 := [170, 0, 0, 0, 0, 0, 0, 189, 0, 0, 0, 0, 0, 0, 0, 14, 0, 0, 0, 76, 0, 0, 0, 141, 0, 0, 0, 149, 0, 0, 0, 157, 0, 0, 0, 165, 0, 0, 0, 165, 0, 0, 0, 106, 0, 0, 0, 189, 0, 0, 0, 189, 0, 0, 0, 189, 0, 0, 0, 189, 0, 0, 0, 173, 0, 0, 0, 181, 0, 0, 0, 181, 0, 0, 0, 181]
abbrev dktX4_find_1 : List UInt8 := dkwX4_find_1 ++ dktX4_find_2
def dkwX4_find_0 : List UInt8 := [43, 180, 0, 30]
abbrev dktX4_find_0 : List UInt8 := dkwX4_find_0 ++ dktX4_find_1
theorem dksX4_find_0 : cX4_find.data.toList.drop 0 = dktX4_find_0 := by decide +kernel
theorem dksX4_find_1 : cX4_find.data.toList.drop 4 = dktX4_find_1 := dk_seg dksX4_find_0 4 rfl rfl
theorem dksX4_find_2 : cX4_find.data.toList.drop 80 = dktX4_find_2 := dk_seg dksX4_find_1 76 rfl rfl
theorem dksX4_find_3 : cX4_find.data.toList.drop 103 = dktX4_find_3 := dk_seg dksX4_find_2 23 rfl rfl
theorem dksX4_find_4 : cX4_find.data.toList.drop 125 = dktX4_find_4 := dk_seg dksX4_find_3 22 rfl rfl
theorem dksX4_find_5 : cX4_find.data.toList.drop 149 = dktX4_find_5 := dk_seg dksX4_find_4 24 rfl rfl
theorem dksX4_find_6 : cX4_find.data.toList.drop 173 = dktX4_find_6 := dk_seg dksX4_find_5 24 rfl rfl
theorem dksX4_find_7 : cX4_find.data.toList.drop 197 = dktX4_find_7 := dk_seg dksX4_find_6 24 rfl rfl
theorem dX4_find_0 : decode cX4_find 0 = .ok (.aload_n 1, 1) := dk_43 (dk_at dksX4_find_0 0 rfl rfl)
theorem dX4_find_1 : decode cX4_find 1 = .ok (.getfield 30, 3) := dk_180 0 30 (dk_at dksX4_find_0 1 rfl rfl)
theorem dX4_find_4 : decode cX4_find 4 = .ok (.tableswitch 189 0 14 #[76, 141, 149, 157, 165, 165, 106, 189, 189, 189, 189, 173, 181, 181, 181], 76) := by decide +kernel
theorem dX4_find_80 : decode cX4_find 80 = .ok (.new 35, 3) := dk_187 0 35 (dk_at dksX4_find_2 0 rfl rfl)
theorem dX4_find_83 : decode cX4_find 83 = .ok (.dup, 1) := dk_89 (dk_at dksX4_find_2 3 rfl rfl)
theorem dX4_find_84 : decode cX4_find 84 = .ok (.getstatic 37, 3) := dk_178 0 37 (dk_at dksX4_find_2 4 rfl rfl)
theorem dX4_find_87 : decode cX4_find 87 = .ok (.new 41, 3) := dk_187 0 41 (dk_at dksX4_find_2 7 rfl rfl)
theorem dX4_find_90 : decode cX4_find 90 = .ok (.dup, 1) := dk_89 (dk_at dksX4_find_2 10 rfl rfl)
theorem dX4_find_91 : decode cX4_find 91 = .ok (.ldc 43, 2) := dk_18 43 (dk_at dksX4_find_2 11 rfl rfl)
theorem dX4_find_93 : decode cX4_find 93 = .ok (.aload_n 1, 1) := dk_43 (dk_at dksX4_find_2 13 rfl rfl)
theorem dX4_find_94 : decode cX4_find 94 = .ok (.getfield 45, 3) := dk_180 0 45 (dk_at dksX4_find_2 14 rfl rfl)
theorem dX4_find_97 : decode cX4_find 97 = .ok (.aconst_null, 1) := dk_1 (dk_at dksX4_find_2 17 rfl rfl)
theorem dX4_find_98 : decode cX4_find 98 = .ok (.aconst_null, 1) := dk_1 (dk_at dksX4_find_2 18 rfl rfl)
theorem dX4_find_99 : decode cX4_find 99 = .ok (.iconst 0, 1) := dk_3 (dk_at dksX4_find_2 19 rfl rfl)
theorem dX4_find_100 : decode cX4_find 100 = .ok (.anewarray 41, 3) := dk_189 0 41 (dk_at dksX4_find_2 20 rfl rfl)
theorem dX4_find_103 : decode cX4_find 103 = .ok (.invokespecial 48, 3) := dk_183 0 48 (dk_at dksX4_find_3 0 rfl rfl)
theorem dX4_find_106 : decode cX4_find 106 = .ok (.invokespecial 51, 3) := dk_183 0 51 (dk_at dksX4_find_3 3 rfl rfl)
theorem dX4_find_109 : decode cX4_find 109 = .ok (.areturn, 1) := dk_176 (dk_at dksX4_find_3 6 rfl rfl)
theorem dX4_find_110 : decode cX4_find 110 = .ok (.new 35, 3) := dk_187 0 35 (dk_at dksX4_find_3 7 rfl rfl)
theorem dX4_find_113 : decode cX4_find 113 = .ok (.dup, 1) := dk_89 (dk_at dksX4_find_3 10 rfl rfl)
theorem dX4_find_114 : decode cX4_find 114 = .ok (.new 54, 3) := dk_187 0 54 (dk_at dksX4_find_3 11 rfl rfl)
theorem dX4_find_117 : decode cX4_find 117 = .ok (.dup, 1) := dk_89 (dk_at dksX4_find_3 14 rfl rfl)
theorem dX4_find_118 : decode cX4_find 118 = .ok (.iconst 0, 1) := dk_3 (dk_at dksX4_find_3 15 rfl rfl)
theorem dX4_find_119 : decode cX4_find 119 = .ok (.getstatic 56, 3) := dk_178 0 56 (dk_at dksX4_find_3 16 rfl rfl)
theorem dX4_find_122 : decode cX4_find 122 = .ok (.invokespecial 60, 3) := dk_183 0 60 (dk_at dksX4_find_3 19 rfl rfl)
theorem dX4_find_125 : decode cX4_find 125 = .ok (.new 41, 3) := dk_187 0 41 (dk_at dksX4_find_4 0 rfl rfl)
theorem dX4_find_128 : decode cX4_find 128 = .ok (.dup, 1) := dk_89 (dk_at dksX4_find_4 3 rfl rfl)
theorem dX4_find_129 : decode cX4_find 129 = .ok (.ldc 63, 2) := dk_18 63 (dk_at dksX4_find_4 4 rfl rfl)
theorem dX4_find_131 : decode cX4_find 131 = .ok (.iconst 0, 1) := dk_3 (dk_at dksX4_find_4 6 rfl rfl)
theorem dX4_find_132 : decode cX4_find 132 = .ok (.aconst_null, 1) := dk_1 (dk_at dksX4_find_4 7 rfl rfl)
theorem dX4_find_133 : decode cX4_find 133 = .ok (.aconst_null, 1) := dk_1 (dk_at dksX4_find_4 8 rfl rfl)
theorem dX4_find_134 : decode cX4_find 134 = .ok (.iconst 0, 1) := dk_3 (dk_at dksX4_find_4 9 rfl rfl)
theorem dX4_find_135 : decode cX4_find 135 = .ok (.anewarray 41, 3) := dk_189 0 41 (dk_at dksX4_find_4 10 rfl rfl)
theorem dX4_find_138 : decode cX4_find 138 = .ok (.invokespecial 48, 3) := dk_183 0 48 (dk_at dksX4_find_4 13 rfl rfl)
theorem dX4_find_141 : decode cX4_find 141 = .ok (.invokespecial 51, 3) := dk_183 0 51 (dk_at dksX4_find_4 16 rfl rfl)
theorem dX4_find_144 : decode cX4_find 144 = .ok (.areturn, 1) := dk_176 (dk_at dksX4_find_4 19 rfl rfl)
theorem dX4_find_145 : decode cX4_find 145 = .ok (.aload_n 0, 1) := dk_42 (dk_at dksX4_find_4 20 rfl rfl)
theorem dX4_find_146 : decode cX4_find 146 = .ok (.aload_n 1, 1) := dk_43 (dk_at dksX4_find_4 21 rfl rfl)
theorem dX4_find_147 : decode cX4_find 147 = .ok (.aload_n 2, 1) := dk_44 (dk_at dksX4_find_4 22 rfl rfl)
theorem dX4_find_148 : decode cX4_find 148 = .ok (.iload_n 3, 1) := dk_29 (dk_at dksX4_find_4 23 rfl rfl)
theorem dX4_find_149 : decode cX4_find 149 = .ok (.invokevirtual 65, 3) := dk_182 0 65 (dk_at dksX4_find_5 0 rfl rfl)
theorem dX4_find_152 : decode cX4_find 152 = .ok (.areturn, 1) := dk_176 (dk_at dksX4_find_5 3 rfl rfl)
theorem dX4_find_153 : decode cX4_find 153 = .ok (.aload_n 0, 1) := dk_42 (dk_at dksX4_find_5 4 rfl rfl)
theorem dX4_find_154 : decode cX4_find 154 = .ok (.aload_n 1, 1) := dk_43 (dk_at dksX4_find_5 5 rfl rfl)
theorem dX4_find_155 : decode cX4_find 155 = .ok (.aload_n 2, 1) := dk_44 (dk_at dksX4_find_5 6 rfl rfl)
theorem dX4_find_156 : decode cX4_find 156 = .ok (.iload_n 3, 1) := dk_29 (dk_at dksX4_find_5 7 rfl rfl)
theorem dX4_find_157 : decode cX4_find 157 = .ok (.invokevirtual 69, 3) := dk_182 0 69 (dk_at dksX4_find_5 8 rfl rfl)
theorem dX4_find_160 : decode cX4_find 160 = .ok (.areturn, 1) := dk_176 (dk_at dksX4_find_5 11 rfl rfl)
theorem dX4_find_161 : decode cX4_find 161 = .ok (.aload_n 0, 1) := dk_42 (dk_at dksX4_find_5 12 rfl rfl)
theorem dX4_find_162 : decode cX4_find 162 = .ok (.aload_n 1, 1) := dk_43 (dk_at dksX4_find_5 13 rfl rfl)
theorem dX4_find_163 : decode cX4_find 163 = .ok (.aload_n 2, 1) := dk_44 (dk_at dksX4_find_5 14 rfl rfl)
theorem dX4_find_164 : decode cX4_find 164 = .ok (.iload_n 3, 1) := dk_29 (dk_at dksX4_find_5 15 rfl rfl)
theorem dX4_find_165 : decode cX4_find 165 = .ok (.invokevirtual 72, 3) := dk_182 0 72 (dk_at dksX4_find_5 16 rfl rfl)
theorem dX4_find_168 : decode cX4_find 168 = .ok (.areturn, 1) := dk_176 (dk_at dksX4_find_5 19 rfl rfl)
theorem dX4_find_169 : decode cX4_find 169 = .ok (.aload_n 0, 1) := dk_42 (dk_at dksX4_find_5 20 rfl rfl)
theorem dX4_find_170 : decode cX4_find 170 = .ok (.aload_n 1, 1) := dk_43 (dk_at dksX4_find_5 21 rfl rfl)
theorem dX4_find_171 : decode cX4_find 171 = .ok (.aload_n 2, 1) := dk_44 (dk_at dksX4_find_5 22 rfl rfl)
theorem dX4_find_172 : decode cX4_find 172 = .ok (.iload_n 3, 1) := dk_29 (dk_at dksX4_find_5 23 rfl rfl)
theorem dX4_find_173 : decode cX4_find 173 = .ok (.invokevirtual 75, 3) := dk_182 0 75 (dk_at dksX4_find_6 0 rfl rfl)
theorem dX4_find_176 : decode cX4_find 176 = .ok (.areturn, 1) := dk_176 (dk_at dksX4_find_6 3 rfl rfl)
theorem dX4_find_177 : decode cX4_find 177 = .ok (.aload_n 0, 1) := dk_42 (dk_at dksX4_find_6 4 rfl rfl)
theorem dX4_find_178 : decode cX4_find 178 = .ok (.aload_n 1, 1) := dk_43 (dk_at dksX4_find_6 5 rfl rfl)
theorem dX4_find_179 : decode cX4_find 179 = .ok (.aload_n 2, 1) := dk_44 (dk_at dksX4_find_6 6 rfl rfl)
theorem dX4_find_180 : decode cX4_find 180 = .ok (.iload_n 3, 1) := dk_29 (dk_at dksX4_find_6 7 rfl rfl)
theorem dX4_find_181 : decode cX4_find 181 = .ok (.invokevirtual 78, 3) := dk_182 0 78 (dk_at dksX4_find_6 8 rfl rfl)
theorem dX4_find_184 : decode cX4_find 184 = .ok (.areturn, 1) := dk_176 (dk_at dksX4_find_6 11 rfl rfl)
theorem dX4_find_185 : decode cX4_find 185 = .ok (.aload_n 0, 1) := dk_42 (dk_at dksX4_find_6 12 rfl rfl)
theorem dX4_find_186 : decode cX4_find 186 = .ok (.aload_n 1, 1) := dk_43 (dk_at dksX4_find_6 13 rfl rfl)
theorem dX4_find_187 : decode cX4_find 187 = .ok (.aload_n 2, 1) := dk_44 (dk_at dksX4_find_6 14 rfl rfl)
theorem dX4_find_188 : decode cX4_find 188 = .ok (.iload_n 3, 1) := dk_29 (dk_at dksX4_find_6 15 rfl rfl)
theorem dX4_find_189 : decode cX4_find 189 = .ok (.invokevirtual 81, 3) := dk_182 0 81 (dk_at dksX4_find_6 16 rfl rfl)
theorem dX4_find_192 : decode cX4_find 192 = .ok (.areturn, 1) := dk_176 (dk_at dksX4_find_6 19 rfl rfl)
theorem dX4_find_193 : decode cX4_find 193 = .ok (.aload_n 0, 1) := dk_42 (dk_at dksX4_find_6 20 rfl rfl)
theorem dX4_find_194 : decode cX4_find 194 = .ok (.aload_n 1, 1) := dk_43 (dk_at dksX4_find_6 21 rfl rfl)
theorem dX4_find_195 : decode cX4_find 195 = .ok (.aload_n 2, 1) := dk_44 (dk_at dksX4_find_6 22 rfl rfl)
theorem dX4_find_196 : decode cX4_find 196 = .ok (.iload_n 3, 1) := dk_29 (dk_at dksX4_find_6 23 rfl rfl)
theorem dX4_find_197 : decode cX4_find 197 = .ok (.invokevirtual 84, 3) := dk_182 0 84 (dk_at dksX4_find_7 0 rfl rfl)
theorem dX4_find_200 : decode cX4_find 200 = .ok (.areturn, 1) := dk_176 (dk_at dksX4_find_7 3 rfl rfl)
abbrev cX4_findName : ByteArray := prog_13_method_4_code
def yX4_findName : MethodName := ⟨RX4, "findName", "(LRowenTongue$Term;LRowenTongue$Known;I)LRowenTongue$Typed;"⟩
def dkwX4_findName_8 : List UInt8 := [187, 0, 41, 89, 18, 103, 43, 180, 0, 45, 1, 25, 7, 3, 189, 0, 41, 183, 0, 48, 183, 0, 51, 176]
abbrev dktX4_findName_8 : List UInt8 := dkwX4_findName_8 ++ []
def dkwX4_findName_7 : List UInt8 := [182, 0, 135, 25, 9, 180, 0, 139, 183, 0, 142, 182, 0, 145, 87, 167, 255, 206, 187, 0, 35, 89, 25, 6]
abbrev dktX4_findName_7 : List UInt8 := dkwX4_findName_7 ++ dktX4_findName_8
def dkwX4_findName_6 : List UInt8 := [185, 0, 126, 1, 0, 192, 0, 129, 58, 9, 25, 7, 187, 0, 129, 89, 25, 5, 25, 9, 180, 0, 131]
abbrev dktX4_findName_6 : List UInt8 := dkwX4_findName_6 ++ dktX4_findName_7
def dkwX4_findName_5 : List UInt8 := [25, 4, 180, 0, 96, 182, 0, 116, 58, 8, 25, 8, 185, 0, 120, 1, 0, 153, 0, 46, 25, 8]
abbrev dktX4_findName_5 : List UInt8 := dkwX4_findName_5 ++ dktX4_findName_6
def dkwX4_findName_4 : List UInt8 := [58, 5, 25, 5, 25, 4, 180, 0, 100, 182, 0, 109, 58, 6, 187, 0, 113, 89, 183, 0, 115, 58, 7]
abbrev dktX4_findName_4 : List UInt8 := dkwX4_findName_4 ++ dktX4_findName_5
def dkwX4_findName_3 : List UInt8 := [180, 0, 45, 1, 1, 3, 189, 0, 41, 183, 0, 48, 183, 0, 51, 176, 187, 0, 104, 89, 29, 183, 0, 106]
abbrev dktX4_findName_3 : List UInt8 := dkwX4_findName_3 ++ dktX4_findName_4
def dkwX4_findName_2 : List UInt8 := [25, 4, 180, 0, 96, 199, 0, 35, 187, 0, 35, 89, 25, 4, 180, 0, 100, 187, 0, 41, 89, 18, 103, 43]
abbrev dktX4_findName_2 : List UInt8 := dkwX4_findName_2 ++ dktX4_findName_3
def dkwX4_findName_1 : List UInt8 := [180, 0, 92, 58, 4, 167, 255, 232, 25, 4, 199, 0, 14, 187, 0, 21, 89, 4, 43, 1, 183, 0, 27, 191]
abbrev dktX4_findName_1 : List UInt8 := dkwX4_findName_1 ++ dktX4_findName_2
def dkwX4_findName_0 : List UInt8 := [44, 58, 4, 25, 4, 198, 0, 25, 25, 4, 180, 0, 87, 43, 180, 0, 45, 159, 0, 13, 25, 4]
abbrev dktX4_findName_0 : List UInt8 := dkwX4_findName_0 ++ dktX4_findName_1
theorem dksX4_findName_0 : cX4_findName.data.toList.drop 0 = dktX4_findName_0 := by decide +kernel
theorem dksX4_findName_1 : cX4_findName.data.toList.drop 22 = dktX4_findName_1 := dk_seg dksX4_findName_0 22 rfl rfl
theorem dksX4_findName_2 : cX4_findName.data.toList.drop 46 = dktX4_findName_2 := dk_seg dksX4_findName_1 24 rfl rfl
theorem dksX4_findName_3 : cX4_findName.data.toList.drop 70 = dktX4_findName_3 := dk_seg dksX4_findName_2 24 rfl rfl
theorem dksX4_findName_4 : cX4_findName.data.toList.drop 94 = dktX4_findName_4 := dk_seg dksX4_findName_3 24 rfl rfl
theorem dksX4_findName_5 : cX4_findName.data.toList.drop 117 = dktX4_findName_5 := dk_seg dksX4_findName_4 23 rfl rfl
theorem dksX4_findName_6 : cX4_findName.data.toList.drop 139 = dktX4_findName_6 := dk_seg dksX4_findName_5 22 rfl rfl
theorem dksX4_findName_7 : cX4_findName.data.toList.drop 162 = dktX4_findName_7 := dk_seg dksX4_findName_6 23 rfl rfl
theorem dksX4_findName_8 : cX4_findName.data.toList.drop 186 = dktX4_findName_8 := dk_seg dksX4_findName_7 24 rfl rfl
theorem dX4_findName_0 : decode cX4_findName 0 = .ok (.aload_n 2, 1) := dk_44 (dk_at dksX4_findName_0 0 rfl rfl)
theorem dX4_findName_1 : decode cX4_findName 1 = .ok (.astore 4, 2) := dk_58 4 (dk_at dksX4_findName_0 1 rfl rfl)
theorem dX4_findName_3 : decode cX4_findName 3 = .ok (.aload 4, 2) := dk_25 4 (dk_at dksX4_findName_0 3 rfl rfl)
theorem dX4_findName_5 : decode cX4_findName 5 = .ok (.ifnull 25, 3) := dk_198 0 25 (dk_at dksX4_findName_0 5 rfl rfl)
theorem dX4_findName_8 : decode cX4_findName 8 = .ok (.aload 4, 2) := dk_25 4 (dk_at dksX4_findName_0 8 rfl rfl)
theorem dX4_findName_10 : decode cX4_findName 10 = .ok (.getfield 87, 3) := dk_180 0 87 (dk_at dksX4_findName_0 10 rfl rfl)
theorem dX4_findName_13 : decode cX4_findName 13 = .ok (.aload_n 1, 1) := dk_43 (dk_at dksX4_findName_0 13 rfl rfl)
theorem dX4_findName_14 : decode cX4_findName 14 = .ok (.getfield 45, 3) := dk_180 0 45 (dk_at dksX4_findName_0 14 rfl rfl)
theorem dX4_findName_17 : decode cX4_findName 17 = .ok (.if_icmp .eq 13, 3) := dk_159 0 13 (dk_at dksX4_findName_0 17 rfl rfl)
theorem dX4_findName_20 : decode cX4_findName 20 = .ok (.aload 4, 2) := dk_25 4 (dk_at dksX4_findName_0 20 rfl rfl)
theorem dX4_findName_22 : decode cX4_findName 22 = .ok (.getfield 92, 3) := dk_180 0 92 (dk_at dksX4_findName_1 0 rfl rfl)
theorem dX4_findName_25 : decode cX4_findName 25 = .ok (.astore 4, 2) := dk_58 4 (dk_at dksX4_findName_1 3 rfl rfl)
theorem dX4_findName_27 : decode cX4_findName 27 = .ok (.goto (-24), 3) := dk_167 255 232 (dk_at dksX4_findName_1 5 rfl rfl)
theorem dX4_findName_30 : decode cX4_findName 30 = .ok (.aload 4, 2) := dk_25 4 (dk_at dksX4_findName_1 8 rfl rfl)
theorem dX4_findName_32 : decode cX4_findName 32 = .ok (.ifnonnull 14, 3) := dk_199 0 14 (dk_at dksX4_findName_1 10 rfl rfl)
theorem dX4_findName_35 : decode cX4_findName 35 = .ok (.new 21, 3) := dk_187 0 21 (dk_at dksX4_findName_1 13 rfl rfl)
theorem dX4_findName_38 : decode cX4_findName 38 = .ok (.dup, 1) := dk_89 (dk_at dksX4_findName_1 16 rfl rfl)
theorem dX4_findName_39 : decode cX4_findName 39 = .ok (.iconst 1, 1) := dk_4 (dk_at dksX4_findName_1 17 rfl rfl)
theorem dX4_findName_40 : decode cX4_findName 40 = .ok (.aload_n 1, 1) := dk_43 (dk_at dksX4_findName_1 18 rfl rfl)
theorem dX4_findName_41 : decode cX4_findName 41 = .ok (.aconst_null, 1) := dk_1 (dk_at dksX4_findName_1 19 rfl rfl)
theorem dX4_findName_42 : decode cX4_findName 42 = .ok (.invokespecial 27, 3) := dk_183 0 27 (dk_at dksX4_findName_1 20 rfl rfl)
theorem dX4_findName_45 : decode cX4_findName 45 = .ok (.athrow, 1) := dk_191 (dk_at dksX4_findName_1 23 rfl rfl)
theorem dX4_findName_46 : decode cX4_findName 46 = .ok (.aload 4, 2) := dk_25 4 (dk_at dksX4_findName_2 0 rfl rfl)
theorem dX4_findName_48 : decode cX4_findName 48 = .ok (.getfield 96, 3) := dk_180 0 96 (dk_at dksX4_findName_2 2 rfl rfl)
theorem dX4_findName_51 : decode cX4_findName 51 = .ok (.ifnonnull 35, 3) := dk_199 0 35 (dk_at dksX4_findName_2 5 rfl rfl)
theorem dX4_findName_54 : decode cX4_findName 54 = .ok (.new 35, 3) := dk_187 0 35 (dk_at dksX4_findName_2 8 rfl rfl)
theorem dX4_findName_57 : decode cX4_findName 57 = .ok (.dup, 1) := dk_89 (dk_at dksX4_findName_2 11 rfl rfl)
theorem dX4_findName_58 : decode cX4_findName 58 = .ok (.aload 4, 2) := dk_25 4 (dk_at dksX4_findName_2 12 rfl rfl)
theorem dX4_findName_60 : decode cX4_findName 60 = .ok (.getfield 100, 3) := dk_180 0 100 (dk_at dksX4_findName_2 14 rfl rfl)
theorem dX4_findName_63 : decode cX4_findName 63 = .ok (.new 41, 3) := dk_187 0 41 (dk_at dksX4_findName_2 17 rfl rfl)
theorem dX4_findName_66 : decode cX4_findName 66 = .ok (.dup, 1) := dk_89 (dk_at dksX4_findName_2 20 rfl rfl)
theorem dX4_findName_67 : decode cX4_findName 67 = .ok (.ldc 103, 2) := dk_18 103 (dk_at dksX4_findName_2 21 rfl rfl)
theorem dX4_findName_69 : decode cX4_findName 69 = .ok (.aload_n 1, 1) := dk_43 (dk_at dksX4_findName_2 23 rfl rfl)
theorem dX4_findName_70 : decode cX4_findName 70 = .ok (.getfield 45, 3) := dk_180 0 45 (dk_at dksX4_findName_3 0 rfl rfl)
theorem dX4_findName_73 : decode cX4_findName 73 = .ok (.aconst_null, 1) := dk_1 (dk_at dksX4_findName_3 3 rfl rfl)
theorem dX4_findName_74 : decode cX4_findName 74 = .ok (.aconst_null, 1) := dk_1 (dk_at dksX4_findName_3 4 rfl rfl)
theorem dX4_findName_75 : decode cX4_findName 75 = .ok (.iconst 0, 1) := dk_3 (dk_at dksX4_findName_3 5 rfl rfl)
theorem dX4_findName_76 : decode cX4_findName 76 = .ok (.anewarray 41, 3) := dk_189 0 41 (dk_at dksX4_findName_3 6 rfl rfl)
theorem dX4_findName_79 : decode cX4_findName 79 = .ok (.invokespecial 48, 3) := dk_183 0 48 (dk_at dksX4_findName_3 9 rfl rfl)
theorem dX4_findName_82 : decode cX4_findName 82 = .ok (.invokespecial 51, 3) := dk_183 0 51 (dk_at dksX4_findName_3 12 rfl rfl)
theorem dX4_findName_85 : decode cX4_findName 85 = .ok (.areturn, 1) := dk_176 (dk_at dksX4_findName_3 15 rfl rfl)
theorem dX4_findName_86 : decode cX4_findName 86 = .ok (.new 104, 3) := dk_187 0 104 (dk_at dksX4_findName_3 16 rfl rfl)
theorem dX4_findName_89 : decode cX4_findName 89 = .ok (.dup, 1) := dk_89 (dk_at dksX4_findName_3 19 rfl rfl)
theorem dX4_findName_90 : decode cX4_findName 90 = .ok (.iload_n 3, 1) := dk_29 (dk_at dksX4_findName_3 20 rfl rfl)
theorem dX4_findName_91 : decode cX4_findName 91 = .ok (.invokespecial 106, 3) := dk_183 0 106 (dk_at dksX4_findName_3 21 rfl rfl)
theorem dX4_findName_94 : decode cX4_findName 94 = .ok (.astore 5, 2) := dk_58 5 (dk_at dksX4_findName_4 0 rfl rfl)
theorem dX4_findName_96 : decode cX4_findName 96 = .ok (.aload 5, 2) := dk_25 5 (dk_at dksX4_findName_4 2 rfl rfl)
theorem dX4_findName_98 : decode cX4_findName 98 = .ok (.aload 4, 2) := dk_25 4 (dk_at dksX4_findName_4 4 rfl rfl)
theorem dX4_findName_100 : decode cX4_findName 100 = .ok (.getfield 100, 3) := dk_180 0 100 (dk_at dksX4_findName_4 6 rfl rfl)
theorem dX4_findName_103 : decode cX4_findName 103 = .ok (.invokevirtual 109, 3) := dk_182 0 109 (dk_at dksX4_findName_4 9 rfl rfl)
theorem dX4_findName_106 : decode cX4_findName 106 = .ok (.astore 6, 2) := dk_58 6 (dk_at dksX4_findName_4 12 rfl rfl)
theorem dX4_findName_108 : decode cX4_findName 108 = .ok (.new 113, 3) := dk_187 0 113 (dk_at dksX4_findName_4 14 rfl rfl)
theorem dX4_findName_111 : decode cX4_findName 111 = .ok (.dup, 1) := dk_89 (dk_at dksX4_findName_4 17 rfl rfl)
theorem dX4_findName_112 : decode cX4_findName 112 = .ok (.invokespecial 115, 3) := dk_183 0 115 (dk_at dksX4_findName_4 18 rfl rfl)
theorem dX4_findName_115 : decode cX4_findName 115 = .ok (.astore 7, 2) := dk_58 7 (dk_at dksX4_findName_4 21 rfl rfl)
theorem dX4_findName_117 : decode cX4_findName 117 = .ok (.aload 4, 2) := dk_25 4 (dk_at dksX4_findName_5 0 rfl rfl)
theorem dX4_findName_119 : decode cX4_findName 119 = .ok (.getfield 96, 3) := dk_180 0 96 (dk_at dksX4_findName_5 2 rfl rfl)
theorem dX4_findName_122 : decode cX4_findName 122 = .ok (.invokevirtual 116, 3) := dk_182 0 116 (dk_at dksX4_findName_5 5 rfl rfl)
theorem dX4_findName_125 : decode cX4_findName 125 = .ok (.astore 8, 2) := dk_58 8 (dk_at dksX4_findName_5 8 rfl rfl)
theorem dX4_findName_127 : decode cX4_findName 127 = .ok (.aload 8, 2) := dk_25 8 (dk_at dksX4_findName_5 10 rfl rfl)
theorem dX4_findName_129 : decode cX4_findName 129 = .ok (.invokeinterface 120 1, 5) := by decide +kernel
theorem dX4_findName_134 : decode cX4_findName 134 = .ok (.ifCond .eq 46, 3) := dk_153 0 46 (dk_at dksX4_findName_5 17 rfl rfl)
theorem dX4_findName_137 : decode cX4_findName 137 = .ok (.aload 8, 2) := dk_25 8 (dk_at dksX4_findName_5 20 rfl rfl)
theorem dX4_findName_139 : decode cX4_findName 139 = .ok (.invokeinterface 126 1, 5) := by decide +kernel
theorem dX4_findName_144 : decode cX4_findName 144 = .ok (.checkcast 129, 3) := dk_192 0 129 (dk_at dksX4_findName_6 5 rfl rfl)
theorem dX4_findName_147 : decode cX4_findName 147 = .ok (.astore 9, 2) := dk_58 9 (dk_at dksX4_findName_6 8 rfl rfl)
theorem dX4_findName_149 : decode cX4_findName 149 = .ok (.aload 7, 2) := dk_25 7 (dk_at dksX4_findName_6 10 rfl rfl)
theorem dX4_findName_151 : decode cX4_findName 151 = .ok (.new 129, 3) := dk_187 0 129 (dk_at dksX4_findName_6 12 rfl rfl)
theorem dX4_findName_154 : decode cX4_findName 154 = .ok (.dup, 1) := dk_89 (dk_at dksX4_findName_6 15 rfl rfl)
theorem dX4_findName_155 : decode cX4_findName 155 = .ok (.aload 5, 2) := dk_25 5 (dk_at dksX4_findName_6 16 rfl rfl)
theorem dX4_findName_157 : decode cX4_findName 157 = .ok (.aload 9, 2) := dk_25 9 (dk_at dksX4_findName_6 18 rfl rfl)
theorem dX4_findName_159 : decode cX4_findName 159 = .ok (.getfield 131, 3) := dk_180 0 131 (dk_at dksX4_findName_6 20 rfl rfl)
theorem dX4_findName_162 : decode cX4_findName 162 = .ok (.invokevirtual 135, 3) := dk_182 0 135 (dk_at dksX4_findName_7 0 rfl rfl)
theorem dX4_findName_165 : decode cX4_findName 165 = .ok (.aload 9, 2) := dk_25 9 (dk_at dksX4_findName_7 3 rfl rfl)
theorem dX4_findName_167 : decode cX4_findName 167 = .ok (.getfield 139, 3) := dk_180 0 139 (dk_at dksX4_findName_7 5 rfl rfl)
theorem dX4_findName_170 : decode cX4_findName 170 = .ok (.invokespecial 142, 3) := dk_183 0 142 (dk_at dksX4_findName_7 8 rfl rfl)
theorem dX4_findName_173 : decode cX4_findName 173 = .ok (.invokevirtual 145, 3) := dk_182 0 145 (dk_at dksX4_findName_7 11 rfl rfl)
theorem dX4_findName_176 : decode cX4_findName 176 = .ok (.pop, 1) := dk_87 (dk_at dksX4_findName_7 14 rfl rfl)
theorem dX4_findName_177 : decode cX4_findName 177 = .ok (.goto (-50), 3) := dk_167 255 206 (dk_at dksX4_findName_7 15 rfl rfl)
theorem dX4_findName_180 : decode cX4_findName 180 = .ok (.new 35, 3) := dk_187 0 35 (dk_at dksX4_findName_7 18 rfl rfl)
theorem dX4_findName_183 : decode cX4_findName 183 = .ok (.dup, 1) := dk_89 (dk_at dksX4_findName_7 21 rfl rfl)
theorem dX4_findName_184 : decode cX4_findName 184 = .ok (.aload 6, 2) := dk_25 6 (dk_at dksX4_findName_7 22 rfl rfl)
theorem dX4_findName_186 : decode cX4_findName 186 = .ok (.new 41, 3) := dk_187 0 41 (dk_at dksX4_findName_8 0 rfl rfl)
theorem dX4_findName_189 : decode cX4_findName 189 = .ok (.dup, 1) := dk_89 (dk_at dksX4_findName_8 3 rfl rfl)
theorem dX4_findName_190 : decode cX4_findName 190 = .ok (.ldc 103, 2) := dk_18 103 (dk_at dksX4_findName_8 4 rfl rfl)
theorem dX4_findName_192 : decode cX4_findName 192 = .ok (.aload_n 1, 1) := dk_43 (dk_at dksX4_findName_8 6 rfl rfl)
theorem dX4_findName_193 : decode cX4_findName 193 = .ok (.getfield 45, 3) := dk_180 0 45 (dk_at dksX4_findName_8 7 rfl rfl)
theorem dX4_findName_196 : decode cX4_findName 196 = .ok (.aconst_null, 1) := dk_1 (dk_at dksX4_findName_8 10 rfl rfl)
theorem dX4_findName_197 : decode cX4_findName 197 = .ok (.aload 7, 2) := dk_25 7 (dk_at dksX4_findName_8 11 rfl rfl)
theorem dX4_findName_199 : decode cX4_findName 199 = .ok (.iconst 0, 1) := dk_3 (dk_at dksX4_findName_8 13 rfl rfl)
theorem dX4_findName_200 : decode cX4_findName 200 = .ok (.anewarray 41, 3) := dk_189 0 41 (dk_at dksX4_findName_8 14 rfl rfl)
theorem dX4_findName_203 : decode cX4_findName 203 = .ok (.invokespecial 48, 3) := dk_183 0 48 (dk_at dksX4_findName_8 17 rfl rfl)
theorem dX4_findName_206 : decode cX4_findName 206 = .ok (.invokespecial 51, 3) := dk_183 0 51 (dk_at dksX4_findName_8 20 rfl rfl)
theorem dX4_findName_209 : decode cX4_findName 209 = .ok (.areturn, 1) := dk_176 (dk_at dksX4_findName_8 23 rfl rfl)
abbrev cX4_findFun : ByteArray := prog_13_method_5_code
def yX4_findFun : MethodName := ⟨RX4, "findFun", "(LRowenTongue$Term;LRowenTongue$Known;I)LRowenTongue$Typed;"⟩
def dkwX4_findFun_3 : List UInt8 := [189, 0, 41, 89, 3, 25, 5, 180, 0, 170, 83, 183, 0, 48, 183, 0, 51, 176]
abbrev dktX4_findFun_3 : List UInt8 := dkwX4_findFun_3 ++ []
def dkwX4_findFun_2 : List UInt8 := [25, 4, 25, 5, 180, 0, 165, 183, 0, 166, 187, 0, 41, 89, 18, 168, 43, 180, 0, 45, 1, 1, 4]
abbrev dktX4_findFun_2 : List UInt8 := dkwX4_findFun_2 ++ dktX4_findFun_3
def dkwX4_findFun_1 : List UInt8 := [180, 0, 45, 25, 4, 1, 44, 183, 0, 157, 29, 182, 0, 160, 58, 5, 187, 0, 35, 89, 187, 0, 163, 89]
abbrev dktX4_findFun_1 : List UInt8 := dkwX4_findFun_1 ++ dktX4_findFun_2
def dkwX4_findFun_0 : List UInt8 := [187, 0, 149, 89, 29, 3, 183, 0, 151, 58, 4, 42, 43, 180, 0, 154, 3, 50, 187, 0, 88, 89, 43]
abbrev dktX4_findFun_0 : List UInt8 := dkwX4_findFun_0 ++ dktX4_findFun_1
theorem dksX4_findFun_0 : cX4_findFun.data.toList.drop 0 = dktX4_findFun_0 := by decide +kernel
theorem dksX4_findFun_1 : cX4_findFun.data.toList.drop 23 = dktX4_findFun_1 := dk_seg dksX4_findFun_0 23 rfl rfl
theorem dksX4_findFun_2 : cX4_findFun.data.toList.drop 47 = dktX4_findFun_2 := dk_seg dksX4_findFun_1 24 rfl rfl
theorem dksX4_findFun_3 : cX4_findFun.data.toList.drop 70 = dktX4_findFun_3 := dk_seg dksX4_findFun_2 23 rfl rfl
theorem dX4_findFun_0 : decode cX4_findFun 0 = .ok (.new 149, 3) := dk_187 0 149 (dk_at dksX4_findFun_0 0 rfl rfl)
theorem dX4_findFun_3 : decode cX4_findFun 3 = .ok (.dup, 1) := dk_89 (dk_at dksX4_findFun_0 3 rfl rfl)
theorem dX4_findFun_4 : decode cX4_findFun 4 = .ok (.iload_n 3, 1) := dk_29 (dk_at dksX4_findFun_0 4 rfl rfl)
theorem dX4_findFun_5 : decode cX4_findFun 5 = .ok (.iconst 0, 1) := dk_3 (dk_at dksX4_findFun_0 5 rfl rfl)
theorem dX4_findFun_6 : decode cX4_findFun 6 = .ok (.invokespecial 151, 3) := dk_183 0 151 (dk_at dksX4_findFun_0 6 rfl rfl)
theorem dX4_findFun_9 : decode cX4_findFun 9 = .ok (.astore 4, 2) := dk_58 4 (dk_at dksX4_findFun_0 9 rfl rfl)
theorem dX4_findFun_11 : decode cX4_findFun 11 = .ok (.aload_n 0, 1) := dk_42 (dk_at dksX4_findFun_0 11 rfl rfl)
theorem dX4_findFun_12 : decode cX4_findFun 12 = .ok (.aload_n 1, 1) := dk_43 (dk_at dksX4_findFun_0 12 rfl rfl)
theorem dX4_findFun_13 : decode cX4_findFun 13 = .ok (.getfield 154, 3) := dk_180 0 154 (dk_at dksX4_findFun_0 13 rfl rfl)
theorem dX4_findFun_16 : decode cX4_findFun 16 = .ok (.iconst 0, 1) := dk_3 (dk_at dksX4_findFun_0 16 rfl rfl)
theorem dX4_findFun_17 : decode cX4_findFun 17 = .ok (.aaload, 1) := dk_50 (dk_at dksX4_findFun_0 17 rfl rfl)
theorem dX4_findFun_18 : decode cX4_findFun 18 = .ok (.new 88, 3) := dk_187 0 88 (dk_at dksX4_findFun_0 18 rfl rfl)
theorem dX4_findFun_21 : decode cX4_findFun 21 = .ok (.dup, 1) := dk_89 (dk_at dksX4_findFun_0 21 rfl rfl)
theorem dX4_findFun_22 : decode cX4_findFun 22 = .ok (.aload_n 1, 1) := dk_43 (dk_at dksX4_findFun_0 22 rfl rfl)
theorem dX4_findFun_23 : decode cX4_findFun 23 = .ok (.getfield 45, 3) := dk_180 0 45 (dk_at dksX4_findFun_1 0 rfl rfl)
theorem dX4_findFun_26 : decode cX4_findFun 26 = .ok (.aload 4, 2) := dk_25 4 (dk_at dksX4_findFun_1 3 rfl rfl)
theorem dX4_findFun_28 : decode cX4_findFun 28 = .ok (.aconst_null, 1) := dk_1 (dk_at dksX4_findFun_1 5 rfl rfl)
theorem dX4_findFun_29 : decode cX4_findFun 29 = .ok (.aload_n 2, 1) := dk_44 (dk_at dksX4_findFun_1 6 rfl rfl)
theorem dX4_findFun_30 : decode cX4_findFun 30 = .ok (.invokespecial 157, 3) := dk_183 0 157 (dk_at dksX4_findFun_1 7 rfl rfl)
theorem dX4_findFun_33 : decode cX4_findFun 33 = .ok (.iload_n 3, 1) := dk_29 (dk_at dksX4_findFun_1 10 rfl rfl)
theorem dX4_findFun_34 : decode cX4_findFun 34 = .ok (.invokevirtual 160, 3) := dk_182 0 160 (dk_at dksX4_findFun_1 11 rfl rfl)
theorem dX4_findFun_37 : decode cX4_findFun 37 = .ok (.astore 5, 2) := dk_58 5 (dk_at dksX4_findFun_1 14 rfl rfl)
theorem dX4_findFun_39 : decode cX4_findFun 39 = .ok (.new 35, 3) := dk_187 0 35 (dk_at dksX4_findFun_1 16 rfl rfl)
theorem dX4_findFun_42 : decode cX4_findFun 42 = .ok (.dup, 1) := dk_89 (dk_at dksX4_findFun_1 19 rfl rfl)
theorem dX4_findFun_43 : decode cX4_findFun 43 = .ok (.new 163, 3) := dk_187 0 163 (dk_at dksX4_findFun_1 20 rfl rfl)
theorem dX4_findFun_46 : decode cX4_findFun 46 = .ok (.dup, 1) := dk_89 (dk_at dksX4_findFun_1 23 rfl rfl)
theorem dX4_findFun_47 : decode cX4_findFun 47 = .ok (.aload 4, 2) := dk_25 4 (dk_at dksX4_findFun_2 0 rfl rfl)
theorem dX4_findFun_49 : decode cX4_findFun 49 = .ok (.aload 5, 2) := dk_25 5 (dk_at dksX4_findFun_2 2 rfl rfl)
theorem dX4_findFun_51 : decode cX4_findFun 51 = .ok (.getfield 165, 3) := dk_180 0 165 (dk_at dksX4_findFun_2 4 rfl rfl)
theorem dX4_findFun_54 : decode cX4_findFun 54 = .ok (.invokespecial 166, 3) := dk_183 0 166 (dk_at dksX4_findFun_2 7 rfl rfl)
theorem dX4_findFun_57 : decode cX4_findFun 57 = .ok (.new 41, 3) := dk_187 0 41 (dk_at dksX4_findFun_2 10 rfl rfl)
theorem dX4_findFun_60 : decode cX4_findFun 60 = .ok (.dup, 1) := dk_89 (dk_at dksX4_findFun_2 13 rfl rfl)
theorem dX4_findFun_61 : decode cX4_findFun 61 = .ok (.ldc 168, 2) := dk_18 168 (dk_at dksX4_findFun_2 14 rfl rfl)
theorem dX4_findFun_63 : decode cX4_findFun 63 = .ok (.aload_n 1, 1) := dk_43 (dk_at dksX4_findFun_2 16 rfl rfl)
theorem dX4_findFun_64 : decode cX4_findFun 64 = .ok (.getfield 45, 3) := dk_180 0 45 (dk_at dksX4_findFun_2 17 rfl rfl)
theorem dX4_findFun_67 : decode cX4_findFun 67 = .ok (.aconst_null, 1) := dk_1 (dk_at dksX4_findFun_2 20 rfl rfl)
theorem dX4_findFun_68 : decode cX4_findFun 68 = .ok (.aconst_null, 1) := dk_1 (dk_at dksX4_findFun_2 21 rfl rfl)
theorem dX4_findFun_69 : decode cX4_findFun 69 = .ok (.iconst 1, 1) := dk_4 (dk_at dksX4_findFun_2 22 rfl rfl)
theorem dX4_findFun_70 : decode cX4_findFun 70 = .ok (.anewarray 41, 3) := dk_189 0 41 (dk_at dksX4_findFun_3 0 rfl rfl)
theorem dX4_findFun_73 : decode cX4_findFun 73 = .ok (.dup, 1) := dk_89 (dk_at dksX4_findFun_3 3 rfl rfl)
theorem dX4_findFun_74 : decode cX4_findFun 74 = .ok (.iconst 0, 1) := dk_3 (dk_at dksX4_findFun_3 4 rfl rfl)
theorem dX4_findFun_75 : decode cX4_findFun 75 = .ok (.aload 5, 2) := dk_25 5 (dk_at dksX4_findFun_3 5 rfl rfl)
theorem dX4_findFun_77 : decode cX4_findFun 77 = .ok (.getfield 170, 3) := dk_180 0 170 (dk_at dksX4_findFun_3 7 rfl rfl)
theorem dX4_findFun_80 : decode cX4_findFun 80 = .ok (.aastore, 1) := dk_83 (dk_at dksX4_findFun_3 10 rfl rfl)
theorem dX4_findFun_81 : decode cX4_findFun 81 = .ok (.invokespecial 48, 3) := dk_183 0 48 (dk_at dksX4_findFun_3 11 rfl rfl)
theorem dX4_findFun_84 : decode cX4_findFun 84 = .ok (.invokespecial 51, 3) := dk_183 0 51 (dk_at dksX4_findFun_3 14 rfl rfl)
theorem dX4_findFun_87 : decode cX4_findFun 87 = .ok (.areturn, 1) := dk_176 (dk_at dksX4_findFun_3 17 rfl rfl)
abbrev cX4_findGive : ByteArray := prog_13_method_6_code
def yX4_findGive : MethodName := ⟨RX4, "findGive", "(LRowenTongue$Term;LRowenTongue$Known;I)LRowenTongue$Typed;"⟩
def dkwX4_findGive_4 : List UInt8 := [25, 5, 180, 0, 170, 83, 183, 0, 48, 183, 0, 51, 176]
abbrev dktX4_findGive_4 : List UInt8 := dkwX4_findGive_4 ++ []
def dkwX4_findGive_3 : List UInt8 := [187, 0, 41, 89, 18, 178, 3, 1, 1, 5, 189, 0, 41, 89, 3, 25, 4, 180, 0, 170, 83, 89, 4]
abbrev dktX4_findGive_3 : List UInt8 := dkwX4_findGive_3 ++ dktX4_findGive_4
def dkwX4_findGive_2 : List UInt8 := [187, 0, 163, 89, 25, 5, 180, 0, 165, 25, 6, 183, 0, 166, 184, 0, 174, 187, 0, 35, 89, 25, 6]
abbrev dktX4_findGive_2 : List UInt8 := dkwX4_findGive_2 ++ dktX4_findGive_3
def dkwX4_findGive_1 : List UInt8 := [182, 0, 160, 58, 5, 187, 0, 149, 89, 29, 3, 183, 0, 151, 58, 6, 43, 25, 4, 180, 0, 165]
abbrev dktX4_findGive_1 : List UInt8 := dkwX4_findGive_1 ++ dktX4_findGive_2
def dkwX4_findGive_0 : List UInt8 := [42, 43, 180, 0, 154, 3, 50, 44, 29, 182, 0, 160, 58, 4, 42, 43, 180, 0, 154, 4, 50, 44, 29]
abbrev dktX4_findGive_0 : List UInt8 := dkwX4_findGive_0 ++ dktX4_findGive_1
theorem dksX4_findGive_0 : cX4_findGive.data.toList.drop 0 = dktX4_findGive_0 := by decide +kernel
theorem dksX4_findGive_1 : cX4_findGive.data.toList.drop 23 = dktX4_findGive_1 := dk_seg dksX4_findGive_0 23 rfl rfl
theorem dksX4_findGive_2 : cX4_findGive.data.toList.drop 45 = dktX4_findGive_2 := dk_seg dksX4_findGive_1 22 rfl rfl
theorem dksX4_findGive_3 : cX4_findGive.data.toList.drop 68 = dktX4_findGive_3 := dk_seg dksX4_findGive_2 23 rfl rfl
theorem dksX4_findGive_4 : cX4_findGive.data.toList.drop 91 = dktX4_findGive_4 := dk_seg dksX4_findGive_3 23 rfl rfl
theorem dX4_findGive_0 : decode cX4_findGive 0 = .ok (.aload_n 0, 1) := dk_42 (dk_at dksX4_findGive_0 0 rfl rfl)
theorem dX4_findGive_1 : decode cX4_findGive 1 = .ok (.aload_n 1, 1) := dk_43 (dk_at dksX4_findGive_0 1 rfl rfl)
theorem dX4_findGive_2 : decode cX4_findGive 2 = .ok (.getfield 154, 3) := dk_180 0 154 (dk_at dksX4_findGive_0 2 rfl rfl)
theorem dX4_findGive_5 : decode cX4_findGive 5 = .ok (.iconst 0, 1) := dk_3 (dk_at dksX4_findGive_0 5 rfl rfl)
theorem dX4_findGive_6 : decode cX4_findGive 6 = .ok (.aaload, 1) := dk_50 (dk_at dksX4_findGive_0 6 rfl rfl)
theorem dX4_findGive_7 : decode cX4_findGive 7 = .ok (.aload_n 2, 1) := dk_44 (dk_at dksX4_findGive_0 7 rfl rfl)
theorem dX4_findGive_8 : decode cX4_findGive 8 = .ok (.iload_n 3, 1) := dk_29 (dk_at dksX4_findGive_0 8 rfl rfl)
theorem dX4_findGive_9 : decode cX4_findGive 9 = .ok (.invokevirtual 160, 3) := dk_182 0 160 (dk_at dksX4_findGive_0 9 rfl rfl)
theorem dX4_findGive_12 : decode cX4_findGive 12 = .ok (.astore 4, 2) := dk_58 4 (dk_at dksX4_findGive_0 12 rfl rfl)
theorem dX4_findGive_14 : decode cX4_findGive 14 = .ok (.aload_n 0, 1) := dk_42 (dk_at dksX4_findGive_0 14 rfl rfl)
theorem dX4_findGive_15 : decode cX4_findGive 15 = .ok (.aload_n 1, 1) := dk_43 (dk_at dksX4_findGive_0 15 rfl rfl)
theorem dX4_findGive_16 : decode cX4_findGive 16 = .ok (.getfield 154, 3) := dk_180 0 154 (dk_at dksX4_findGive_0 16 rfl rfl)
theorem dX4_findGive_19 : decode cX4_findGive 19 = .ok (.iconst 1, 1) := dk_4 (dk_at dksX4_findGive_0 19 rfl rfl)
theorem dX4_findGive_20 : decode cX4_findGive 20 = .ok (.aaload, 1) := dk_50 (dk_at dksX4_findGive_0 20 rfl rfl)
theorem dX4_findGive_21 : decode cX4_findGive 21 = .ok (.aload_n 2, 1) := dk_44 (dk_at dksX4_findGive_0 21 rfl rfl)
theorem dX4_findGive_22 : decode cX4_findGive 22 = .ok (.iload_n 3, 1) := dk_29 (dk_at dksX4_findGive_0 22 rfl rfl)
theorem dX4_findGive_23 : decode cX4_findGive 23 = .ok (.invokevirtual 160, 3) := dk_182 0 160 (dk_at dksX4_findGive_1 0 rfl rfl)
theorem dX4_findGive_26 : decode cX4_findGive 26 = .ok (.astore 5, 2) := dk_58 5 (dk_at dksX4_findGive_1 3 rfl rfl)
theorem dX4_findGive_28 : decode cX4_findGive 28 = .ok (.new 149, 3) := dk_187 0 149 (dk_at dksX4_findGive_1 5 rfl rfl)
theorem dX4_findGive_31 : decode cX4_findGive 31 = .ok (.dup, 1) := dk_89 (dk_at dksX4_findGive_1 8 rfl rfl)
theorem dX4_findGive_32 : decode cX4_findGive 32 = .ok (.iload_n 3, 1) := dk_29 (dk_at dksX4_findGive_1 9 rfl rfl)
theorem dX4_findGive_33 : decode cX4_findGive 33 = .ok (.iconst 0, 1) := dk_3 (dk_at dksX4_findGive_1 10 rfl rfl)
theorem dX4_findGive_34 : decode cX4_findGive 34 = .ok (.invokespecial 151, 3) := dk_183 0 151 (dk_at dksX4_findGive_1 11 rfl rfl)
theorem dX4_findGive_37 : decode cX4_findGive 37 = .ok (.astore 6, 2) := dk_58 6 (dk_at dksX4_findGive_1 14 rfl rfl)
theorem dX4_findGive_39 : decode cX4_findGive 39 = .ok (.aload_n 1, 1) := dk_43 (dk_at dksX4_findGive_1 16 rfl rfl)
theorem dX4_findGive_40 : decode cX4_findGive 40 = .ok (.aload 4, 2) := dk_25 4 (dk_at dksX4_findGive_1 17 rfl rfl)
theorem dX4_findGive_42 : decode cX4_findGive 42 = .ok (.getfield 165, 3) := dk_180 0 165 (dk_at dksX4_findGive_1 19 rfl rfl)
theorem dX4_findGive_45 : decode cX4_findGive 45 = .ok (.new 163, 3) := dk_187 0 163 (dk_at dksX4_findGive_2 0 rfl rfl)
theorem dX4_findGive_48 : decode cX4_findGive 48 = .ok (.dup, 1) := dk_89 (dk_at dksX4_findGive_2 3 rfl rfl)
theorem dX4_findGive_49 : decode cX4_findGive 49 = .ok (.aload 5, 2) := dk_25 5 (dk_at dksX4_findGive_2 4 rfl rfl)
theorem dX4_findGive_51 : decode cX4_findGive 51 = .ok (.getfield 165, 3) := dk_180 0 165 (dk_at dksX4_findGive_2 6 rfl rfl)
theorem dX4_findGive_54 : decode cX4_findGive 54 = .ok (.aload 6, 2) := dk_25 6 (dk_at dksX4_findGive_2 9 rfl rfl)
theorem dX4_findGive_56 : decode cX4_findGive 56 = .ok (.invokespecial 166, 3) := dk_183 0 166 (dk_at dksX4_findGive_2 11 rfl rfl)
theorem dX4_findGive_59 : decode cX4_findGive 59 = .ok (.invokestatic 174, 3) := dk_184 0 174 (dk_at dksX4_findGive_2 14 rfl rfl)
theorem dX4_findGive_62 : decode cX4_findGive 62 = .ok (.new 35, 3) := dk_187 0 35 (dk_at dksX4_findGive_2 17 rfl rfl)
theorem dX4_findGive_65 : decode cX4_findGive 65 = .ok (.dup, 1) := dk_89 (dk_at dksX4_findGive_2 20 rfl rfl)
theorem dX4_findGive_66 : decode cX4_findGive 66 = .ok (.aload 6, 2) := dk_25 6 (dk_at dksX4_findGive_2 21 rfl rfl)
theorem dX4_findGive_68 : decode cX4_findGive 68 = .ok (.new 41, 3) := dk_187 0 41 (dk_at dksX4_findGive_3 0 rfl rfl)
theorem dX4_findGive_71 : decode cX4_findGive 71 = .ok (.dup, 1) := dk_89 (dk_at dksX4_findGive_3 3 rfl rfl)
theorem dX4_findGive_72 : decode cX4_findGive 72 = .ok (.ldc 178, 2) := dk_18 178 (dk_at dksX4_findGive_3 4 rfl rfl)
theorem dX4_findGive_74 : decode cX4_findGive 74 = .ok (.iconst 0, 1) := dk_3 (dk_at dksX4_findGive_3 6 rfl rfl)
theorem dX4_findGive_75 : decode cX4_findGive 75 = .ok (.aconst_null, 1) := dk_1 (dk_at dksX4_findGive_3 7 rfl rfl)
theorem dX4_findGive_76 : decode cX4_findGive 76 = .ok (.aconst_null, 1) := dk_1 (dk_at dksX4_findGive_3 8 rfl rfl)
theorem dX4_findGive_77 : decode cX4_findGive 77 = .ok (.iconst 2, 1) := dk_5 (dk_at dksX4_findGive_3 9 rfl rfl)
theorem dX4_findGive_78 : decode cX4_findGive 78 = .ok (.anewarray 41, 3) := dk_189 0 41 (dk_at dksX4_findGive_3 10 rfl rfl)
theorem dX4_findGive_81 : decode cX4_findGive 81 = .ok (.dup, 1) := dk_89 (dk_at dksX4_findGive_3 13 rfl rfl)
theorem dX4_findGive_82 : decode cX4_findGive 82 = .ok (.iconst 0, 1) := dk_3 (dk_at dksX4_findGive_3 14 rfl rfl)
theorem dX4_findGive_83 : decode cX4_findGive 83 = .ok (.aload 4, 2) := dk_25 4 (dk_at dksX4_findGive_3 15 rfl rfl)
theorem dX4_findGive_85 : decode cX4_findGive 85 = .ok (.getfield 170, 3) := dk_180 0 170 (dk_at dksX4_findGive_3 17 rfl rfl)
theorem dX4_findGive_88 : decode cX4_findGive 88 = .ok (.aastore, 1) := dk_83 (dk_at dksX4_findGive_3 20 rfl rfl)
theorem dX4_findGive_89 : decode cX4_findGive 89 = .ok (.dup, 1) := dk_89 (dk_at dksX4_findGive_3 21 rfl rfl)
theorem dX4_findGive_90 : decode cX4_findGive 90 = .ok (.iconst 1, 1) := dk_4 (dk_at dksX4_findGive_3 22 rfl rfl)
theorem dX4_findGive_91 : decode cX4_findGive 91 = .ok (.aload 5, 2) := dk_25 5 (dk_at dksX4_findGive_4 0 rfl rfl)
theorem dX4_findGive_93 : decode cX4_findGive 93 = .ok (.getfield 170, 3) := dk_180 0 170 (dk_at dksX4_findGive_4 2 rfl rfl)
theorem dX4_findGive_96 : decode cX4_findGive 96 = .ok (.aastore, 1) := dk_83 (dk_at dksX4_findGive_4 5 rfl rfl)
theorem dX4_findGive_97 : decode cX4_findGive 97 = .ok (.invokespecial 48, 3) := dk_183 0 48 (dk_at dksX4_findGive_4 6 rfl rfl)
theorem dX4_findGive_100 : decode cX4_findGive 100 = .ok (.invokespecial 51, 3) := dk_183 0 51 (dk_at dksX4_findGive_4 9 rfl rfl)
theorem dX4_findGive_103 : decode cX4_findGive 103 = .ok (.areturn, 1) := dk_176 (dk_at dksX4_findGive_4 12 rfl rfl)
abbrev cX4_meet : ByteArray := prog_13_method_2_code
def yX4_meet : MethodName := ⟨RX4, "meet", "(LRowenTongue$Term;LRowenTongue$Type;LRowenTongue$Type;)V"⟩
def dkwX4_meet_0 : List UInt8 := [43, 44, 184, 0, 15, 167, 0, 18, 78, 187, 0, 21, 89, 45, 180, 0, 23, 42, 45, 183, 0, 27, 191, 177]
abbrev dktX4_meet_0 : List UInt8 := dkwX4_meet_0 ++ []
theorem dksX4_meet_0 : cX4_meet.data.toList.drop 0 = dktX4_meet_0 := by decide +kernel
theorem dX4_meet_0 : decode cX4_meet 0 = .ok (.aload_n 1, 1) := dk_43 (dk_at dksX4_meet_0 0 rfl rfl)
theorem dX4_meet_1 : decode cX4_meet 1 = .ok (.aload_n 2, 1) := dk_44 (dk_at dksX4_meet_0 1 rfl rfl)
theorem dX4_meet_2 : decode cX4_meet 2 = .ok (.invokestatic 15, 3) := dk_184 0 15 (dk_at dksX4_meet_0 2 rfl rfl)
theorem dX4_meet_5 : decode cX4_meet 5 = .ok (.goto 18, 3) := dk_167 0 18 (dk_at dksX4_meet_0 5 rfl rfl)
theorem dX4_meet_8 : decode cX4_meet 8 = .ok (.astore_n 3, 1) := dk_78 (dk_at dksX4_meet_0 8 rfl rfl)
theorem dX4_meet_9 : decode cX4_meet 9 = .ok (.new 21, 3) := dk_187 0 21 (dk_at dksX4_meet_0 9 rfl rfl)
theorem dX4_meet_12 : decode cX4_meet 12 = .ok (.dup, 1) := dk_89 (dk_at dksX4_meet_0 12 rfl rfl)
theorem dX4_meet_13 : decode cX4_meet 13 = .ok (.aload_n 3, 1) := dk_45 (dk_at dksX4_meet_0 13 rfl rfl)
theorem dX4_meet_14 : decode cX4_meet 14 = .ok (.getfield 23, 3) := dk_180 0 23 (dk_at dksX4_meet_0 14 rfl rfl)
theorem dX4_meet_17 : decode cX4_meet 17 = .ok (.aload_n 0, 1) := dk_42 (dk_at dksX4_meet_0 17 rfl rfl)
theorem dX4_meet_18 : decode cX4_meet 18 = .ok (.aload_n 3, 1) := dk_45 (dk_at dksX4_meet_0 18 rfl rfl)
theorem dX4_meet_19 : decode cX4_meet 19 = .ok (.invokespecial 27, 3) := dk_183 0 27 (dk_at dksX4_meet_0 19 rfl rfl)
theorem dX4_meet_22 : decode cX4_meet 22 = .ok (.athrow, 1) := dk_191 (dk_at dksX4_meet_0 22 rfl rfl)
theorem dX4_meet_23 : decode cX4_meet 23 = .ok (.return_, 1) := dk_177 (dk_at dksX4_meet_0 23 rfl rfl)
abbrev cX4_findLet : ByteArray := prog_13_method_7_code
def yX4_findLet : MethodName := ⟨RX4, "findLet", "(LRowenTongue$Term;LRowenTongue$Known;I)LRowenTongue$Typed;"⟩
def dkwX4_findLet_10 : List UInt8 := [25, 7, 180, 0, 170, 83, 89, 4, 25, 9, 180, 0, 170, 83, 183, 0, 48, 183, 0, 51, 176]
abbrev dktX4_findLet_10 : List UInt8 := dkwX4_findLet_10 ++ []
def dkwX4_findLet_9 : List UInt8 := [18, 202, 167, 0, 5, 18, 204, 43, 180, 0, 45, 1, 25, 8, 180, 0, 191, 5, 189, 0, 41, 89, 3]
abbrev dktX4_findLet_9 : List UInt8 := dkwX4_findLet_9 ++ dktX4_findLet_10
def dkwX4_findLet_8 : List UInt8 := [182, 0, 160, 58, 9, 187, 0, 35, 89, 25, 9, 180, 0, 165, 187, 0, 41, 89, 21, 4, 153, 0, 8]
abbrev dktX4_findLet_8 : List UInt8 := dkwX4_findLet_8 ++ dktX4_findLet_9
def dkwX4_findLet_7 : List UInt8 := [187, 0, 88, 89, 43, 180, 0, 45, 25, 7, 180, 0, 165, 25, 8, 180, 0, 191, 44, 183, 0, 157, 29]
abbrev dktX4_findLet_7 : List UInt8 := dkwX4_findLet_7 ++ dktX4_findLet_8
def dkwX4_findLet_6 : List UInt8 := [43, 180, 0, 189, 46, 25, 8, 180, 0, 191, 182, 0, 192, 184, 0, 196, 79, 42, 43, 180, 0, 154, 4, 50]
abbrev dktX4_findLet_6 : List UInt8 := dkwX4_findLet_6 ++ dktX4_findLet_7
def dkwX4_findLet_5 : List UInt8 := [25, 9, 180, 0, 23, 43, 25, 9, 183, 0, 27, 191, 42, 180, 0, 9, 43, 180, 0, 189, 42, 180, 0, 9]
abbrev dktX4_findLet_5 : List UInt8 := dkwX4_findLet_5 ++ dktX4_findLet_6
def dkwX4_findLet_4 : List UInt8 := [183, 0, 182, 58, 8, 25, 7, 180, 0, 165, 25, 8, 184, 0, 183, 167, 0, 21, 58, 9, 187, 0, 21, 89]
abbrev dktX4_findLet_4 : List UInt8 := dkwX4_findLet_4 ++ dktX4_findLet_5
def dkwX4_findLet_3 : List UInt8 := [58, 7, 21, 4, 153, 0, 14, 43, 25, 7, 180, 0, 165, 25, 5, 184, 0, 174, 187, 0, 180, 89, 29]
abbrev dktX4_findLet_3 : List UInt8 := dkwX4_findLet_3 ++ dktX4_findLet_4
def dkwX4_findLet_2 : List UInt8 := [183, 0, 157, 167, 0, 4, 44, 58, 6, 42, 43, 180, 0, 154, 3, 50, 25, 6, 29, 4, 96, 182, 0, 160]
abbrev dktX4_findLet_2 : List UInt8 := dkwX4_findLet_2 ++ dktX4_findLet_3
def dkwX4_findLet_1 : List UInt8 := [183, 0, 151, 58, 5, 21, 4, 153, 0, 21, 187, 0, 88, 89, 43, 180, 0, 45, 25, 5, 1, 44]
abbrev dktX4_findLet_1 : List UInt8 := dkwX4_findLet_1 ++ dktX4_findLet_2
def dkwX4_findLet_0 : List UInt8 := [43, 180, 0, 30, 8, 160, 0, 7, 4, 167, 0, 4, 3, 54, 4, 187, 0, 149, 89, 29, 4, 96, 3]
abbrev dktX4_findLet_0 : List UInt8 := dkwX4_findLet_0 ++ dktX4_findLet_1
theorem dksX4_findLet_0 : cX4_findLet.data.toList.drop 0 = dktX4_findLet_0 := by decide +kernel
theorem dksX4_findLet_1 : cX4_findLet.data.toList.drop 23 = dktX4_findLet_1 := dk_seg dksX4_findLet_0 23 rfl rfl
theorem dksX4_findLet_2 : cX4_findLet.data.toList.drop 45 = dktX4_findLet_2 := dk_seg dksX4_findLet_1 22 rfl rfl
theorem dksX4_findLet_3 : cX4_findLet.data.toList.drop 69 = dktX4_findLet_3 := dk_seg dksX4_findLet_2 24 rfl rfl
theorem dksX4_findLet_4 : cX4_findLet.data.toList.drop 92 = dktX4_findLet_4 := dk_seg dksX4_findLet_3 23 rfl rfl
theorem dksX4_findLet_5 : cX4_findLet.data.toList.drop 116 = dktX4_findLet_5 := dk_seg dksX4_findLet_4 24 rfl rfl
theorem dksX4_findLet_6 : cX4_findLet.data.toList.drop 140 = dktX4_findLet_6 := dk_seg dksX4_findLet_5 24 rfl rfl
theorem dksX4_findLet_7 : cX4_findLet.data.toList.drop 164 = dktX4_findLet_7 := dk_seg dksX4_findLet_6 24 rfl rfl
theorem dksX4_findLet_8 : cX4_findLet.data.toList.drop 187 = dktX4_findLet_8 := dk_seg dksX4_findLet_7 23 rfl rfl
theorem dksX4_findLet_9 : cX4_findLet.data.toList.drop 210 = dktX4_findLet_9 := dk_seg dksX4_findLet_8 23 rfl rfl
theorem dksX4_findLet_10 : cX4_findLet.data.toList.drop 233 = dktX4_findLet_10 := dk_seg dksX4_findLet_9 23 rfl rfl
theorem dX4_findLet_0 : decode cX4_findLet 0 = .ok (.aload_n 1, 1) := dk_43 (dk_at dksX4_findLet_0 0 rfl rfl)
theorem dX4_findLet_1 : decode cX4_findLet 1 = .ok (.getfield 30, 3) := dk_180 0 30 (dk_at dksX4_findLet_0 1 rfl rfl)
theorem dX4_findLet_4 : decode cX4_findLet 4 = .ok (.iconst 5, 1) := dk_8 (dk_at dksX4_findLet_0 4 rfl rfl)
theorem dX4_findLet_5 : decode cX4_findLet 5 = .ok (.if_icmp .ne 7, 3) := dk_160 0 7 (dk_at dksX4_findLet_0 5 rfl rfl)
theorem dX4_findLet_8 : decode cX4_findLet 8 = .ok (.iconst 1, 1) := dk_4 (dk_at dksX4_findLet_0 8 rfl rfl)
theorem dX4_findLet_9 : decode cX4_findLet 9 = .ok (.goto 4, 3) := dk_167 0 4 (dk_at dksX4_findLet_0 9 rfl rfl)
theorem dX4_findLet_12 : decode cX4_findLet 12 = .ok (.iconst 0, 1) := dk_3 (dk_at dksX4_findLet_0 12 rfl rfl)
theorem dX4_findLet_13 : decode cX4_findLet 13 = .ok (.istore 4, 2) := dk_54 4 (dk_at dksX4_findLet_0 13 rfl rfl)
theorem dX4_findLet_15 : decode cX4_findLet 15 = .ok (.new 149, 3) := dk_187 0 149 (dk_at dksX4_findLet_0 15 rfl rfl)
theorem dX4_findLet_18 : decode cX4_findLet 18 = .ok (.dup, 1) := dk_89 (dk_at dksX4_findLet_0 18 rfl rfl)
theorem dX4_findLet_19 : decode cX4_findLet 19 = .ok (.iload_n 3, 1) := dk_29 (dk_at dksX4_findLet_0 19 rfl rfl)
theorem dX4_findLet_20 : decode cX4_findLet 20 = .ok (.iconst 1, 1) := dk_4 (dk_at dksX4_findLet_0 20 rfl rfl)
theorem dX4_findLet_21 : decode cX4_findLet 21 = .ok (.iadd, 1) := dk_96 (dk_at dksX4_findLet_0 21 rfl rfl)
theorem dX4_findLet_22 : decode cX4_findLet 22 = .ok (.iconst 0, 1) := dk_3 (dk_at dksX4_findLet_0 22 rfl rfl)
theorem dX4_findLet_23 : decode cX4_findLet 23 = .ok (.invokespecial 151, 3) := dk_183 0 151 (dk_at dksX4_findLet_1 0 rfl rfl)
theorem dX4_findLet_26 : decode cX4_findLet 26 = .ok (.astore 5, 2) := dk_58 5 (dk_at dksX4_findLet_1 3 rfl rfl)
theorem dX4_findLet_28 : decode cX4_findLet 28 = .ok (.iload 4, 2) := dk_21 4 (dk_at dksX4_findLet_1 5 rfl rfl)
theorem dX4_findLet_30 : decode cX4_findLet 30 = .ok (.ifCond .eq 21, 3) := dk_153 0 21 (dk_at dksX4_findLet_1 7 rfl rfl)
theorem dX4_findLet_33 : decode cX4_findLet 33 = .ok (.new 88, 3) := dk_187 0 88 (dk_at dksX4_findLet_1 10 rfl rfl)
theorem dX4_findLet_36 : decode cX4_findLet 36 = .ok (.dup, 1) := dk_89 (dk_at dksX4_findLet_1 13 rfl rfl)
theorem dX4_findLet_37 : decode cX4_findLet 37 = .ok (.aload_n 1, 1) := dk_43 (dk_at dksX4_findLet_1 14 rfl rfl)
theorem dX4_findLet_38 : decode cX4_findLet 38 = .ok (.getfield 45, 3) := dk_180 0 45 (dk_at dksX4_findLet_1 15 rfl rfl)
theorem dX4_findLet_41 : decode cX4_findLet 41 = .ok (.aload 5, 2) := dk_25 5 (dk_at dksX4_findLet_1 18 rfl rfl)
theorem dX4_findLet_43 : decode cX4_findLet 43 = .ok (.aconst_null, 1) := dk_1 (dk_at dksX4_findLet_1 20 rfl rfl)
theorem dX4_findLet_44 : decode cX4_findLet 44 = .ok (.aload_n 2, 1) := dk_44 (dk_at dksX4_findLet_1 21 rfl rfl)
theorem dX4_findLet_45 : decode cX4_findLet 45 = .ok (.invokespecial 157, 3) := dk_183 0 157 (dk_at dksX4_findLet_2 0 rfl rfl)
theorem dX4_findLet_48 : decode cX4_findLet 48 = .ok (.goto 4, 3) := dk_167 0 4 (dk_at dksX4_findLet_2 3 rfl rfl)
theorem dX4_findLet_51 : decode cX4_findLet 51 = .ok (.aload_n 2, 1) := dk_44 (dk_at dksX4_findLet_2 6 rfl rfl)
theorem dX4_findLet_52 : decode cX4_findLet 52 = .ok (.astore 6, 2) := dk_58 6 (dk_at dksX4_findLet_2 7 rfl rfl)
theorem dX4_findLet_54 : decode cX4_findLet 54 = .ok (.aload_n 0, 1) := dk_42 (dk_at dksX4_findLet_2 9 rfl rfl)
theorem dX4_findLet_55 : decode cX4_findLet 55 = .ok (.aload_n 1, 1) := dk_43 (dk_at dksX4_findLet_2 10 rfl rfl)
theorem dX4_findLet_56 : decode cX4_findLet 56 = .ok (.getfield 154, 3) := dk_180 0 154 (dk_at dksX4_findLet_2 11 rfl rfl)
theorem dX4_findLet_59 : decode cX4_findLet 59 = .ok (.iconst 0, 1) := dk_3 (dk_at dksX4_findLet_2 14 rfl rfl)
theorem dX4_findLet_60 : decode cX4_findLet 60 = .ok (.aaload, 1) := dk_50 (dk_at dksX4_findLet_2 15 rfl rfl)
theorem dX4_findLet_61 : decode cX4_findLet 61 = .ok (.aload 6, 2) := dk_25 6 (dk_at dksX4_findLet_2 16 rfl rfl)
theorem dX4_findLet_63 : decode cX4_findLet 63 = .ok (.iload_n 3, 1) := dk_29 (dk_at dksX4_findLet_2 18 rfl rfl)
theorem dX4_findLet_64 : decode cX4_findLet 64 = .ok (.iconst 1, 1) := dk_4 (dk_at dksX4_findLet_2 19 rfl rfl)
theorem dX4_findLet_65 : decode cX4_findLet 65 = .ok (.iadd, 1) := dk_96 (dk_at dksX4_findLet_2 20 rfl rfl)
theorem dX4_findLet_66 : decode cX4_findLet 66 = .ok (.invokevirtual 160, 3) := dk_182 0 160 (dk_at dksX4_findLet_2 21 rfl rfl)
theorem dX4_findLet_69 : decode cX4_findLet 69 = .ok (.astore 7, 2) := dk_58 7 (dk_at dksX4_findLet_3 0 rfl rfl)
theorem dX4_findLet_71 : decode cX4_findLet 71 = .ok (.iload 4, 2) := dk_21 4 (dk_at dksX4_findLet_3 2 rfl rfl)
theorem dX4_findLet_73 : decode cX4_findLet 73 = .ok (.ifCond .eq 14, 3) := dk_153 0 14 (dk_at dksX4_findLet_3 4 rfl rfl)
theorem dX4_findLet_76 : decode cX4_findLet 76 = .ok (.aload_n 1, 1) := dk_43 (dk_at dksX4_findLet_3 7 rfl rfl)
theorem dX4_findLet_77 : decode cX4_findLet 77 = .ok (.aload 7, 2) := dk_25 7 (dk_at dksX4_findLet_3 8 rfl rfl)
theorem dX4_findLet_79 : decode cX4_findLet 79 = .ok (.getfield 165, 3) := dk_180 0 165 (dk_at dksX4_findLet_3 10 rfl rfl)
theorem dX4_findLet_82 : decode cX4_findLet 82 = .ok (.aload 5, 2) := dk_25 5 (dk_at dksX4_findLet_3 13 rfl rfl)
theorem dX4_findLet_84 : decode cX4_findLet 84 = .ok (.invokestatic 174, 3) := dk_184 0 174 (dk_at dksX4_findLet_3 15 rfl rfl)
theorem dX4_findLet_87 : decode cX4_findLet 87 = .ok (.new 180, 3) := dk_187 0 180 (dk_at dksX4_findLet_3 18 rfl rfl)
theorem dX4_findLet_90 : decode cX4_findLet 90 = .ok (.dup, 1) := dk_89 (dk_at dksX4_findLet_3 21 rfl rfl)
theorem dX4_findLet_91 : decode cX4_findLet 91 = .ok (.iload_n 3, 1) := dk_29 (dk_at dksX4_findLet_3 22 rfl rfl)
theorem dX4_findLet_92 : decode cX4_findLet 92 = .ok (.invokespecial 182, 3) := dk_183 0 182 (dk_at dksX4_findLet_4 0 rfl rfl)
theorem dX4_findLet_95 : decode cX4_findLet 95 = .ok (.astore 8, 2) := dk_58 8 (dk_at dksX4_findLet_4 3 rfl rfl)
theorem dX4_findLet_97 : decode cX4_findLet 97 = .ok (.aload 7, 2) := dk_25 7 (dk_at dksX4_findLet_4 5 rfl rfl)
theorem dX4_findLet_99 : decode cX4_findLet 99 = .ok (.getfield 165, 3) := dk_180 0 165 (dk_at dksX4_findLet_4 7 rfl rfl)
theorem dX4_findLet_102 : decode cX4_findLet 102 = .ok (.aload 8, 2) := dk_25 8 (dk_at dksX4_findLet_4 10 rfl rfl)
theorem dX4_findLet_104 : decode cX4_findLet 104 = .ok (.invokestatic 183, 3) := dk_184 0 183 (dk_at dksX4_findLet_4 12 rfl rfl)
theorem dX4_findLet_107 : decode cX4_findLet 107 = .ok (.goto 21, 3) := dk_167 0 21 (dk_at dksX4_findLet_4 15 rfl rfl)
theorem dX4_findLet_110 : decode cX4_findLet 110 = .ok (.astore 9, 2) := dk_58 9 (dk_at dksX4_findLet_4 18 rfl rfl)
theorem dX4_findLet_112 : decode cX4_findLet 112 = .ok (.new 21, 3) := dk_187 0 21 (dk_at dksX4_findLet_4 20 rfl rfl)
theorem dX4_findLet_115 : decode cX4_findLet 115 = .ok (.dup, 1) := dk_89 (dk_at dksX4_findLet_4 23 rfl rfl)
theorem dX4_findLet_116 : decode cX4_findLet 116 = .ok (.aload 9, 2) := dk_25 9 (dk_at dksX4_findLet_5 0 rfl rfl)
theorem dX4_findLet_118 : decode cX4_findLet 118 = .ok (.getfield 23, 3) := dk_180 0 23 (dk_at dksX4_findLet_5 2 rfl rfl)
theorem dX4_findLet_121 : decode cX4_findLet 121 = .ok (.aload_n 1, 1) := dk_43 (dk_at dksX4_findLet_5 5 rfl rfl)
theorem dX4_findLet_122 : decode cX4_findLet 122 = .ok (.aload 9, 2) := dk_25 9 (dk_at dksX4_findLet_5 6 rfl rfl)
theorem dX4_findLet_124 : decode cX4_findLet 124 = .ok (.invokespecial 27, 3) := dk_183 0 27 (dk_at dksX4_findLet_5 8 rfl rfl)
theorem dX4_findLet_127 : decode cX4_findLet 127 = .ok (.athrow, 1) := dk_191 (dk_at dksX4_findLet_5 11 rfl rfl)
theorem dX4_findLet_128 : decode cX4_findLet 128 = .ok (.aload_n 0, 1) := dk_42 (dk_at dksX4_findLet_5 12 rfl rfl)
theorem dX4_findLet_129 : decode cX4_findLet 129 = .ok (.getfield 9, 3) := dk_180 0 9 (dk_at dksX4_findLet_5 13 rfl rfl)
theorem dX4_findLet_132 : decode cX4_findLet 132 = .ok (.aload_n 1, 1) := dk_43 (dk_at dksX4_findLet_5 16 rfl rfl)
theorem dX4_findLet_133 : decode cX4_findLet 133 = .ok (.getfield 189, 3) := dk_180 0 189 (dk_at dksX4_findLet_5 17 rfl rfl)
theorem dX4_findLet_136 : decode cX4_findLet 136 = .ok (.aload_n 0, 1) := dk_42 (dk_at dksX4_findLet_5 20 rfl rfl)
theorem dX4_findLet_137 : decode cX4_findLet 137 = .ok (.getfield 9, 3) := dk_180 0 9 (dk_at dksX4_findLet_5 21 rfl rfl)
theorem dX4_findLet_140 : decode cX4_findLet 140 = .ok (.aload_n 1, 1) := dk_43 (dk_at dksX4_findLet_6 0 rfl rfl)
theorem dX4_findLet_141 : decode cX4_findLet 141 = .ok (.getfield 189, 3) := dk_180 0 189 (dk_at dksX4_findLet_6 1 rfl rfl)
theorem dX4_findLet_144 : decode cX4_findLet 144 = .ok (.iaload, 1) := dk_46 (dk_at dksX4_findLet_6 4 rfl rfl)
theorem dX4_findLet_145 : decode cX4_findLet 145 = .ok (.aload 8, 2) := dk_25 8 (dk_at dksX4_findLet_6 5 rfl rfl)
theorem dX4_findLet_147 : decode cX4_findLet 147 = .ok (.getfield 191, 3) := dk_180 0 191 (dk_at dksX4_findLet_6 7 rfl rfl)
theorem dX4_findLet_150 : decode cX4_findLet 150 = .ok (.invokevirtual 192, 3) := dk_182 0 192 (dk_at dksX4_findLet_6 10 rfl rfl)
theorem dX4_findLet_153 : decode cX4_findLet 153 = .ok (.invokestatic 196, 3) := dk_184 0 196 (dk_at dksX4_findLet_6 13 rfl rfl)
theorem dX4_findLet_156 : decode cX4_findLet 156 = .ok (.iastore, 1) := dk_79 (dk_at dksX4_findLet_6 16 rfl rfl)
theorem dX4_findLet_157 : decode cX4_findLet 157 = .ok (.aload_n 0, 1) := dk_42 (dk_at dksX4_findLet_6 17 rfl rfl)
theorem dX4_findLet_158 : decode cX4_findLet 158 = .ok (.aload_n 1, 1) := dk_43 (dk_at dksX4_findLet_6 18 rfl rfl)
theorem dX4_findLet_159 : decode cX4_findLet 159 = .ok (.getfield 154, 3) := dk_180 0 154 (dk_at dksX4_findLet_6 19 rfl rfl)
theorem dX4_findLet_162 : decode cX4_findLet 162 = .ok (.iconst 1, 1) := dk_4 (dk_at dksX4_findLet_6 22 rfl rfl)
theorem dX4_findLet_163 : decode cX4_findLet 163 = .ok (.aaload, 1) := dk_50 (dk_at dksX4_findLet_6 23 rfl rfl)
theorem dX4_findLet_164 : decode cX4_findLet 164 = .ok (.new 88, 3) := dk_187 0 88 (dk_at dksX4_findLet_7 0 rfl rfl)
theorem dX4_findLet_167 : decode cX4_findLet 167 = .ok (.dup, 1) := dk_89 (dk_at dksX4_findLet_7 3 rfl rfl)
theorem dX4_findLet_168 : decode cX4_findLet 168 = .ok (.aload_n 1, 1) := dk_43 (dk_at dksX4_findLet_7 4 rfl rfl)
theorem dX4_findLet_169 : decode cX4_findLet 169 = .ok (.getfield 45, 3) := dk_180 0 45 (dk_at dksX4_findLet_7 5 rfl rfl)
theorem dX4_findLet_172 : decode cX4_findLet 172 = .ok (.aload 7, 2) := dk_25 7 (dk_at dksX4_findLet_7 8 rfl rfl)
theorem dX4_findLet_174 : decode cX4_findLet 174 = .ok (.getfield 165, 3) := dk_180 0 165 (dk_at dksX4_findLet_7 10 rfl rfl)
theorem dX4_findLet_177 : decode cX4_findLet 177 = .ok (.aload 8, 2) := dk_25 8 (dk_at dksX4_findLet_7 13 rfl rfl)
theorem dX4_findLet_179 : decode cX4_findLet 179 = .ok (.getfield 191, 3) := dk_180 0 191 (dk_at dksX4_findLet_7 15 rfl rfl)
theorem dX4_findLet_182 : decode cX4_findLet 182 = .ok (.aload_n 2, 1) := dk_44 (dk_at dksX4_findLet_7 18 rfl rfl)
theorem dX4_findLet_183 : decode cX4_findLet 183 = .ok (.invokespecial 157, 3) := dk_183 0 157 (dk_at dksX4_findLet_7 19 rfl rfl)
theorem dX4_findLet_186 : decode cX4_findLet 186 = .ok (.iload_n 3, 1) := dk_29 (dk_at dksX4_findLet_7 22 rfl rfl)
theorem dX4_findLet_187 : decode cX4_findLet 187 = .ok (.invokevirtual 160, 3) := dk_182 0 160 (dk_at dksX4_findLet_8 0 rfl rfl)
theorem dX4_findLet_190 : decode cX4_findLet 190 = .ok (.astore 9, 2) := dk_58 9 (dk_at dksX4_findLet_8 3 rfl rfl)
theorem dX4_findLet_192 : decode cX4_findLet 192 = .ok (.new 35, 3) := dk_187 0 35 (dk_at dksX4_findLet_8 5 rfl rfl)
theorem dX4_findLet_195 : decode cX4_findLet 195 = .ok (.dup, 1) := dk_89 (dk_at dksX4_findLet_8 8 rfl rfl)
theorem dX4_findLet_196 : decode cX4_findLet 196 = .ok (.aload 9, 2) := dk_25 9 (dk_at dksX4_findLet_8 9 rfl rfl)
theorem dX4_findLet_198 : decode cX4_findLet 198 = .ok (.getfield 165, 3) := dk_180 0 165 (dk_at dksX4_findLet_8 11 rfl rfl)
theorem dX4_findLet_201 : decode cX4_findLet 201 = .ok (.new 41, 3) := dk_187 0 41 (dk_at dksX4_findLet_8 14 rfl rfl)
theorem dX4_findLet_204 : decode cX4_findLet 204 = .ok (.dup, 1) := dk_89 (dk_at dksX4_findLet_8 17 rfl rfl)
theorem dX4_findLet_205 : decode cX4_findLet 205 = .ok (.iload 4, 2) := dk_21 4 (dk_at dksX4_findLet_8 18 rfl rfl)
theorem dX4_findLet_207 : decode cX4_findLet 207 = .ok (.ifCond .eq 8, 3) := dk_153 0 8 (dk_at dksX4_findLet_8 20 rfl rfl)
theorem dX4_findLet_210 : decode cX4_findLet 210 = .ok (.ldc 202, 2) := dk_18 202 (dk_at dksX4_findLet_9 0 rfl rfl)
theorem dX4_findLet_212 : decode cX4_findLet 212 = .ok (.goto 5, 3) := dk_167 0 5 (dk_at dksX4_findLet_9 2 rfl rfl)
theorem dX4_findLet_215 : decode cX4_findLet 215 = .ok (.ldc 204, 2) := dk_18 204 (dk_at dksX4_findLet_9 5 rfl rfl)
theorem dX4_findLet_217 : decode cX4_findLet 217 = .ok (.aload_n 1, 1) := dk_43 (dk_at dksX4_findLet_9 7 rfl rfl)
theorem dX4_findLet_218 : decode cX4_findLet 218 = .ok (.getfield 45, 3) := dk_180 0 45 (dk_at dksX4_findLet_9 8 rfl rfl)
theorem dX4_findLet_221 : decode cX4_findLet 221 = .ok (.aconst_null, 1) := dk_1 (dk_at dksX4_findLet_9 11 rfl rfl)
theorem dX4_findLet_222 : decode cX4_findLet 222 = .ok (.aload 8, 2) := dk_25 8 (dk_at dksX4_findLet_9 12 rfl rfl)
theorem dX4_findLet_224 : decode cX4_findLet 224 = .ok (.getfield 191, 3) := dk_180 0 191 (dk_at dksX4_findLet_9 14 rfl rfl)
theorem dX4_findLet_227 : decode cX4_findLet 227 = .ok (.iconst 2, 1) := dk_5 (dk_at dksX4_findLet_9 17 rfl rfl)
theorem dX4_findLet_228 : decode cX4_findLet 228 = .ok (.anewarray 41, 3) := dk_189 0 41 (dk_at dksX4_findLet_9 18 rfl rfl)
theorem dX4_findLet_231 : decode cX4_findLet 231 = .ok (.dup, 1) := dk_89 (dk_at dksX4_findLet_9 21 rfl rfl)
theorem dX4_findLet_232 : decode cX4_findLet 232 = .ok (.iconst 0, 1) := dk_3 (dk_at dksX4_findLet_9 22 rfl rfl)
theorem dX4_findLet_233 : decode cX4_findLet 233 = .ok (.aload 7, 2) := dk_25 7 (dk_at dksX4_findLet_10 0 rfl rfl)
theorem dX4_findLet_235 : decode cX4_findLet 235 = .ok (.getfield 170, 3) := dk_180 0 170 (dk_at dksX4_findLet_10 2 rfl rfl)
theorem dX4_findLet_238 : decode cX4_findLet 238 = .ok (.aastore, 1) := dk_83 (dk_at dksX4_findLet_10 5 rfl rfl)
theorem dX4_findLet_239 : decode cX4_findLet 239 = .ok (.dup, 1) := dk_89 (dk_at dksX4_findLet_10 6 rfl rfl)
theorem dX4_findLet_240 : decode cX4_findLet 240 = .ok (.iconst 1, 1) := dk_4 (dk_at dksX4_findLet_10 7 rfl rfl)
theorem dX4_findLet_241 : decode cX4_findLet 241 = .ok (.aload 9, 2) := dk_25 9 (dk_at dksX4_findLet_10 8 rfl rfl)
theorem dX4_findLet_243 : decode cX4_findLet 243 = .ok (.getfield 170, 3) := dk_180 0 170 (dk_at dksX4_findLet_10 10 rfl rfl)
theorem dX4_findLet_246 : decode cX4_findLet 246 = .ok (.aastore, 1) := dk_83 (dk_at dksX4_findLet_10 13 rfl rfl)
theorem dX4_findLet_247 : decode cX4_findLet 247 = .ok (.invokespecial 48, 3) := dk_183 0 48 (dk_at dksX4_findLet_10 14 rfl rfl)
theorem dX4_findLet_250 : decode cX4_findLet 250 = .ok (.invokespecial 51, 3) := dk_183 0 51 (dk_at dksX4_findLet_10 17 rfl rfl)
theorem dX4_findLet_253 : decode cX4_findLet 253 = .ok (.areturn, 1) := dk_176 (dk_at dksX4_findLet_10 20 rfl rfl)
abbrev cX4_findMatch : ByteArray := prog_13_method_9_code
def yX4_findMatch : MethodName := ⟨RX4, "findMatch", "(LRowenTongue$Term;LRowenTongue$Known;I)LRowenTongue$Typed;"⟩
def dkwX4_findMatch_25 : List UInt8 := [25, 4, 180, 0, 170, 83, 89, 4, 25, 14, 83, 183, 0, 48, 183, 0, 51, 176]
abbrev dktX4_findMatch_25 : List UInt8 := dkwX4_findMatch_25 ++ []
def dkwX4_findMatch_24 : List UInt8 := [167, 255, 178, 187, 0, 35, 89, 25, 12, 187, 0, 41, 89, 18, 245, 3, 1, 1, 5, 189, 0, 41, 89, 3]
abbrev dktX4_findMatch_24 : List UInt8 := dkwX4_findMatch_24 ++ dktX4_findMatch_25
def dkwX4_findMatch_23 : List UInt8 := [21, 15, 182, 0, 230, 192, 0, 41, 83, 89, 4, 25, 14, 83, 183, 0, 48, 58, 14, 132, 15, 255]
abbrev dktX4_findMatch_23 : List UInt8 := dkwX4_findMatch_23 ++ dktX4_findMatch_24
def dkwX4_findMatch_22 : List UInt8 := [180, 0, 45, 96, 25, 10, 21, 15, 182, 0, 230, 192, 0, 243, 1, 5, 189, 0, 41, 89, 3, 25, 13]
abbrev dktX4_findMatch_22 : List UInt8 := dkwX4_findMatch_22 ++ dktX4_findMatch_23
def dkwX4_findMatch_21 : List UInt8 := [182, 0, 230, 192, 0, 31, 58, 16, 187, 0, 41, 89, 18, 241, 16, 10, 25, 16, 180, 0, 236, 104, 25, 16]
abbrev dktX4_findMatch_21 : List UInt8 := dkwX4_findMatch_21 ++ dktX4_findMatch_22
def dkwX4_findMatch_20 : List UInt8 := [183, 0, 48, 58, 14, 25, 5, 182, 0, 192, 4, 100, 54, 15, 21, 15, 155, 0, 79, 25, 5, 21, 15]
abbrev dktX4_findMatch_20 : List UInt8 := dkwX4_findMatch_20 ++ dktX4_findMatch_21
def dkwX4_findMatch_19 : List UInt8 := [89, 18, 239, 25, 8, 180, 0, 45, 1, 1, 4, 189, 0, 41, 89, 3, 25, 15, 180, 0, 170, 83]
abbrev dktX4_findMatch_19 : List UInt8 := dkwX4_findMatch_19 ++ dktX4_findMatch_20
def dkwX4_findMatch_18 : List UInt8 := [183, 0, 157, 29, 182, 0, 160, 58, 15, 25, 8, 25, 15, 180, 0, 165, 25, 12, 184, 0, 174, 187, 0, 41]
abbrev dktX4_findMatch_18 : List UInt8 := dkwX4_findMatch_18 ++ dktX4_findMatch_19
def dkwX4_findMatch_17 : List UInt8 := [3, 50, 187, 0, 88, 89, 25, 8, 180, 0, 45, 187, 0, 54, 89, 4, 25, 9, 183, 0, 60, 1, 44]
abbrev dktX4_findMatch_17 : List UInt8 := dkwX4_findMatch_17 ++ dktX4_findMatch_18
def dkwX4_findMatch_16 : List UInt8 := [189, 0, 41, 183, 0, 48, 58, 14, 25, 8, 180, 0, 30, 16, 16, 160, 0, 83, 42, 25, 8, 180, 0, 154]
abbrev dktX4_findMatch_16 : List UInt8 := dkwX4_findMatch_16 ++ dktX4_findMatch_17
def dkwX4_findMatch_15 : List UInt8 := [180, 0, 170, 182, 0, 145, 87, 132, 14, 1, 167, 255, 170, 187, 0, 41, 89, 18, 237, 3, 1, 1, 3]
abbrev dktX4_findMatch_15 : List UInt8 := dkwX4_findMatch_15 ++ dktX4_findMatch_16
def dkwX4_findMatch_14 : List UInt8 := [29, 182, 0, 160, 58, 16, 25, 15, 25, 16, 180, 0, 165, 25, 12, 184, 0, 174, 25, 13, 25, 16]
abbrev dktX4_findMatch_14 : List UInt8 := dkwX4_findMatch_14 ++ dktX4_findMatch_15
def dkwX4_findMatch_13 : List UInt8 := [187, 0, 88, 89, 25, 15, 180, 0, 236, 25, 6, 21, 14, 182, 0, 230, 192, 0, 234, 1, 44, 183, 0, 157]
abbrev dktX4_findMatch_13 : List UInt8 := dkwX4_findMatch_13 ++ dktX4_findMatch_14
def dkwX4_findMatch_12 : List UInt8 := [162, 0, 82, 25, 5, 21, 14, 182, 0, 230, 192, 0, 31, 58, 15, 42, 25, 15, 180, 0, 154, 3, 50]
abbrev dktX4_findMatch_12 : List UInt8 := dkwX4_findMatch_12 ++ dktX4_findMatch_13
def dkwX4_findMatch_11 : List UInt8 := [183, 0, 151, 58, 12, 187, 0, 113, 89, 183, 0, 115, 58, 13, 3, 54, 14, 21, 14, 25, 5, 182, 0, 192]
abbrev dktX4_findMatch_11 : List UInt8 := dkwX4_findMatch_11 ++ dktX4_findMatch_12
def dkwX4_findMatch_10 : List UInt8 := [180, 0, 165, 187, 0, 54, 89, 4, 25, 11, 183, 0, 60, 184, 0, 174, 187, 0, 149, 89, 29, 3]
abbrev dktX4_findMatch_10 : List UInt8 := dkwX4_findMatch_10 ++ dktX4_findMatch_11
def dkwX4_findMatch_9 : List UInt8 := [182, 0, 230, 192, 0, 234, 25, 11, 183, 0, 213, 58, 11, 132, 12, 255, 167, 255, 206, 43, 25, 4]
abbrev dktX4_findMatch_9 : List UInt8 := dkwX4_findMatch_9 ++ dktX4_findMatch_10
def dkwX4_findMatch_8 : List UInt8 := [182, 0, 227, 187, 0, 211, 89, 25, 5, 21, 12, 182, 0, 230, 192, 0, 31, 180, 0, 45, 25, 6, 21, 12]
abbrev dktX4_findMatch_8 : List UInt8 := dkwX4_findMatch_8 ++ dktX4_findMatch_9
def dkwX4_findMatch_7 : List UInt8 := [25, 9, 58, 11, 25, 5, 182, 0, 192, 4, 100, 54, 12, 21, 12, 155, 0, 51, 25, 10, 3, 25, 11]
abbrev dktX4_findMatch_7 : List UInt8 := dkwX4_findMatch_7 ++ dktX4_findMatch_8
def dkwX4_findMatch_6 : List UInt8 := [29, 3, 21, 7, 183, 0, 208, 167, 0, 6, 178, 0, 56, 58, 9, 187, 0, 113, 89, 183, 0, 115, 58, 10]
abbrev dktX4_findMatch_6 : List UInt8 := dkwX4_findMatch_6 ++ dktX4_findMatch_7
def dkwX4_findMatch_5 : List UInt8 := [180, 0, 154, 4, 50, 58, 8, 167, 255, 177, 25, 8, 180, 0, 30, 16, 16, 160, 0, 17, 187, 0, 206, 89]
abbrev dktX4_findMatch_5 : List UInt8 := dkwX4_findMatch_5 ++ dktX4_findMatch_6
def dkwX4_findMatch_4 : List UInt8 := [25, 8, 182, 0, 145, 87, 25, 6, 187, 0, 149, 89, 29, 3, 183, 0, 151, 182, 0, 145, 87, 25, 8]
abbrev dktX4_findMatch_4 : List UInt8 := dkwX4_findMatch_4 ++ dktX4_findMatch_5
def dkwX4_findMatch_3 : List UInt8 := [89, 7, 25, 8, 1, 183, 0, 27, 191, 21, 7, 4, 25, 8, 180, 0, 45, 120, 128, 54, 7, 25, 5]
abbrev dktX4_findMatch_3 : List UInt8 := dkwX4_findMatch_3 ++ dktX4_findMatch_4
def dkwX4_findMatch_2 : List UInt8 := [180, 0, 30, 16, 17, 160, 0, 75, 21, 7, 25, 8, 180, 0, 45, 184, 0, 223, 153, 0, 15, 187, 0, 21]
abbrev dktX4_findMatch_2 : List UInt8 := dkwX4_findMatch_2 ++ dktX4_findMatch_3
def dkwX4_findMatch_1 : List UInt8 := [187, 0, 113, 89, 183, 0, 115, 58, 6, 3, 54, 7, 43, 180, 0, 154, 4, 50, 58, 8, 25, 8]
abbrev dktX4_findMatch_1 : List UInt8 := dkwX4_findMatch_1 ++ dktX4_findMatch_2
def dkwX4_findMatch_0 : List UInt8 := [42, 43, 180, 0, 154, 3, 50, 44, 29, 182, 0, 160, 58, 4, 187, 0, 113, 89, 183, 0, 115, 58, 5]
abbrev dktX4_findMatch_0 : List UInt8 := dkwX4_findMatch_0 ++ dktX4_findMatch_1
theorem dksX4_findMatch_0 : cX4_findMatch.data.toList.drop 0 = dktX4_findMatch_0 := by decide +kernel
theorem dksX4_findMatch_1 : cX4_findMatch.data.toList.drop 23 = dktX4_findMatch_1 := dk_seg dksX4_findMatch_0 23 rfl rfl
theorem dksX4_findMatch_2 : cX4_findMatch.data.toList.drop 45 = dktX4_findMatch_2 := dk_seg dksX4_findMatch_1 22 rfl rfl
theorem dksX4_findMatch_3 : cX4_findMatch.data.toList.drop 69 = dktX4_findMatch_3 := dk_seg dksX4_findMatch_2 24 rfl rfl
theorem dksX4_findMatch_4 : cX4_findMatch.data.toList.drop 92 = dktX4_findMatch_4 := dk_seg dksX4_findMatch_3 23 rfl rfl
theorem dksX4_findMatch_5 : cX4_findMatch.data.toList.drop 115 = dktX4_findMatch_5 := dk_seg dksX4_findMatch_4 23 rfl rfl
theorem dksX4_findMatch_6 : cX4_findMatch.data.toList.drop 139 = dktX4_findMatch_6 := dk_seg dksX4_findMatch_5 24 rfl rfl
theorem dksX4_findMatch_7 : cX4_findMatch.data.toList.drop 163 = dktX4_findMatch_7 := dk_seg dksX4_findMatch_6 24 rfl rfl
theorem dksX4_findMatch_8 : cX4_findMatch.data.toList.drop 186 = dktX4_findMatch_8 := dk_seg dksX4_findMatch_7 23 rfl rfl
theorem dksX4_findMatch_9 : cX4_findMatch.data.toList.drop 210 = dktX4_findMatch_9 := dk_seg dksX4_findMatch_8 24 rfl rfl
theorem dksX4_findMatch_10 : cX4_findMatch.data.toList.drop 232 = dktX4_findMatch_10 := dk_seg dksX4_findMatch_9 22 rfl rfl
theorem dksX4_findMatch_11 : cX4_findMatch.data.toList.drop 254 = dktX4_findMatch_11 := dk_seg dksX4_findMatch_10 22 rfl rfl
theorem dksX4_findMatch_12 : cX4_findMatch.data.toList.drop 278 = dktX4_findMatch_12 := dk_seg dksX4_findMatch_11 24 rfl rfl
theorem dksX4_findMatch_13 : cX4_findMatch.data.toList.drop 301 = dktX4_findMatch_13 := dk_seg dksX4_findMatch_12 23 rfl rfl
theorem dksX4_findMatch_14 : cX4_findMatch.data.toList.drop 325 = dktX4_findMatch_14 := dk_seg dksX4_findMatch_13 24 rfl rfl
theorem dksX4_findMatch_15 : cX4_findMatch.data.toList.drop 347 = dktX4_findMatch_15 := dk_seg dksX4_findMatch_14 22 rfl rfl
theorem dksX4_findMatch_16 : cX4_findMatch.data.toList.drop 370 = dktX4_findMatch_16 := dk_seg dksX4_findMatch_15 23 rfl rfl
theorem dksX4_findMatch_17 : cX4_findMatch.data.toList.drop 394 = dktX4_findMatch_17 := dk_seg dksX4_findMatch_16 24 rfl rfl
theorem dksX4_findMatch_18 : cX4_findMatch.data.toList.drop 417 = dktX4_findMatch_18 := dk_seg dksX4_findMatch_17 23 rfl rfl
theorem dksX4_findMatch_19 : cX4_findMatch.data.toList.drop 441 = dktX4_findMatch_19 := dk_seg dksX4_findMatch_18 24 rfl rfl
theorem dksX4_findMatch_20 : cX4_findMatch.data.toList.drop 463 = dktX4_findMatch_20 := dk_seg dksX4_findMatch_19 22 rfl rfl
theorem dksX4_findMatch_21 : cX4_findMatch.data.toList.drop 486 = dktX4_findMatch_21 := dk_seg dksX4_findMatch_20 23 rfl rfl
theorem dksX4_findMatch_22 : cX4_findMatch.data.toList.drop 510 = dktX4_findMatch_22 := dk_seg dksX4_findMatch_21 24 rfl rfl
theorem dksX4_findMatch_23 : cX4_findMatch.data.toList.drop 533 = dktX4_findMatch_23 := dk_seg dksX4_findMatch_22 23 rfl rfl
theorem dksX4_findMatch_24 : cX4_findMatch.data.toList.drop 555 = dktX4_findMatch_24 := dk_seg dksX4_findMatch_23 22 rfl rfl
theorem dksX4_findMatch_25 : cX4_findMatch.data.toList.drop 579 = dktX4_findMatch_25 := dk_seg dksX4_findMatch_24 24 rfl rfl
theorem dX4_findMatch_0 : decode cX4_findMatch 0 = .ok (.aload_n 0, 1) := dk_42 (dk_at dksX4_findMatch_0 0 rfl rfl)
theorem dX4_findMatch_1 : decode cX4_findMatch 1 = .ok (.aload_n 1, 1) := dk_43 (dk_at dksX4_findMatch_0 1 rfl rfl)
theorem dX4_findMatch_2 : decode cX4_findMatch 2 = .ok (.getfield 154, 3) := dk_180 0 154 (dk_at dksX4_findMatch_0 2 rfl rfl)
theorem dX4_findMatch_5 : decode cX4_findMatch 5 = .ok (.iconst 0, 1) := dk_3 (dk_at dksX4_findMatch_0 5 rfl rfl)
theorem dX4_findMatch_6 : decode cX4_findMatch 6 = .ok (.aaload, 1) := dk_50 (dk_at dksX4_findMatch_0 6 rfl rfl)
theorem dX4_findMatch_7 : decode cX4_findMatch 7 = .ok (.aload_n 2, 1) := dk_44 (dk_at dksX4_findMatch_0 7 rfl rfl)
theorem dX4_findMatch_8 : decode cX4_findMatch 8 = .ok (.iload_n 3, 1) := dk_29 (dk_at dksX4_findMatch_0 8 rfl rfl)
theorem dX4_findMatch_9 : decode cX4_findMatch 9 = .ok (.invokevirtual 160, 3) := dk_182 0 160 (dk_at dksX4_findMatch_0 9 rfl rfl)
theorem dX4_findMatch_12 : decode cX4_findMatch 12 = .ok (.astore 4, 2) := dk_58 4 (dk_at dksX4_findMatch_0 12 rfl rfl)
theorem dX4_findMatch_14 : decode cX4_findMatch 14 = .ok (.new 113, 3) := dk_187 0 113 (dk_at dksX4_findMatch_0 14 rfl rfl)
theorem dX4_findMatch_17 : decode cX4_findMatch 17 = .ok (.dup, 1) := dk_89 (dk_at dksX4_findMatch_0 17 rfl rfl)
theorem dX4_findMatch_18 : decode cX4_findMatch 18 = .ok (.invokespecial 115, 3) := dk_183 0 115 (dk_at dksX4_findMatch_0 18 rfl rfl)
theorem dX4_findMatch_21 : decode cX4_findMatch 21 = .ok (.astore 5, 2) := dk_58 5 (dk_at dksX4_findMatch_0 21 rfl rfl)
theorem dX4_findMatch_23 : decode cX4_findMatch 23 = .ok (.new 113, 3) := dk_187 0 113 (dk_at dksX4_findMatch_1 0 rfl rfl)
theorem dX4_findMatch_26 : decode cX4_findMatch 26 = .ok (.dup, 1) := dk_89 (dk_at dksX4_findMatch_1 3 rfl rfl)
theorem dX4_findMatch_27 : decode cX4_findMatch 27 = .ok (.invokespecial 115, 3) := dk_183 0 115 (dk_at dksX4_findMatch_1 4 rfl rfl)
theorem dX4_findMatch_30 : decode cX4_findMatch 30 = .ok (.astore 6, 2) := dk_58 6 (dk_at dksX4_findMatch_1 7 rfl rfl)
theorem dX4_findMatch_32 : decode cX4_findMatch 32 = .ok (.iconst 0, 1) := dk_3 (dk_at dksX4_findMatch_1 9 rfl rfl)
theorem dX4_findMatch_33 : decode cX4_findMatch 33 = .ok (.istore 7, 2) := dk_54 7 (dk_at dksX4_findMatch_1 10 rfl rfl)
theorem dX4_findMatch_35 : decode cX4_findMatch 35 = .ok (.aload_n 1, 1) := dk_43 (dk_at dksX4_findMatch_1 12 rfl rfl)
theorem dX4_findMatch_36 : decode cX4_findMatch 36 = .ok (.getfield 154, 3) := dk_180 0 154 (dk_at dksX4_findMatch_1 13 rfl rfl)
theorem dX4_findMatch_39 : decode cX4_findMatch 39 = .ok (.iconst 1, 1) := dk_4 (dk_at dksX4_findMatch_1 16 rfl rfl)
theorem dX4_findMatch_40 : decode cX4_findMatch 40 = .ok (.aaload, 1) := dk_50 (dk_at dksX4_findMatch_1 17 rfl rfl)
theorem dX4_findMatch_41 : decode cX4_findMatch 41 = .ok (.astore 8, 2) := dk_58 8 (dk_at dksX4_findMatch_1 18 rfl rfl)
theorem dX4_findMatch_43 : decode cX4_findMatch 43 = .ok (.aload 8, 2) := dk_25 8 (dk_at dksX4_findMatch_1 20 rfl rfl)
theorem dX4_findMatch_45 : decode cX4_findMatch 45 = .ok (.getfield 30, 3) := dk_180 0 30 (dk_at dksX4_findMatch_2 0 rfl rfl)
theorem dX4_findMatch_48 : decode cX4_findMatch 48 = .ok (.bipush 17, 2) := dk_16 17 (dk_at dksX4_findMatch_2 3 rfl rfl)
theorem dX4_findMatch_50 : decode cX4_findMatch 50 = .ok (.if_icmp .ne 75, 3) := dk_160 0 75 (dk_at dksX4_findMatch_2 5 rfl rfl)
theorem dX4_findMatch_53 : decode cX4_findMatch 53 = .ok (.iload 7, 2) := dk_21 7 (dk_at dksX4_findMatch_2 8 rfl rfl)
theorem dX4_findMatch_55 : decode cX4_findMatch 55 = .ok (.aload 8, 2) := dk_25 8 (dk_at dksX4_findMatch_2 10 rfl rfl)
theorem dX4_findMatch_57 : decode cX4_findMatch 57 = .ok (.getfield 45, 3) := dk_180 0 45 (dk_at dksX4_findMatch_2 12 rfl rfl)
theorem dX4_findMatch_60 : decode cX4_findMatch 60 = .ok (.invokestatic 223, 3) := dk_184 0 223 (dk_at dksX4_findMatch_2 15 rfl rfl)
theorem dX4_findMatch_63 : decode cX4_findMatch 63 = .ok (.ifCond .eq 15, 3) := dk_153 0 15 (dk_at dksX4_findMatch_2 18 rfl rfl)
theorem dX4_findMatch_66 : decode cX4_findMatch 66 = .ok (.new 21, 3) := dk_187 0 21 (dk_at dksX4_findMatch_2 21 rfl rfl)
theorem dX4_findMatch_69 : decode cX4_findMatch 69 = .ok (.dup, 1) := dk_89 (dk_at dksX4_findMatch_3 0 rfl rfl)
theorem dX4_findMatch_70 : decode cX4_findMatch 70 = .ok (.iconst 4, 1) := dk_7 (dk_at dksX4_findMatch_3 1 rfl rfl)
theorem dX4_findMatch_71 : decode cX4_findMatch 71 = .ok (.aload 8, 2) := dk_25 8 (dk_at dksX4_findMatch_3 2 rfl rfl)
theorem dX4_findMatch_73 : decode cX4_findMatch 73 = .ok (.aconst_null, 1) := dk_1 (dk_at dksX4_findMatch_3 4 rfl rfl)
theorem dX4_findMatch_74 : decode cX4_findMatch 74 = .ok (.invokespecial 27, 3) := dk_183 0 27 (dk_at dksX4_findMatch_3 5 rfl rfl)
theorem dX4_findMatch_77 : decode cX4_findMatch 77 = .ok (.athrow, 1) := dk_191 (dk_at dksX4_findMatch_3 8 rfl rfl)
theorem dX4_findMatch_78 : decode cX4_findMatch 78 = .ok (.iload 7, 2) := dk_21 7 (dk_at dksX4_findMatch_3 9 rfl rfl)
theorem dX4_findMatch_80 : decode cX4_findMatch 80 = .ok (.iconst 1, 1) := dk_4 (dk_at dksX4_findMatch_3 11 rfl rfl)
theorem dX4_findMatch_81 : decode cX4_findMatch 81 = .ok (.aload 8, 2) := dk_25 8 (dk_at dksX4_findMatch_3 12 rfl rfl)
theorem dX4_findMatch_83 : decode cX4_findMatch 83 = .ok (.getfield 45, 3) := dk_180 0 45 (dk_at dksX4_findMatch_3 14 rfl rfl)
theorem dX4_findMatch_86 : decode cX4_findMatch 86 = .ok (.ishl, 1) := dk_120 (dk_at dksX4_findMatch_3 17 rfl rfl)
theorem dX4_findMatch_87 : decode cX4_findMatch 87 = .ok (.ior, 1) := dk_128 (dk_at dksX4_findMatch_3 18 rfl rfl)
theorem dX4_findMatch_88 : decode cX4_findMatch 88 = .ok (.istore 7, 2) := dk_54 7 (dk_at dksX4_findMatch_3 19 rfl rfl)
theorem dX4_findMatch_90 : decode cX4_findMatch 90 = .ok (.aload 5, 2) := dk_25 5 (dk_at dksX4_findMatch_3 21 rfl rfl)
theorem dX4_findMatch_92 : decode cX4_findMatch 92 = .ok (.aload 8, 2) := dk_25 8 (dk_at dksX4_findMatch_4 0 rfl rfl)
theorem dX4_findMatch_94 : decode cX4_findMatch 94 = .ok (.invokevirtual 145, 3) := dk_182 0 145 (dk_at dksX4_findMatch_4 2 rfl rfl)
theorem dX4_findMatch_97 : decode cX4_findMatch 97 = .ok (.pop, 1) := dk_87 (dk_at dksX4_findMatch_4 5 rfl rfl)
theorem dX4_findMatch_98 : decode cX4_findMatch 98 = .ok (.aload 6, 2) := dk_25 6 (dk_at dksX4_findMatch_4 6 rfl rfl)
theorem dX4_findMatch_100 : decode cX4_findMatch 100 = .ok (.new 149, 3) := dk_187 0 149 (dk_at dksX4_findMatch_4 8 rfl rfl)
theorem dX4_findMatch_103 : decode cX4_findMatch 103 = .ok (.dup, 1) := dk_89 (dk_at dksX4_findMatch_4 11 rfl rfl)
theorem dX4_findMatch_104 : decode cX4_findMatch 104 = .ok (.iload_n 3, 1) := dk_29 (dk_at dksX4_findMatch_4 12 rfl rfl)
theorem dX4_findMatch_105 : decode cX4_findMatch 105 = .ok (.iconst 0, 1) := dk_3 (dk_at dksX4_findMatch_4 13 rfl rfl)
theorem dX4_findMatch_106 : decode cX4_findMatch 106 = .ok (.invokespecial 151, 3) := dk_183 0 151 (dk_at dksX4_findMatch_4 14 rfl rfl)
theorem dX4_findMatch_109 : decode cX4_findMatch 109 = .ok (.invokevirtual 145, 3) := dk_182 0 145 (dk_at dksX4_findMatch_4 17 rfl rfl)
theorem dX4_findMatch_112 : decode cX4_findMatch 112 = .ok (.pop, 1) := dk_87 (dk_at dksX4_findMatch_4 20 rfl rfl)
theorem dX4_findMatch_113 : decode cX4_findMatch 113 = .ok (.aload 8, 2) := dk_25 8 (dk_at dksX4_findMatch_4 21 rfl rfl)
theorem dX4_findMatch_115 : decode cX4_findMatch 115 = .ok (.getfield 154, 3) := dk_180 0 154 (dk_at dksX4_findMatch_5 0 rfl rfl)
theorem dX4_findMatch_118 : decode cX4_findMatch 118 = .ok (.iconst 1, 1) := dk_4 (dk_at dksX4_findMatch_5 3 rfl rfl)
theorem dX4_findMatch_119 : decode cX4_findMatch 119 = .ok (.aaload, 1) := dk_50 (dk_at dksX4_findMatch_5 4 rfl rfl)
theorem dX4_findMatch_120 : decode cX4_findMatch 120 = .ok (.astore 8, 2) := dk_58 8 (dk_at dksX4_findMatch_5 5 rfl rfl)
theorem dX4_findMatch_122 : decode cX4_findMatch 122 = .ok (.goto (-79), 3) := dk_167 255 177 (dk_at dksX4_findMatch_5 7 rfl rfl)
theorem dX4_findMatch_125 : decode cX4_findMatch 125 = .ok (.aload 8, 2) := dk_25 8 (dk_at dksX4_findMatch_5 10 rfl rfl)
theorem dX4_findMatch_127 : decode cX4_findMatch 127 = .ok (.getfield 30, 3) := dk_180 0 30 (dk_at dksX4_findMatch_5 12 rfl rfl)
theorem dX4_findMatch_130 : decode cX4_findMatch 130 = .ok (.bipush 16, 2) := dk_16 16 (dk_at dksX4_findMatch_5 15 rfl rfl)
theorem dX4_findMatch_132 : decode cX4_findMatch 132 = .ok (.if_icmp .ne 17, 3) := dk_160 0 17 (dk_at dksX4_findMatch_5 17 rfl rfl)
theorem dX4_findMatch_135 : decode cX4_findMatch 135 = .ok (.new 206, 3) := dk_187 0 206 (dk_at dksX4_findMatch_5 20 rfl rfl)
theorem dX4_findMatch_138 : decode cX4_findMatch 138 = .ok (.dup, 1) := dk_89 (dk_at dksX4_findMatch_5 23 rfl rfl)
theorem dX4_findMatch_139 : decode cX4_findMatch 139 = .ok (.iload_n 3, 1) := dk_29 (dk_at dksX4_findMatch_6 0 rfl rfl)
theorem dX4_findMatch_140 : decode cX4_findMatch 140 = .ok (.iconst 0, 1) := dk_3 (dk_at dksX4_findMatch_6 1 rfl rfl)
theorem dX4_findMatch_141 : decode cX4_findMatch 141 = .ok (.iload 7, 2) := dk_21 7 (dk_at dksX4_findMatch_6 2 rfl rfl)
theorem dX4_findMatch_143 : decode cX4_findMatch 143 = .ok (.invokespecial 208, 3) := dk_183 0 208 (dk_at dksX4_findMatch_6 4 rfl rfl)
theorem dX4_findMatch_146 : decode cX4_findMatch 146 = .ok (.goto 6, 3) := dk_167 0 6 (dk_at dksX4_findMatch_6 7 rfl rfl)
theorem dX4_findMatch_149 : decode cX4_findMatch 149 = .ok (.getstatic 56, 3) := dk_178 0 56 (dk_at dksX4_findMatch_6 10 rfl rfl)
theorem dX4_findMatch_152 : decode cX4_findMatch 152 = .ok (.astore 9, 2) := dk_58 9 (dk_at dksX4_findMatch_6 13 rfl rfl)
theorem dX4_findMatch_154 : decode cX4_findMatch 154 = .ok (.new 113, 3) := dk_187 0 113 (dk_at dksX4_findMatch_6 15 rfl rfl)
theorem dX4_findMatch_157 : decode cX4_findMatch 157 = .ok (.dup, 1) := dk_89 (dk_at dksX4_findMatch_6 18 rfl rfl)
theorem dX4_findMatch_158 : decode cX4_findMatch 158 = .ok (.invokespecial 115, 3) := dk_183 0 115 (dk_at dksX4_findMatch_6 19 rfl rfl)
theorem dX4_findMatch_161 : decode cX4_findMatch 161 = .ok (.astore 10, 2) := dk_58 10 (dk_at dksX4_findMatch_6 22 rfl rfl)
theorem dX4_findMatch_163 : decode cX4_findMatch 163 = .ok (.aload 9, 2) := dk_25 9 (dk_at dksX4_findMatch_7 0 rfl rfl)
theorem dX4_findMatch_165 : decode cX4_findMatch 165 = .ok (.astore 11, 2) := dk_58 11 (dk_at dksX4_findMatch_7 2 rfl rfl)
theorem dX4_findMatch_167 : decode cX4_findMatch 167 = .ok (.aload 5, 2) := dk_25 5 (dk_at dksX4_findMatch_7 4 rfl rfl)
theorem dX4_findMatch_169 : decode cX4_findMatch 169 = .ok (.invokevirtual 192, 3) := dk_182 0 192 (dk_at dksX4_findMatch_7 6 rfl rfl)
theorem dX4_findMatch_172 : decode cX4_findMatch 172 = .ok (.iconst 1, 1) := dk_4 (dk_at dksX4_findMatch_7 9 rfl rfl)
theorem dX4_findMatch_173 : decode cX4_findMatch 173 = .ok (.isub, 1) := dk_100 (dk_at dksX4_findMatch_7 10 rfl rfl)
theorem dX4_findMatch_174 : decode cX4_findMatch 174 = .ok (.istore 12, 2) := dk_54 12 (dk_at dksX4_findMatch_7 11 rfl rfl)
theorem dX4_findMatch_176 : decode cX4_findMatch 176 = .ok (.iload 12, 2) := dk_21 12 (dk_at dksX4_findMatch_7 13 rfl rfl)
theorem dX4_findMatch_178 : decode cX4_findMatch 178 = .ok (.ifCond .lt 51, 3) := dk_155 0 51 (dk_at dksX4_findMatch_7 15 rfl rfl)
theorem dX4_findMatch_181 : decode cX4_findMatch 181 = .ok (.aload 10, 2) := dk_25 10 (dk_at dksX4_findMatch_7 18 rfl rfl)
theorem dX4_findMatch_183 : decode cX4_findMatch 183 = .ok (.iconst 0, 1) := dk_3 (dk_at dksX4_findMatch_7 20 rfl rfl)
theorem dX4_findMatch_184 : decode cX4_findMatch 184 = .ok (.aload 11, 2) := dk_25 11 (dk_at dksX4_findMatch_7 21 rfl rfl)
theorem dX4_findMatch_186 : decode cX4_findMatch 186 = .ok (.invokevirtual 227, 3) := dk_182 0 227 (dk_at dksX4_findMatch_8 0 rfl rfl)
theorem dX4_findMatch_189 : decode cX4_findMatch 189 = .ok (.new 211, 3) := dk_187 0 211 (dk_at dksX4_findMatch_8 3 rfl rfl)
theorem dX4_findMatch_192 : decode cX4_findMatch 192 = .ok (.dup, 1) := dk_89 (dk_at dksX4_findMatch_8 6 rfl rfl)
theorem dX4_findMatch_193 : decode cX4_findMatch 193 = .ok (.aload 5, 2) := dk_25 5 (dk_at dksX4_findMatch_8 7 rfl rfl)
theorem dX4_findMatch_195 : decode cX4_findMatch 195 = .ok (.iload 12, 2) := dk_21 12 (dk_at dksX4_findMatch_8 9 rfl rfl)
theorem dX4_findMatch_197 : decode cX4_findMatch 197 = .ok (.invokevirtual 230, 3) := dk_182 0 230 (dk_at dksX4_findMatch_8 11 rfl rfl)
theorem dX4_findMatch_200 : decode cX4_findMatch 200 = .ok (.checkcast 31, 3) := dk_192 0 31 (dk_at dksX4_findMatch_8 14 rfl rfl)
theorem dX4_findMatch_203 : decode cX4_findMatch 203 = .ok (.getfield 45, 3) := dk_180 0 45 (dk_at dksX4_findMatch_8 17 rfl rfl)
theorem dX4_findMatch_206 : decode cX4_findMatch 206 = .ok (.aload 6, 2) := dk_25 6 (dk_at dksX4_findMatch_8 20 rfl rfl)
theorem dX4_findMatch_208 : decode cX4_findMatch 208 = .ok (.iload 12, 2) := dk_21 12 (dk_at dksX4_findMatch_8 22 rfl rfl)
theorem dX4_findMatch_210 : decode cX4_findMatch 210 = .ok (.invokevirtual 230, 3) := dk_182 0 230 (dk_at dksX4_findMatch_9 0 rfl rfl)
theorem dX4_findMatch_213 : decode cX4_findMatch 213 = .ok (.checkcast 234, 3) := dk_192 0 234 (dk_at dksX4_findMatch_9 3 rfl rfl)
theorem dX4_findMatch_216 : decode cX4_findMatch 216 = .ok (.aload 11, 2) := dk_25 11 (dk_at dksX4_findMatch_9 6 rfl rfl)
theorem dX4_findMatch_218 : decode cX4_findMatch 218 = .ok (.invokespecial 213, 3) := dk_183 0 213 (dk_at dksX4_findMatch_9 8 rfl rfl)
theorem dX4_findMatch_221 : decode cX4_findMatch 221 = .ok (.astore 11, 2) := dk_58 11 (dk_at dksX4_findMatch_9 11 rfl rfl)
theorem dX4_findMatch_223 : decode cX4_findMatch 223 = .ok (.iinc 12 (-1), 3) := dk_132 12 255 (dk_at dksX4_findMatch_9 13 rfl rfl)
theorem dX4_findMatch_226 : decode cX4_findMatch 226 = .ok (.goto (-50), 3) := dk_167 255 206 (dk_at dksX4_findMatch_9 16 rfl rfl)
theorem dX4_findMatch_229 : decode cX4_findMatch 229 = .ok (.aload_n 1, 1) := dk_43 (dk_at dksX4_findMatch_9 19 rfl rfl)
theorem dX4_findMatch_230 : decode cX4_findMatch 230 = .ok (.aload 4, 2) := dk_25 4 (dk_at dksX4_findMatch_9 20 rfl rfl)
theorem dX4_findMatch_232 : decode cX4_findMatch 232 = .ok (.getfield 165, 3) := dk_180 0 165 (dk_at dksX4_findMatch_10 0 rfl rfl)
theorem dX4_findMatch_235 : decode cX4_findMatch 235 = .ok (.new 54, 3) := dk_187 0 54 (dk_at dksX4_findMatch_10 3 rfl rfl)
theorem dX4_findMatch_238 : decode cX4_findMatch 238 = .ok (.dup, 1) := dk_89 (dk_at dksX4_findMatch_10 6 rfl rfl)
theorem dX4_findMatch_239 : decode cX4_findMatch 239 = .ok (.iconst 1, 1) := dk_4 (dk_at dksX4_findMatch_10 7 rfl rfl)
theorem dX4_findMatch_240 : decode cX4_findMatch 240 = .ok (.aload 11, 2) := dk_25 11 (dk_at dksX4_findMatch_10 8 rfl rfl)
theorem dX4_findMatch_242 : decode cX4_findMatch 242 = .ok (.invokespecial 60, 3) := dk_183 0 60 (dk_at dksX4_findMatch_10 10 rfl rfl)
theorem dX4_findMatch_245 : decode cX4_findMatch 245 = .ok (.invokestatic 174, 3) := dk_184 0 174 (dk_at dksX4_findMatch_10 13 rfl rfl)
theorem dX4_findMatch_248 : decode cX4_findMatch 248 = .ok (.new 149, 3) := dk_187 0 149 (dk_at dksX4_findMatch_10 16 rfl rfl)
theorem dX4_findMatch_251 : decode cX4_findMatch 251 = .ok (.dup, 1) := dk_89 (dk_at dksX4_findMatch_10 19 rfl rfl)
theorem dX4_findMatch_252 : decode cX4_findMatch 252 = .ok (.iload_n 3, 1) := dk_29 (dk_at dksX4_findMatch_10 20 rfl rfl)
theorem dX4_findMatch_253 : decode cX4_findMatch 253 = .ok (.iconst 0, 1) := dk_3 (dk_at dksX4_findMatch_10 21 rfl rfl)
theorem dX4_findMatch_254 : decode cX4_findMatch 254 = .ok (.invokespecial 151, 3) := dk_183 0 151 (dk_at dksX4_findMatch_11 0 rfl rfl)
theorem dX4_findMatch_257 : decode cX4_findMatch 257 = .ok (.astore 12, 2) := dk_58 12 (dk_at dksX4_findMatch_11 3 rfl rfl)
theorem dX4_findMatch_259 : decode cX4_findMatch 259 = .ok (.new 113, 3) := dk_187 0 113 (dk_at dksX4_findMatch_11 5 rfl rfl)
theorem dX4_findMatch_262 : decode cX4_findMatch 262 = .ok (.dup, 1) := dk_89 (dk_at dksX4_findMatch_11 8 rfl rfl)
theorem dX4_findMatch_263 : decode cX4_findMatch 263 = .ok (.invokespecial 115, 3) := dk_183 0 115 (dk_at dksX4_findMatch_11 9 rfl rfl)
theorem dX4_findMatch_266 : decode cX4_findMatch 266 = .ok (.astore 13, 2) := dk_58 13 (dk_at dksX4_findMatch_11 12 rfl rfl)
theorem dX4_findMatch_268 : decode cX4_findMatch 268 = .ok (.iconst 0, 1) := dk_3 (dk_at dksX4_findMatch_11 14 rfl rfl)
theorem dX4_findMatch_269 : decode cX4_findMatch 269 = .ok (.istore 14, 2) := dk_54 14 (dk_at dksX4_findMatch_11 15 rfl rfl)
theorem dX4_findMatch_271 : decode cX4_findMatch 271 = .ok (.iload 14, 2) := dk_21 14 (dk_at dksX4_findMatch_11 17 rfl rfl)
theorem dX4_findMatch_273 : decode cX4_findMatch 273 = .ok (.aload 5, 2) := dk_25 5 (dk_at dksX4_findMatch_11 19 rfl rfl)
theorem dX4_findMatch_275 : decode cX4_findMatch 275 = .ok (.invokevirtual 192, 3) := dk_182 0 192 (dk_at dksX4_findMatch_11 21 rfl rfl)
theorem dX4_findMatch_278 : decode cX4_findMatch 278 = .ok (.if_icmp .ge 82, 3) := dk_162 0 82 (dk_at dksX4_findMatch_12 0 rfl rfl)
theorem dX4_findMatch_281 : decode cX4_findMatch 281 = .ok (.aload 5, 2) := dk_25 5 (dk_at dksX4_findMatch_12 3 rfl rfl)
theorem dX4_findMatch_283 : decode cX4_findMatch 283 = .ok (.iload 14, 2) := dk_21 14 (dk_at dksX4_findMatch_12 5 rfl rfl)
theorem dX4_findMatch_285 : decode cX4_findMatch 285 = .ok (.invokevirtual 230, 3) := dk_182 0 230 (dk_at dksX4_findMatch_12 7 rfl rfl)
theorem dX4_findMatch_288 : decode cX4_findMatch 288 = .ok (.checkcast 31, 3) := dk_192 0 31 (dk_at dksX4_findMatch_12 10 rfl rfl)
theorem dX4_findMatch_291 : decode cX4_findMatch 291 = .ok (.astore 15, 2) := dk_58 15 (dk_at dksX4_findMatch_12 13 rfl rfl)
theorem dX4_findMatch_293 : decode cX4_findMatch 293 = .ok (.aload_n 0, 1) := dk_42 (dk_at dksX4_findMatch_12 15 rfl rfl)
theorem dX4_findMatch_294 : decode cX4_findMatch 294 = .ok (.aload 15, 2) := dk_25 15 (dk_at dksX4_findMatch_12 16 rfl rfl)
theorem dX4_findMatch_296 : decode cX4_findMatch 296 = .ok (.getfield 154, 3) := dk_180 0 154 (dk_at dksX4_findMatch_12 18 rfl rfl)
theorem dX4_findMatch_299 : decode cX4_findMatch 299 = .ok (.iconst 0, 1) := dk_3 (dk_at dksX4_findMatch_12 21 rfl rfl)
theorem dX4_findMatch_300 : decode cX4_findMatch 300 = .ok (.aaload, 1) := dk_50 (dk_at dksX4_findMatch_12 22 rfl rfl)
theorem dX4_findMatch_301 : decode cX4_findMatch 301 = .ok (.new 88, 3) := dk_187 0 88 (dk_at dksX4_findMatch_13 0 rfl rfl)
theorem dX4_findMatch_304 : decode cX4_findMatch 304 = .ok (.dup, 1) := dk_89 (dk_at dksX4_findMatch_13 3 rfl rfl)
theorem dX4_findMatch_305 : decode cX4_findMatch 305 = .ok (.aload 15, 2) := dk_25 15 (dk_at dksX4_findMatch_13 4 rfl rfl)
theorem dX4_findMatch_307 : decode cX4_findMatch 307 = .ok (.getfield 236, 3) := dk_180 0 236 (dk_at dksX4_findMatch_13 6 rfl rfl)
theorem dX4_findMatch_310 : decode cX4_findMatch 310 = .ok (.aload 6, 2) := dk_25 6 (dk_at dksX4_findMatch_13 9 rfl rfl)
theorem dX4_findMatch_312 : decode cX4_findMatch 312 = .ok (.iload 14, 2) := dk_21 14 (dk_at dksX4_findMatch_13 11 rfl rfl)
theorem dX4_findMatch_314 : decode cX4_findMatch 314 = .ok (.invokevirtual 230, 3) := dk_182 0 230 (dk_at dksX4_findMatch_13 13 rfl rfl)
theorem dX4_findMatch_317 : decode cX4_findMatch 317 = .ok (.checkcast 234, 3) := dk_192 0 234 (dk_at dksX4_findMatch_13 16 rfl rfl)
theorem dX4_findMatch_320 : decode cX4_findMatch 320 = .ok (.aconst_null, 1) := dk_1 (dk_at dksX4_findMatch_13 19 rfl rfl)
theorem dX4_findMatch_321 : decode cX4_findMatch 321 = .ok (.aload_n 2, 1) := dk_44 (dk_at dksX4_findMatch_13 20 rfl rfl)
theorem dX4_findMatch_322 : decode cX4_findMatch 322 = .ok (.invokespecial 157, 3) := dk_183 0 157 (dk_at dksX4_findMatch_13 21 rfl rfl)
theorem dX4_findMatch_325 : decode cX4_findMatch 325 = .ok (.iload_n 3, 1) := dk_29 (dk_at dksX4_findMatch_14 0 rfl rfl)
theorem dX4_findMatch_326 : decode cX4_findMatch 326 = .ok (.invokevirtual 160, 3) := dk_182 0 160 (dk_at dksX4_findMatch_14 1 rfl rfl)
theorem dX4_findMatch_329 : decode cX4_findMatch 329 = .ok (.astore 16, 2) := dk_58 16 (dk_at dksX4_findMatch_14 4 rfl rfl)
theorem dX4_findMatch_331 : decode cX4_findMatch 331 = .ok (.aload 15, 2) := dk_25 15 (dk_at dksX4_findMatch_14 6 rfl rfl)
theorem dX4_findMatch_333 : decode cX4_findMatch 333 = .ok (.aload 16, 2) := dk_25 16 (dk_at dksX4_findMatch_14 8 rfl rfl)
theorem dX4_findMatch_335 : decode cX4_findMatch 335 = .ok (.getfield 165, 3) := dk_180 0 165 (dk_at dksX4_findMatch_14 10 rfl rfl)
theorem dX4_findMatch_338 : decode cX4_findMatch 338 = .ok (.aload 12, 2) := dk_25 12 (dk_at dksX4_findMatch_14 13 rfl rfl)
theorem dX4_findMatch_340 : decode cX4_findMatch 340 = .ok (.invokestatic 174, 3) := dk_184 0 174 (dk_at dksX4_findMatch_14 15 rfl rfl)
theorem dX4_findMatch_343 : decode cX4_findMatch 343 = .ok (.aload 13, 2) := dk_25 13 (dk_at dksX4_findMatch_14 18 rfl rfl)
theorem dX4_findMatch_345 : decode cX4_findMatch 345 = .ok (.aload 16, 2) := dk_25 16 (dk_at dksX4_findMatch_14 20 rfl rfl)
theorem dX4_findMatch_347 : decode cX4_findMatch 347 = .ok (.getfield 170, 3) := dk_180 0 170 (dk_at dksX4_findMatch_15 0 rfl rfl)
theorem dX4_findMatch_350 : decode cX4_findMatch 350 = .ok (.invokevirtual 145, 3) := dk_182 0 145 (dk_at dksX4_findMatch_15 3 rfl rfl)
theorem dX4_findMatch_353 : decode cX4_findMatch 353 = .ok (.pop, 1) := dk_87 (dk_at dksX4_findMatch_15 6 rfl rfl)
theorem dX4_findMatch_354 : decode cX4_findMatch 354 = .ok (.iinc 14 1, 3) := dk_132 14 1 (dk_at dksX4_findMatch_15 7 rfl rfl)
theorem dX4_findMatch_357 : decode cX4_findMatch 357 = .ok (.goto (-86), 3) := dk_167 255 170 (dk_at dksX4_findMatch_15 10 rfl rfl)
theorem dX4_findMatch_360 : decode cX4_findMatch 360 = .ok (.new 41, 3) := dk_187 0 41 (dk_at dksX4_findMatch_15 13 rfl rfl)
theorem dX4_findMatch_363 : decode cX4_findMatch 363 = .ok (.dup, 1) := dk_89 (dk_at dksX4_findMatch_15 16 rfl rfl)
theorem dX4_findMatch_364 : decode cX4_findMatch 364 = .ok (.ldc 237, 2) := dk_18 237 (dk_at dksX4_findMatch_15 17 rfl rfl)
theorem dX4_findMatch_366 : decode cX4_findMatch 366 = .ok (.iconst 0, 1) := dk_3 (dk_at dksX4_findMatch_15 19 rfl rfl)
theorem dX4_findMatch_367 : decode cX4_findMatch 367 = .ok (.aconst_null, 1) := dk_1 (dk_at dksX4_findMatch_15 20 rfl rfl)
theorem dX4_findMatch_368 : decode cX4_findMatch 368 = .ok (.aconst_null, 1) := dk_1 (dk_at dksX4_findMatch_15 21 rfl rfl)
theorem dX4_findMatch_369 : decode cX4_findMatch 369 = .ok (.iconst 0, 1) := dk_3 (dk_at dksX4_findMatch_15 22 rfl rfl)
theorem dX4_findMatch_370 : decode cX4_findMatch 370 = .ok (.anewarray 41, 3) := dk_189 0 41 (dk_at dksX4_findMatch_16 0 rfl rfl)
theorem dX4_findMatch_373 : decode cX4_findMatch 373 = .ok (.invokespecial 48, 3) := dk_183 0 48 (dk_at dksX4_findMatch_16 3 rfl rfl)
theorem dX4_findMatch_376 : decode cX4_findMatch 376 = .ok (.astore 14, 2) := dk_58 14 (dk_at dksX4_findMatch_16 6 rfl rfl)
theorem dX4_findMatch_378 : decode cX4_findMatch 378 = .ok (.aload 8, 2) := dk_25 8 (dk_at dksX4_findMatch_16 8 rfl rfl)
theorem dX4_findMatch_380 : decode cX4_findMatch 380 = .ok (.getfield 30, 3) := dk_180 0 30 (dk_at dksX4_findMatch_16 10 rfl rfl)
theorem dX4_findMatch_383 : decode cX4_findMatch 383 = .ok (.bipush 16, 2) := dk_16 16 (dk_at dksX4_findMatch_16 13 rfl rfl)
theorem dX4_findMatch_385 : decode cX4_findMatch 385 = .ok (.if_icmp .ne 83, 3) := dk_160 0 83 (dk_at dksX4_findMatch_16 15 rfl rfl)
theorem dX4_findMatch_388 : decode cX4_findMatch 388 = .ok (.aload_n 0, 1) := dk_42 (dk_at dksX4_findMatch_16 18 rfl rfl)
theorem dX4_findMatch_389 : decode cX4_findMatch 389 = .ok (.aload 8, 2) := dk_25 8 (dk_at dksX4_findMatch_16 19 rfl rfl)
theorem dX4_findMatch_391 : decode cX4_findMatch 391 = .ok (.getfield 154, 3) := dk_180 0 154 (dk_at dksX4_findMatch_16 21 rfl rfl)
theorem dX4_findMatch_394 : decode cX4_findMatch 394 = .ok (.iconst 0, 1) := dk_3 (dk_at dksX4_findMatch_17 0 rfl rfl)
theorem dX4_findMatch_395 : decode cX4_findMatch 395 = .ok (.aaload, 1) := dk_50 (dk_at dksX4_findMatch_17 1 rfl rfl)
theorem dX4_findMatch_396 : decode cX4_findMatch 396 = .ok (.new 88, 3) := dk_187 0 88 (dk_at dksX4_findMatch_17 2 rfl rfl)
theorem dX4_findMatch_399 : decode cX4_findMatch 399 = .ok (.dup, 1) := dk_89 (dk_at dksX4_findMatch_17 5 rfl rfl)
theorem dX4_findMatch_400 : decode cX4_findMatch 400 = .ok (.aload 8, 2) := dk_25 8 (dk_at dksX4_findMatch_17 6 rfl rfl)
theorem dX4_findMatch_402 : decode cX4_findMatch 402 = .ok (.getfield 45, 3) := dk_180 0 45 (dk_at dksX4_findMatch_17 8 rfl rfl)
theorem dX4_findMatch_405 : decode cX4_findMatch 405 = .ok (.new 54, 3) := dk_187 0 54 (dk_at dksX4_findMatch_17 11 rfl rfl)
theorem dX4_findMatch_408 : decode cX4_findMatch 408 = .ok (.dup, 1) := dk_89 (dk_at dksX4_findMatch_17 14 rfl rfl)
theorem dX4_findMatch_409 : decode cX4_findMatch 409 = .ok (.iconst 1, 1) := dk_4 (dk_at dksX4_findMatch_17 15 rfl rfl)
theorem dX4_findMatch_410 : decode cX4_findMatch 410 = .ok (.aload 9, 2) := dk_25 9 (dk_at dksX4_findMatch_17 16 rfl rfl)
theorem dX4_findMatch_412 : decode cX4_findMatch 412 = .ok (.invokespecial 60, 3) := dk_183 0 60 (dk_at dksX4_findMatch_17 18 rfl rfl)
theorem dX4_findMatch_415 : decode cX4_findMatch 415 = .ok (.aconst_null, 1) := dk_1 (dk_at dksX4_findMatch_17 21 rfl rfl)
theorem dX4_findMatch_416 : decode cX4_findMatch 416 = .ok (.aload_n 2, 1) := dk_44 (dk_at dksX4_findMatch_17 22 rfl rfl)
theorem dX4_findMatch_417 : decode cX4_findMatch 417 = .ok (.invokespecial 157, 3) := dk_183 0 157 (dk_at dksX4_findMatch_18 0 rfl rfl)
theorem dX4_findMatch_420 : decode cX4_findMatch 420 = .ok (.iload_n 3, 1) := dk_29 (dk_at dksX4_findMatch_18 3 rfl rfl)
theorem dX4_findMatch_421 : decode cX4_findMatch 421 = .ok (.invokevirtual 160, 3) := dk_182 0 160 (dk_at dksX4_findMatch_18 4 rfl rfl)
theorem dX4_findMatch_424 : decode cX4_findMatch 424 = .ok (.astore 15, 2) := dk_58 15 (dk_at dksX4_findMatch_18 7 rfl rfl)
theorem dX4_findMatch_426 : decode cX4_findMatch 426 = .ok (.aload 8, 2) := dk_25 8 (dk_at dksX4_findMatch_18 9 rfl rfl)
theorem dX4_findMatch_428 : decode cX4_findMatch 428 = .ok (.aload 15, 2) := dk_25 15 (dk_at dksX4_findMatch_18 11 rfl rfl)
theorem dX4_findMatch_430 : decode cX4_findMatch 430 = .ok (.getfield 165, 3) := dk_180 0 165 (dk_at dksX4_findMatch_18 13 rfl rfl)
theorem dX4_findMatch_433 : decode cX4_findMatch 433 = .ok (.aload 12, 2) := dk_25 12 (dk_at dksX4_findMatch_18 16 rfl rfl)
theorem dX4_findMatch_435 : decode cX4_findMatch 435 = .ok (.invokestatic 174, 3) := dk_184 0 174 (dk_at dksX4_findMatch_18 18 rfl rfl)
theorem dX4_findMatch_438 : decode cX4_findMatch 438 = .ok (.new 41, 3) := dk_187 0 41 (dk_at dksX4_findMatch_18 21 rfl rfl)
theorem dX4_findMatch_441 : decode cX4_findMatch 441 = .ok (.dup, 1) := dk_89 (dk_at dksX4_findMatch_19 0 rfl rfl)
theorem dX4_findMatch_442 : decode cX4_findMatch 442 = .ok (.ldc 239, 2) := dk_18 239 (dk_at dksX4_findMatch_19 1 rfl rfl)
theorem dX4_findMatch_444 : decode cX4_findMatch 444 = .ok (.aload 8, 2) := dk_25 8 (dk_at dksX4_findMatch_19 3 rfl rfl)
theorem dX4_findMatch_446 : decode cX4_findMatch 446 = .ok (.getfield 45, 3) := dk_180 0 45 (dk_at dksX4_findMatch_19 5 rfl rfl)
theorem dX4_findMatch_449 : decode cX4_findMatch 449 = .ok (.aconst_null, 1) := dk_1 (dk_at dksX4_findMatch_19 8 rfl rfl)
theorem dX4_findMatch_450 : decode cX4_findMatch 450 = .ok (.aconst_null, 1) := dk_1 (dk_at dksX4_findMatch_19 9 rfl rfl)
theorem dX4_findMatch_451 : decode cX4_findMatch 451 = .ok (.iconst 1, 1) := dk_4 (dk_at dksX4_findMatch_19 10 rfl rfl)
theorem dX4_findMatch_452 : decode cX4_findMatch 452 = .ok (.anewarray 41, 3) := dk_189 0 41 (dk_at dksX4_findMatch_19 11 rfl rfl)
theorem dX4_findMatch_455 : decode cX4_findMatch 455 = .ok (.dup, 1) := dk_89 (dk_at dksX4_findMatch_19 14 rfl rfl)
theorem dX4_findMatch_456 : decode cX4_findMatch 456 = .ok (.iconst 0, 1) := dk_3 (dk_at dksX4_findMatch_19 15 rfl rfl)
theorem dX4_findMatch_457 : decode cX4_findMatch 457 = .ok (.aload 15, 2) := dk_25 15 (dk_at dksX4_findMatch_19 16 rfl rfl)
theorem dX4_findMatch_459 : decode cX4_findMatch 459 = .ok (.getfield 170, 3) := dk_180 0 170 (dk_at dksX4_findMatch_19 18 rfl rfl)
theorem dX4_findMatch_462 : decode cX4_findMatch 462 = .ok (.aastore, 1) := dk_83 (dk_at dksX4_findMatch_19 21 rfl rfl)
theorem dX4_findMatch_463 : decode cX4_findMatch 463 = .ok (.invokespecial 48, 3) := dk_183 0 48 (dk_at dksX4_findMatch_20 0 rfl rfl)
theorem dX4_findMatch_466 : decode cX4_findMatch 466 = .ok (.astore 14, 2) := dk_58 14 (dk_at dksX4_findMatch_20 3 rfl rfl)
theorem dX4_findMatch_468 : decode cX4_findMatch 468 = .ok (.aload 5, 2) := dk_25 5 (dk_at dksX4_findMatch_20 5 rfl rfl)
theorem dX4_findMatch_470 : decode cX4_findMatch 470 = .ok (.invokevirtual 192, 3) := dk_182 0 192 (dk_at dksX4_findMatch_20 7 rfl rfl)
theorem dX4_findMatch_473 : decode cX4_findMatch 473 = .ok (.iconst 1, 1) := dk_4 (dk_at dksX4_findMatch_20 10 rfl rfl)
theorem dX4_findMatch_474 : decode cX4_findMatch 474 = .ok (.isub, 1) := dk_100 (dk_at dksX4_findMatch_20 11 rfl rfl)
theorem dX4_findMatch_475 : decode cX4_findMatch 475 = .ok (.istore 15, 2) := dk_54 15 (dk_at dksX4_findMatch_20 12 rfl rfl)
theorem dX4_findMatch_477 : decode cX4_findMatch 477 = .ok (.iload 15, 2) := dk_21 15 (dk_at dksX4_findMatch_20 14 rfl rfl)
theorem dX4_findMatch_479 : decode cX4_findMatch 479 = .ok (.ifCond .lt 79, 3) := dk_155 0 79 (dk_at dksX4_findMatch_20 16 rfl rfl)
theorem dX4_findMatch_482 : decode cX4_findMatch 482 = .ok (.aload 5, 2) := dk_25 5 (dk_at dksX4_findMatch_20 19 rfl rfl)
theorem dX4_findMatch_484 : decode cX4_findMatch 484 = .ok (.iload 15, 2) := dk_21 15 (dk_at dksX4_findMatch_20 21 rfl rfl)
theorem dX4_findMatch_486 : decode cX4_findMatch 486 = .ok (.invokevirtual 230, 3) := dk_182 0 230 (dk_at dksX4_findMatch_21 0 rfl rfl)
theorem dX4_findMatch_489 : decode cX4_findMatch 489 = .ok (.checkcast 31, 3) := dk_192 0 31 (dk_at dksX4_findMatch_21 3 rfl rfl)
theorem dX4_findMatch_492 : decode cX4_findMatch 492 = .ok (.astore 16, 2) := dk_58 16 (dk_at dksX4_findMatch_21 6 rfl rfl)
theorem dX4_findMatch_494 : decode cX4_findMatch 494 = .ok (.new 41, 3) := dk_187 0 41 (dk_at dksX4_findMatch_21 8 rfl rfl)
theorem dX4_findMatch_497 : decode cX4_findMatch 497 = .ok (.dup, 1) := dk_89 (dk_at dksX4_findMatch_21 11 rfl rfl)
theorem dX4_findMatch_498 : decode cX4_findMatch 498 = .ok (.ldc 241, 2) := dk_18 241 (dk_at dksX4_findMatch_21 12 rfl rfl)
theorem dX4_findMatch_500 : decode cX4_findMatch 500 = .ok (.bipush 10, 2) := dk_16 10 (dk_at dksX4_findMatch_21 14 rfl rfl)
theorem dX4_findMatch_502 : decode cX4_findMatch 502 = .ok (.aload 16, 2) := dk_25 16 (dk_at dksX4_findMatch_21 16 rfl rfl)
theorem dX4_findMatch_504 : decode cX4_findMatch 504 = .ok (.getfield 236, 3) := dk_180 0 236 (dk_at dksX4_findMatch_21 18 rfl rfl)
theorem dX4_findMatch_507 : decode cX4_findMatch 507 = .ok (.imul, 1) := dk_104 (dk_at dksX4_findMatch_21 21 rfl rfl)
theorem dX4_findMatch_508 : decode cX4_findMatch 508 = .ok (.aload 16, 2) := dk_25 16 (dk_at dksX4_findMatch_21 22 rfl rfl)
theorem dX4_findMatch_510 : decode cX4_findMatch 510 = .ok (.getfield 45, 3) := dk_180 0 45 (dk_at dksX4_findMatch_22 0 rfl rfl)
theorem dX4_findMatch_513 : decode cX4_findMatch 513 = .ok (.iadd, 1) := dk_96 (dk_at dksX4_findMatch_22 3 rfl rfl)
theorem dX4_findMatch_514 : decode cX4_findMatch 514 = .ok (.aload 10, 2) := dk_25 10 (dk_at dksX4_findMatch_22 4 rfl rfl)
theorem dX4_findMatch_516 : decode cX4_findMatch 516 = .ok (.iload 15, 2) := dk_21 15 (dk_at dksX4_findMatch_22 6 rfl rfl)
theorem dX4_findMatch_518 : decode cX4_findMatch 518 = .ok (.invokevirtual 230, 3) := dk_182 0 230 (dk_at dksX4_findMatch_22 8 rfl rfl)
theorem dX4_findMatch_521 : decode cX4_findMatch 521 = .ok (.checkcast 243, 3) := dk_192 0 243 (dk_at dksX4_findMatch_22 11 rfl rfl)
theorem dX4_findMatch_524 : decode cX4_findMatch 524 = .ok (.aconst_null, 1) := dk_1 (dk_at dksX4_findMatch_22 14 rfl rfl)
theorem dX4_findMatch_525 : decode cX4_findMatch 525 = .ok (.iconst 2, 1) := dk_5 (dk_at dksX4_findMatch_22 15 rfl rfl)
theorem dX4_findMatch_526 : decode cX4_findMatch 526 = .ok (.anewarray 41, 3) := dk_189 0 41 (dk_at dksX4_findMatch_22 16 rfl rfl)
theorem dX4_findMatch_529 : decode cX4_findMatch 529 = .ok (.dup, 1) := dk_89 (dk_at dksX4_findMatch_22 19 rfl rfl)
theorem dX4_findMatch_530 : decode cX4_findMatch 530 = .ok (.iconst 0, 1) := dk_3 (dk_at dksX4_findMatch_22 20 rfl rfl)
theorem dX4_findMatch_531 : decode cX4_findMatch 531 = .ok (.aload 13, 2) := dk_25 13 (dk_at dksX4_findMatch_22 21 rfl rfl)
theorem dX4_findMatch_533 : decode cX4_findMatch 533 = .ok (.iload 15, 2) := dk_21 15 (dk_at dksX4_findMatch_23 0 rfl rfl)
theorem dX4_findMatch_535 : decode cX4_findMatch 535 = .ok (.invokevirtual 230, 3) := dk_182 0 230 (dk_at dksX4_findMatch_23 2 rfl rfl)
theorem dX4_findMatch_538 : decode cX4_findMatch 538 = .ok (.checkcast 41, 3) := dk_192 0 41 (dk_at dksX4_findMatch_23 5 rfl rfl)
theorem dX4_findMatch_541 : decode cX4_findMatch 541 = .ok (.aastore, 1) := dk_83 (dk_at dksX4_findMatch_23 8 rfl rfl)
theorem dX4_findMatch_542 : decode cX4_findMatch 542 = .ok (.dup, 1) := dk_89 (dk_at dksX4_findMatch_23 9 rfl rfl)
theorem dX4_findMatch_543 : decode cX4_findMatch 543 = .ok (.iconst 1, 1) := dk_4 (dk_at dksX4_findMatch_23 10 rfl rfl)
theorem dX4_findMatch_544 : decode cX4_findMatch 544 = .ok (.aload 14, 2) := dk_25 14 (dk_at dksX4_findMatch_23 11 rfl rfl)
theorem dX4_findMatch_546 : decode cX4_findMatch 546 = .ok (.aastore, 1) := dk_83 (dk_at dksX4_findMatch_23 13 rfl rfl)
theorem dX4_findMatch_547 : decode cX4_findMatch 547 = .ok (.invokespecial 48, 3) := dk_183 0 48 (dk_at dksX4_findMatch_23 14 rfl rfl)
theorem dX4_findMatch_550 : decode cX4_findMatch 550 = .ok (.astore 14, 2) := dk_58 14 (dk_at dksX4_findMatch_23 17 rfl rfl)
theorem dX4_findMatch_552 : decode cX4_findMatch 552 = .ok (.iinc 15 (-1), 3) := dk_132 15 255 (dk_at dksX4_findMatch_23 19 rfl rfl)
theorem dX4_findMatch_555 : decode cX4_findMatch 555 = .ok (.goto (-78), 3) := dk_167 255 178 (dk_at dksX4_findMatch_24 0 rfl rfl)
theorem dX4_findMatch_558 : decode cX4_findMatch 558 = .ok (.new 35, 3) := dk_187 0 35 (dk_at dksX4_findMatch_24 3 rfl rfl)
theorem dX4_findMatch_561 : decode cX4_findMatch 561 = .ok (.dup, 1) := dk_89 (dk_at dksX4_findMatch_24 6 rfl rfl)
theorem dX4_findMatch_562 : decode cX4_findMatch 562 = .ok (.aload 12, 2) := dk_25 12 (dk_at dksX4_findMatch_24 7 rfl rfl)
theorem dX4_findMatch_564 : decode cX4_findMatch 564 = .ok (.new 41, 3) := dk_187 0 41 (dk_at dksX4_findMatch_24 9 rfl rfl)
theorem dX4_findMatch_567 : decode cX4_findMatch 567 = .ok (.dup, 1) := dk_89 (dk_at dksX4_findMatch_24 12 rfl rfl)
theorem dX4_findMatch_568 : decode cX4_findMatch 568 = .ok (.ldc 245, 2) := dk_18 245 (dk_at dksX4_findMatch_24 13 rfl rfl)
theorem dX4_findMatch_570 : decode cX4_findMatch 570 = .ok (.iconst 0, 1) := dk_3 (dk_at dksX4_findMatch_24 15 rfl rfl)
theorem dX4_findMatch_571 : decode cX4_findMatch 571 = .ok (.aconst_null, 1) := dk_1 (dk_at dksX4_findMatch_24 16 rfl rfl)
theorem dX4_findMatch_572 : decode cX4_findMatch 572 = .ok (.aconst_null, 1) := dk_1 (dk_at dksX4_findMatch_24 17 rfl rfl)
theorem dX4_findMatch_573 : decode cX4_findMatch 573 = .ok (.iconst 2, 1) := dk_5 (dk_at dksX4_findMatch_24 18 rfl rfl)
theorem dX4_findMatch_574 : decode cX4_findMatch 574 = .ok (.anewarray 41, 3) := dk_189 0 41 (dk_at dksX4_findMatch_24 19 rfl rfl)
theorem dX4_findMatch_577 : decode cX4_findMatch 577 = .ok (.dup, 1) := dk_89 (dk_at dksX4_findMatch_24 22 rfl rfl)
theorem dX4_findMatch_578 : decode cX4_findMatch 578 = .ok (.iconst 0, 1) := dk_3 (dk_at dksX4_findMatch_24 23 rfl rfl)
theorem dX4_findMatch_579 : decode cX4_findMatch 579 = .ok (.aload 4, 2) := dk_25 4 (dk_at dksX4_findMatch_25 0 rfl rfl)
theorem dX4_findMatch_581 : decode cX4_findMatch 581 = .ok (.getfield 170, 3) := dk_180 0 170 (dk_at dksX4_findMatch_25 2 rfl rfl)
theorem dX4_findMatch_584 : decode cX4_findMatch 584 = .ok (.aastore, 1) := dk_83 (dk_at dksX4_findMatch_25 5 rfl rfl)
theorem dX4_findMatch_585 : decode cX4_findMatch 585 = .ok (.dup, 1) := dk_89 (dk_at dksX4_findMatch_25 6 rfl rfl)
theorem dX4_findMatch_586 : decode cX4_findMatch 586 = .ok (.iconst 1, 1) := dk_4 (dk_at dksX4_findMatch_25 7 rfl rfl)
theorem dX4_findMatch_587 : decode cX4_findMatch 587 = .ok (.aload 14, 2) := dk_25 14 (dk_at dksX4_findMatch_25 8 rfl rfl)
theorem dX4_findMatch_589 : decode cX4_findMatch 589 = .ok (.aastore, 1) := dk_83 (dk_at dksX4_findMatch_25 10 rfl rfl)
theorem dX4_findMatch_590 : decode cX4_findMatch 590 = .ok (.invokespecial 48, 3) := dk_183 0 48 (dk_at dksX4_findMatch_25 11 rfl rfl)
theorem dX4_findMatch_593 : decode cX4_findMatch 593 = .ok (.invokespecial 51, 3) := dk_183 0 51 (dk_at dksX4_findMatch_25 14 rfl rfl)
theorem dX4_findMatch_596 : decode cX4_findMatch 596 = .ok (.areturn, 1) := dk_176 (dk_at dksX4_findMatch_25 17 rfl rfl)
abbrev cX4_findPlain : ByteArray := prog_13_method_10_code
def yX4_findPlain : MethodName := ⟨RX4, "findPlain", "(LRowenTongue$Term;LRowenTongue$Known;I)LRowenTongue$Typed;"⟩
def dkwX4_findPlain_12 : List UInt8 := [89, 3, 25, 4, 180, 0, 170, 83, 89, 4, 25, 5, 180, 0, 170, 83, 183, 0, 48, 183, 0, 51, 176]
abbrev dktX4_findPlain_12 : List UInt8 := dkwX4_findPlain_12 ++ []
def dkwX4_findPlain_11 : List UInt8 := [183, 0, 27, 191, 187, 0, 35, 89, 178, 0, 37, 187, 0, 41, 89, 18, 255, 3, 1, 1, 5, 189, 0, 41]
abbrev dktX4_findPlain_11 : List UInt8 := dkwX4_findPlain_11 ++ dktX4_findPlain_12
def dkwX4_findPlain_10 : List UInt8 := [180, 0, 165, 184, 0, 251, 167, 0, 21, 58, 6, 187, 0, 21, 89, 25, 6, 180, 0, 23, 43, 25, 6]
abbrev dktX4_findPlain_10 : List UInt8 := dkwX4_findPlain_10 ++ dktX4_findPlain_11
def dkwX4_findPlain_9 : List UInt8 := [183, 0, 48, 183, 0, 51, 176, 43, 25, 5, 180, 0, 165, 25, 4, 180, 0, 165, 184, 0, 174, 25, 4]
abbrev dktX4_findPlain_9 : List UInt8 := dkwX4_findPlain_9 ++ dktX4_findPlain_10
def dkwX4_findPlain_8 : List UInt8 := [3, 1, 1, 5, 189, 0, 41, 89, 3, 25, 4, 180, 0, 170, 83, 89, 4, 25, 5, 180, 0, 170, 83]
abbrev dktX4_findPlain_8 : List UInt8 := dkwX4_findPlain_8 ++ dktX4_findPlain_9
def dkwX4_findPlain_7 : List UInt8 := [25, 5, 180, 0, 165, 178, 0, 37, 184, 0, 174, 187, 0, 35, 89, 178, 0, 37, 187, 0, 41, 89, 18, 249]
abbrev dktX4_findPlain_7 : List UInt8 := dkwX4_findPlain_7 ++ dktX4_findPlain_8
def dkwX4_findPlain_6 : List UInt8 := [58, 5, 43, 180, 0, 30, 16, 13, 160, 0, 70, 43, 25, 4, 180, 0, 165, 178, 0, 37, 184, 0, 174, 43]
abbrev dktX4_findPlain_6 : List UInt8 := dkwX4_findPlain_6 ++ dktX4_findPlain_7
def dkwX4_findPlain_5 : List UInt8 := [180, 0, 170, 83, 183, 0, 48, 183, 0, 51, 176, 42, 43, 180, 0, 154, 4, 50, 44, 29, 182, 0, 160]
abbrev dktX4_findPlain_5 : List UInt8 := dkwX4_findPlain_5 ++ dktX4_findPlain_6
def dkwX4_findPlain_4 : List UInt8 := [6, 189, 0, 41, 89, 3, 25, 4, 180, 0, 170, 83, 89, 4, 25, 5, 180, 0, 170, 83, 89, 5, 25, 6]
abbrev dktX4_findPlain_4 : List UInt8 := dkwX4_findPlain_4 ++ dktX4_findPlain_5
def dkwX4_findPlain_3 : List UInt8 := [180, 0, 165, 184, 0, 174, 187, 0, 35, 89, 25, 5, 180, 0, 165, 187, 0, 41, 89, 18, 247, 3, 1, 1]
abbrev dktX4_findPlain_3 : List UInt8 := dkwX4_findPlain_3 ++ dktX4_findPlain_4
def dkwX4_findPlain_2 : List UInt8 := [58, 5, 42, 43, 180, 0, 154, 5, 50, 44, 29, 182, 0, 160, 58, 6, 43, 25, 6, 180, 0, 165, 25, 5]
abbrev dktX4_findPlain_2 : List UInt8 := dkwX4_findPlain_2 ++ dktX4_findPlain_3
def dkwX4_findPlain_1 : List UInt8 := [25, 4, 180, 0, 165, 178, 0, 37, 184, 0, 174, 42, 43, 180, 0, 154, 4, 50, 44, 29, 182, 0, 160]
abbrev dktX4_findPlain_1 : List UInt8 := dkwX4_findPlain_1 ++ dktX4_findPlain_2
def dkwX4_findPlain_0 : List UInt8 := [42, 43, 180, 0, 154, 3, 50, 44, 29, 182, 0, 160, 58, 4, 43, 180, 0, 30, 16, 12, 160, 0, 110, 43]
abbrev dktX4_findPlain_0 : List UInt8 := dkwX4_findPlain_0 ++ dktX4_findPlain_1
theorem dksX4_findPlain_0 : cX4_findPlain.data.toList.drop 0 = dktX4_findPlain_0 := by decide +kernel
theorem dksX4_findPlain_1 : cX4_findPlain.data.toList.drop 24 = dktX4_findPlain_1 := dk_seg dksX4_findPlain_0 24 rfl rfl
theorem dksX4_findPlain_2 : cX4_findPlain.data.toList.drop 47 = dktX4_findPlain_2 := dk_seg dksX4_findPlain_1 23 rfl rfl
theorem dksX4_findPlain_3 : cX4_findPlain.data.toList.drop 71 = dktX4_findPlain_3 := dk_seg dksX4_findPlain_2 24 rfl rfl
theorem dksX4_findPlain_4 : cX4_findPlain.data.toList.drop 95 = dktX4_findPlain_4 := dk_seg dksX4_findPlain_3 24 rfl rfl
theorem dksX4_findPlain_5 : cX4_findPlain.data.toList.drop 119 = dktX4_findPlain_5 := dk_seg dksX4_findPlain_4 24 rfl rfl
theorem dksX4_findPlain_6 : cX4_findPlain.data.toList.drop 142 = dktX4_findPlain_6 := dk_seg dksX4_findPlain_5 23 rfl rfl
theorem dksX4_findPlain_7 : cX4_findPlain.data.toList.drop 166 = dktX4_findPlain_7 := dk_seg dksX4_findPlain_6 24 rfl rfl
theorem dksX4_findPlain_8 : cX4_findPlain.data.toList.drop 190 = dktX4_findPlain_8 := dk_seg dksX4_findPlain_7 24 rfl rfl
theorem dksX4_findPlain_9 : cX4_findPlain.data.toList.drop 213 = dktX4_findPlain_9 := dk_seg dksX4_findPlain_8 23 rfl rfl
theorem dksX4_findPlain_10 : cX4_findPlain.data.toList.drop 236 = dktX4_findPlain_10 := dk_seg dksX4_findPlain_9 23 rfl rfl
theorem dksX4_findPlain_11 : cX4_findPlain.data.toList.drop 259 = dktX4_findPlain_11 := dk_seg dksX4_findPlain_10 23 rfl rfl
theorem dksX4_findPlain_12 : cX4_findPlain.data.toList.drop 283 = dktX4_findPlain_12 := dk_seg dksX4_findPlain_11 24 rfl rfl
theorem dX4_findPlain_0 : decode cX4_findPlain 0 = .ok (.aload_n 0, 1) := dk_42 (dk_at dksX4_findPlain_0 0 rfl rfl)
theorem dX4_findPlain_1 : decode cX4_findPlain 1 = .ok (.aload_n 1, 1) := dk_43 (dk_at dksX4_findPlain_0 1 rfl rfl)
theorem dX4_findPlain_2 : decode cX4_findPlain 2 = .ok (.getfield 154, 3) := dk_180 0 154 (dk_at dksX4_findPlain_0 2 rfl rfl)
theorem dX4_findPlain_5 : decode cX4_findPlain 5 = .ok (.iconst 0, 1) := dk_3 (dk_at dksX4_findPlain_0 5 rfl rfl)
theorem dX4_findPlain_6 : decode cX4_findPlain 6 = .ok (.aaload, 1) := dk_50 (dk_at dksX4_findPlain_0 6 rfl rfl)
theorem dX4_findPlain_7 : decode cX4_findPlain 7 = .ok (.aload_n 2, 1) := dk_44 (dk_at dksX4_findPlain_0 7 rfl rfl)
theorem dX4_findPlain_8 : decode cX4_findPlain 8 = .ok (.iload_n 3, 1) := dk_29 (dk_at dksX4_findPlain_0 8 rfl rfl)
theorem dX4_findPlain_9 : decode cX4_findPlain 9 = .ok (.invokevirtual 160, 3) := dk_182 0 160 (dk_at dksX4_findPlain_0 9 rfl rfl)
theorem dX4_findPlain_12 : decode cX4_findPlain 12 = .ok (.astore 4, 2) := dk_58 4 (dk_at dksX4_findPlain_0 12 rfl rfl)
theorem dX4_findPlain_14 : decode cX4_findPlain 14 = .ok (.aload_n 1, 1) := dk_43 (dk_at dksX4_findPlain_0 14 rfl rfl)
theorem dX4_findPlain_15 : decode cX4_findPlain 15 = .ok (.getfield 30, 3) := dk_180 0 30 (dk_at dksX4_findPlain_0 15 rfl rfl)
theorem dX4_findPlain_18 : decode cX4_findPlain 18 = .ok (.bipush 12, 2) := dk_16 12 (dk_at dksX4_findPlain_0 18 rfl rfl)
theorem dX4_findPlain_20 : decode cX4_findPlain 20 = .ok (.if_icmp .ne 110, 3) := dk_160 0 110 (dk_at dksX4_findPlain_0 20 rfl rfl)
theorem dX4_findPlain_23 : decode cX4_findPlain 23 = .ok (.aload_n 1, 1) := dk_43 (dk_at dksX4_findPlain_0 23 rfl rfl)
theorem dX4_findPlain_24 : decode cX4_findPlain 24 = .ok (.aload 4, 2) := dk_25 4 (dk_at dksX4_findPlain_1 0 rfl rfl)
theorem dX4_findPlain_26 : decode cX4_findPlain 26 = .ok (.getfield 165, 3) := dk_180 0 165 (dk_at dksX4_findPlain_1 2 rfl rfl)
theorem dX4_findPlain_29 : decode cX4_findPlain 29 = .ok (.getstatic 37, 3) := dk_178 0 37 (dk_at dksX4_findPlain_1 5 rfl rfl)
theorem dX4_findPlain_32 : decode cX4_findPlain 32 = .ok (.invokestatic 174, 3) := dk_184 0 174 (dk_at dksX4_findPlain_1 8 rfl rfl)
theorem dX4_findPlain_35 : decode cX4_findPlain 35 = .ok (.aload_n 0, 1) := dk_42 (dk_at dksX4_findPlain_1 11 rfl rfl)
theorem dX4_findPlain_36 : decode cX4_findPlain 36 = .ok (.aload_n 1, 1) := dk_43 (dk_at dksX4_findPlain_1 12 rfl rfl)
theorem dX4_findPlain_37 : decode cX4_findPlain 37 = .ok (.getfield 154, 3) := dk_180 0 154 (dk_at dksX4_findPlain_1 13 rfl rfl)
theorem dX4_findPlain_40 : decode cX4_findPlain 40 = .ok (.iconst 1, 1) := dk_4 (dk_at dksX4_findPlain_1 16 rfl rfl)
theorem dX4_findPlain_41 : decode cX4_findPlain 41 = .ok (.aaload, 1) := dk_50 (dk_at dksX4_findPlain_1 17 rfl rfl)
theorem dX4_findPlain_42 : decode cX4_findPlain 42 = .ok (.aload_n 2, 1) := dk_44 (dk_at dksX4_findPlain_1 18 rfl rfl)
theorem dX4_findPlain_43 : decode cX4_findPlain 43 = .ok (.iload_n 3, 1) := dk_29 (dk_at dksX4_findPlain_1 19 rfl rfl)
theorem dX4_findPlain_44 : decode cX4_findPlain 44 = .ok (.invokevirtual 160, 3) := dk_182 0 160 (dk_at dksX4_findPlain_1 20 rfl rfl)
theorem dX4_findPlain_47 : decode cX4_findPlain 47 = .ok (.astore 5, 2) := dk_58 5 (dk_at dksX4_findPlain_2 0 rfl rfl)
theorem dX4_findPlain_49 : decode cX4_findPlain 49 = .ok (.aload_n 0, 1) := dk_42 (dk_at dksX4_findPlain_2 2 rfl rfl)
theorem dX4_findPlain_50 : decode cX4_findPlain 50 = .ok (.aload_n 1, 1) := dk_43 (dk_at dksX4_findPlain_2 3 rfl rfl)
theorem dX4_findPlain_51 : decode cX4_findPlain 51 = .ok (.getfield 154, 3) := dk_180 0 154 (dk_at dksX4_findPlain_2 4 rfl rfl)
theorem dX4_findPlain_54 : decode cX4_findPlain 54 = .ok (.iconst 2, 1) := dk_5 (dk_at dksX4_findPlain_2 7 rfl rfl)
theorem dX4_findPlain_55 : decode cX4_findPlain 55 = .ok (.aaload, 1) := dk_50 (dk_at dksX4_findPlain_2 8 rfl rfl)
theorem dX4_findPlain_56 : decode cX4_findPlain 56 = .ok (.aload_n 2, 1) := dk_44 (dk_at dksX4_findPlain_2 9 rfl rfl)
theorem dX4_findPlain_57 : decode cX4_findPlain 57 = .ok (.iload_n 3, 1) := dk_29 (dk_at dksX4_findPlain_2 10 rfl rfl)
theorem dX4_findPlain_58 : decode cX4_findPlain 58 = .ok (.invokevirtual 160, 3) := dk_182 0 160 (dk_at dksX4_findPlain_2 11 rfl rfl)
theorem dX4_findPlain_61 : decode cX4_findPlain 61 = .ok (.astore 6, 2) := dk_58 6 (dk_at dksX4_findPlain_2 14 rfl rfl)
theorem dX4_findPlain_63 : decode cX4_findPlain 63 = .ok (.aload_n 1, 1) := dk_43 (dk_at dksX4_findPlain_2 16 rfl rfl)
theorem dX4_findPlain_64 : decode cX4_findPlain 64 = .ok (.aload 6, 2) := dk_25 6 (dk_at dksX4_findPlain_2 17 rfl rfl)
theorem dX4_findPlain_66 : decode cX4_findPlain 66 = .ok (.getfield 165, 3) := dk_180 0 165 (dk_at dksX4_findPlain_2 19 rfl rfl)
theorem dX4_findPlain_69 : decode cX4_findPlain 69 = .ok (.aload 5, 2) := dk_25 5 (dk_at dksX4_findPlain_2 22 rfl rfl)
theorem dX4_findPlain_71 : decode cX4_findPlain 71 = .ok (.getfield 165, 3) := dk_180 0 165 (dk_at dksX4_findPlain_3 0 rfl rfl)
theorem dX4_findPlain_74 : decode cX4_findPlain 74 = .ok (.invokestatic 174, 3) := dk_184 0 174 (dk_at dksX4_findPlain_3 3 rfl rfl)
theorem dX4_findPlain_77 : decode cX4_findPlain 77 = .ok (.new 35, 3) := dk_187 0 35 (dk_at dksX4_findPlain_3 6 rfl rfl)
theorem dX4_findPlain_80 : decode cX4_findPlain 80 = .ok (.dup, 1) := dk_89 (dk_at dksX4_findPlain_3 9 rfl rfl)
theorem dX4_findPlain_81 : decode cX4_findPlain 81 = .ok (.aload 5, 2) := dk_25 5 (dk_at dksX4_findPlain_3 10 rfl rfl)
theorem dX4_findPlain_83 : decode cX4_findPlain 83 = .ok (.getfield 165, 3) := dk_180 0 165 (dk_at dksX4_findPlain_3 12 rfl rfl)
theorem dX4_findPlain_86 : decode cX4_findPlain 86 = .ok (.new 41, 3) := dk_187 0 41 (dk_at dksX4_findPlain_3 15 rfl rfl)
theorem dX4_findPlain_89 : decode cX4_findPlain 89 = .ok (.dup, 1) := dk_89 (dk_at dksX4_findPlain_3 18 rfl rfl)
theorem dX4_findPlain_90 : decode cX4_findPlain 90 = .ok (.ldc 247, 2) := dk_18 247 (dk_at dksX4_findPlain_3 19 rfl rfl)
theorem dX4_findPlain_92 : decode cX4_findPlain 92 = .ok (.iconst 0, 1) := dk_3 (dk_at dksX4_findPlain_3 21 rfl rfl)
theorem dX4_findPlain_93 : decode cX4_findPlain 93 = .ok (.aconst_null, 1) := dk_1 (dk_at dksX4_findPlain_3 22 rfl rfl)
theorem dX4_findPlain_94 : decode cX4_findPlain 94 = .ok (.aconst_null, 1) := dk_1 (dk_at dksX4_findPlain_3 23 rfl rfl)
theorem dX4_findPlain_95 : decode cX4_findPlain 95 = .ok (.iconst 3, 1) := dk_6 (dk_at dksX4_findPlain_4 0 rfl rfl)
theorem dX4_findPlain_96 : decode cX4_findPlain 96 = .ok (.anewarray 41, 3) := dk_189 0 41 (dk_at dksX4_findPlain_4 1 rfl rfl)
theorem dX4_findPlain_99 : decode cX4_findPlain 99 = .ok (.dup, 1) := dk_89 (dk_at dksX4_findPlain_4 4 rfl rfl)
theorem dX4_findPlain_100 : decode cX4_findPlain 100 = .ok (.iconst 0, 1) := dk_3 (dk_at dksX4_findPlain_4 5 rfl rfl)
theorem dX4_findPlain_101 : decode cX4_findPlain 101 = .ok (.aload 4, 2) := dk_25 4 (dk_at dksX4_findPlain_4 6 rfl rfl)
theorem dX4_findPlain_103 : decode cX4_findPlain 103 = .ok (.getfield 170, 3) := dk_180 0 170 (dk_at dksX4_findPlain_4 8 rfl rfl)
theorem dX4_findPlain_106 : decode cX4_findPlain 106 = .ok (.aastore, 1) := dk_83 (dk_at dksX4_findPlain_4 11 rfl rfl)
theorem dX4_findPlain_107 : decode cX4_findPlain 107 = .ok (.dup, 1) := dk_89 (dk_at dksX4_findPlain_4 12 rfl rfl)
theorem dX4_findPlain_108 : decode cX4_findPlain 108 = .ok (.iconst 1, 1) := dk_4 (dk_at dksX4_findPlain_4 13 rfl rfl)
theorem dX4_findPlain_109 : decode cX4_findPlain 109 = .ok (.aload 5, 2) := dk_25 5 (dk_at dksX4_findPlain_4 14 rfl rfl)
theorem dX4_findPlain_111 : decode cX4_findPlain 111 = .ok (.getfield 170, 3) := dk_180 0 170 (dk_at dksX4_findPlain_4 16 rfl rfl)
theorem dX4_findPlain_114 : decode cX4_findPlain 114 = .ok (.aastore, 1) := dk_83 (dk_at dksX4_findPlain_4 19 rfl rfl)
theorem dX4_findPlain_115 : decode cX4_findPlain 115 = .ok (.dup, 1) := dk_89 (dk_at dksX4_findPlain_4 20 rfl rfl)
theorem dX4_findPlain_116 : decode cX4_findPlain 116 = .ok (.iconst 2, 1) := dk_5 (dk_at dksX4_findPlain_4 21 rfl rfl)
theorem dX4_findPlain_117 : decode cX4_findPlain 117 = .ok (.aload 6, 2) := dk_25 6 (dk_at dksX4_findPlain_4 22 rfl rfl)
theorem dX4_findPlain_119 : decode cX4_findPlain 119 = .ok (.getfield 170, 3) := dk_180 0 170 (dk_at dksX4_findPlain_5 0 rfl rfl)
theorem dX4_findPlain_122 : decode cX4_findPlain 122 = .ok (.aastore, 1) := dk_83 (dk_at dksX4_findPlain_5 3 rfl rfl)
theorem dX4_findPlain_123 : decode cX4_findPlain 123 = .ok (.invokespecial 48, 3) := dk_183 0 48 (dk_at dksX4_findPlain_5 4 rfl rfl)
theorem dX4_findPlain_126 : decode cX4_findPlain 126 = .ok (.invokespecial 51, 3) := dk_183 0 51 (dk_at dksX4_findPlain_5 7 rfl rfl)
theorem dX4_findPlain_129 : decode cX4_findPlain 129 = .ok (.areturn, 1) := dk_176 (dk_at dksX4_findPlain_5 10 rfl rfl)
theorem dX4_findPlain_130 : decode cX4_findPlain 130 = .ok (.aload_n 0, 1) := dk_42 (dk_at dksX4_findPlain_5 11 rfl rfl)
theorem dX4_findPlain_131 : decode cX4_findPlain 131 = .ok (.aload_n 1, 1) := dk_43 (dk_at dksX4_findPlain_5 12 rfl rfl)
theorem dX4_findPlain_132 : decode cX4_findPlain 132 = .ok (.getfield 154, 3) := dk_180 0 154 (dk_at dksX4_findPlain_5 13 rfl rfl)
theorem dX4_findPlain_135 : decode cX4_findPlain 135 = .ok (.iconst 1, 1) := dk_4 (dk_at dksX4_findPlain_5 16 rfl rfl)
theorem dX4_findPlain_136 : decode cX4_findPlain 136 = .ok (.aaload, 1) := dk_50 (dk_at dksX4_findPlain_5 17 rfl rfl)
theorem dX4_findPlain_137 : decode cX4_findPlain 137 = .ok (.aload_n 2, 1) := dk_44 (dk_at dksX4_findPlain_5 18 rfl rfl)
theorem dX4_findPlain_138 : decode cX4_findPlain 138 = .ok (.iload_n 3, 1) := dk_29 (dk_at dksX4_findPlain_5 19 rfl rfl)
theorem dX4_findPlain_139 : decode cX4_findPlain 139 = .ok (.invokevirtual 160, 3) := dk_182 0 160 (dk_at dksX4_findPlain_5 20 rfl rfl)
theorem dX4_findPlain_142 : decode cX4_findPlain 142 = .ok (.astore 5, 2) := dk_58 5 (dk_at dksX4_findPlain_6 0 rfl rfl)
theorem dX4_findPlain_144 : decode cX4_findPlain 144 = .ok (.aload_n 1, 1) := dk_43 (dk_at dksX4_findPlain_6 2 rfl rfl)
theorem dX4_findPlain_145 : decode cX4_findPlain 145 = .ok (.getfield 30, 3) := dk_180 0 30 (dk_at dksX4_findPlain_6 3 rfl rfl)
theorem dX4_findPlain_148 : decode cX4_findPlain 148 = .ok (.bipush 13, 2) := dk_16 13 (dk_at dksX4_findPlain_6 6 rfl rfl)
theorem dX4_findPlain_150 : decode cX4_findPlain 150 = .ok (.if_icmp .ne 70, 3) := dk_160 0 70 (dk_at dksX4_findPlain_6 8 rfl rfl)
theorem dX4_findPlain_153 : decode cX4_findPlain 153 = .ok (.aload_n 1, 1) := dk_43 (dk_at dksX4_findPlain_6 11 rfl rfl)
theorem dX4_findPlain_154 : decode cX4_findPlain 154 = .ok (.aload 4, 2) := dk_25 4 (dk_at dksX4_findPlain_6 12 rfl rfl)
theorem dX4_findPlain_156 : decode cX4_findPlain 156 = .ok (.getfield 165, 3) := dk_180 0 165 (dk_at dksX4_findPlain_6 14 rfl rfl)
theorem dX4_findPlain_159 : decode cX4_findPlain 159 = .ok (.getstatic 37, 3) := dk_178 0 37 (dk_at dksX4_findPlain_6 17 rfl rfl)
theorem dX4_findPlain_162 : decode cX4_findPlain 162 = .ok (.invokestatic 174, 3) := dk_184 0 174 (dk_at dksX4_findPlain_6 20 rfl rfl)
theorem dX4_findPlain_165 : decode cX4_findPlain 165 = .ok (.aload_n 1, 1) := dk_43 (dk_at dksX4_findPlain_6 23 rfl rfl)
theorem dX4_findPlain_166 : decode cX4_findPlain 166 = .ok (.aload 5, 2) := dk_25 5 (dk_at dksX4_findPlain_7 0 rfl rfl)
theorem dX4_findPlain_168 : decode cX4_findPlain 168 = .ok (.getfield 165, 3) := dk_180 0 165 (dk_at dksX4_findPlain_7 2 rfl rfl)
theorem dX4_findPlain_171 : decode cX4_findPlain 171 = .ok (.getstatic 37, 3) := dk_178 0 37 (dk_at dksX4_findPlain_7 5 rfl rfl)
theorem dX4_findPlain_174 : decode cX4_findPlain 174 = .ok (.invokestatic 174, 3) := dk_184 0 174 (dk_at dksX4_findPlain_7 8 rfl rfl)
theorem dX4_findPlain_177 : decode cX4_findPlain 177 = .ok (.new 35, 3) := dk_187 0 35 (dk_at dksX4_findPlain_7 11 rfl rfl)
theorem dX4_findPlain_180 : decode cX4_findPlain 180 = .ok (.dup, 1) := dk_89 (dk_at dksX4_findPlain_7 14 rfl rfl)
theorem dX4_findPlain_181 : decode cX4_findPlain 181 = .ok (.getstatic 37, 3) := dk_178 0 37 (dk_at dksX4_findPlain_7 15 rfl rfl)
theorem dX4_findPlain_184 : decode cX4_findPlain 184 = .ok (.new 41, 3) := dk_187 0 41 (dk_at dksX4_findPlain_7 18 rfl rfl)
theorem dX4_findPlain_187 : decode cX4_findPlain 187 = .ok (.dup, 1) := dk_89 (dk_at dksX4_findPlain_7 21 rfl rfl)
theorem dX4_findPlain_188 : decode cX4_findPlain 188 = .ok (.ldc 249, 2) := dk_18 249 (dk_at dksX4_findPlain_7 22 rfl rfl)
theorem dX4_findPlain_190 : decode cX4_findPlain 190 = .ok (.iconst 0, 1) := dk_3 (dk_at dksX4_findPlain_8 0 rfl rfl)
theorem dX4_findPlain_191 : decode cX4_findPlain 191 = .ok (.aconst_null, 1) := dk_1 (dk_at dksX4_findPlain_8 1 rfl rfl)
theorem dX4_findPlain_192 : decode cX4_findPlain 192 = .ok (.aconst_null, 1) := dk_1 (dk_at dksX4_findPlain_8 2 rfl rfl)
theorem dX4_findPlain_193 : decode cX4_findPlain 193 = .ok (.iconst 2, 1) := dk_5 (dk_at dksX4_findPlain_8 3 rfl rfl)
theorem dX4_findPlain_194 : decode cX4_findPlain 194 = .ok (.anewarray 41, 3) := dk_189 0 41 (dk_at dksX4_findPlain_8 4 rfl rfl)
theorem dX4_findPlain_197 : decode cX4_findPlain 197 = .ok (.dup, 1) := dk_89 (dk_at dksX4_findPlain_8 7 rfl rfl)
theorem dX4_findPlain_198 : decode cX4_findPlain 198 = .ok (.iconst 0, 1) := dk_3 (dk_at dksX4_findPlain_8 8 rfl rfl)
theorem dX4_findPlain_199 : decode cX4_findPlain 199 = .ok (.aload 4, 2) := dk_25 4 (dk_at dksX4_findPlain_8 9 rfl rfl)
theorem dX4_findPlain_201 : decode cX4_findPlain 201 = .ok (.getfield 170, 3) := dk_180 0 170 (dk_at dksX4_findPlain_8 11 rfl rfl)
theorem dX4_findPlain_204 : decode cX4_findPlain 204 = .ok (.aastore, 1) := dk_83 (dk_at dksX4_findPlain_8 14 rfl rfl)
theorem dX4_findPlain_205 : decode cX4_findPlain 205 = .ok (.dup, 1) := dk_89 (dk_at dksX4_findPlain_8 15 rfl rfl)
theorem dX4_findPlain_206 : decode cX4_findPlain 206 = .ok (.iconst 1, 1) := dk_4 (dk_at dksX4_findPlain_8 16 rfl rfl)
theorem dX4_findPlain_207 : decode cX4_findPlain 207 = .ok (.aload 5, 2) := dk_25 5 (dk_at dksX4_findPlain_8 17 rfl rfl)
theorem dX4_findPlain_209 : decode cX4_findPlain 209 = .ok (.getfield 170, 3) := dk_180 0 170 (dk_at dksX4_findPlain_8 19 rfl rfl)
theorem dX4_findPlain_212 : decode cX4_findPlain 212 = .ok (.aastore, 1) := dk_83 (dk_at dksX4_findPlain_8 22 rfl rfl)
theorem dX4_findPlain_213 : decode cX4_findPlain 213 = .ok (.invokespecial 48, 3) := dk_183 0 48 (dk_at dksX4_findPlain_9 0 rfl rfl)
theorem dX4_findPlain_216 : decode cX4_findPlain 216 = .ok (.invokespecial 51, 3) := dk_183 0 51 (dk_at dksX4_findPlain_9 3 rfl rfl)
theorem dX4_findPlain_219 : decode cX4_findPlain 219 = .ok (.areturn, 1) := dk_176 (dk_at dksX4_findPlain_9 6 rfl rfl)
theorem dX4_findPlain_220 : decode cX4_findPlain 220 = .ok (.aload_n 1, 1) := dk_43 (dk_at dksX4_findPlain_9 7 rfl rfl)
theorem dX4_findPlain_221 : decode cX4_findPlain 221 = .ok (.aload 5, 2) := dk_25 5 (dk_at dksX4_findPlain_9 8 rfl rfl)
theorem dX4_findPlain_223 : decode cX4_findPlain 223 = .ok (.getfield 165, 3) := dk_180 0 165 (dk_at dksX4_findPlain_9 10 rfl rfl)
theorem dX4_findPlain_226 : decode cX4_findPlain 226 = .ok (.aload 4, 2) := dk_25 4 (dk_at dksX4_findPlain_9 13 rfl rfl)
theorem dX4_findPlain_228 : decode cX4_findPlain 228 = .ok (.getfield 165, 3) := dk_180 0 165 (dk_at dksX4_findPlain_9 15 rfl rfl)
theorem dX4_findPlain_231 : decode cX4_findPlain 231 = .ok (.invokestatic 174, 3) := dk_184 0 174 (dk_at dksX4_findPlain_9 18 rfl rfl)
theorem dX4_findPlain_234 : decode cX4_findPlain 234 = .ok (.aload 4, 2) := dk_25 4 (dk_at dksX4_findPlain_9 21 rfl rfl)
theorem dX4_findPlain_236 : decode cX4_findPlain 236 = .ok (.getfield 165, 3) := dk_180 0 165 (dk_at dksX4_findPlain_10 0 rfl rfl)
theorem dX4_findPlain_239 : decode cX4_findPlain 239 = .ok (.invokestatic 251, 3) := dk_184 0 251 (dk_at dksX4_findPlain_10 3 rfl rfl)
theorem dX4_findPlain_242 : decode cX4_findPlain 242 = .ok (.goto 21, 3) := dk_167 0 21 (dk_at dksX4_findPlain_10 6 rfl rfl)
theorem dX4_findPlain_245 : decode cX4_findPlain 245 = .ok (.astore 6, 2) := dk_58 6 (dk_at dksX4_findPlain_10 9 rfl rfl)
theorem dX4_findPlain_247 : decode cX4_findPlain 247 = .ok (.new 21, 3) := dk_187 0 21 (dk_at dksX4_findPlain_10 11 rfl rfl)
theorem dX4_findPlain_250 : decode cX4_findPlain 250 = .ok (.dup, 1) := dk_89 (dk_at dksX4_findPlain_10 14 rfl rfl)
theorem dX4_findPlain_251 : decode cX4_findPlain 251 = .ok (.aload 6, 2) := dk_25 6 (dk_at dksX4_findPlain_10 15 rfl rfl)
theorem dX4_findPlain_253 : decode cX4_findPlain 253 = .ok (.getfield 23, 3) := dk_180 0 23 (dk_at dksX4_findPlain_10 17 rfl rfl)
theorem dX4_findPlain_256 : decode cX4_findPlain 256 = .ok (.aload_n 1, 1) := dk_43 (dk_at dksX4_findPlain_10 20 rfl rfl)
theorem dX4_findPlain_257 : decode cX4_findPlain 257 = .ok (.aload 6, 2) := dk_25 6 (dk_at dksX4_findPlain_10 21 rfl rfl)
theorem dX4_findPlain_259 : decode cX4_findPlain 259 = .ok (.invokespecial 27, 3) := dk_183 0 27 (dk_at dksX4_findPlain_11 0 rfl rfl)
theorem dX4_findPlain_262 : decode cX4_findPlain 262 = .ok (.athrow, 1) := dk_191 (dk_at dksX4_findPlain_11 3 rfl rfl)
theorem dX4_findPlain_263 : decode cX4_findPlain 263 = .ok (.new 35, 3) := dk_187 0 35 (dk_at dksX4_findPlain_11 4 rfl rfl)
theorem dX4_findPlain_266 : decode cX4_findPlain 266 = .ok (.dup, 1) := dk_89 (dk_at dksX4_findPlain_11 7 rfl rfl)
theorem dX4_findPlain_267 : decode cX4_findPlain 267 = .ok (.getstatic 37, 3) := dk_178 0 37 (dk_at dksX4_findPlain_11 8 rfl rfl)
theorem dX4_findPlain_270 : decode cX4_findPlain 270 = .ok (.new 41, 3) := dk_187 0 41 (dk_at dksX4_findPlain_11 11 rfl rfl)
theorem dX4_findPlain_273 : decode cX4_findPlain 273 = .ok (.dup, 1) := dk_89 (dk_at dksX4_findPlain_11 14 rfl rfl)
theorem dX4_findPlain_274 : decode cX4_findPlain 274 = .ok (.ldc 255, 2) := dk_18 255 (dk_at dksX4_findPlain_11 15 rfl rfl)
theorem dX4_findPlain_276 : decode cX4_findPlain 276 = .ok (.iconst 0, 1) := dk_3 (dk_at dksX4_findPlain_11 17 rfl rfl)
theorem dX4_findPlain_277 : decode cX4_findPlain 277 = .ok (.aconst_null, 1) := dk_1 (dk_at dksX4_findPlain_11 18 rfl rfl)
theorem dX4_findPlain_278 : decode cX4_findPlain 278 = .ok (.aconst_null, 1) := dk_1 (dk_at dksX4_findPlain_11 19 rfl rfl)
theorem dX4_findPlain_279 : decode cX4_findPlain 279 = .ok (.iconst 2, 1) := dk_5 (dk_at dksX4_findPlain_11 20 rfl rfl)
theorem dX4_findPlain_280 : decode cX4_findPlain 280 = .ok (.anewarray 41, 3) := dk_189 0 41 (dk_at dksX4_findPlain_11 21 rfl rfl)
theorem dX4_findPlain_283 : decode cX4_findPlain 283 = .ok (.dup, 1) := dk_89 (dk_at dksX4_findPlain_12 0 rfl rfl)
theorem dX4_findPlain_284 : decode cX4_findPlain 284 = .ok (.iconst 0, 1) := dk_3 (dk_at dksX4_findPlain_12 1 rfl rfl)
theorem dX4_findPlain_285 : decode cX4_findPlain 285 = .ok (.aload 4, 2) := dk_25 4 (dk_at dksX4_findPlain_12 2 rfl rfl)
theorem dX4_findPlain_287 : decode cX4_findPlain 287 = .ok (.getfield 170, 3) := dk_180 0 170 (dk_at dksX4_findPlain_12 4 rfl rfl)
theorem dX4_findPlain_290 : decode cX4_findPlain 290 = .ok (.aastore, 1) := dk_83 (dk_at dksX4_findPlain_12 7 rfl rfl)
theorem dX4_findPlain_291 : decode cX4_findPlain 291 = .ok (.dup, 1) := dk_89 (dk_at dksX4_findPlain_12 8 rfl rfl)
theorem dX4_findPlain_292 : decode cX4_findPlain 292 = .ok (.iconst 1, 1) := dk_4 (dk_at dksX4_findPlain_12 9 rfl rfl)
theorem dX4_findPlain_293 : decode cX4_findPlain 293 = .ok (.aload 5, 2) := dk_25 5 (dk_at dksX4_findPlain_12 10 rfl rfl)
theorem dX4_findPlain_295 : decode cX4_findPlain 295 = .ok (.getfield 170, 3) := dk_180 0 170 (dk_at dksX4_findPlain_12 12 rfl rfl)
theorem dX4_findPlain_298 : decode cX4_findPlain 298 = .ok (.aastore, 1) := dk_83 (dk_at dksX4_findPlain_12 15 rfl rfl)
theorem dX4_findPlain_299 : decode cX4_findPlain 299 = .ok (.invokespecial 48, 3) := dk_183 0 48 (dk_at dksX4_findPlain_12 16 rfl rfl)
theorem dX4_findPlain_302 : decode cX4_findPlain 302 = .ok (.invokespecial 51, 3) := dk_183 0 51 (dk_at dksX4_findPlain_12 19 rfl rfl)
theorem dX4_findPlain_305 : decode cX4_findPlain 305 = .ok (.areturn, 1) := dk_176 (dk_at dksX4_findPlain_12 22 rfl rfl)
abbrev cX4_findRow : ByteArray := prog_13_method_8_code
def yX4_findRow : MethodName := ⟨RX4, "findRow", "(LRowenTongue$Term;LRowenTongue$Known;I)LRowenTongue$Typed;"⟩
def dkwX4_findRow_14 : List UInt8 := [180, 0, 170, 83, 183, 0, 48, 183, 0, 51, 176]
abbrev dktX4_findRow_14 : List UInt8 := dkwX4_findRow_14 ++ []
def dkwX4_findRow_13 : List UInt8 := [18, 220, 167, 0, 5, 18, 221, 43, 180, 0, 45, 25, 4, 1, 4, 189, 0, 41, 89, 3, 25, 5]
abbrev dktX4_findRow_13 : List UInt8 := dkwX4_findRow_13 ++ dktX4_findRow_14
def dkwX4_findRow_12 : List UInt8 := [25, 6, 167, 0, 13, 187, 0, 54, 89, 3, 25, 4, 183, 0, 60, 187, 0, 41, 89, 21, 7, 153, 0, 8]
abbrev dktX4_findRow_12 : List UInt8 := dkwX4_findRow_12 ++ dktX4_findRow_13
def dkwX4_findRow_11 : List UInt8 := [180, 0, 30, 16, 8, 160, 0, 7, 4, 167, 0, 4, 3, 54, 7, 187, 0, 35, 89, 21, 7, 153, 0, 8]
abbrev dktX4_findRow_11 : List UInt8 := dkwX4_findRow_11 ++ dktX4_findRow_12
def dkwX4_findRow_10 : List UInt8 := [89, 3, 187, 0, 211, 89, 43, 180, 0, 45, 25, 6, 25, 4, 183, 0, 213, 183, 0, 60, 184, 0, 174, 43]
abbrev dktX4_findRow_10 : List UInt8 := dkwX4_findRow_10 ++ dktX4_findRow_11
def dkwX4_findRow_9 : List UInt8 := [183, 0, 51, 176, 187, 0, 149, 89, 29, 3, 183, 0, 151, 58, 6, 43, 25, 5, 180, 0, 165, 187, 0, 54]
abbrev dktX4_findRow_9 : List UInt8 := dkwX4_findRow_9 ++ dktX4_findRow_10
def dkwX4_findRow_8 : List UInt8 := [5, 189, 0, 41, 89, 3, 25, 5, 180, 0, 170, 83, 89, 4, 25, 6, 180, 0, 170, 83, 183, 0, 48]
abbrev dktX4_findRow_8 : List UInt8 := dkwX4_findRow_8 ++ dktX4_findRow_9
def dkwX4_findRow_7 : List UInt8 := [180, 0, 165, 25, 4, 183, 0, 213, 183, 0, 60, 187, 0, 41, 89, 18, 218, 43, 180, 0, 45, 25, 4, 1]
abbrev dktX4_findRow_7 : List UInt8 := dkwX4_findRow_7 ++ dktX4_findRow_8
def dkwX4_findRow_6 : List UInt8 := [184, 0, 174, 187, 0, 35, 89, 187, 0, 54, 89, 3, 187, 0, 211, 89, 43, 180, 0, 45, 25, 5]
abbrev dktX4_findRow_6 : List UInt8 := dkwX4_findRow_6 ++ dktX4_findRow_7
def dkwX4_findRow_5 : List UInt8 := [44, 29, 182, 0, 160, 58, 6, 43, 25, 6, 180, 0, 165, 187, 0, 54, 89, 3, 25, 4, 183, 0, 60]
abbrev dktX4_findRow_5 : List UInt8 := dkwX4_findRow_5 ++ dktX4_findRow_6
def dkwX4_findRow_4 : List UInt8 := [83, 183, 0, 48, 183, 0, 51, 176, 43, 180, 0, 30, 16, 7, 160, 0, 106, 42, 43, 180, 0, 154, 4, 50]
abbrev dktX4_findRow_4 : List UInt8 := dkwX4_findRow_4 ++ dktX4_findRow_5
def dkwX4_findRow_3 : List UInt8 := [187, 0, 41, 89, 18, 216, 43, 180, 0, 45, 25, 4, 1, 4, 189, 0, 41, 89, 3, 25, 5, 180, 0, 170]
abbrev dktX4_findRow_3 : List UInt8 := dkwX4_findRow_3 ++ dktX4_findRow_4
def dkwX4_findRow_2 : List UInt8 := [4, 187, 0, 211, 89, 43, 180, 0, 45, 25, 5, 180, 0, 165, 25, 4, 183, 0, 213, 183, 0, 60]
abbrev dktX4_findRow_2 : List UInt8 := dkwX4_findRow_2 ++ dktX4_findRow_3
def dkwX4_findRow_1 : List UInt8 := [44, 29, 182, 0, 160, 58, 5, 43, 180, 0, 30, 16, 10, 160, 0, 65, 187, 0, 35, 89, 187, 0, 54, 89]
abbrev dktX4_findRow_1 : List UInt8 := dkwX4_findRow_1 ++ dktX4_findRow_2
def dkwX4_findRow_0 : List UInt8 := [187, 0, 206, 89, 29, 3, 4, 43, 180, 0, 45, 120, 183, 0, 208, 58, 4, 42, 43, 180, 0, 154, 3, 50]
abbrev dktX4_findRow_0 : List UInt8 := dkwX4_findRow_0 ++ dktX4_findRow_1
theorem dksX4_findRow_0 : cX4_findRow.data.toList.drop 0 = dktX4_findRow_0 := by decide +kernel
theorem dksX4_findRow_1 : cX4_findRow.data.toList.drop 24 = dktX4_findRow_1 := dk_seg dksX4_findRow_0 24 rfl rfl
theorem dksX4_findRow_2 : cX4_findRow.data.toList.drop 48 = dktX4_findRow_2 := dk_seg dksX4_findRow_1 24 rfl rfl
theorem dksX4_findRow_3 : cX4_findRow.data.toList.drop 70 = dktX4_findRow_3 := dk_seg dksX4_findRow_2 22 rfl rfl
theorem dksX4_findRow_4 : cX4_findRow.data.toList.drop 94 = dktX4_findRow_4 := dk_seg dksX4_findRow_3 24 rfl rfl
theorem dksX4_findRow_5 : cX4_findRow.data.toList.drop 118 = dktX4_findRow_5 := dk_seg dksX4_findRow_4 24 rfl rfl
theorem dksX4_findRow_6 : cX4_findRow.data.toList.drop 141 = dktX4_findRow_6 := dk_seg dksX4_findRow_5 23 rfl rfl
theorem dksX4_findRow_7 : cX4_findRow.data.toList.drop 163 = dktX4_findRow_7 := dk_seg dksX4_findRow_6 22 rfl rfl
theorem dksX4_findRow_8 : cX4_findRow.data.toList.drop 187 = dktX4_findRow_8 := dk_seg dksX4_findRow_7 24 rfl rfl
theorem dksX4_findRow_9 : cX4_findRow.data.toList.drop 210 = dktX4_findRow_9 := dk_seg dksX4_findRow_8 23 rfl rfl
theorem dksX4_findRow_10 : cX4_findRow.data.toList.drop 234 = dktX4_findRow_10 := dk_seg dksX4_findRow_9 24 rfl rfl
theorem dksX4_findRow_11 : cX4_findRow.data.toList.drop 258 = dktX4_findRow_11 := dk_seg dksX4_findRow_10 24 rfl rfl
theorem dksX4_findRow_12 : cX4_findRow.data.toList.drop 282 = dktX4_findRow_12 := dk_seg dksX4_findRow_11 24 rfl rfl
theorem dksX4_findRow_13 : cX4_findRow.data.toList.drop 306 = dktX4_findRow_13 := dk_seg dksX4_findRow_12 24 rfl rfl
theorem dksX4_findRow_14 : cX4_findRow.data.toList.drop 328 = dktX4_findRow_14 := dk_seg dksX4_findRow_13 22 rfl rfl
theorem dX4_findRow_0 : decode cX4_findRow 0 = .ok (.new 206, 3) := dk_187 0 206 (dk_at dksX4_findRow_0 0 rfl rfl)
theorem dX4_findRow_3 : decode cX4_findRow 3 = .ok (.dup, 1) := dk_89 (dk_at dksX4_findRow_0 3 rfl rfl)
theorem dX4_findRow_4 : decode cX4_findRow 4 = .ok (.iload_n 3, 1) := dk_29 (dk_at dksX4_findRow_0 4 rfl rfl)
theorem dX4_findRow_5 : decode cX4_findRow 5 = .ok (.iconst 0, 1) := dk_3 (dk_at dksX4_findRow_0 5 rfl rfl)
theorem dX4_findRow_6 : decode cX4_findRow 6 = .ok (.iconst 1, 1) := dk_4 (dk_at dksX4_findRow_0 6 rfl rfl)
theorem dX4_findRow_7 : decode cX4_findRow 7 = .ok (.aload_n 1, 1) := dk_43 (dk_at dksX4_findRow_0 7 rfl rfl)
theorem dX4_findRow_8 : decode cX4_findRow 8 = .ok (.getfield 45, 3) := dk_180 0 45 (dk_at dksX4_findRow_0 8 rfl rfl)
theorem dX4_findRow_11 : decode cX4_findRow 11 = .ok (.ishl, 1) := dk_120 (dk_at dksX4_findRow_0 11 rfl rfl)
theorem dX4_findRow_12 : decode cX4_findRow 12 = .ok (.invokespecial 208, 3) := dk_183 0 208 (dk_at dksX4_findRow_0 12 rfl rfl)
theorem dX4_findRow_15 : decode cX4_findRow 15 = .ok (.astore 4, 2) := dk_58 4 (dk_at dksX4_findRow_0 15 rfl rfl)
theorem dX4_findRow_17 : decode cX4_findRow 17 = .ok (.aload_n 0, 1) := dk_42 (dk_at dksX4_findRow_0 17 rfl rfl)
theorem dX4_findRow_18 : decode cX4_findRow 18 = .ok (.aload_n 1, 1) := dk_43 (dk_at dksX4_findRow_0 18 rfl rfl)
theorem dX4_findRow_19 : decode cX4_findRow 19 = .ok (.getfield 154, 3) := dk_180 0 154 (dk_at dksX4_findRow_0 19 rfl rfl)
theorem dX4_findRow_22 : decode cX4_findRow 22 = .ok (.iconst 0, 1) := dk_3 (dk_at dksX4_findRow_0 22 rfl rfl)
theorem dX4_findRow_23 : decode cX4_findRow 23 = .ok (.aaload, 1) := dk_50 (dk_at dksX4_findRow_0 23 rfl rfl)
theorem dX4_findRow_24 : decode cX4_findRow 24 = .ok (.aload_n 2, 1) := dk_44 (dk_at dksX4_findRow_1 0 rfl rfl)
theorem dX4_findRow_25 : decode cX4_findRow 25 = .ok (.iload_n 3, 1) := dk_29 (dk_at dksX4_findRow_1 1 rfl rfl)
theorem dX4_findRow_26 : decode cX4_findRow 26 = .ok (.invokevirtual 160, 3) := dk_182 0 160 (dk_at dksX4_findRow_1 2 rfl rfl)
theorem dX4_findRow_29 : decode cX4_findRow 29 = .ok (.astore 5, 2) := dk_58 5 (dk_at dksX4_findRow_1 5 rfl rfl)
theorem dX4_findRow_31 : decode cX4_findRow 31 = .ok (.aload_n 1, 1) := dk_43 (dk_at dksX4_findRow_1 7 rfl rfl)
theorem dX4_findRow_32 : decode cX4_findRow 32 = .ok (.getfield 30, 3) := dk_180 0 30 (dk_at dksX4_findRow_1 8 rfl rfl)
theorem dX4_findRow_35 : decode cX4_findRow 35 = .ok (.bipush 10, 2) := dk_16 10 (dk_at dksX4_findRow_1 11 rfl rfl)
theorem dX4_findRow_37 : decode cX4_findRow 37 = .ok (.if_icmp .ne 65, 3) := dk_160 0 65 (dk_at dksX4_findRow_1 13 rfl rfl)
theorem dX4_findRow_40 : decode cX4_findRow 40 = .ok (.new 35, 3) := dk_187 0 35 (dk_at dksX4_findRow_1 16 rfl rfl)
theorem dX4_findRow_43 : decode cX4_findRow 43 = .ok (.dup, 1) := dk_89 (dk_at dksX4_findRow_1 19 rfl rfl)
theorem dX4_findRow_44 : decode cX4_findRow 44 = .ok (.new 54, 3) := dk_187 0 54 (dk_at dksX4_findRow_1 20 rfl rfl)
theorem dX4_findRow_47 : decode cX4_findRow 47 = .ok (.dup, 1) := dk_89 (dk_at dksX4_findRow_1 23 rfl rfl)
theorem dX4_findRow_48 : decode cX4_findRow 48 = .ok (.iconst 1, 1) := dk_4 (dk_at dksX4_findRow_2 0 rfl rfl)
theorem dX4_findRow_49 : decode cX4_findRow 49 = .ok (.new 211, 3) := dk_187 0 211 (dk_at dksX4_findRow_2 1 rfl rfl)
theorem dX4_findRow_52 : decode cX4_findRow 52 = .ok (.dup, 1) := dk_89 (dk_at dksX4_findRow_2 4 rfl rfl)
theorem dX4_findRow_53 : decode cX4_findRow 53 = .ok (.aload_n 1, 1) := dk_43 (dk_at dksX4_findRow_2 5 rfl rfl)
theorem dX4_findRow_54 : decode cX4_findRow 54 = .ok (.getfield 45, 3) := dk_180 0 45 (dk_at dksX4_findRow_2 6 rfl rfl)
theorem dX4_findRow_57 : decode cX4_findRow 57 = .ok (.aload 5, 2) := dk_25 5 (dk_at dksX4_findRow_2 9 rfl rfl)
theorem dX4_findRow_59 : decode cX4_findRow 59 = .ok (.getfield 165, 3) := dk_180 0 165 (dk_at dksX4_findRow_2 11 rfl rfl)
theorem dX4_findRow_62 : decode cX4_findRow 62 = .ok (.aload 4, 2) := dk_25 4 (dk_at dksX4_findRow_2 14 rfl rfl)
theorem dX4_findRow_64 : decode cX4_findRow 64 = .ok (.invokespecial 213, 3) := dk_183 0 213 (dk_at dksX4_findRow_2 16 rfl rfl)
theorem dX4_findRow_67 : decode cX4_findRow 67 = .ok (.invokespecial 60, 3) := dk_183 0 60 (dk_at dksX4_findRow_2 19 rfl rfl)
theorem dX4_findRow_70 : decode cX4_findRow 70 = .ok (.new 41, 3) := dk_187 0 41 (dk_at dksX4_findRow_3 0 rfl rfl)
theorem dX4_findRow_73 : decode cX4_findRow 73 = .ok (.dup, 1) := dk_89 (dk_at dksX4_findRow_3 3 rfl rfl)
theorem dX4_findRow_74 : decode cX4_findRow 74 = .ok (.ldc 216, 2) := dk_18 216 (dk_at dksX4_findRow_3 4 rfl rfl)
theorem dX4_findRow_76 : decode cX4_findRow 76 = .ok (.aload_n 1, 1) := dk_43 (dk_at dksX4_findRow_3 6 rfl rfl)
theorem dX4_findRow_77 : decode cX4_findRow 77 = .ok (.getfield 45, 3) := dk_180 0 45 (dk_at dksX4_findRow_3 7 rfl rfl)
theorem dX4_findRow_80 : decode cX4_findRow 80 = .ok (.aload 4, 2) := dk_25 4 (dk_at dksX4_findRow_3 10 rfl rfl)
theorem dX4_findRow_82 : decode cX4_findRow 82 = .ok (.aconst_null, 1) := dk_1 (dk_at dksX4_findRow_3 12 rfl rfl)
theorem dX4_findRow_83 : decode cX4_findRow 83 = .ok (.iconst 1, 1) := dk_4 (dk_at dksX4_findRow_3 13 rfl rfl)
theorem dX4_findRow_84 : decode cX4_findRow 84 = .ok (.anewarray 41, 3) := dk_189 0 41 (dk_at dksX4_findRow_3 14 rfl rfl)
theorem dX4_findRow_87 : decode cX4_findRow 87 = .ok (.dup, 1) := dk_89 (dk_at dksX4_findRow_3 17 rfl rfl)
theorem dX4_findRow_88 : decode cX4_findRow 88 = .ok (.iconst 0, 1) := dk_3 (dk_at dksX4_findRow_3 18 rfl rfl)
theorem dX4_findRow_89 : decode cX4_findRow 89 = .ok (.aload 5, 2) := dk_25 5 (dk_at dksX4_findRow_3 19 rfl rfl)
theorem dX4_findRow_91 : decode cX4_findRow 91 = .ok (.getfield 170, 3) := dk_180 0 170 (dk_at dksX4_findRow_3 21 rfl rfl)
theorem dX4_findRow_94 : decode cX4_findRow 94 = .ok (.aastore, 1) := dk_83 (dk_at dksX4_findRow_4 0 rfl rfl)
theorem dX4_findRow_95 : decode cX4_findRow 95 = .ok (.invokespecial 48, 3) := dk_183 0 48 (dk_at dksX4_findRow_4 1 rfl rfl)
theorem dX4_findRow_98 : decode cX4_findRow 98 = .ok (.invokespecial 51, 3) := dk_183 0 51 (dk_at dksX4_findRow_4 4 rfl rfl)
theorem dX4_findRow_101 : decode cX4_findRow 101 = .ok (.areturn, 1) := dk_176 (dk_at dksX4_findRow_4 7 rfl rfl)
theorem dX4_findRow_102 : decode cX4_findRow 102 = .ok (.aload_n 1, 1) := dk_43 (dk_at dksX4_findRow_4 8 rfl rfl)
theorem dX4_findRow_103 : decode cX4_findRow 103 = .ok (.getfield 30, 3) := dk_180 0 30 (dk_at dksX4_findRow_4 9 rfl rfl)
theorem dX4_findRow_106 : decode cX4_findRow 106 = .ok (.bipush 7, 2) := dk_16 7 (dk_at dksX4_findRow_4 12 rfl rfl)
theorem dX4_findRow_108 : decode cX4_findRow 108 = .ok (.if_icmp .ne 106, 3) := dk_160 0 106 (dk_at dksX4_findRow_4 14 rfl rfl)
theorem dX4_findRow_111 : decode cX4_findRow 111 = .ok (.aload_n 0, 1) := dk_42 (dk_at dksX4_findRow_4 17 rfl rfl)
theorem dX4_findRow_112 : decode cX4_findRow 112 = .ok (.aload_n 1, 1) := dk_43 (dk_at dksX4_findRow_4 18 rfl rfl)
theorem dX4_findRow_113 : decode cX4_findRow 113 = .ok (.getfield 154, 3) := dk_180 0 154 (dk_at dksX4_findRow_4 19 rfl rfl)
theorem dX4_findRow_116 : decode cX4_findRow 116 = .ok (.iconst 1, 1) := dk_4 (dk_at dksX4_findRow_4 22 rfl rfl)
theorem dX4_findRow_117 : decode cX4_findRow 117 = .ok (.aaload, 1) := dk_50 (dk_at dksX4_findRow_4 23 rfl rfl)
theorem dX4_findRow_118 : decode cX4_findRow 118 = .ok (.aload_n 2, 1) := dk_44 (dk_at dksX4_findRow_5 0 rfl rfl)
theorem dX4_findRow_119 : decode cX4_findRow 119 = .ok (.iload_n 3, 1) := dk_29 (dk_at dksX4_findRow_5 1 rfl rfl)
theorem dX4_findRow_120 : decode cX4_findRow 120 = .ok (.invokevirtual 160, 3) := dk_182 0 160 (dk_at dksX4_findRow_5 2 rfl rfl)
theorem dX4_findRow_123 : decode cX4_findRow 123 = .ok (.astore 6, 2) := dk_58 6 (dk_at dksX4_findRow_5 5 rfl rfl)
theorem dX4_findRow_125 : decode cX4_findRow 125 = .ok (.aload_n 1, 1) := dk_43 (dk_at dksX4_findRow_5 7 rfl rfl)
theorem dX4_findRow_126 : decode cX4_findRow 126 = .ok (.aload 6, 2) := dk_25 6 (dk_at dksX4_findRow_5 8 rfl rfl)
theorem dX4_findRow_128 : decode cX4_findRow 128 = .ok (.getfield 165, 3) := dk_180 0 165 (dk_at dksX4_findRow_5 10 rfl rfl)
theorem dX4_findRow_131 : decode cX4_findRow 131 = .ok (.new 54, 3) := dk_187 0 54 (dk_at dksX4_findRow_5 13 rfl rfl)
theorem dX4_findRow_134 : decode cX4_findRow 134 = .ok (.dup, 1) := dk_89 (dk_at dksX4_findRow_5 16 rfl rfl)
theorem dX4_findRow_135 : decode cX4_findRow 135 = .ok (.iconst 0, 1) := dk_3 (dk_at dksX4_findRow_5 17 rfl rfl)
theorem dX4_findRow_136 : decode cX4_findRow 136 = .ok (.aload 4, 2) := dk_25 4 (dk_at dksX4_findRow_5 18 rfl rfl)
theorem dX4_findRow_138 : decode cX4_findRow 138 = .ok (.invokespecial 60, 3) := dk_183 0 60 (dk_at dksX4_findRow_5 20 rfl rfl)
theorem dX4_findRow_141 : decode cX4_findRow 141 = .ok (.invokestatic 174, 3) := dk_184 0 174 (dk_at dksX4_findRow_6 0 rfl rfl)
theorem dX4_findRow_144 : decode cX4_findRow 144 = .ok (.new 35, 3) := dk_187 0 35 (dk_at dksX4_findRow_6 3 rfl rfl)
theorem dX4_findRow_147 : decode cX4_findRow 147 = .ok (.dup, 1) := dk_89 (dk_at dksX4_findRow_6 6 rfl rfl)
theorem dX4_findRow_148 : decode cX4_findRow 148 = .ok (.new 54, 3) := dk_187 0 54 (dk_at dksX4_findRow_6 7 rfl rfl)
theorem dX4_findRow_151 : decode cX4_findRow 151 = .ok (.dup, 1) := dk_89 (dk_at dksX4_findRow_6 10 rfl rfl)
theorem dX4_findRow_152 : decode cX4_findRow 152 = .ok (.iconst 0, 1) := dk_3 (dk_at dksX4_findRow_6 11 rfl rfl)
theorem dX4_findRow_153 : decode cX4_findRow 153 = .ok (.new 211, 3) := dk_187 0 211 (dk_at dksX4_findRow_6 12 rfl rfl)
theorem dX4_findRow_156 : decode cX4_findRow 156 = .ok (.dup, 1) := dk_89 (dk_at dksX4_findRow_6 15 rfl rfl)
theorem dX4_findRow_157 : decode cX4_findRow 157 = .ok (.aload_n 1, 1) := dk_43 (dk_at dksX4_findRow_6 16 rfl rfl)
theorem dX4_findRow_158 : decode cX4_findRow 158 = .ok (.getfield 45, 3) := dk_180 0 45 (dk_at dksX4_findRow_6 17 rfl rfl)
theorem dX4_findRow_161 : decode cX4_findRow 161 = .ok (.aload 5, 2) := dk_25 5 (dk_at dksX4_findRow_6 20 rfl rfl)
theorem dX4_findRow_163 : decode cX4_findRow 163 = .ok (.getfield 165, 3) := dk_180 0 165 (dk_at dksX4_findRow_7 0 rfl rfl)
theorem dX4_findRow_166 : decode cX4_findRow 166 = .ok (.aload 4, 2) := dk_25 4 (dk_at dksX4_findRow_7 3 rfl rfl)
theorem dX4_findRow_168 : decode cX4_findRow 168 = .ok (.invokespecial 213, 3) := dk_183 0 213 (dk_at dksX4_findRow_7 5 rfl rfl)
theorem dX4_findRow_171 : decode cX4_findRow 171 = .ok (.invokespecial 60, 3) := dk_183 0 60 (dk_at dksX4_findRow_7 8 rfl rfl)
theorem dX4_findRow_174 : decode cX4_findRow 174 = .ok (.new 41, 3) := dk_187 0 41 (dk_at dksX4_findRow_7 11 rfl rfl)
theorem dX4_findRow_177 : decode cX4_findRow 177 = .ok (.dup, 1) := dk_89 (dk_at dksX4_findRow_7 14 rfl rfl)
theorem dX4_findRow_178 : decode cX4_findRow 178 = .ok (.ldc 218, 2) := dk_18 218 (dk_at dksX4_findRow_7 15 rfl rfl)
theorem dX4_findRow_180 : decode cX4_findRow 180 = .ok (.aload_n 1, 1) := dk_43 (dk_at dksX4_findRow_7 17 rfl rfl)
theorem dX4_findRow_181 : decode cX4_findRow 181 = .ok (.getfield 45, 3) := dk_180 0 45 (dk_at dksX4_findRow_7 18 rfl rfl)
theorem dX4_findRow_184 : decode cX4_findRow 184 = .ok (.aload 4, 2) := dk_25 4 (dk_at dksX4_findRow_7 21 rfl rfl)
theorem dX4_findRow_186 : decode cX4_findRow 186 = .ok (.aconst_null, 1) := dk_1 (dk_at dksX4_findRow_7 23 rfl rfl)
theorem dX4_findRow_187 : decode cX4_findRow 187 = .ok (.iconst 2, 1) := dk_5 (dk_at dksX4_findRow_8 0 rfl rfl)
theorem dX4_findRow_188 : decode cX4_findRow 188 = .ok (.anewarray 41, 3) := dk_189 0 41 (dk_at dksX4_findRow_8 1 rfl rfl)
theorem dX4_findRow_191 : decode cX4_findRow 191 = .ok (.dup, 1) := dk_89 (dk_at dksX4_findRow_8 4 rfl rfl)
theorem dX4_findRow_192 : decode cX4_findRow 192 = .ok (.iconst 0, 1) := dk_3 (dk_at dksX4_findRow_8 5 rfl rfl)
theorem dX4_findRow_193 : decode cX4_findRow 193 = .ok (.aload 5, 2) := dk_25 5 (dk_at dksX4_findRow_8 6 rfl rfl)
theorem dX4_findRow_195 : decode cX4_findRow 195 = .ok (.getfield 170, 3) := dk_180 0 170 (dk_at dksX4_findRow_8 8 rfl rfl)
theorem dX4_findRow_198 : decode cX4_findRow 198 = .ok (.aastore, 1) := dk_83 (dk_at dksX4_findRow_8 11 rfl rfl)
theorem dX4_findRow_199 : decode cX4_findRow 199 = .ok (.dup, 1) := dk_89 (dk_at dksX4_findRow_8 12 rfl rfl)
theorem dX4_findRow_200 : decode cX4_findRow 200 = .ok (.iconst 1, 1) := dk_4 (dk_at dksX4_findRow_8 13 rfl rfl)
theorem dX4_findRow_201 : decode cX4_findRow 201 = .ok (.aload 6, 2) := dk_25 6 (dk_at dksX4_findRow_8 14 rfl rfl)
theorem dX4_findRow_203 : decode cX4_findRow 203 = .ok (.getfield 170, 3) := dk_180 0 170 (dk_at dksX4_findRow_8 16 rfl rfl)
theorem dX4_findRow_206 : decode cX4_findRow 206 = .ok (.aastore, 1) := dk_83 (dk_at dksX4_findRow_8 19 rfl rfl)
theorem dX4_findRow_207 : decode cX4_findRow 207 = .ok (.invokespecial 48, 3) := dk_183 0 48 (dk_at dksX4_findRow_8 20 rfl rfl)
theorem dX4_findRow_210 : decode cX4_findRow 210 = .ok (.invokespecial 51, 3) := dk_183 0 51 (dk_at dksX4_findRow_9 0 rfl rfl)
theorem dX4_findRow_213 : decode cX4_findRow 213 = .ok (.areturn, 1) := dk_176 (dk_at dksX4_findRow_9 3 rfl rfl)
theorem dX4_findRow_214 : decode cX4_findRow 214 = .ok (.new 149, 3) := dk_187 0 149 (dk_at dksX4_findRow_9 4 rfl rfl)
theorem dX4_findRow_217 : decode cX4_findRow 217 = .ok (.dup, 1) := dk_89 (dk_at dksX4_findRow_9 7 rfl rfl)
theorem dX4_findRow_218 : decode cX4_findRow 218 = .ok (.iload_n 3, 1) := dk_29 (dk_at dksX4_findRow_9 8 rfl rfl)
theorem dX4_findRow_219 : decode cX4_findRow 219 = .ok (.iconst 0, 1) := dk_3 (dk_at dksX4_findRow_9 9 rfl rfl)
theorem dX4_findRow_220 : decode cX4_findRow 220 = .ok (.invokespecial 151, 3) := dk_183 0 151 (dk_at dksX4_findRow_9 10 rfl rfl)
theorem dX4_findRow_223 : decode cX4_findRow 223 = .ok (.astore 6, 2) := dk_58 6 (dk_at dksX4_findRow_9 13 rfl rfl)
theorem dX4_findRow_225 : decode cX4_findRow 225 = .ok (.aload_n 1, 1) := dk_43 (dk_at dksX4_findRow_9 15 rfl rfl)
theorem dX4_findRow_226 : decode cX4_findRow 226 = .ok (.aload 5, 2) := dk_25 5 (dk_at dksX4_findRow_9 16 rfl rfl)
theorem dX4_findRow_228 : decode cX4_findRow 228 = .ok (.getfield 165, 3) := dk_180 0 165 (dk_at dksX4_findRow_9 18 rfl rfl)
theorem dX4_findRow_231 : decode cX4_findRow 231 = .ok (.new 54, 3) := dk_187 0 54 (dk_at dksX4_findRow_9 21 rfl rfl)
theorem dX4_findRow_234 : decode cX4_findRow 234 = .ok (.dup, 1) := dk_89 (dk_at dksX4_findRow_10 0 rfl rfl)
theorem dX4_findRow_235 : decode cX4_findRow 235 = .ok (.iconst 0, 1) := dk_3 (dk_at dksX4_findRow_10 1 rfl rfl)
theorem dX4_findRow_236 : decode cX4_findRow 236 = .ok (.new 211, 3) := dk_187 0 211 (dk_at dksX4_findRow_10 2 rfl rfl)
theorem dX4_findRow_239 : decode cX4_findRow 239 = .ok (.dup, 1) := dk_89 (dk_at dksX4_findRow_10 5 rfl rfl)
theorem dX4_findRow_240 : decode cX4_findRow 240 = .ok (.aload_n 1, 1) := dk_43 (dk_at dksX4_findRow_10 6 rfl rfl)
theorem dX4_findRow_241 : decode cX4_findRow 241 = .ok (.getfield 45, 3) := dk_180 0 45 (dk_at dksX4_findRow_10 7 rfl rfl)
theorem dX4_findRow_244 : decode cX4_findRow 244 = .ok (.aload 6, 2) := dk_25 6 (dk_at dksX4_findRow_10 10 rfl rfl)
theorem dX4_findRow_246 : decode cX4_findRow 246 = .ok (.aload 4, 2) := dk_25 4 (dk_at dksX4_findRow_10 12 rfl rfl)
theorem dX4_findRow_248 : decode cX4_findRow 248 = .ok (.invokespecial 213, 3) := dk_183 0 213 (dk_at dksX4_findRow_10 14 rfl rfl)
theorem dX4_findRow_251 : decode cX4_findRow 251 = .ok (.invokespecial 60, 3) := dk_183 0 60 (dk_at dksX4_findRow_10 17 rfl rfl)
theorem dX4_findRow_254 : decode cX4_findRow 254 = .ok (.invokestatic 174, 3) := dk_184 0 174 (dk_at dksX4_findRow_10 20 rfl rfl)
theorem dX4_findRow_257 : decode cX4_findRow 257 = .ok (.aload_n 1, 1) := dk_43 (dk_at dksX4_findRow_10 23 rfl rfl)
theorem dX4_findRow_258 : decode cX4_findRow 258 = .ok (.getfield 30, 3) := dk_180 0 30 (dk_at dksX4_findRow_11 0 rfl rfl)
theorem dX4_findRow_261 : decode cX4_findRow 261 = .ok (.bipush 8, 2) := dk_16 8 (dk_at dksX4_findRow_11 3 rfl rfl)
theorem dX4_findRow_263 : decode cX4_findRow 263 = .ok (.if_icmp .ne 7, 3) := dk_160 0 7 (dk_at dksX4_findRow_11 5 rfl rfl)
theorem dX4_findRow_266 : decode cX4_findRow 266 = .ok (.iconst 1, 1) := dk_4 (dk_at dksX4_findRow_11 8 rfl rfl)
theorem dX4_findRow_267 : decode cX4_findRow 267 = .ok (.goto 4, 3) := dk_167 0 4 (dk_at dksX4_findRow_11 9 rfl rfl)
theorem dX4_findRow_270 : decode cX4_findRow 270 = .ok (.iconst 0, 1) := dk_3 (dk_at dksX4_findRow_11 12 rfl rfl)
theorem dX4_findRow_271 : decode cX4_findRow 271 = .ok (.istore 7, 2) := dk_54 7 (dk_at dksX4_findRow_11 13 rfl rfl)
theorem dX4_findRow_273 : decode cX4_findRow 273 = .ok (.new 35, 3) := dk_187 0 35 (dk_at dksX4_findRow_11 15 rfl rfl)
theorem dX4_findRow_276 : decode cX4_findRow 276 = .ok (.dup, 1) := dk_89 (dk_at dksX4_findRow_11 18 rfl rfl)
theorem dX4_findRow_277 : decode cX4_findRow 277 = .ok (.iload 7, 2) := dk_21 7 (dk_at dksX4_findRow_11 19 rfl rfl)
theorem dX4_findRow_279 : decode cX4_findRow 279 = .ok (.ifCond .eq 8, 3) := dk_153 0 8 (dk_at dksX4_findRow_11 21 rfl rfl)
theorem dX4_findRow_282 : decode cX4_findRow 282 = .ok (.aload 6, 2) := dk_25 6 (dk_at dksX4_findRow_12 0 rfl rfl)
theorem dX4_findRow_284 : decode cX4_findRow 284 = .ok (.goto 13, 3) := dk_167 0 13 (dk_at dksX4_findRow_12 2 rfl rfl)
theorem dX4_findRow_287 : decode cX4_findRow 287 = .ok (.new 54, 3) := dk_187 0 54 (dk_at dksX4_findRow_12 5 rfl rfl)
theorem dX4_findRow_290 : decode cX4_findRow 290 = .ok (.dup, 1) := dk_89 (dk_at dksX4_findRow_12 8 rfl rfl)
theorem dX4_findRow_291 : decode cX4_findRow 291 = .ok (.iconst 0, 1) := dk_3 (dk_at dksX4_findRow_12 9 rfl rfl)
theorem dX4_findRow_292 : decode cX4_findRow 292 = .ok (.aload 4, 2) := dk_25 4 (dk_at dksX4_findRow_12 10 rfl rfl)
theorem dX4_findRow_294 : decode cX4_findRow 294 = .ok (.invokespecial 60, 3) := dk_183 0 60 (dk_at dksX4_findRow_12 12 rfl rfl)
theorem dX4_findRow_297 : decode cX4_findRow 297 = .ok (.new 41, 3) := dk_187 0 41 (dk_at dksX4_findRow_12 15 rfl rfl)
theorem dX4_findRow_300 : decode cX4_findRow 300 = .ok (.dup, 1) := dk_89 (dk_at dksX4_findRow_12 18 rfl rfl)
theorem dX4_findRow_301 : decode cX4_findRow 301 = .ok (.iload 7, 2) := dk_21 7 (dk_at dksX4_findRow_12 19 rfl rfl)
theorem dX4_findRow_303 : decode cX4_findRow 303 = .ok (.ifCond .eq 8, 3) := dk_153 0 8 (dk_at dksX4_findRow_12 21 rfl rfl)
theorem dX4_findRow_306 : decode cX4_findRow 306 = .ok (.ldc 220, 2) := dk_18 220 (dk_at dksX4_findRow_13 0 rfl rfl)
theorem dX4_findRow_308 : decode cX4_findRow 308 = .ok (.goto 5, 3) := dk_167 0 5 (dk_at dksX4_findRow_13 2 rfl rfl)
theorem dX4_findRow_311 : decode cX4_findRow 311 = .ok (.ldc 221, 2) := dk_18 221 (dk_at dksX4_findRow_13 5 rfl rfl)
theorem dX4_findRow_313 : decode cX4_findRow 313 = .ok (.aload_n 1, 1) := dk_43 (dk_at dksX4_findRow_13 7 rfl rfl)
theorem dX4_findRow_314 : decode cX4_findRow 314 = .ok (.getfield 45, 3) := dk_180 0 45 (dk_at dksX4_findRow_13 8 rfl rfl)
theorem dX4_findRow_317 : decode cX4_findRow 317 = .ok (.aload 4, 2) := dk_25 4 (dk_at dksX4_findRow_13 11 rfl rfl)
theorem dX4_findRow_319 : decode cX4_findRow 319 = .ok (.aconst_null, 1) := dk_1 (dk_at dksX4_findRow_13 13 rfl rfl)
theorem dX4_findRow_320 : decode cX4_findRow 320 = .ok (.iconst 1, 1) := dk_4 (dk_at dksX4_findRow_13 14 rfl rfl)
theorem dX4_findRow_321 : decode cX4_findRow 321 = .ok (.anewarray 41, 3) := dk_189 0 41 (dk_at dksX4_findRow_13 15 rfl rfl)
theorem dX4_findRow_324 : decode cX4_findRow 324 = .ok (.dup, 1) := dk_89 (dk_at dksX4_findRow_13 18 rfl rfl)
theorem dX4_findRow_325 : decode cX4_findRow 325 = .ok (.iconst 0, 1) := dk_3 (dk_at dksX4_findRow_13 19 rfl rfl)
theorem dX4_findRow_326 : decode cX4_findRow 326 = .ok (.aload 5, 2) := dk_25 5 (dk_at dksX4_findRow_13 20 rfl rfl)
theorem dX4_findRow_328 : decode cX4_findRow 328 = .ok (.getfield 170, 3) := dk_180 0 170 (dk_at dksX4_findRow_14 0 rfl rfl)
theorem dX4_findRow_331 : decode cX4_findRow 331 = .ok (.aastore, 1) := dk_83 (dk_at dksX4_findRow_14 3 rfl rfl)
theorem dX4_findRow_332 : decode cX4_findRow 332 = .ok (.invokespecial 48, 3) := dk_183 0 48 (dk_at dksX4_findRow_14 4 rfl rfl)
theorem dX4_findRow_335 : decode cX4_findRow 335 = .ok (.invokespecial 51, 3) := dk_183 0 51 (dk_at dksX4_findRow_14 7 rfl rfl)
theorem dX4_findRow_338 : decode cX4_findRow 338 = .ok (.areturn, 1) := dk_176 (dk_at dksX4_findRow_14 10 rfl rfl)
theorem q70 : (Jvm.Cond.initialized "RowenTongue$Finder") ∈ lw_all := lw_g (lw_at lw_m1 21 rfl) rfl
theorem q282 : (Jvm.Cond.fieldLinkNest "RowenTongue$Finder" (189 : Nat) "RowenTongue$Term" "number" "I" "RowenTongue") ∈ lw_tbl := lw_at lw_m1 233 rfl
theorem q285 : (Jvm.Cond.fieldLinkNest "RowenTongue$Finder" (30 : Nat) "RowenTongue$Term" "kind" "I" "RowenTongue") ∈ lw_tbl := lw_at lw_m1 236 rfl
theorem q290 : (Jvm.Cond.fieldLinkNest "RowenTongue$Finder" (45 : Nat) "RowenTongue$Term" "which" "I" "RowenTongue") ∈ lw_tbl := lw_at lw_m2 1 rfl
theorem q293 : (Jvm.Cond.fieldLinkNest "RowenTongue$Finder" (236 : Nat) "RowenTongue$Term" "name" "I" "RowenTongue") ∈ lw_tbl := lw_at lw_m2 4 rfl
theorem q296 : (Jvm.Cond.fieldLinkNest "RowenTongue$Finder" (154 : Nat) "RowenTongue$Term" "of" "[LRowenTongue$Term;" "RowenTongue") ∈ lw_tbl := lw_at lw_m2 7 rfl
theorem q378 : (Jvm.Cond.selects "RowenTongue$Finder" ({ cls := "java/lang/Object", name := "getClass", desc := "()Ljava/lang/Class;" } : Jvm.MethodName) ({ cls := "java/lang/Object", name := "getClass", desc := "()Ljava/lang/Class;" } : Jvm.MethodName)) ∈ lw_all := lw_g (lw_at lw_m2 89 rfl) rfl
theorem q543 : (Jvm.Cond.instantiable "RowenTongue$Finder" (1 : Nat)) ∈ lw_all := lw_g (lw_at lw_m3 14 rfl) rfl
theorem q545 : (Jvm.Cond.instanceMethod ({ cls := "RowenTongue$Finder", name := "<init>", desc := "()V" } : Jvm.MethodName)) ∈ lw_all := lw_g (lw_at lw_m3 16 rfl) rfl
theorem q546 : (Jvm.Cond.code ({ cls := "RowenTongue$Finder", name := "<init>", desc := "()V" } : Jvm.MethodName) prog_13_method_1_code (2 : Nat) (Option.none : Option Jvm.ClassFile.FieldType)) ∈ lw_all := lw_g (lw_at lw_m3 17 rfl) rfl
theorem q547 : (Jvm.Cond.methodLink "RowenTongue$Finder" (3 : Nat) ({ cls := "java/lang/Object", name := "<init>", desc := "()V" } : Jvm.MethodName)) ∈ lw_all := lw_g (lw_at lw_m3 18 rfl) rfl
theorem q548 : (Jvm.Cond.fieldLink "RowenTongue$Finder" (9 : Nat) "RowenTongue$Finder" "handed" "[I") ∈ lw_all := lw_g (lw_at lw_m3 19 rfl) rfl
theorem q550 : (Jvm.Cond.laysFinal "RowenTongue$Finder" "RowenTongue$Finder" "handed" "[I") ∈ lw_all := lw_g (lw_at lw_m3 21 rfl) rfl
theorem q551 : (Jvm.Cond.soleField "RowenTongue$Finder" "handed") ∈ lw_all := lw_g (lw_at lw_m3 22 rfl) rfl
theorem q552 : (Jvm.Cond.superclass "RowenTongue$Finder" "java/lang/Object") ∈ lw_all := lw_g (lw_at lw_m3 23 rfl) rfl
theorem q555 : (Jvm.Cond.instanceMethod ({ cls := "RowenTongue$Finder", name := "find", desc := "(LRowenTongue$Term;LRowenTongue$Known;I)LRowenTongue$Typed;" } : Jvm.MethodName)) ∈ lw_all := lw_g (lw_at lw_m3 26 rfl) rfl
theorem q556 : (Jvm.Cond.selects "RowenTongue$Finder" ({ cls := "RowenTongue$Finder", name := "find", desc := "(LRowenTongue$Term;LRowenTongue$Known;I)LRowenTongue$Typed;" } : Jvm.MethodName) ({ cls := "RowenTongue$Finder", name := "find", desc := "(LRowenTongue$Term;LRowenTongue$Known;I)LRowenTongue$Typed;" } : Jvm.MethodName)) ∈ lw_all := lw_g (lw_at lw_m3 27 rfl) rfl
theorem q557 : (Jvm.Cond.code ({ cls := "RowenTongue$Finder", name := "find", desc := "(LRowenTongue$Term;LRowenTongue$Known;I)LRowenTongue$Typed;" } : Jvm.MethodName) prog_13_method_3_code (4 : Nat) (Option.some (Jvm.ClassFile.FieldType.object "RowenTongue$Typed"))) ∈ lw_all := lw_g (lw_at lw_m3 28 rfl) rfl
theorem q558 : (Jvm.Cond.classLink "RowenTongue$Finder" (35 : Nat) "RowenTongue$Typed") ∈ lw_all := lw_g (lw_at lw_m3 29 rfl) rfl
theorem q560 : (Jvm.Cond.fieldLinkNest "RowenTongue$Finder" (37 : Nat) "RowenTongue" "NUMBERS" "LRowenTongue$Type;" "RowenTongue") ∈ lw_tbl := lw_at lw_m3 31 rfl
theorem q562 : (Jvm.Cond.classLink "RowenTongue$Finder" (41 : Nat) "RowenTongue$Code") ∈ lw_all := lw_g (lw_at lw_m3 33 rfl) rfl
theorem q564 : (Jvm.Cond.stringRef "RowenTongue$Finder" (43 : Nat) "number") ∈ lw_tbl := lw_at lw_m3 35 rfl
theorem q566 : (Jvm.Cond.methodLink "RowenTongue$Finder" (48 : Nat) ({ cls := "RowenTongue$Code", name := "<init>", desc := "(Ljava/lang/String;ILRowenTongue$Row;Ljava/util/ArrayList;[LRowenTongue$Code;)V" } : Jvm.MethodName)) ∈ lw_all := lw_g (lw_at lw_m3 37 rfl) rfl
theorem q591 : (Jvm.Cond.methodLink "RowenTongue$Finder" (51 : Nat) ({ cls := "RowenTongue$Typed", name := "<init>", desc := "(LRowenTongue$Type;LRowenTongue$Code;)V" } : Jvm.MethodName)) ∈ lw_all := lw_g (lw_at lw_m3 62 rfl) rfl
theorem q596 : (Jvm.Cond.fieldLinkNest "RowenTongue$Finder" (165 : Nat) "RowenTongue$Typed" "type" "LRowenTongue$Type;" "RowenTongue") ∈ lw_tbl := lw_at lw_m3 67 rfl
theorem q599 : (Jvm.Cond.fieldLinkNest "RowenTongue$Finder" (170 : Nat) "RowenTongue$Typed" "code" "LRowenTongue$Code;" "RowenTongue") ∈ lw_tbl := lw_at lw_m3 70 rfl
theorem q606 : (Jvm.Cond.classLink "RowenTongue$Finder" (54 : Nat) "RowenTongue$Bag") ∈ lw_all := lw_g (lw_at lw_m3 77 rfl) rfl
theorem q608 : (Jvm.Cond.fieldLinkNest "RowenTongue$Finder" (56 : Nat) "RowenTongue" "NOTHING" "LRowenTongue$Row;" "RowenTongue") ∈ lw_tbl := lw_at lw_m3 79 rfl
theorem q610 : (Jvm.Cond.methodLink "RowenTongue$Finder" (60 : Nat) ({ cls := "RowenTongue$Bag", name := "<init>", desc := "(ZLRowenTongue$Row;)V" } : Jvm.MethodName)) ∈ lw_all := lw_g (lw_at lw_m3 81 rfl) rfl
theorem q643 : (Jvm.Cond.stringRef "RowenTongue$Finder" (63 : Nat) "empty") ∈ lw_tbl := lw_at lw_m3 114 rfl
theorem q644 : (Jvm.Cond.methodLink "RowenTongue$Finder" (65 : Nat) ({ cls := "RowenTongue$Finder", name := "findName", desc := "(LRowenTongue$Term;LRowenTongue$Known;I)LRowenTongue$Typed;" } : Jvm.MethodName)) ∈ lw_all := lw_g (lw_at lw_m3 115 rfl) rfl
theorem q645 : (Jvm.Cond.privateMethod ({ cls := "RowenTongue$Finder", name := "findName", desc := "(LRowenTongue$Term;LRowenTongue$Known;I)LRowenTongue$Typed;" } : Jvm.MethodName)) ∈ lw_tbl := lw_at lw_m3 116 rfl
theorem q646 : (Jvm.Cond.instanceMethod ({ cls := "RowenTongue$Finder", name := "findName", desc := "(LRowenTongue$Term;LRowenTongue$Known;I)LRowenTongue$Typed;" } : Jvm.MethodName)) ∈ lw_all := lw_g (lw_at lw_m3 117 rfl) rfl
theorem q647 : (Jvm.Cond.code ({ cls := "RowenTongue$Finder", name := "findName", desc := "(LRowenTongue$Term;LRowenTongue$Known;I)LRowenTongue$Typed;" } : Jvm.MethodName) prog_13_method_4_code (10 : Nat) (Option.some (Jvm.ClassFile.FieldType.object "RowenTongue$Typed"))) ∈ lw_all := lw_g (lw_at lw_m3 118 rfl) rfl
theorem q648 : (Jvm.Cond.classLink "RowenTongue$Finder" (21 : Nat) "RowenTongue$Wrong") ∈ lw_all := lw_g (lw_at lw_m3 119 rfl) rfl
theorem q657 : (Jvm.Cond.methodLink "RowenTongue$Finder" (27 : Nat) ({ cls := "RowenTongue$Wrong", name := "<init>", desc := "(ILRowenTongue$Term;Ljava/lang/Throwable;)V" } : Jvm.MethodName)) ∈ lw_all := lw_g (lw_at lw_m3 128 rfl) rfl
theorem q676 : (Jvm.Cond.stringRef "RowenTongue$Finder" (103 : Nat) "name") ∈ lw_tbl := lw_at lw_m3 147 rfl
theorem q677 : (Jvm.Cond.classLink "RowenTongue$Finder" (104 : Nat) "RowenTongue$Renewal") ∈ lw_all := lw_g (lw_at lw_m3 148 rfl) rfl
theorem q679 : (Jvm.Cond.methodLink "RowenTongue$Finder" (106 : Nat) ({ cls := "RowenTongue$Renewal", name := "<init>", desc := "(I)V" } : Jvm.MethodName)) ∈ lw_all := lw_g (lw_at lw_m3 150 rfl) rfl
theorem q701 : (Jvm.Cond.methodLink "RowenTongue$Finder" (109 : Nat) ({ cls := "RowenTongue$Renewal", name := "of", desc := "(LRowenTongue$Type;)LRowenTongue$Type;" } : Jvm.MethodName)) ∈ lw_all := lw_g (lw_at lw_m3 172 rfl) rfl
theorem q752 : (Jvm.Cond.selects "RowenTongue$Finder" ({ cls := "java/lang/Object", name := "equals", desc := "(Ljava/lang/Object;)Z" } : Jvm.MethodName) ({ cls := "java/lang/Object", name := "equals", desc := "(Ljava/lang/Object;)Z" } : Jvm.MethodName)) ∈ lw_all := lw_g (lw_at lw_m3 223 rfl) rfl
theorem q945 : (Jvm.Cond.classLink "RowenTongue$Finder" (113 : Nat) "java/util/ArrayList") ∈ lw_all := lw_g (lw_at lw_m4 176 rfl) rfl
theorem q946 : (Jvm.Cond.methodLink "RowenTongue$Finder" (115 : Nat) ({ cls := "java/util/ArrayList", name := "<init>", desc := "()V" } : Jvm.MethodName)) ∈ lw_all := lw_g (lw_at lw_m4 177 rfl) rfl
theorem q947 : (Jvm.Cond.methodLink "RowenTongue$Finder" (116 : Nat) ({ cls := "java/util/ArrayList", name := "iterator", desc := "()Ljava/util/Iterator;" } : Jvm.MethodName)) ∈ lw_all := lw_g (lw_at lw_m4 178 rfl) rfl
theorem q970 : (Jvm.Cond.interfaceEntry "RowenTongue$Finder" (120 : Nat)) ∈ lw_tbl := lw_at lw_m4 201 rfl
theorem q971 : (Jvm.Cond.methodLink "RowenTongue$Finder" (120 : Nat) ({ cls := "java/util/Iterator", name := "hasNext", desc := "()Z" } : Jvm.MethodName)) ∈ lw_all := lw_g (lw_at lw_m4 202 rfl) rfl
theorem q980 : (Jvm.Cond.interfaceEntry "RowenTongue$Finder" (126 : Nat)) ∈ lw_tbl := lw_at lw_m4 211 rfl
theorem q981 : (Jvm.Cond.methodLink "RowenTongue$Finder" (126 : Nat) ({ cls := "java/util/Iterator", name := "next", desc := "()Ljava/lang/Object;" } : Jvm.MethodName)) ∈ lw_all := lw_g (lw_at lw_m4 212 rfl) rfl
theorem q993 : (Jvm.Cond.classLink "RowenTongue$Finder" (129 : Nat) "RowenTongue$Place") ∈ lw_all := lw_g (lw_at lw_m4 224 rfl) rfl
theorem q995 : (Jvm.Cond.methodLink "RowenTongue$Finder" (135 : Nat) ({ cls := "RowenTongue$Renewal", name := "renewedOpenRow", desc := "(LRowenTongue$OpenRow;)LRowenTongue$OpenRow;" } : Jvm.MethodName)) ∈ lw_all := lw_g (lw_at lw_m4 226 rfl) rfl
theorem q996 : (Jvm.Cond.methodLink "RowenTongue$Finder" (142 : Nat) ({ cls := "RowenTongue$Place", name := "<init>", desc := "(LRowenTongue$OpenRow;I)V" } : Jvm.MethodName)) ∈ lw_all := lw_g (lw_at lw_m4 227 rfl) rfl
theorem q1001 : (Jvm.Cond.fieldLinkNest "RowenTongue$Finder" (131 : Nat) "RowenTongue$Place" "row" "LRowenTongue$OpenRow;" "RowenTongue") ∈ lw_tbl := lw_at lw_m4 232 rfl
theorem q1005 : (Jvm.Cond.fieldLinkNest "RowenTongue$Finder" (139 : Nat) "RowenTongue$Place" "label" "I" "RowenTongue") ∈ lw_tbl := lw_at lw_m4 236 rfl
theorem q1013 : (Jvm.Cond.methodLink "RowenTongue$Finder" (145 : Nat) ({ cls := "java/util/ArrayList", name := "add", desc := "(Ljava/lang/Object;)Z" } : Jvm.MethodName)) ∈ lw_all := lw_g (lw_at lw_m5 4 rfl) rfl
theorem q1014 : (Jvm.Cond.methodLink "RowenTongue$Finder" (69 : Nat) ({ cls := "RowenTongue$Finder", name := "findFun", desc := "(LRowenTongue$Term;LRowenTongue$Known;I)LRowenTongue$Typed;" } : Jvm.MethodName)) ∈ lw_all := lw_g (lw_at lw_m5 5 rfl) rfl
theorem q1015 : (Jvm.Cond.privateMethod ({ cls := "RowenTongue$Finder", name := "findFun", desc := "(LRowenTongue$Term;LRowenTongue$Known;I)LRowenTongue$Typed;" } : Jvm.MethodName)) ∈ lw_tbl := lw_at lw_m5 6 rfl
theorem q1016 : (Jvm.Cond.instanceMethod ({ cls := "RowenTongue$Finder", name := "findFun", desc := "(LRowenTongue$Term;LRowenTongue$Known;I)LRowenTongue$Typed;" } : Jvm.MethodName)) ∈ lw_all := lw_g (lw_at lw_m5 7 rfl) rfl
theorem q1017 : (Jvm.Cond.code ({ cls := "RowenTongue$Finder", name := "findFun", desc := "(LRowenTongue$Term;LRowenTongue$Known;I)LRowenTongue$Typed;" } : Jvm.MethodName) prog_13_method_5_code (6 : Nat) (Option.some (Jvm.ClassFile.FieldType.object "RowenTongue$Typed"))) ∈ lw_all := lw_g (lw_at lw_m5 8 rfl) rfl
theorem q1018 : (Jvm.Cond.classLink "RowenTongue$Finder" (149 : Nat) "RowenTongue$Open") ∈ lw_all := lw_g (lw_at lw_m5 9 rfl) rfl
theorem q1019 : (Jvm.Cond.methodLink "RowenTongue$Finder" (151 : Nat) ({ cls := "RowenTongue$Open", name := "<init>", desc := "(IZ)V" } : Jvm.MethodName)) ∈ lw_all := lw_g (lw_at lw_m5 10 rfl) rfl
theorem q1020 : (Jvm.Cond.classLink "RowenTongue$Finder" (88 : Nat) "RowenTongue$Known") ∈ lw_all := lw_g (lw_at lw_m5 11 rfl) rfl
theorem q1022 : (Jvm.Cond.methodLink "RowenTongue$Finder" (157 : Nat) ({ cls := "RowenTongue$Known", name := "<init>", desc := "(ILRowenTongue$Type;Ljava/util/ArrayList;LRowenTongue$Known;)V" } : Jvm.MethodName)) ∈ lw_all := lw_g (lw_at lw_m5 13 rfl) rfl
theorem q1027 : (Jvm.Cond.fieldLinkNest "RowenTongue$Finder" (87 : Nat) "RowenTongue$Known" "name" "I" "RowenTongue") ∈ lw_tbl := lw_at lw_m5 18 rfl
theorem q1029 : (Jvm.Cond.fieldLinkNest "RowenTongue$Finder" (100 : Nat) "RowenTongue$Known" "type" "LRowenTongue$Type;" "RowenTongue") ∈ lw_tbl := lw_at lw_m5 20 rfl
theorem q1031 : (Jvm.Cond.fieldLinkNest "RowenTongue$Finder" (96 : Nat) "RowenTongue$Known" "places" "Ljava/util/ArrayList;" "RowenTongue") ∈ lw_tbl := lw_at lw_m5 22 rfl
theorem q1033 : (Jvm.Cond.fieldLinkNest "RowenTongue$Finder" (92 : Nat) "RowenTongue$Known" "next" "LRowenTongue$Known;" "RowenTongue") ∈ lw_tbl := lw_at lw_m5 24 rfl
theorem q1043 : (Jvm.Cond.methodLink "RowenTongue$Finder" (160 : Nat) ({ cls := "RowenTongue$Finder", name := "find", desc := "(LRowenTongue$Term;LRowenTongue$Known;I)LRowenTongue$Typed;" } : Jvm.MethodName)) ∈ lw_all := lw_g (lw_at lw_m5 34 rfl) rfl
theorem q1044 : (Jvm.Cond.classLink "RowenTongue$Finder" (163 : Nat) "RowenTongue$Function") ∈ lw_all := lw_g (lw_at lw_m5 35 rfl) rfl
theorem q1045 : (Jvm.Cond.methodLink "RowenTongue$Finder" (166 : Nat) ({ cls := "RowenTongue$Function", name := "<init>", desc := "(LRowenTongue$Type;LRowenTongue$Type;)V" } : Jvm.MethodName)) ∈ lw_all := lw_g (lw_at lw_m5 36 rfl) rfl
theorem q1046 : (Jvm.Cond.stringRef "RowenTongue$Finder" (168 : Nat) "fun") ∈ lw_tbl := lw_at lw_m5 37 rfl
theorem q1047 : (Jvm.Cond.methodLink "RowenTongue$Finder" (72 : Nat) ({ cls := "RowenTongue$Finder", name := "findGive", desc := "(LRowenTongue$Term;LRowenTongue$Known;I)LRowenTongue$Typed;" } : Jvm.MethodName)) ∈ lw_all := lw_g (lw_at lw_m5 38 rfl) rfl
theorem q1048 : (Jvm.Cond.privateMethod ({ cls := "RowenTongue$Finder", name := "findGive", desc := "(LRowenTongue$Term;LRowenTongue$Known;I)LRowenTongue$Typed;" } : Jvm.MethodName)) ∈ lw_tbl := lw_at lw_m5 39 rfl
theorem q1049 : (Jvm.Cond.instanceMethod ({ cls := "RowenTongue$Finder", name := "findGive", desc := "(LRowenTongue$Term;LRowenTongue$Known;I)LRowenTongue$Typed;" } : Jvm.MethodName)) ∈ lw_all := lw_g (lw_at lw_m5 40 rfl) rfl
theorem q1050 : (Jvm.Cond.code ({ cls := "RowenTongue$Finder", name := "findGive", desc := "(LRowenTongue$Term;LRowenTongue$Known;I)LRowenTongue$Typed;" } : Jvm.MethodName) prog_13_method_6_code (7 : Nat) (Option.some (Jvm.ClassFile.FieldType.object "RowenTongue$Typed"))) ∈ lw_all := lw_g (lw_at lw_m5 41 rfl) rfl
theorem q1051 : (Jvm.Cond.methodLink "RowenTongue$Finder" (174 : Nat) ({ cls := "RowenTongue$Finder", name := "meet", desc := "(LRowenTongue$Term;LRowenTongue$Type;LRowenTongue$Type;)V" } : Jvm.MethodName)) ∈ lw_all := lw_g (lw_at lw_m5 42 rfl) rfl
theorem q1052 : (Jvm.Cond.static ({ cls := "RowenTongue$Finder", name := "meet", desc := "(LRowenTongue$Term;LRowenTongue$Type;LRowenTongue$Type;)V" } : Jvm.MethodName)) ∈ lw_all := lw_g (lw_at lw_m5 43 rfl) rfl
theorem q1053 : (Jvm.Cond.codeWith ({ cls := "RowenTongue$Finder", name := "meet", desc := "(LRowenTongue$Term;LRowenTongue$Type;LRowenTongue$Type;)V" } : Jvm.MethodName) prog_13_method_2_code (4 : Nat) (Option.none : Option Jvm.ClassFile.FieldType) [((0 : Nat), (5 : Nat), (8 : Nat), (19 : Nat))]) ∈ lw_all := lw_g (lw_at lw_m5 44 rfl) rfl
theorem q1054 : (Jvm.Cond.classLink "RowenTongue$Finder" (19 : Nat) "RowenTongue$Clash") ∈ lw_all := lw_g (lw_at lw_m5 45 rfl) rfl
theorem q1055 : (Jvm.Cond.methodLinkNest "RowenTongue$Finder" (15 : Nat) ({ cls := "RowenTongue", name := "unite", desc := "(LRowenTongue$Type;LRowenTongue$Type;)V" } : Jvm.MethodName) "RowenTongue") ∈ lw_tbl := lw_at lw_m5 46 rfl
theorem q1121 : (Jvm.Cond.fieldLinkNest "RowenTongue$Finder" (23 : Nat) "RowenTongue$Clash" "error" "I" "RowenTongue") ∈ lw_tbl := lw_at lw_m5 112 rfl
theorem q1255 : (Jvm.Cond.stringRef "RowenTongue$Finder" (178 : Nat) "give") ∈ lw_tbl := lw_at lw_m6 6 rfl
theorem q1256 : (Jvm.Cond.methodLink "RowenTongue$Finder" (75 : Nat) ({ cls := "RowenTongue$Finder", name := "findLet", desc := "(LRowenTongue$Term;LRowenTongue$Known;I)LRowenTongue$Typed;" } : Jvm.MethodName)) ∈ lw_all := lw_g (lw_at lw_m6 7 rfl) rfl
theorem q1257 : (Jvm.Cond.privateMethod ({ cls := "RowenTongue$Finder", name := "findLet", desc := "(LRowenTongue$Term;LRowenTongue$Known;I)LRowenTongue$Typed;" } : Jvm.MethodName)) ∈ lw_tbl := lw_at lw_m6 8 rfl
theorem q1258 : (Jvm.Cond.instanceMethod ({ cls := "RowenTongue$Finder", name := "findLet", desc := "(LRowenTongue$Term;LRowenTongue$Known;I)LRowenTongue$Typed;" } : Jvm.MethodName)) ∈ lw_all := lw_g (lw_at lw_m6 9 rfl) rfl
theorem q1259 : (Jvm.Cond.codeWith ({ cls := "RowenTongue$Finder", name := "findLet", desc := "(LRowenTongue$Term;LRowenTongue$Known;I)LRowenTongue$Typed;" } : Jvm.MethodName) prog_13_method_7_code (10 : Nat) (Option.some (Jvm.ClassFile.FieldType.object "RowenTongue$Typed")) [((97 : Nat), (107 : Nat), (110 : Nat), (19 : Nat))]) ∈ lw_all := lw_g (lw_at lw_m6 10 rfl) rfl
theorem q1260 : (Jvm.Cond.classLink "RowenTongue$Finder" (180 : Nat) "RowenTongue$Generalising") ∈ lw_all := lw_g (lw_at lw_m6 11 rfl) rfl
theorem q1262 : (Jvm.Cond.methodLink "RowenTongue$Finder" (182 : Nat) ({ cls := "RowenTongue$Generalising", name := "<init>", desc := "(I)V" } : Jvm.MethodName)) ∈ lw_all := lw_g (lw_at lw_m6 13 rfl) rfl
theorem q1269 : (Jvm.Cond.fieldLinkNest "RowenTongue$Finder" (191 : Nat) "RowenTongue$Generalising" "places" "Ljava/util/ArrayList;" "RowenTongue") ∈ lw_tbl := lw_at lw_m6 20 rfl
theorem q1276 : (Jvm.Cond.methodLink "RowenTongue$Finder" (183 : Nat) ({ cls := "RowenTongue$Walk", name := "through", desc := "(LRowenTongue$Type;LRowenTongue$Walk;)V" } : Jvm.MethodName)) ∈ lw_all := lw_g (lw_at lw_m6 27 rfl) rfl
theorem q1277 : (Jvm.Cond.methodLink "RowenTongue$Finder" (192 : Nat) ({ cls := "java/util/ArrayList", name := "size", desc := "()I" } : Jvm.MethodName)) ∈ lw_all := lw_g (lw_at lw_m6 28 rfl) rfl
theorem q1278 : (Jvm.Cond.methodLink "RowenTongue$Finder" (196 : Nat) ({ cls := "java/lang/Math", name := "max", desc := "(II)I" } : Jvm.MethodName)) ∈ lw_all := lw_g (lw_at lw_m6 29 rfl) rfl
theorem q1279 : (Jvm.Cond.stringRef "RowenTongue$Finder" (202 : Nat) "rec") ∈ lw_tbl := lw_at lw_m6 30 rfl
theorem q1280 : (Jvm.Cond.stringRef "RowenTongue$Finder" (204 : Nat) "let") ∈ lw_tbl := lw_at lw_m6 31 rfl
theorem q1281 : (Jvm.Cond.methodLink "RowenTongue$Finder" (78 : Nat) ({ cls := "RowenTongue$Finder", name := "findMatch", desc := "(LRowenTongue$Term;LRowenTongue$Known;I)LRowenTongue$Typed;" } : Jvm.MethodName)) ∈ lw_all := lw_g (lw_at lw_m6 32 rfl) rfl
theorem q1282 : (Jvm.Cond.privateMethod ({ cls := "RowenTongue$Finder", name := "findMatch", desc := "(LRowenTongue$Term;LRowenTongue$Known;I)LRowenTongue$Typed;" } : Jvm.MethodName)) ∈ lw_tbl := lw_at lw_m6 33 rfl
theorem q1283 : (Jvm.Cond.instanceMethod ({ cls := "RowenTongue$Finder", name := "findMatch", desc := "(LRowenTongue$Term;LRowenTongue$Known;I)LRowenTongue$Typed;" } : Jvm.MethodName)) ∈ lw_all := lw_g (lw_at lw_m6 34 rfl) rfl
theorem q1284 : (Jvm.Cond.code ({ cls := "RowenTongue$Finder", name := "findMatch", desc := "(LRowenTongue$Term;LRowenTongue$Known;I)LRowenTongue$Typed;" } : Jvm.MethodName) prog_13_method_9_code (17 : Nat) (Option.some (Jvm.ClassFile.FieldType.object "RowenTongue$Typed"))) ∈ lw_all := lw_g (lw_at lw_m6 35 rfl) rfl
theorem q1285 : (Jvm.Cond.methodLinkNest "RowenTongue$Finder" (223 : Nat) ({ cls := "RowenTongue", name := "has", desc := "(II)Z" } : Jvm.MethodName) "RowenTongue") ∈ lw_tbl := lw_at lw_m6 36 rfl
theorem q1286 : (Jvm.Cond.classLink "RowenTongue$Finder" (206 : Nat) "RowenTongue$OpenRow") ∈ lw_all := lw_g (lw_at lw_m6 37 rfl) rfl
theorem q1287 : (Jvm.Cond.methodLink "RowenTongue$Finder" (208 : Nat) ({ cls := "RowenTongue$OpenRow", name := "<init>", desc := "(IZI)V" } : Jvm.MethodName)) ∈ lw_all := lw_g (lw_at lw_m6 38 rfl) rfl
theorem q1288 : (Jvm.Cond.methodLink "RowenTongue$Finder" (227 : Nat) ({ cls := "java/util/ArrayList", name := "add", desc := "(ILjava/lang/Object;)V" } : Jvm.MethodName)) ∈ lw_all := lw_g (lw_at lw_m6 39 rfl) rfl
theorem q1532 : (Jvm.Cond.classLink "RowenTongue$Finder" (211 : Nat) "RowenTongue$Cell") ∈ lw_all := lw_g (lw_at lw_m7 43 rfl) rfl
theorem q1533 : (Jvm.Cond.methodLink "RowenTongue$Finder" (230 : Nat) ({ cls := "java/util/ArrayList", name := "get", desc := "(I)Ljava/lang/Object;" } : Jvm.MethodName)) ∈ lw_all := lw_g (lw_at lw_m7 44 rfl) rfl
theorem q1534 : (Jvm.Cond.classLink "RowenTongue$Finder" (31 : Nat) "RowenTongue$Term") ∈ lw_all := lw_g (lw_at lw_m7 45 rfl) rfl
theorem q1535 : (Jvm.Cond.classLink "RowenTongue$Finder" (234 : Nat) "RowenTongue$Type") ∈ lw_all := lw_g (lw_at lw_m7 46 rfl) rfl
theorem q1536 : (Jvm.Cond.methodLink "RowenTongue$Finder" (213 : Nat) ({ cls := "RowenTongue$Cell", name := "<init>", desc := "(ILRowenTongue$Type;LRowenTongue$Row;)V" } : Jvm.MethodName)) ∈ lw_all := lw_g (lw_at lw_m7 47 rfl) rfl
theorem q1537 : (Jvm.Cond.stringRef "RowenTongue$Finder" (237 : Nat) "end") ∈ lw_tbl := lw_at lw_m7 48 rfl
theorem q1538 : (Jvm.Cond.stringRef "RowenTongue$Finder" (239 : Nat) "rest") ∈ lw_tbl := lw_at lw_m7 49 rfl
theorem q1539 : (Jvm.Cond.stringRef "RowenTongue$Finder" (241 : Nat) "case") ∈ lw_tbl := lw_at lw_m7 50 rfl
theorem q1540 : (Jvm.Cond.classLink "RowenTongue$Finder" (243 : Nat) "RowenTongue$Row") ∈ lw_all := lw_g (lw_at lw_m7 51 rfl) rfl
theorem q1541 : (Jvm.Cond.stringRef "RowenTongue$Finder" (245 : Nat) "match") ∈ lw_tbl := lw_at lw_m7 52 rfl
theorem q1542 : (Jvm.Cond.methodLink "RowenTongue$Finder" (81 : Nat) ({ cls := "RowenTongue$Finder", name := "findPlain", desc := "(LRowenTongue$Term;LRowenTongue$Known;I)LRowenTongue$Typed;" } : Jvm.MethodName)) ∈ lw_all := lw_g (lw_at lw_m7 53 rfl) rfl
theorem q1543 : (Jvm.Cond.privateMethod ({ cls := "RowenTongue$Finder", name := "findPlain", desc := "(LRowenTongue$Term;LRowenTongue$Known;I)LRowenTongue$Typed;" } : Jvm.MethodName)) ∈ lw_tbl := lw_at lw_m7 54 rfl
theorem q1544 : (Jvm.Cond.instanceMethod ({ cls := "RowenTongue$Finder", name := "findPlain", desc := "(LRowenTongue$Term;LRowenTongue$Known;I)LRowenTongue$Typed;" } : Jvm.MethodName)) ∈ lw_all := lw_g (lw_at lw_m7 55 rfl) rfl
theorem q1545 : (Jvm.Cond.codeWith ({ cls := "RowenTongue$Finder", name := "findPlain", desc := "(LRowenTongue$Term;LRowenTongue$Known;I)LRowenTongue$Typed;" } : Jvm.MethodName) prog_13_method_10_code (7 : Nat) (Option.some (Jvm.ClassFile.FieldType.object "RowenTongue$Typed")) [((234 : Nat), (242 : Nat), (245 : Nat), (19 : Nat))]) ∈ lw_all := lw_g (lw_at lw_m7 56 rfl) rfl
theorem q1546 : (Jvm.Cond.stringRef "RowenTongue$Finder" (247 : Nat) "if") ∈ lw_tbl := lw_at lw_m7 57 rfl
theorem q1547 : (Jvm.Cond.stringRef "RowenTongue$Finder" (249 : Nat) "plus") ∈ lw_tbl := lw_at lw_m7 58 rfl
theorem q1548 : (Jvm.Cond.methodLinkNest "RowenTongue$Finder" (251 : Nat) ({ cls := "RowenTongue", name := "liken", desc := "(LRowenTongue$Type;)V" } : Jvm.MethodName) "RowenTongue") ∈ lw_tbl := lw_at lw_m7 59 rfl
theorem q1549 : (Jvm.Cond.stringRef "RowenTongue$Finder" (255 : Nat) "same") ∈ lw_tbl := lw_at lw_m7 60 rfl
theorem q1550 : (Jvm.Cond.methodLink "RowenTongue$Finder" (84 : Nat) ({ cls := "RowenTongue$Finder", name := "findRow", desc := "(LRowenTongue$Term;LRowenTongue$Known;I)LRowenTongue$Typed;" } : Jvm.MethodName)) ∈ lw_all := lw_g (lw_at lw_m7 61 rfl) rfl
theorem q1551 : (Jvm.Cond.privateMethod ({ cls := "RowenTongue$Finder", name := "findRow", desc := "(LRowenTongue$Term;LRowenTongue$Known;I)LRowenTongue$Typed;" } : Jvm.MethodName)) ∈ lw_tbl := lw_at lw_m7 62 rfl
theorem q1552 : (Jvm.Cond.instanceMethod ({ cls := "RowenTongue$Finder", name := "findRow", desc := "(LRowenTongue$Term;LRowenTongue$Known;I)LRowenTongue$Typed;" } : Jvm.MethodName)) ∈ lw_all := lw_g (lw_at lw_m7 63 rfl) rfl
theorem q1553 : (Jvm.Cond.code ({ cls := "RowenTongue$Finder", name := "findRow", desc := "(LRowenTongue$Term;LRowenTongue$Known;I)LRowenTongue$Typed;" } : Jvm.MethodName) prog_13_method_8_code (8 : Nat) (Option.some (Jvm.ClassFile.FieldType.object "RowenTongue$Typed"))) ∈ lw_all := lw_g (lw_at lw_m7 64 rfl) rfl
theorem q1554 : (Jvm.Cond.stringRef "RowenTongue$Finder" (216 : Nat) "as") ∈ lw_tbl := lw_at lw_m7 65 rfl
theorem q1555 : (Jvm.Cond.stringRef "RowenTongue$Finder" (218 : Nat) "with") ∈ lw_tbl := lw_at lw_m7 66 rfl
theorem q1556 : (Jvm.Cond.stringRef "RowenTongue$Finder" (220 : Nat) "of") ∈ lw_tbl := lw_at lw_m7 67 rfl
theorem q1557 : (Jvm.Cond.stringRef "RowenTongue$Finder" (221 : Nat) "without") ∈ lw_tbl := lw_at lw_m7 68 rfl
theorem q2894 : (Jvm.Cond.castable "RowenTongue$Finder" "java/lang/Object") ∈ lw_tbl := lw_at lw_m12 205 rfl
theorem in_X4 : ∀ w ∈ wsX40, w ∈ lw_all := lw_in wsX40 [550] (by decide +kernel) (by decide +kernel)
/-! RowenTongue$Typed -/
set_option maxRecDepth 100000
def RX5 : String := "RowenTongue$Typed"
def TX5 : u_T := fun k => match k with
  | 0 => ("RowenTongue$Typed", "type", "LRowenTongue$Type;", true)
  | _ => ("RowenTongue$Typed", "code", "LRowenTongue$Code;", true)
def tyX5 : Nat → FieldType := fun k => match k with
  | 0 => .object "RowenTongue$Type"
  | _ => .object "RowenTongue$Code"
abbrev wsX50 : List Cond := u_ws RX5 TX5 2
theorem nmX5 : ∀ a, a < 2 → ∀ b, b < 2 → a ≠ b → (TX5 a).2.1 ≠ (TX5 b).2.1 := by decide +kernel
theorem tyX5_ok : ∀ k, k < 2 → parseFieldDescriptor (TX5 k).2.2.1 = some (tyX5 k) := by decide +kernel
abbrev cX5_init : ByteArray := prog_38_method_1_code
def yX5_init : MethodName := ⟨RX5, "<init>", "(LRowenTongue$Type;LRowenTongue$Code;)V"⟩
def dkwX5_init_0 : List UInt8 := [42, 183, 0, 1, 42, 43, 181, 0, 7, 42, 44, 181, 0, 13, 177]
abbrev dktX5_init_0 : List UInt8 := dkwX5_init_0 ++ []
theorem dksX5_init_0 : cX5_init.data.toList.drop 0 = dktX5_init_0 := by decide +kernel
theorem dX5_init_0 : decode cX5_init 0 = .ok (.aload_n 0, 1) := dk_42 (dk_at dksX5_init_0 0 rfl rfl)
theorem dX5_init_1 : decode cX5_init 1 = .ok (.invokespecial 1, 3) := dk_183 0 1 (dk_at dksX5_init_0 1 rfl rfl)
theorem dX5_init_4 : decode cX5_init 4 = .ok (.aload_n 0, 1) := dk_42 (dk_at dksX5_init_0 4 rfl rfl)
theorem dX5_init_5 : decode cX5_init 5 = .ok (.aload_n 1, 1) := dk_43 (dk_at dksX5_init_0 5 rfl rfl)
theorem dX5_init_6 : decode cX5_init 6 = .ok (.putfield 7, 3) := dk_181 0 7 (dk_at dksX5_init_0 6 rfl rfl)
theorem dX5_init_9 : decode cX5_init 9 = .ok (.aload_n 0, 1) := dk_42 (dk_at dksX5_init_0 9 rfl rfl)
theorem dX5_init_10 : decode cX5_init 10 = .ok (.aload_n 2, 1) := dk_44 (dk_at dksX5_init_0 10 rfl rfl)
theorem dX5_init_11 : decode cX5_init 11 = .ok (.putfield 13, 3) := dk_181 0 13 (dk_at dksX5_init_0 11 rfl rfl)
theorem dX5_init_14 : decode cX5_init 14 = .ok (.return_, 1) := dk_177 (dk_at dksX5_init_0 14 rfl rfl)
theorem q71 : (Jvm.Cond.initialized "RowenTongue$Typed") ∈ lw_all := lw_g (lw_at lw_m1 22 rfl) rfl
theorem q400 : (Jvm.Cond.selects "RowenTongue$Typed" ({ cls := "java/lang/Object", name := "getClass", desc := "()Ljava/lang/Class;" } : Jvm.MethodName) ({ cls := "java/lang/Object", name := "getClass", desc := "()Ljava/lang/Class;" } : Jvm.MethodName)) ∈ lw_all := lw_g (lw_at lw_m2 111 rfl) rfl
theorem q559 : (Jvm.Cond.instantiable "RowenTongue$Typed" (2 : Nat)) ∈ lw_all := lw_g (lw_at lw_m3 30 rfl) rfl
theorem q592 : (Jvm.Cond.instanceMethod ({ cls := "RowenTongue$Typed", name := "<init>", desc := "(LRowenTongue$Type;LRowenTongue$Code;)V" } : Jvm.MethodName)) ∈ lw_all := lw_g (lw_at lw_m3 63 rfl) rfl
theorem q593 : (Jvm.Cond.code ({ cls := "RowenTongue$Typed", name := "<init>", desc := "(LRowenTongue$Type;LRowenTongue$Code;)V" } : Jvm.MethodName) prog_38_method_1_code (3 : Nat) (Option.none : Option Jvm.ClassFile.FieldType)) ∈ lw_all := lw_g (lw_at lw_m3 64 rfl) rfl
theorem q594 : (Jvm.Cond.methodLink "RowenTongue$Typed" (1 : Nat) ({ cls := "java/lang/Object", name := "<init>", desc := "()V" } : Jvm.MethodName)) ∈ lw_all := lw_g (lw_at lw_m3 65 rfl) rfl
theorem q595 : (Jvm.Cond.fieldLink "RowenTongue$Typed" (7 : Nat) "RowenTongue$Typed" "type" "LRowenTongue$Type;") ∈ lw_all := lw_g (lw_at lw_m3 66 rfl) rfl
theorem q598 : (Jvm.Cond.fieldLink "RowenTongue$Typed" (13 : Nat) "RowenTongue$Typed" "code" "LRowenTongue$Code;") ∈ lw_all := lw_g (lw_at lw_m3 69 rfl) rfl
theorem q601 : (Jvm.Cond.laysFinal "RowenTongue$Typed" "RowenTongue$Typed" "type" "LRowenTongue$Type;") ∈ lw_all := lw_g (lw_at lw_m3 72 rfl) rfl
theorem q602 : (Jvm.Cond.soleField "RowenTongue$Typed" "type") ∈ lw_all := lw_g (lw_at lw_m3 73 rfl) rfl
theorem q603 : (Jvm.Cond.laysFinal "RowenTongue$Typed" "RowenTongue$Typed" "code" "LRowenTongue$Code;") ∈ lw_all := lw_g (lw_at lw_m3 74 rfl) rfl
theorem q604 : (Jvm.Cond.soleField "RowenTongue$Typed" "code") ∈ lw_all := lw_g (lw_at lw_m3 75 rfl) rfl
theorem q605 : (Jvm.Cond.superclass "RowenTongue$Typed" "java/lang/Object") ∈ lw_all := lw_g (lw_at lw_m3 76 rfl) rfl
theorem q774 : (Jvm.Cond.selects "RowenTongue$Typed" ({ cls := "java/lang/Object", name := "equals", desc := "(Ljava/lang/Object;)Z" } : Jvm.MethodName) ({ cls := "java/lang/Object", name := "equals", desc := "(Ljava/lang/Object;)Z" } : Jvm.MethodName)) ∈ lw_all := lw_g (lw_at lw_m4 5 rfl) rfl
theorem q2895 : (Jvm.Cond.castable "RowenTongue$Typed" "java/lang/Object") ∈ lw_tbl := lw_at lw_m12 206 rfl
theorem in_X5 : ∀ w ∈ wsX50, w ∈ lw_all := lw_in wsX50 [601, 603] (by decide +kernel) (by decide +kernel)
/-! RowenTongue$Code -/
set_option maxRecDepth 100000
def RX6 : String := "RowenTongue$Code"
def TX6 : u_T := fun k => match k with
  | 0 => ("RowenTongue$Code", "what", "Ljava/lang/String;", true)
  | 1 => ("RowenTongue$Code", "which", "I", true)
  | 2 => ("RowenTongue$Code", "row", "LRowenTongue$Row;", true)
  | 3 => ("RowenTongue$Code", "places", "Ljava/util/ArrayList;", true)
  | _ => ("RowenTongue$Code", "of", "[LRowenTongue$Code;", true)
def tyX6 : Nat → FieldType := fun k => match k with
  | 0 => .object "java/lang/String"
  | 1 => .int
  | 2 => .object "RowenTongue$Row"
  | 3 => .object "java/util/ArrayList"
  | _ => .array (.object "RowenTongue$Code")
abbrev wsX60 : List Cond := u_ws RX6 TX6 5
theorem nmX6 : ∀ a, a < 5 → ∀ b, b < 5 → a ≠ b → (TX6 a).2.1 ≠ (TX6 b).2.1 := by decide +kernel
theorem tyX6_ok : ∀ k, k < 5 → parseFieldDescriptor (TX6 k).2.2.1 = some (tyX6 k) := by decide +kernel
abbrev cX6_init : ByteArray := prog_11_method_1_code
def yX6_init : MethodName := ⟨RX6, "<init>", "(Ljava/lang/String;ILRowenTongue$Row;Ljava/util/ArrayList;[LRowenTongue$Code;)V"⟩
def dkwX6_init_1 : List UInt8 := [181, 0, 21, 42, 25, 5, 181, 0, 25, 177]
abbrev dktX6_init_1 : List UInt8 := dkwX6_init_1 ++ []
def dkwX6_init_0 : List UInt8 := [42, 183, 0, 1, 42, 43, 181, 0, 7, 42, 28, 181, 0, 13, 42, 45, 181, 0, 17, 42, 25, 4]
abbrev dktX6_init_0 : List UInt8 := dkwX6_init_0 ++ dktX6_init_1
theorem dksX6_init_0 : cX6_init.data.toList.drop 0 = dktX6_init_0 := by decide +kernel
theorem dksX6_init_1 : cX6_init.data.toList.drop 22 = dktX6_init_1 := dk_seg dksX6_init_0 22 rfl rfl
theorem dX6_init_0 : decode cX6_init 0 = .ok (.aload_n 0, 1) := dk_42 (dk_at dksX6_init_0 0 rfl rfl)
theorem dX6_init_1 : decode cX6_init 1 = .ok (.invokespecial 1, 3) := dk_183 0 1 (dk_at dksX6_init_0 1 rfl rfl)
theorem dX6_init_4 : decode cX6_init 4 = .ok (.aload_n 0, 1) := dk_42 (dk_at dksX6_init_0 4 rfl rfl)
theorem dX6_init_5 : decode cX6_init 5 = .ok (.aload_n 1, 1) := dk_43 (dk_at dksX6_init_0 5 rfl rfl)
theorem dX6_init_6 : decode cX6_init 6 = .ok (.putfield 7, 3) := dk_181 0 7 (dk_at dksX6_init_0 6 rfl rfl)
theorem dX6_init_9 : decode cX6_init 9 = .ok (.aload_n 0, 1) := dk_42 (dk_at dksX6_init_0 9 rfl rfl)
theorem dX6_init_10 : decode cX6_init 10 = .ok (.iload_n 2, 1) := dk_28 (dk_at dksX6_init_0 10 rfl rfl)
theorem dX6_init_11 : decode cX6_init 11 = .ok (.putfield 13, 3) := dk_181 0 13 (dk_at dksX6_init_0 11 rfl rfl)
theorem dX6_init_14 : decode cX6_init 14 = .ok (.aload_n 0, 1) := dk_42 (dk_at dksX6_init_0 14 rfl rfl)
theorem dX6_init_15 : decode cX6_init 15 = .ok (.aload_n 3, 1) := dk_45 (dk_at dksX6_init_0 15 rfl rfl)
theorem dX6_init_16 : decode cX6_init 16 = .ok (.putfield 17, 3) := dk_181 0 17 (dk_at dksX6_init_0 16 rfl rfl)
theorem dX6_init_19 : decode cX6_init 19 = .ok (.aload_n 0, 1) := dk_42 (dk_at dksX6_init_0 19 rfl rfl)
theorem dX6_init_20 : decode cX6_init 20 = .ok (.aload 4, 2) := dk_25 4 (dk_at dksX6_init_0 20 rfl rfl)
theorem dX6_init_22 : decode cX6_init 22 = .ok (.putfield 21, 3) := dk_181 0 21 (dk_at dksX6_init_1 0 rfl rfl)
theorem dX6_init_25 : decode cX6_init 25 = .ok (.aload_n 0, 1) := dk_42 (dk_at dksX6_init_1 3 rfl rfl)
theorem dX6_init_26 : decode cX6_init 26 = .ok (.aload 5, 2) := dk_25 5 (dk_at dksX6_init_1 4 rfl rfl)
theorem dX6_init_28 : decode cX6_init 28 = .ok (.putfield 25, 3) := dk_181 0 25 (dk_at dksX6_init_1 6 rfl rfl)
theorem dX6_init_31 : decode cX6_init 31 = .ok (.return_, 1) := dk_177 (dk_at dksX6_init_1 9 rfl rfl)
theorem q72 : (Jvm.Cond.initialized "RowenTongue$Code") ∈ lw_all := lw_g (lw_at lw_m1 23 rfl) rfl
theorem q376 : (Jvm.Cond.selects "RowenTongue$Code" ({ cls := "java/lang/Object", name := "getClass", desc := "()Ljava/lang/Class;" } : Jvm.MethodName) ({ cls := "java/lang/Object", name := "getClass", desc := "()Ljava/lang/Class;" } : Jvm.MethodName)) ∈ lw_all := lw_g (lw_at lw_m2 87 rfl) rfl
theorem q563 : (Jvm.Cond.instantiable "RowenTongue$Code" (5 : Nat)) ∈ lw_all := lw_g (lw_at lw_m3 34 rfl) rfl
theorem q567 : (Jvm.Cond.instanceMethod ({ cls := "RowenTongue$Code", name := "<init>", desc := "(Ljava/lang/String;ILRowenTongue$Row;Ljava/util/ArrayList;[LRowenTongue$Code;)V" } : Jvm.MethodName)) ∈ lw_all := lw_g (lw_at lw_m3 38 rfl) rfl
theorem q568 : (Jvm.Cond.code ({ cls := "RowenTongue$Code", name := "<init>", desc := "(Ljava/lang/String;ILRowenTongue$Row;Ljava/util/ArrayList;[LRowenTongue$Code;)V" } : Jvm.MethodName) prog_11_method_1_code (6 : Nat) (Option.none : Option Jvm.ClassFile.FieldType)) ∈ lw_all := lw_g (lw_at lw_m3 39 rfl) rfl
theorem q569 : (Jvm.Cond.methodLink "RowenTongue$Code" (1 : Nat) ({ cls := "java/lang/Object", name := "<init>", desc := "()V" } : Jvm.MethodName)) ∈ lw_all := lw_g (lw_at lw_m3 40 rfl) rfl
theorem q570 : (Jvm.Cond.fieldLink "RowenTongue$Code" (7 : Nat) "RowenTongue$Code" "what" "Ljava/lang/String;") ∈ lw_all := lw_g (lw_at lw_m3 41 rfl) rfl
theorem q572 : (Jvm.Cond.fieldLink "RowenTongue$Code" (13 : Nat) "RowenTongue$Code" "which" "I") ∈ lw_all := lw_g (lw_at lw_m3 43 rfl) rfl
theorem q574 : (Jvm.Cond.fieldLink "RowenTongue$Code" (17 : Nat) "RowenTongue$Code" "row" "LRowenTongue$Row;") ∈ lw_all := lw_g (lw_at lw_m3 45 rfl) rfl
theorem q576 : (Jvm.Cond.fieldLink "RowenTongue$Code" (21 : Nat) "RowenTongue$Code" "places" "Ljava/util/ArrayList;") ∈ lw_all := lw_g (lw_at lw_m3 47 rfl) rfl
theorem q578 : (Jvm.Cond.fieldLink "RowenTongue$Code" (25 : Nat) "RowenTongue$Code" "of" "[LRowenTongue$Code;") ∈ lw_all := lw_g (lw_at lw_m3 49 rfl) rfl
theorem q580 : (Jvm.Cond.laysFinal "RowenTongue$Code" "RowenTongue$Code" "what" "Ljava/lang/String;") ∈ lw_all := lw_g (lw_at lw_m3 51 rfl) rfl
theorem q581 : (Jvm.Cond.soleField "RowenTongue$Code" "what") ∈ lw_all := lw_g (lw_at lw_m3 52 rfl) rfl
theorem q582 : (Jvm.Cond.laysFinal "RowenTongue$Code" "RowenTongue$Code" "which" "I") ∈ lw_all := lw_g (lw_at lw_m3 53 rfl) rfl
theorem q583 : (Jvm.Cond.soleField "RowenTongue$Code" "which") ∈ lw_all := lw_g (lw_at lw_m3 54 rfl) rfl
theorem q584 : (Jvm.Cond.laysFinal "RowenTongue$Code" "RowenTongue$Code" "row" "LRowenTongue$Row;") ∈ lw_all := lw_g (lw_at lw_m3 55 rfl) rfl
theorem q585 : (Jvm.Cond.soleField "RowenTongue$Code" "row") ∈ lw_all := lw_g (lw_at lw_m3 56 rfl) rfl
theorem q586 : (Jvm.Cond.laysFinal "RowenTongue$Code" "RowenTongue$Code" "places" "Ljava/util/ArrayList;") ∈ lw_all := lw_g (lw_at lw_m3 57 rfl) rfl
theorem q587 : (Jvm.Cond.soleField "RowenTongue$Code" "places") ∈ lw_all := lw_g (lw_at lw_m3 58 rfl) rfl
theorem q588 : (Jvm.Cond.laysFinal "RowenTongue$Code" "RowenTongue$Code" "of" "[LRowenTongue$Code;") ∈ lw_all := lw_g (lw_at lw_m3 59 rfl) rfl
theorem q589 : (Jvm.Cond.soleField "RowenTongue$Code" "of") ∈ lw_all := lw_g (lw_at lw_m3 60 rfl) rfl
theorem q590 : (Jvm.Cond.superclass "RowenTongue$Code" "java/lang/Object") ∈ lw_all := lw_g (lw_at lw_m3 61 rfl) rfl
theorem q750 : (Jvm.Cond.selects "RowenTongue$Code" ({ cls := "java/lang/Object", name := "equals", desc := "(Ljava/lang/Object;)Z" } : Jvm.MethodName) ({ cls := "java/lang/Object", name := "equals", desc := "(Ljava/lang/Object;)Z" } : Jvm.MethodName)) ∈ lw_all := lw_g (lw_at lw_m3 221 rfl) rfl
theorem q2882 : (Jvm.Cond.castable "RowenTongue$Code" "java/lang/Object") ∈ lw_tbl := lw_at lw_m12 193 rfl
theorem in_X6 : ∀ w ∈ wsX60, w ∈ lw_all := lw_in wsX60 [580, 582, 584, 586, 588] (by decide +kernel) (by decide +kernel)
/-! RowenTongue$Type -/
set_option maxRecDepth 100000
def RX7 : String := "RowenTongue$Type"
abbrev cX7_init : ByteArray := prog_37_method_1_code
def yX7_init : MethodName := ⟨RX7, "<init>", "()V"⟩
theorem dX7_init_0 : decode cX7_init 0 = .ok (.aload_n 0, 1) := by decide +kernel
theorem dX7_init_1 : decode cX7_init 1 = .ok (.invokespecial 1, 3) := by decide +kernel
theorem dX7_init_4 : decode cX7_init 4 = .ok (.return_, 1) := by decide +kernel
abbrev cX7_now : ByteArray := prog_37_method_2_code
def yX7_now : MethodName := ⟨RX7, "now", "()LRowenTongue$Type;"⟩
theorem dX7_now_0 : decode cX7_now 0 = .ok (.aload_n 0, 1) := by decide +kernel
theorem dX7_now_1 : decode cX7_now 1 = .ok (.areturn, 1) := by decide +kernel
theorem q73 : (Jvm.Cond.initialized "RowenTongue$Type") ∈ lw_all := lw_g (lw_at lw_m1 24 rfl) rfl
theorem q614 : (Jvm.Cond.instanceMethod ({ cls := "RowenTongue$Type", name := "<init>", desc := "()V" } : Jvm.MethodName)) ∈ lw_all := lw_g (lw_at lw_m3 85 rfl) rfl
theorem q615 : (Jvm.Cond.code ({ cls := "RowenTongue$Type", name := "<init>", desc := "()V" } : Jvm.MethodName) prog_37_method_1_code (1 : Nat) (Option.none : Option Jvm.ClassFile.FieldType)) ∈ lw_all := lw_g (lw_at lw_m3 86 rfl) rfl
theorem q616 : (Jvm.Cond.methodLink "RowenTongue$Type" (1 : Nat) ({ cls := "java/lang/Object", name := "<init>", desc := "()V" } : Jvm.MethodName)) ∈ lw_all := lw_g (lw_at lw_m3 87 rfl) rfl
theorem q706 : (Jvm.Cond.instanceMethod ({ cls := "RowenTongue$Type", name := "now", desc := "()LRowenTongue$Type;" } : Jvm.MethodName)) ∈ lw_all := lw_g (lw_at lw_m3 177 rfl) rfl
theorem q707 : (Jvm.Cond.sameMethod "RowenTongue$Type" "RowenTongue$Type" "now" "()LRowenTongue$Type;") ∈ lw_all := lw_g (lw_at lw_m3 178 rfl) rfl
theorem q721 : (Jvm.Cond.code ({ cls := "RowenTongue$Type", name := "now", desc := "()LRowenTongue$Type;" } : Jvm.MethodName) prog_37_method_2_code (1 : Nat) (Option.some (Jvm.ClassFile.FieldType.object "RowenTongue$Type"))) ∈ lw_all := lw_g (lw_at lw_m3 192 rfl) rfl
/-! RowenTongue$Bag -/
set_option maxRecDepth 100000
def RX8 : String := "RowenTongue$Bag"
def TX8 : u_T := fun k => match k with
  | 0 => ("RowenTongue$Bag", "isVariant", "Z", true)
  | 1 => ("RowenTongue$Bag", "row", "LRowenTongue$Row;", true)
  | 2 => ("RowenTongue$Bag", "same", "LRowenTongue$Type;", false)
  | 3 => ("RowenTongue$Bag", "by", "LRowenTongue$Renewal;", false)
  | _ => ("RowenTongue$Bag", "renewed", "LRowenTongue$Bag;", false)
def tyX8 : Nat → FieldType := fun k => match k with
  | 0 => .boolean
  | 1 => .object "RowenTongue$Row"
  | 2 => .object "RowenTongue$Type"
  | 3 => .object "RowenTongue$Renewal"
  | _ => .object "RowenTongue$Bag"
abbrev wsX80 : List Cond := u_ws RX8 TX8 5
theorem nmX8 : ∀ a, a < 5 → ∀ b, b < 5 → a ≠ b → (TX8 a).2.1 ≠ (TX8 b).2.1 := by decide +kernel
theorem tyX8_ok : ∀ k, k < 5 → parseFieldDescriptor (TX8 k).2.2.1 = some (tyX8 k) := by decide +kernel
abbrev cX8_init : ByteArray := prog_4_method_1_code
def yX8_init : MethodName := ⟨RX8, "<init>", "(ZLRowenTongue$Row;)V"⟩
def dkwX8_init_0 : List UInt8 := [42, 183, 0, 1, 42, 27, 181, 0, 7, 42, 44, 181, 0, 13, 177]
abbrev dktX8_init_0 : List UInt8 := dkwX8_init_0 ++ []
theorem dksX8_init_0 : cX8_init.data.toList.drop 0 = dktX8_init_0 := by decide +kernel
theorem dX8_init_0 : decode cX8_init 0 = .ok (.aload_n 0, 1) := dk_42 (dk_at dksX8_init_0 0 rfl rfl)
theorem dX8_init_1 : decode cX8_init 1 = .ok (.invokespecial 1, 3) := dk_183 0 1 (dk_at dksX8_init_0 1 rfl rfl)
theorem dX8_init_4 : decode cX8_init 4 = .ok (.aload_n 0, 1) := dk_42 (dk_at dksX8_init_0 4 rfl rfl)
theorem dX8_init_5 : decode cX8_init 5 = .ok (.iload_n 1, 1) := dk_27 (dk_at dksX8_init_0 5 rfl rfl)
theorem dX8_init_6 : decode cX8_init 6 = .ok (.putfield 7, 3) := dk_181 0 7 (dk_at dksX8_init_0 6 rfl rfl)
theorem dX8_init_9 : decode cX8_init 9 = .ok (.aload_n 0, 1) := dk_42 (dk_at dksX8_init_0 9 rfl rfl)
theorem dX8_init_10 : decode cX8_init 10 = .ok (.aload_n 2, 1) := dk_44 (dk_at dksX8_init_0 10 rfl rfl)
theorem dX8_init_11 : decode cX8_init 11 = .ok (.putfield 13, 3) := dk_181 0 13 (dk_at dksX8_init_0 11 rfl rfl)
theorem dX8_init_14 : decode cX8_init 14 = .ok (.return_, 1) := dk_177 (dk_at dksX8_init_0 14 rfl rfl)
abbrev cX8_now : ByteArray := prog_4_method_2_code
def yX8_now : MethodName := ⟨RX8, "now", "()LRowenTongue$Type;"⟩
def dkwX8_now_0 : List UInt8 := [42, 180, 0, 17, 199, 0, 7, 42, 167, 0, 10, 42, 180, 0, 17, 182, 0, 21, 176]
abbrev dktX8_now_0 : List UInt8 := dkwX8_now_0 ++ []
theorem dksX8_now_0 : cX8_now.data.toList.drop 0 = dktX8_now_0 := by decide +kernel
theorem dX8_now_0 : decode cX8_now 0 = .ok (.aload_n 0, 1) := dk_42 (dk_at dksX8_now_0 0 rfl rfl)
theorem dX8_now_1 : decode cX8_now 1 = .ok (.getfield 17, 3) := dk_180 0 17 (dk_at dksX8_now_0 1 rfl rfl)
theorem dX8_now_4 : decode cX8_now 4 = .ok (.ifnonnull 7, 3) := dk_199 0 7 (dk_at dksX8_now_0 4 rfl rfl)
theorem dX8_now_7 : decode cX8_now 7 = .ok (.aload_n 0, 1) := dk_42 (dk_at dksX8_now_0 7 rfl rfl)
theorem dX8_now_8 : decode cX8_now 8 = .ok (.goto 10, 3) := dk_167 0 10 (dk_at dksX8_now_0 8 rfl rfl)
theorem dX8_now_11 : decode cX8_now 11 = .ok (.aload_n 0, 1) := dk_42 (dk_at dksX8_now_0 11 rfl rfl)
theorem dX8_now_12 : decode cX8_now 12 = .ok (.getfield 17, 3) := dk_180 0 17 (dk_at dksX8_now_0 12 rfl rfl)
theorem dX8_now_15 : decode cX8_now 15 = .ok (.invokevirtual 21, 3) := dk_182 0 21 (dk_at dksX8_now_0 15 rfl rfl)
theorem dX8_now_18 : decode cX8_now 18 = .ok (.areturn, 1) := dk_176 (dk_at dksX8_now_0 18 rfl rfl)
theorem q74 : (Jvm.Cond.initialized "RowenTongue$Bag") ∈ lw_all := lw_g (lw_at lw_m1 25 rfl) rfl
theorem q369 : (Jvm.Cond.selects "RowenTongue$Bag" ({ cls := "java/lang/Object", name := "getClass", desc := "()Ljava/lang/Class;" } : Jvm.MethodName) ({ cls := "java/lang/Object", name := "getClass", desc := "()Ljava/lang/Class;" } : Jvm.MethodName)) ∈ lw_all := lw_g (lw_at lw_m2 80 rfl) rfl
theorem q607 : (Jvm.Cond.instantiable "RowenTongue$Bag" (5 : Nat)) ∈ lw_all := lw_g (lw_at lw_m3 78 rfl) rfl
theorem q611 : (Jvm.Cond.instanceMethod ({ cls := "RowenTongue$Bag", name := "<init>", desc := "(ZLRowenTongue$Row;)V" } : Jvm.MethodName)) ∈ lw_all := lw_g (lw_at lw_m3 82 rfl) rfl
theorem q612 : (Jvm.Cond.code ({ cls := "RowenTongue$Bag", name := "<init>", desc := "(ZLRowenTongue$Row;)V" } : Jvm.MethodName) prog_4_method_1_code (3 : Nat) (Option.none : Option Jvm.ClassFile.FieldType)) ∈ lw_all := lw_g (lw_at lw_m3 83 rfl) rfl
theorem q613 : (Jvm.Cond.methodLinkNest "RowenTongue$Bag" (1 : Nat) ({ cls := "RowenTongue$Type", name := "<init>", desc := "()V" } : Jvm.MethodName) "RowenTongue") ∈ lw_tbl := lw_at lw_m3 84 rfl
theorem q617 : (Jvm.Cond.fieldLink "RowenTongue$Bag" (7 : Nat) "RowenTongue$Bag" "isVariant" "Z") ∈ lw_all := lw_g (lw_at lw_m3 88 rfl) rfl
theorem q621 : (Jvm.Cond.fieldLink "RowenTongue$Bag" (13 : Nat) "RowenTongue$Bag" "row" "LRowenTongue$Row;") ∈ lw_all := lw_g (lw_at lw_m3 92 rfl) rfl
theorem q628 : (Jvm.Cond.fieldLink "RowenTongue$Bag" (17 : Nat) "RowenTongue$Bag" "same" "LRowenTongue$Type;") ∈ lw_all := lw_g (lw_at lw_m3 99 rfl) rfl
theorem q632 : (Jvm.Cond.laysFinal "RowenTongue$Bag" "RowenTongue$Bag" "isVariant" "Z") ∈ lw_all := lw_g (lw_at lw_m3 103 rfl) rfl
theorem q633 : (Jvm.Cond.soleField "RowenTongue$Bag" "isVariant") ∈ lw_all := lw_g (lw_at lw_m3 104 rfl) rfl
theorem q634 : (Jvm.Cond.laysFinal "RowenTongue$Bag" "RowenTongue$Bag" "row" "LRowenTongue$Row;") ∈ lw_all := lw_g (lw_at lw_m3 105 rfl) rfl
theorem q635 : (Jvm.Cond.soleField "RowenTongue$Bag" "row") ∈ lw_all := lw_g (lw_at lw_m3 106 rfl) rfl
theorem q636 : (Jvm.Cond.lays "RowenTongue$Bag" "RowenTongue$Bag" "same" "LRowenTongue$Type;") ∈ lw_all := lw_g (lw_at lw_m3 107 rfl) rfl
theorem q637 : (Jvm.Cond.soleField "RowenTongue$Bag" "same") ∈ lw_all := lw_g (lw_at lw_m3 108 rfl) rfl
theorem q638 : (Jvm.Cond.lays "RowenTongue$Bag" "RowenTongue$Bag" "by" "LRowenTongue$Renewal;") ∈ lw_all := lw_g (lw_at lw_m3 109 rfl) rfl
theorem q639 : (Jvm.Cond.soleField "RowenTongue$Bag" "by") ∈ lw_all := lw_g (lw_at lw_m3 110 rfl) rfl
theorem q640 : (Jvm.Cond.lays "RowenTongue$Bag" "RowenTongue$Bag" "renewed" "LRowenTongue$Bag;") ∈ lw_all := lw_g (lw_at lw_m3 111 rfl) rfl
theorem q641 : (Jvm.Cond.soleField "RowenTongue$Bag" "renewed") ∈ lw_all := lw_g (lw_at lw_m3 112 rfl) rfl
theorem q642 : (Jvm.Cond.superclass "RowenTongue$Bag" "RowenTongue$Type") ∈ lw_all := lw_g (lw_at lw_m3 113 rfl) rfl
theorem q708 : (Jvm.Cond.selects "RowenTongue$Bag" ({ cls := "RowenTongue$Type", name := "now", desc := "()LRowenTongue$Type;" } : Jvm.MethodName) ({ cls := "RowenTongue$Bag", name := "now", desc := "()LRowenTongue$Type;" } : Jvm.MethodName)) ∈ lw_all := lw_g (lw_at lw_m3 179 rfl) rfl
theorem q709 : (Jvm.Cond.instanceMethod ({ cls := "RowenTongue$Bag", name := "now", desc := "()LRowenTongue$Type;" } : Jvm.MethodName)) ∈ lw_all := lw_g (lw_at lw_m3 180 rfl) rfl
theorem q710 : (Jvm.Cond.code ({ cls := "RowenTongue$Bag", name := "now", desc := "()LRowenTongue$Type;" } : Jvm.MethodName) prog_4_method_2_code (1 : Nat) (Option.some (Jvm.ClassFile.FieldType.object "RowenTongue$Type"))) ∈ lw_all := lw_g (lw_at lw_m3 181 rfl) rfl
theorem q711 : (Jvm.Cond.methodLink "RowenTongue$Bag" (21 : Nat) ({ cls := "RowenTongue$Type", name := "now", desc := "()LRowenTongue$Type;" } : Jvm.MethodName)) ∈ lw_all := lw_g (lw_at lw_m3 182 rfl) rfl
theorem q743 : (Jvm.Cond.selects "RowenTongue$Bag" ({ cls := "java/lang/Object", name := "equals", desc := "(Ljava/lang/Object;)Z" } : Jvm.MethodName) ({ cls := "java/lang/Object", name := "equals", desc := "(Ljava/lang/Object;)Z" } : Jvm.MethodName)) ∈ lw_all := lw_g (lw_at lw_m3 214 rfl) rfl
theorem q2866 : (Jvm.Cond.castable "RowenTongue$Bag" "RowenTongue$Type") ∈ lw_tbl := lw_at lw_m12 177 rfl
theorem q2897 : (Jvm.Cond.castable "RowenTongue$Bag" "java/lang/Object") ∈ lw_tbl := lw_at lw_m12 208 rfl
theorem in_X8 : ∀ w ∈ wsX80, w ∈ lw_all := lw_in wsX80 [632, 634, 636, 638, 640] (by decide +kernel) (by decide +kernel)
/-! RowenTongue$Wrong -/
set_option maxRecDepth 100000
def RX9 : String := "RowenTongue$Wrong"
def TX9 : u_T := fun k => match k with
  | 0 => ("java/lang/Throwable", "cause", "Ljava/lang/Throwable;", false)
  | 1 => ("java/lang/Throwable", "stackTrace", "[Ljava/lang/StackTraceElement;", false)
  | 2 => ("java/lang/Throwable", "suppressedExceptions", "Ljava/util/List;", false)
  | 3 => ("java/lang/Throwable", "detailMessage", "Ljava/lang/String;", false)
  | 4 => ("java/lang/Throwable", "backtrace", "Ljava/lang/Object;", false)
  | 5 => ("java/lang/Throwable", "depth", "I", false)
  | 6 => ("RowenTongue$Wrong", "error", "I", true)
  | _ => ("RowenTongue$Wrong", "term", "LRowenTongue$Term;", true)
def tyX9 : Nat → FieldType := fun k => match k with
  | 0 => .object "java/lang/Throwable"
  | 1 => .array (.object "java/lang/StackTraceElement")
  | 2 => .object "java/util/List"
  | 3 => .object "java/lang/String"
  | 4 => .object "java/lang/Object"
  | 5 => .int
  | 6 => .int
  | _ => .object "RowenTongue$Term"
abbrev wsX90 : List Cond := u_ws RX9 TX9 8
theorem nmX9 : ∀ a, a < 8 → ∀ b, b < 8 → a ≠ b → (TX9 a).2.1 ≠ (TX9 b).2.1 := by decide +kernel
theorem tyX9_ok : ∀ k, k < 8 → parseFieldDescriptor (TX9 k).2.2.1 = some (tyX9 k) := by decide +kernel
abbrev cX9_init : ByteArray := prog_43_method_1_code
def yX9_init : MethodName := ⟨RX9, "<init>", "(ILRowenTongue$Term;Ljava/lang/Throwable;)V"⟩
def dkwX9_init_0 : List UInt8 := [42, 1, 45, 183, 0, 1, 42, 27, 181, 0, 7, 42, 44, 181, 0, 13, 177]
abbrev dktX9_init_0 : List UInt8 := dkwX9_init_0 ++ []
theorem dksX9_init_0 : cX9_init.data.toList.drop 0 = dktX9_init_0 := by decide +kernel
theorem dX9_init_0 : decode cX9_init 0 = .ok (.aload_n 0, 1) := dk_42 (dk_at dksX9_init_0 0 rfl rfl)
theorem dX9_init_1 : decode cX9_init 1 = .ok (.aconst_null, 1) := dk_1 (dk_at dksX9_init_0 1 rfl rfl)
theorem dX9_init_2 : decode cX9_init 2 = .ok (.aload_n 3, 1) := dk_45 (dk_at dksX9_init_0 2 rfl rfl)
theorem dX9_init_3 : decode cX9_init 3 = .ok (.invokespecial 1, 3) := dk_183 0 1 (dk_at dksX9_init_0 3 rfl rfl)
theorem dX9_init_6 : decode cX9_init 6 = .ok (.aload_n 0, 1) := dk_42 (dk_at dksX9_init_0 6 rfl rfl)
theorem dX9_init_7 : decode cX9_init 7 = .ok (.iload_n 1, 1) := dk_27 (dk_at dksX9_init_0 7 rfl rfl)
theorem dX9_init_8 : decode cX9_init 8 = .ok (.putfield 7, 3) := dk_181 0 7 (dk_at dksX9_init_0 8 rfl rfl)
theorem dX9_init_11 : decode cX9_init 11 = .ok (.aload_n 0, 1) := dk_42 (dk_at dksX9_init_0 11 rfl rfl)
theorem dX9_init_12 : decode cX9_init 12 = .ok (.aload_n 2, 1) := dk_44 (dk_at dksX9_init_0 12 rfl rfl)
theorem dX9_init_13 : decode cX9_init 13 = .ok (.putfield 13, 3) := dk_181 0 13 (dk_at dksX9_init_0 13 rfl rfl)
theorem dX9_init_16 : decode cX9_init 16 = .ok (.return_, 1) := dk_177 (dk_at dksX9_init_0 16 rfl rfl)
theorem q75 : (Jvm.Cond.initialized "RowenTongue$Wrong") ∈ lw_all := lw_g (lw_at lw_m1 26 rfl) rfl
theorem q236 : (Jvm.Cond.selects "RowenTongue$Wrong" ({ cls := "java/lang/Throwable", name := "fillInStackTrace", desc := "()Ljava/lang/Throwable;" } : Jvm.MethodName) ({ cls := "java/lang/Throwable", name := "fillInStackTrace", desc := "()Ljava/lang/Throwable;" } : Jvm.MethodName)) ∈ lw_all := lw_g (lw_at lw_m1 187 rfl) rfl
theorem q402 : (Jvm.Cond.selects "RowenTongue$Wrong" ({ cls := "java/lang/Object", name := "getClass", desc := "()Ljava/lang/Class;" } : Jvm.MethodName) ({ cls := "java/lang/Object", name := "getClass", desc := "()Ljava/lang/Class;" } : Jvm.MethodName)) ∈ lw_all := lw_g (lw_at lw_m2 113 rfl) rfl
theorem q649 : (Jvm.Cond.instantiable "RowenTongue$Wrong" (8 : Nat)) ∈ lw_all := lw_g (lw_at lw_m3 120 rfl) rfl
theorem q650 : (Jvm.Cond.castable "RowenTongue$Wrong" "RowenTongue$Wrong") ∈ lw_tbl := lw_at lw_m3 121 rfl
theorem q651 : (Jvm.Cond.selects "RowenTongue$Wrong" ({ cls := "java/lang/Throwable", name := "fillInStackTrace", desc := "(I)Ljava/lang/Throwable;" } : Jvm.MethodName) ({ cls := "java/lang/Throwable", name := "fillInStackTrace", desc := "(I)Ljava/lang/Throwable;" } : Jvm.MethodName)) ∈ lw_all := lw_g (lw_at lw_m3 122 rfl) rfl
theorem q652 : (Jvm.Cond.lays "RowenTongue$Wrong" "java/lang/Throwable" "cause" "Ljava/lang/Throwable;") ∈ lw_all := lw_g (lw_at lw_m3 123 rfl) rfl
theorem q653 : (Jvm.Cond.lays "RowenTongue$Wrong" "java/lang/Throwable" "stackTrace" "[Ljava/lang/StackTraceElement;") ∈ lw_all := lw_g (lw_at lw_m3 124 rfl) rfl
theorem q654 : (Jvm.Cond.lays "RowenTongue$Wrong" "java/lang/Throwable" "suppressedExceptions" "Ljava/util/List;") ∈ lw_all := lw_g (lw_at lw_m3 125 rfl) rfl
theorem q655 : (Jvm.Cond.lays "RowenTongue$Wrong" "java/lang/Throwable" "detailMessage" "Ljava/lang/String;") ∈ lw_all := lw_g (lw_at lw_m3 126 rfl) rfl
theorem q656 : (Jvm.Cond.lays "RowenTongue$Wrong" "java/lang/Throwable" "backtrace" "Ljava/lang/Object;") ∈ lw_all := lw_g (lw_at lw_m3 127 rfl) rfl
theorem q658 : (Jvm.Cond.instanceMethod ({ cls := "RowenTongue$Wrong", name := "<init>", desc := "(ILRowenTongue$Term;Ljava/lang/Throwable;)V" } : Jvm.MethodName)) ∈ lw_all := lw_g (lw_at lw_m3 129 rfl) rfl
theorem q659 : (Jvm.Cond.code ({ cls := "RowenTongue$Wrong", name := "<init>", desc := "(ILRowenTongue$Term;Ljava/lang/Throwable;)V" } : Jvm.MethodName) prog_43_method_1_code (4 : Nat) (Option.none : Option Jvm.ClassFile.FieldType)) ∈ lw_all := lw_g (lw_at lw_m3 130 rfl) rfl
theorem q660 : (Jvm.Cond.methodLink "RowenTongue$Wrong" (1 : Nat) ({ cls := "java/lang/Exception", name := "<init>", desc := "(Ljava/lang/String;Ljava/lang/Throwable;)V" } : Jvm.MethodName)) ∈ lw_all := lw_g (lw_at lw_m3 131 rfl) rfl
theorem q666 : (Jvm.Cond.fieldLink "RowenTongue$Wrong" (7 : Nat) "RowenTongue$Wrong" "error" "I") ∈ lw_all := lw_g (lw_at lw_m3 137 rfl) rfl
theorem q668 : (Jvm.Cond.fieldLink "RowenTongue$Wrong" (13 : Nat) "RowenTongue$Wrong" "term" "LRowenTongue$Term;") ∈ lw_all := lw_g (lw_at lw_m3 139 rfl) rfl
theorem q670 : (Jvm.Cond.laysFinal "RowenTongue$Wrong" "RowenTongue$Wrong" "error" "I") ∈ lw_all := lw_g (lw_at lw_m3 141 rfl) rfl
theorem q671 : (Jvm.Cond.soleField "RowenTongue$Wrong" "error") ∈ lw_all := lw_g (lw_at lw_m3 142 rfl) rfl
theorem q672 : (Jvm.Cond.laysFinal "RowenTongue$Wrong" "RowenTongue$Wrong" "term" "LRowenTongue$Term;") ∈ lw_all := lw_g (lw_at lw_m3 143 rfl) rfl
theorem q673 : (Jvm.Cond.soleField "RowenTongue$Wrong" "term") ∈ lw_all := lw_g (lw_at lw_m3 144 rfl) rfl
theorem q674 : (Jvm.Cond.lays "RowenTongue$Wrong" "java/lang/Throwable" "depth" "I") ∈ lw_all := lw_g (lw_at lw_m3 145 rfl) rfl
theorem q675 : (Jvm.Cond.superclass "RowenTongue$Wrong" "java/lang/Exception") ∈ lw_all := lw_g (lw_at lw_m3 146 rfl) rfl
theorem q776 : (Jvm.Cond.selects "RowenTongue$Wrong" ({ cls := "java/lang/Object", name := "equals", desc := "(Ljava/lang/Object;)Z" } : Jvm.MethodName) ({ cls := "java/lang/Object", name := "equals", desc := "(Ljava/lang/Object;)Z" } : Jvm.MethodName)) ∈ lw_all := lw_g (lw_at lw_m4 7 rfl) rfl
theorem q2899 : (Jvm.Cond.castable "RowenTongue$Wrong" "java/lang/Object") ∈ lw_tbl := lw_at lw_m12 210 rfl
theorem in_X9 : ∀ w ∈ wsX90, w ∈ lw_all := lw_in wsX90 [652, 653, 654, 655, 656, 674, 670, 672] (by decide +kernel) (by decide +kernel)
/-! RowenTongue$Renewal -/
set_option maxRecDepth 100000
def RX10 : String := "RowenTongue$Renewal"
def TX10 : u_T := fun k => match k with
  | 0 => ("RowenTongue$Renewal", "opens", "Ljava/util/ArrayList;", true)
  | 1 => ("RowenTongue$Renewal", "newOpens", "Ljava/util/ArrayList;", true)
  | 2 => ("RowenTongue$Renewal", "rows", "Ljava/util/ArrayList;", true)
  | 3 => ("RowenTongue$Renewal", "newRows", "Ljava/util/ArrayList;", true)
  | _ => ("RowenTongue$Renewal", "level", "I", true)
def tyX10 : Nat → FieldType := fun k => match k with
  | 0 => .object "java/util/ArrayList"
  | 1 => .object "java/util/ArrayList"
  | 2 => .object "java/util/ArrayList"
  | 3 => .object "java/util/ArrayList"
  | _ => .int
abbrev wsX100 : List Cond := u_ws RX10 TX10 5
theorem nmX10 : ∀ a, a < 5 → ∀ b, b < 5 → a ≠ b → (TX10 a).2.1 ≠ (TX10 b).2.1 := by decide +kernel
theorem tyX10_ok : ∀ k, k < 5 → parseFieldDescriptor (TX10 k).2.2.1 = some (tyX10 k) := by decide +kernel
abbrev cX10_init : ByteArray := prog_29_method_1_code
def yX10_init : MethodName := ⟨RX10, "<init>", "(I)V"⟩
def dkwX10_init_2 : List UInt8 := [181, 0, 24, 42, 27, 181, 0, 27, 177]
abbrev dktX10_init_2 : List UInt8 := dkwX10_init_2 ++ []
def dkwX10_init_1 : List UInt8 := [181, 0, 18, 42, 187, 0, 9, 89, 183, 0, 11, 181, 0, 21, 42, 187, 0, 9, 89, 183, 0, 11]
abbrev dktX10_init_1 : List UInt8 := dkwX10_init_1 ++ dktX10_init_2
def dkwX10_init_0 : List UInt8 := [42, 183, 0, 3, 42, 187, 0, 9, 89, 183, 0, 11, 181, 0, 12, 42, 187, 0, 9, 89, 183, 0, 11]
abbrev dktX10_init_0 : List UInt8 := dkwX10_init_0 ++ dktX10_init_1
theorem dksX10_init_0 : cX10_init.data.toList.drop 0 = dktX10_init_0 := by decide +kernel
theorem dksX10_init_1 : cX10_init.data.toList.drop 23 = dktX10_init_1 := dk_seg dksX10_init_0 23 rfl rfl
theorem dksX10_init_2 : cX10_init.data.toList.drop 45 = dktX10_init_2 := dk_seg dksX10_init_1 22 rfl rfl
theorem dX10_init_0 : decode cX10_init 0 = .ok (.aload_n 0, 1) := dk_42 (dk_at dksX10_init_0 0 rfl rfl)
theorem dX10_init_1 : decode cX10_init 1 = .ok (.invokespecial 3, 3) := dk_183 0 3 (dk_at dksX10_init_0 1 rfl rfl)
theorem dX10_init_4 : decode cX10_init 4 = .ok (.aload_n 0, 1) := dk_42 (dk_at dksX10_init_0 4 rfl rfl)
theorem dX10_init_5 : decode cX10_init 5 = .ok (.new 9, 3) := dk_187 0 9 (dk_at dksX10_init_0 5 rfl rfl)
theorem dX10_init_8 : decode cX10_init 8 = .ok (.dup, 1) := dk_89 (dk_at dksX10_init_0 8 rfl rfl)
theorem dX10_init_9 : decode cX10_init 9 = .ok (.invokespecial 11, 3) := dk_183 0 11 (dk_at dksX10_init_0 9 rfl rfl)
theorem dX10_init_12 : decode cX10_init 12 = .ok (.putfield 12, 3) := dk_181 0 12 (dk_at dksX10_init_0 12 rfl rfl)
theorem dX10_init_15 : decode cX10_init 15 = .ok (.aload_n 0, 1) := dk_42 (dk_at dksX10_init_0 15 rfl rfl)
theorem dX10_init_16 : decode cX10_init 16 = .ok (.new 9, 3) := dk_187 0 9 (dk_at dksX10_init_0 16 rfl rfl)
theorem dX10_init_19 : decode cX10_init 19 = .ok (.dup, 1) := dk_89 (dk_at dksX10_init_0 19 rfl rfl)
theorem dX10_init_20 : decode cX10_init 20 = .ok (.invokespecial 11, 3) := dk_183 0 11 (dk_at dksX10_init_0 20 rfl rfl)
theorem dX10_init_23 : decode cX10_init 23 = .ok (.putfield 18, 3) := dk_181 0 18 (dk_at dksX10_init_1 0 rfl rfl)
theorem dX10_init_26 : decode cX10_init 26 = .ok (.aload_n 0, 1) := dk_42 (dk_at dksX10_init_1 3 rfl rfl)
theorem dX10_init_27 : decode cX10_init 27 = .ok (.new 9, 3) := dk_187 0 9 (dk_at dksX10_init_1 4 rfl rfl)
theorem dX10_init_30 : decode cX10_init 30 = .ok (.dup, 1) := dk_89 (dk_at dksX10_init_1 7 rfl rfl)
theorem dX10_init_31 : decode cX10_init 31 = .ok (.invokespecial 11, 3) := dk_183 0 11 (dk_at dksX10_init_1 8 rfl rfl)
theorem dX10_init_34 : decode cX10_init 34 = .ok (.putfield 21, 3) := dk_181 0 21 (dk_at dksX10_init_1 11 rfl rfl)
theorem dX10_init_37 : decode cX10_init 37 = .ok (.aload_n 0, 1) := dk_42 (dk_at dksX10_init_1 14 rfl rfl)
theorem dX10_init_38 : decode cX10_init 38 = .ok (.new 9, 3) := dk_187 0 9 (dk_at dksX10_init_1 15 rfl rfl)
theorem dX10_init_41 : decode cX10_init 41 = .ok (.dup, 1) := dk_89 (dk_at dksX10_init_1 18 rfl rfl)
theorem dX10_init_42 : decode cX10_init 42 = .ok (.invokespecial 11, 3) := dk_183 0 11 (dk_at dksX10_init_1 19 rfl rfl)
theorem dX10_init_45 : decode cX10_init 45 = .ok (.putfield 24, 3) := dk_181 0 24 (dk_at dksX10_init_2 0 rfl rfl)
theorem dX10_init_48 : decode cX10_init 48 = .ok (.aload_n 0, 1) := dk_42 (dk_at dksX10_init_2 3 rfl rfl)
theorem dX10_init_49 : decode cX10_init 49 = .ok (.iload_n 1, 1) := dk_27 (dk_at dksX10_init_2 4 rfl rfl)
theorem dX10_init_50 : decode cX10_init 50 = .ok (.putfield 27, 3) := dk_181 0 27 (dk_at dksX10_init_2 5 rfl rfl)
theorem dX10_init_53 : decode cX10_init 53 = .ok (.return_, 1) := dk_177 (dk_at dksX10_init_2 8 rfl rfl)
abbrev cX10_of : ByteArray := prog_29_method_2_code
def yX10_of : MethodName := ⟨RX10, "of", "(LRowenTongue$Type;)LRowenTongue$Type;"⟩
def dkwX10_of_3 : List UInt8 := [167, 0, 4, 44, 176]
abbrev dktX10_of_3 : List UInt8 := dkwX10_of_3 ++ []
def dkwX10_of_2 : List UInt8 := [78, 42, 45, 182, 0, 47, 176, 44, 193, 0, 51, 153, 0, 16, 44, 192, 0, 51, 78, 42, 45, 182, 0, 53]
abbrev dktX10_of_2 : List UInt8 := dkwX10_of_2 ++ dktX10_of_3
def dkwX10_of_1 : List UInt8 := [160, 0, 11, 42, 45, 182, 0, 41, 167, 0, 4, 45, 176, 44, 193, 0, 45, 153, 0, 14, 44, 192, 0, 45]
abbrev dktX10_of_1 : List UInt8 := dkwX10_of_1 ++ dktX10_of_2
def dkwX10_of_0 : List UInt8 := [43, 182, 0, 31, 77, 44, 193, 0, 37, 153, 0, 27, 44, 192, 0, 37, 78, 45, 180, 0, 39, 18, 40]
abbrev dktX10_of_0 : List UInt8 := dkwX10_of_0 ++ dktX10_of_1
theorem dksX10_of_0 : cX10_of.data.toList.drop 0 = dktX10_of_0 := by decide +kernel
theorem dksX10_of_1 : cX10_of.data.toList.drop 23 = dktX10_of_1 := dk_seg dksX10_of_0 23 rfl rfl
theorem dksX10_of_2 : cX10_of.data.toList.drop 47 = dktX10_of_2 := dk_seg dksX10_of_1 24 rfl rfl
theorem dksX10_of_3 : cX10_of.data.toList.drop 71 = dktX10_of_3 := dk_seg dksX10_of_2 24 rfl rfl
theorem dX10_of_0 : decode cX10_of 0 = .ok (.aload_n 1, 1) := dk_43 (dk_at dksX10_of_0 0 rfl rfl)
theorem dX10_of_1 : decode cX10_of 1 = .ok (.invokevirtual 31, 3) := dk_182 0 31 (dk_at dksX10_of_0 1 rfl rfl)
theorem dX10_of_4 : decode cX10_of 4 = .ok (.astore_n 2, 1) := dk_77 (dk_at dksX10_of_0 4 rfl rfl)
theorem dX10_of_5 : decode cX10_of 5 = .ok (.aload_n 2, 1) := dk_44 (dk_at dksX10_of_0 5 rfl rfl)
theorem dX10_of_6 : decode cX10_of 6 = .ok (.instanceof 37, 3) := dk_193 0 37 (dk_at dksX10_of_0 6 rfl rfl)
theorem dX10_of_9 : decode cX10_of 9 = .ok (.ifCond .eq 27, 3) := dk_153 0 27 (dk_at dksX10_of_0 9 rfl rfl)
theorem dX10_of_12 : decode cX10_of 12 = .ok (.aload_n 2, 1) := dk_44 (dk_at dksX10_of_0 12 rfl rfl)
theorem dX10_of_13 : decode cX10_of 13 = .ok (.checkcast 37, 3) := dk_192 0 37 (dk_at dksX10_of_0 13 rfl rfl)
theorem dX10_of_16 : decode cX10_of 16 = .ok (.astore_n 3, 1) := dk_78 (dk_at dksX10_of_0 16 rfl rfl)
theorem dX10_of_17 : decode cX10_of 17 = .ok (.aload_n 3, 1) := dk_45 (dk_at dksX10_of_0 17 rfl rfl)
theorem dX10_of_18 : decode cX10_of 18 = .ok (.getfield 39, 3) := dk_180 0 39 (dk_at dksX10_of_0 18 rfl rfl)
theorem dX10_of_21 : decode cX10_of 21 = .ok (.ldc 40, 2) := dk_18 40 (dk_at dksX10_of_0 21 rfl rfl)
theorem dX10_of_23 : decode cX10_of 23 = .ok (.if_icmp .ne 11, 3) := dk_160 0 11 (dk_at dksX10_of_1 0 rfl rfl)
theorem dX10_of_26 : decode cX10_of 26 = .ok (.aload_n 0, 1) := dk_42 (dk_at dksX10_of_1 3 rfl rfl)
theorem dX10_of_27 : decode cX10_of 27 = .ok (.aload_n 3, 1) := dk_45 (dk_at dksX10_of_1 4 rfl rfl)
theorem dX10_of_28 : decode cX10_of 28 = .ok (.invokevirtual 41, 3) := dk_182 0 41 (dk_at dksX10_of_1 5 rfl rfl)
theorem dX10_of_31 : decode cX10_of 31 = .ok (.goto 4, 3) := dk_167 0 4 (dk_at dksX10_of_1 8 rfl rfl)
theorem dX10_of_34 : decode cX10_of 34 = .ok (.aload_n 3, 1) := dk_45 (dk_at dksX10_of_1 11 rfl rfl)
theorem dX10_of_35 : decode cX10_of 35 = .ok (.areturn, 1) := dk_176 (dk_at dksX10_of_1 12 rfl rfl)
theorem dX10_of_36 : decode cX10_of 36 = .ok (.aload_n 2, 1) := dk_44 (dk_at dksX10_of_1 13 rfl rfl)
theorem dX10_of_37 : decode cX10_of 37 = .ok (.instanceof 45, 3) := dk_193 0 45 (dk_at dksX10_of_1 14 rfl rfl)
theorem dX10_of_40 : decode cX10_of 40 = .ok (.ifCond .eq 14, 3) := dk_153 0 14 (dk_at dksX10_of_1 17 rfl rfl)
theorem dX10_of_43 : decode cX10_of 43 = .ok (.aload_n 2, 1) := dk_44 (dk_at dksX10_of_1 20 rfl rfl)
theorem dX10_of_44 : decode cX10_of 44 = .ok (.checkcast 45, 3) := dk_192 0 45 (dk_at dksX10_of_1 21 rfl rfl)
theorem dX10_of_47 : decode cX10_of 47 = .ok (.astore_n 3, 1) := dk_78 (dk_at dksX10_of_2 0 rfl rfl)
theorem dX10_of_48 : decode cX10_of 48 = .ok (.aload_n 0, 1) := dk_42 (dk_at dksX10_of_2 1 rfl rfl)
theorem dX10_of_49 : decode cX10_of 49 = .ok (.aload_n 3, 1) := dk_45 (dk_at dksX10_of_2 2 rfl rfl)
theorem dX10_of_50 : decode cX10_of 50 = .ok (.invokevirtual 47, 3) := dk_182 0 47 (dk_at dksX10_of_2 3 rfl rfl)
theorem dX10_of_53 : decode cX10_of 53 = .ok (.areturn, 1) := dk_176 (dk_at dksX10_of_2 6 rfl rfl)
theorem dX10_of_54 : decode cX10_of 54 = .ok (.aload_n 2, 1) := dk_44 (dk_at dksX10_of_2 7 rfl rfl)
theorem dX10_of_55 : decode cX10_of 55 = .ok (.instanceof 51, 3) := dk_193 0 51 (dk_at dksX10_of_2 8 rfl rfl)
theorem dX10_of_58 : decode cX10_of 58 = .ok (.ifCond .eq 16, 3) := dk_153 0 16 (dk_at dksX10_of_2 11 rfl rfl)
theorem dX10_of_61 : decode cX10_of 61 = .ok (.aload_n 2, 1) := dk_44 (dk_at dksX10_of_2 14 rfl rfl)
theorem dX10_of_62 : decode cX10_of 62 = .ok (.checkcast 51, 3) := dk_192 0 51 (dk_at dksX10_of_2 15 rfl rfl)
theorem dX10_of_65 : decode cX10_of 65 = .ok (.astore_n 3, 1) := dk_78 (dk_at dksX10_of_2 18 rfl rfl)
theorem dX10_of_66 : decode cX10_of 66 = .ok (.aload_n 0, 1) := dk_42 (dk_at dksX10_of_2 19 rfl rfl)
theorem dX10_of_67 : decode cX10_of 67 = .ok (.aload_n 3, 1) := dk_45 (dk_at dksX10_of_2 20 rfl rfl)
theorem dX10_of_68 : decode cX10_of 68 = .ok (.invokevirtual 53, 3) := dk_182 0 53 (dk_at dksX10_of_2 21 rfl rfl)
theorem dX10_of_71 : decode cX10_of 71 = .ok (.goto 4, 3) := dk_167 0 4 (dk_at dksX10_of_3 0 rfl rfl)
theorem dX10_of_74 : decode cX10_of 74 = .ok (.aload_n 2, 1) := dk_44 (dk_at dksX10_of_3 3 rfl rfl)
theorem dX10_of_75 : decode cX10_of 75 = .ok (.areturn, 1) := dk_176 (dk_at dksX10_of_3 4 rfl rfl)
abbrev cX10_renewedOpen : ByteArray := prog_29_method_5_code
def yX10_renewedOpen : MethodName := ⟨RX10, "renewedOpen", "(LRowenTongue$Open;)LRowenTongue$Open;"⟩
def dkwX10_renewedOpen_3 : List UInt8 := [192, 0, 37, 176]
abbrev dktX10_renewedOpen_3 : List UInt8 := dkwX10_renewedOpen_3 ++ []
def dkwX10_renewedOpen_2 : List UInt8 := [180, 0, 18, 28, 2, 160, 0, 15, 42, 180, 0, 18, 182, 0, 111, 4, 100, 167, 0, 4, 28, 182, 0, 115]
abbrev dktX10_renewedOpen_2 : List UInt8 := dkwX10_renewedOpen_2 ++ dktX10_renewedOpen_3
def dkwX10_renewedOpen_1 : List UInt8 := [180, 0, 18, 187, 0, 37, 89, 42, 180, 0, 27, 43, 180, 0, 105, 183, 0, 108, 182, 0, 101, 87, 42]
abbrev dktX10_renewedOpen_1 : List UInt8 := dkwX10_renewedOpen_1 ++ dktX10_renewedOpen_2
def dkwX10_renewedOpen_0 : List UInt8 := [42, 180, 0, 12, 43, 182, 0, 97, 61, 28, 2, 160, 0, 35, 42, 180, 0, 12, 43, 182, 0, 101, 87, 42]
abbrev dktX10_renewedOpen_0 : List UInt8 := dkwX10_renewedOpen_0 ++ dktX10_renewedOpen_1
theorem dksX10_renewedOpen_0 : cX10_renewedOpen.data.toList.drop 0 = dktX10_renewedOpen_0 := by decide +kernel
theorem dksX10_renewedOpen_1 : cX10_renewedOpen.data.toList.drop 24 = dktX10_renewedOpen_1 := dk_seg dksX10_renewedOpen_0 24 rfl rfl
theorem dksX10_renewedOpen_2 : cX10_renewedOpen.data.toList.drop 47 = dktX10_renewedOpen_2 := dk_seg dksX10_renewedOpen_1 23 rfl rfl
theorem dksX10_renewedOpen_3 : cX10_renewedOpen.data.toList.drop 71 = dktX10_renewedOpen_3 := dk_seg dksX10_renewedOpen_2 24 rfl rfl
theorem dX10_renewedOpen_0 : decode cX10_renewedOpen 0 = .ok (.aload_n 0, 1) := dk_42 (dk_at dksX10_renewedOpen_0 0 rfl rfl)
theorem dX10_renewedOpen_1 : decode cX10_renewedOpen 1 = .ok (.getfield 12, 3) := dk_180 0 12 (dk_at dksX10_renewedOpen_0 1 rfl rfl)
theorem dX10_renewedOpen_4 : decode cX10_renewedOpen 4 = .ok (.aload_n 1, 1) := dk_43 (dk_at dksX10_renewedOpen_0 4 rfl rfl)
theorem dX10_renewedOpen_5 : decode cX10_renewedOpen 5 = .ok (.invokevirtual 97, 3) := dk_182 0 97 (dk_at dksX10_renewedOpen_0 5 rfl rfl)
theorem dX10_renewedOpen_8 : decode cX10_renewedOpen 8 = .ok (.istore_n 2, 1) := dk_61 (dk_at dksX10_renewedOpen_0 8 rfl rfl)
theorem dX10_renewedOpen_9 : decode cX10_renewedOpen 9 = .ok (.iload_n 2, 1) := dk_28 (dk_at dksX10_renewedOpen_0 9 rfl rfl)
theorem dX10_renewedOpen_10 : decode cX10_renewedOpen 10 = .ok (.iconst (-1), 1) := dk_2 (dk_at dksX10_renewedOpen_0 10 rfl rfl)
theorem dX10_renewedOpen_11 : decode cX10_renewedOpen 11 = .ok (.if_icmp .ne 35, 3) := dk_160 0 35 (dk_at dksX10_renewedOpen_0 11 rfl rfl)
theorem dX10_renewedOpen_14 : decode cX10_renewedOpen 14 = .ok (.aload_n 0, 1) := dk_42 (dk_at dksX10_renewedOpen_0 14 rfl rfl)
theorem dX10_renewedOpen_15 : decode cX10_renewedOpen 15 = .ok (.getfield 12, 3) := dk_180 0 12 (dk_at dksX10_renewedOpen_0 15 rfl rfl)
theorem dX10_renewedOpen_18 : decode cX10_renewedOpen 18 = .ok (.aload_n 1, 1) := dk_43 (dk_at dksX10_renewedOpen_0 18 rfl rfl)
theorem dX10_renewedOpen_19 : decode cX10_renewedOpen 19 = .ok (.invokevirtual 101, 3) := dk_182 0 101 (dk_at dksX10_renewedOpen_0 19 rfl rfl)
theorem dX10_renewedOpen_22 : decode cX10_renewedOpen 22 = .ok (.pop, 1) := dk_87 (dk_at dksX10_renewedOpen_0 22 rfl rfl)
theorem dX10_renewedOpen_23 : decode cX10_renewedOpen 23 = .ok (.aload_n 0, 1) := dk_42 (dk_at dksX10_renewedOpen_0 23 rfl rfl)
theorem dX10_renewedOpen_24 : decode cX10_renewedOpen 24 = .ok (.getfield 18, 3) := dk_180 0 18 (dk_at dksX10_renewedOpen_1 0 rfl rfl)
theorem dX10_renewedOpen_27 : decode cX10_renewedOpen 27 = .ok (.new 37, 3) := dk_187 0 37 (dk_at dksX10_renewedOpen_1 3 rfl rfl)
theorem dX10_renewedOpen_30 : decode cX10_renewedOpen 30 = .ok (.dup, 1) := dk_89 (dk_at dksX10_renewedOpen_1 6 rfl rfl)
theorem dX10_renewedOpen_31 : decode cX10_renewedOpen 31 = .ok (.aload_n 0, 1) := dk_42 (dk_at dksX10_renewedOpen_1 7 rfl rfl)
theorem dX10_renewedOpen_32 : decode cX10_renewedOpen 32 = .ok (.getfield 27, 3) := dk_180 0 27 (dk_at dksX10_renewedOpen_1 8 rfl rfl)
theorem dX10_renewedOpen_35 : decode cX10_renewedOpen 35 = .ok (.aload_n 1, 1) := dk_43 (dk_at dksX10_renewedOpen_1 11 rfl rfl)
theorem dX10_renewedOpen_36 : decode cX10_renewedOpen 36 = .ok (.getfield 105, 3) := dk_180 0 105 (dk_at dksX10_renewedOpen_1 12 rfl rfl)
theorem dX10_renewedOpen_39 : decode cX10_renewedOpen 39 = .ok (.invokespecial 108, 3) := dk_183 0 108 (dk_at dksX10_renewedOpen_1 15 rfl rfl)
theorem dX10_renewedOpen_42 : decode cX10_renewedOpen 42 = .ok (.invokevirtual 101, 3) := dk_182 0 101 (dk_at dksX10_renewedOpen_1 18 rfl rfl)
theorem dX10_renewedOpen_45 : decode cX10_renewedOpen 45 = .ok (.pop, 1) := dk_87 (dk_at dksX10_renewedOpen_1 21 rfl rfl)
theorem dX10_renewedOpen_46 : decode cX10_renewedOpen 46 = .ok (.aload_n 0, 1) := dk_42 (dk_at dksX10_renewedOpen_1 22 rfl rfl)
theorem dX10_renewedOpen_47 : decode cX10_renewedOpen 47 = .ok (.getfield 18, 3) := dk_180 0 18 (dk_at dksX10_renewedOpen_2 0 rfl rfl)
theorem dX10_renewedOpen_50 : decode cX10_renewedOpen 50 = .ok (.iload_n 2, 1) := dk_28 (dk_at dksX10_renewedOpen_2 3 rfl rfl)
theorem dX10_renewedOpen_51 : decode cX10_renewedOpen 51 = .ok (.iconst (-1), 1) := dk_2 (dk_at dksX10_renewedOpen_2 4 rfl rfl)
theorem dX10_renewedOpen_52 : decode cX10_renewedOpen 52 = .ok (.if_icmp .ne 15, 3) := dk_160 0 15 (dk_at dksX10_renewedOpen_2 5 rfl rfl)
theorem dX10_renewedOpen_55 : decode cX10_renewedOpen 55 = .ok (.aload_n 0, 1) := dk_42 (dk_at dksX10_renewedOpen_2 8 rfl rfl)
theorem dX10_renewedOpen_56 : decode cX10_renewedOpen 56 = .ok (.getfield 18, 3) := dk_180 0 18 (dk_at dksX10_renewedOpen_2 9 rfl rfl)
theorem dX10_renewedOpen_59 : decode cX10_renewedOpen 59 = .ok (.invokevirtual 111, 3) := dk_182 0 111 (dk_at dksX10_renewedOpen_2 12 rfl rfl)
theorem dX10_renewedOpen_62 : decode cX10_renewedOpen 62 = .ok (.iconst 1, 1) := dk_4 (dk_at dksX10_renewedOpen_2 15 rfl rfl)
theorem dX10_renewedOpen_63 : decode cX10_renewedOpen 63 = .ok (.isub, 1) := dk_100 (dk_at dksX10_renewedOpen_2 16 rfl rfl)
theorem dX10_renewedOpen_64 : decode cX10_renewedOpen 64 = .ok (.goto 4, 3) := dk_167 0 4 (dk_at dksX10_renewedOpen_2 17 rfl rfl)
theorem dX10_renewedOpen_67 : decode cX10_renewedOpen 67 = .ok (.iload_n 2, 1) := dk_28 (dk_at dksX10_renewedOpen_2 20 rfl rfl)
theorem dX10_renewedOpen_68 : decode cX10_renewedOpen 68 = .ok (.invokevirtual 115, 3) := dk_182 0 115 (dk_at dksX10_renewedOpen_2 21 rfl rfl)
theorem dX10_renewedOpen_71 : decode cX10_renewedOpen 71 = .ok (.checkcast 37, 3) := dk_192 0 37 (dk_at dksX10_renewedOpen_3 0 rfl rfl)
theorem dX10_renewedOpen_74 : decode cX10_renewedOpen 74 = .ok (.areturn, 1) := dk_176 (dk_at dksX10_renewedOpen_3 3 rfl rfl)
abbrev cX10_renewedFunction : ByteArray := prog_29_method_3_code
def yX10_renewedFunction : MethodName := ⟨RX10, "renewedFunction", "(LRowenTongue$Function;)LRowenTongue$Function;"⟩
def dkwX10_renewedFunction_2 : List UInt8 := [176]
abbrev dktX10_renewedFunction_2 : List UInt8 := dkwX10_renewedFunction_2 ++ []
def dkwX10_renewedFunction_1 : List UInt8 := [180, 0, 69, 182, 0, 65, 183, 0, 72, 77, 43, 42, 181, 0, 57, 43, 44, 181, 0, 75, 43, 180, 0, 75]
abbrev dktX10_renewedFunction_1 : List UInt8 := dkwX10_renewedFunction_1 ++ dktX10_renewedFunction_2
def dkwX10_renewedFunction_0 : List UInt8 := [43, 180, 0, 57, 42, 165, 0, 37, 187, 0, 45, 89, 42, 43, 180, 0, 61, 182, 0, 65, 42, 43]
abbrev dktX10_renewedFunction_0 : List UInt8 := dkwX10_renewedFunction_0 ++ dktX10_renewedFunction_1
theorem dksX10_renewedFunction_0 : cX10_renewedFunction.data.toList.drop 0 = dktX10_renewedFunction_0 := by decide +kernel
theorem dksX10_renewedFunction_1 : cX10_renewedFunction.data.toList.drop 22 = dktX10_renewedFunction_1 := dk_seg dksX10_renewedFunction_0 22 rfl rfl
theorem dksX10_renewedFunction_2 : cX10_renewedFunction.data.toList.drop 46 = dktX10_renewedFunction_2 := dk_seg dksX10_renewedFunction_1 24 rfl rfl
theorem dX10_renewedFunction_0 : decode cX10_renewedFunction 0 = .ok (.aload_n 1, 1) := dk_43 (dk_at dksX10_renewedFunction_0 0 rfl rfl)
theorem dX10_renewedFunction_1 : decode cX10_renewedFunction 1 = .ok (.getfield 57, 3) := dk_180 0 57 (dk_at dksX10_renewedFunction_0 1 rfl rfl)
theorem dX10_renewedFunction_4 : decode cX10_renewedFunction 4 = .ok (.aload_n 0, 1) := dk_42 (dk_at dksX10_renewedFunction_0 4 rfl rfl)
theorem dX10_renewedFunction_5 : decode cX10_renewedFunction 5 = .ok (.if_acmp .eq 37, 3) := dk_165 0 37 (dk_at dksX10_renewedFunction_0 5 rfl rfl)
theorem dX10_renewedFunction_8 : decode cX10_renewedFunction 8 = .ok (.new 45, 3) := dk_187 0 45 (dk_at dksX10_renewedFunction_0 8 rfl rfl)
theorem dX10_renewedFunction_11 : decode cX10_renewedFunction 11 = .ok (.dup, 1) := dk_89 (dk_at dksX10_renewedFunction_0 11 rfl rfl)
theorem dX10_renewedFunction_12 : decode cX10_renewedFunction 12 = .ok (.aload_n 0, 1) := dk_42 (dk_at dksX10_renewedFunction_0 12 rfl rfl)
theorem dX10_renewedFunction_13 : decode cX10_renewedFunction 13 = .ok (.aload_n 1, 1) := dk_43 (dk_at dksX10_renewedFunction_0 13 rfl rfl)
theorem dX10_renewedFunction_14 : decode cX10_renewedFunction 14 = .ok (.getfield 61, 3) := dk_180 0 61 (dk_at dksX10_renewedFunction_0 14 rfl rfl)
theorem dX10_renewedFunction_17 : decode cX10_renewedFunction 17 = .ok (.invokevirtual 65, 3) := dk_182 0 65 (dk_at dksX10_renewedFunction_0 17 rfl rfl)
theorem dX10_renewedFunction_20 : decode cX10_renewedFunction 20 = .ok (.aload_n 0, 1) := dk_42 (dk_at dksX10_renewedFunction_0 20 rfl rfl)
theorem dX10_renewedFunction_21 : decode cX10_renewedFunction 21 = .ok (.aload_n 1, 1) := dk_43 (dk_at dksX10_renewedFunction_0 21 rfl rfl)
theorem dX10_renewedFunction_22 : decode cX10_renewedFunction 22 = .ok (.getfield 69, 3) := dk_180 0 69 (dk_at dksX10_renewedFunction_1 0 rfl rfl)
theorem dX10_renewedFunction_25 : decode cX10_renewedFunction 25 = .ok (.invokevirtual 65, 3) := dk_182 0 65 (dk_at dksX10_renewedFunction_1 3 rfl rfl)
theorem dX10_renewedFunction_28 : decode cX10_renewedFunction 28 = .ok (.invokespecial 72, 3) := dk_183 0 72 (dk_at dksX10_renewedFunction_1 6 rfl rfl)
theorem dX10_renewedFunction_31 : decode cX10_renewedFunction 31 = .ok (.astore_n 2, 1) := dk_77 (dk_at dksX10_renewedFunction_1 9 rfl rfl)
theorem dX10_renewedFunction_32 : decode cX10_renewedFunction 32 = .ok (.aload_n 1, 1) := dk_43 (dk_at dksX10_renewedFunction_1 10 rfl rfl)
theorem dX10_renewedFunction_33 : decode cX10_renewedFunction 33 = .ok (.aload_n 0, 1) := dk_42 (dk_at dksX10_renewedFunction_1 11 rfl rfl)
theorem dX10_renewedFunction_34 : decode cX10_renewedFunction 34 = .ok (.putfield 57, 3) := dk_181 0 57 (dk_at dksX10_renewedFunction_1 12 rfl rfl)
theorem dX10_renewedFunction_37 : decode cX10_renewedFunction 37 = .ok (.aload_n 1, 1) := dk_43 (dk_at dksX10_renewedFunction_1 15 rfl rfl)
theorem dX10_renewedFunction_38 : decode cX10_renewedFunction 38 = .ok (.aload_n 2, 1) := dk_44 (dk_at dksX10_renewedFunction_1 16 rfl rfl)
theorem dX10_renewedFunction_39 : decode cX10_renewedFunction 39 = .ok (.putfield 75, 3) := dk_181 0 75 (dk_at dksX10_renewedFunction_1 17 rfl rfl)
theorem dX10_renewedFunction_42 : decode cX10_renewedFunction 42 = .ok (.aload_n 1, 1) := dk_43 (dk_at dksX10_renewedFunction_1 20 rfl rfl)
theorem dX10_renewedFunction_43 : decode cX10_renewedFunction 43 = .ok (.getfield 75, 3) := dk_180 0 75 (dk_at dksX10_renewedFunction_1 21 rfl rfl)
theorem dX10_renewedFunction_46 : decode cX10_renewedFunction 46 = .ok (.areturn, 1) := dk_176 (dk_at dksX10_renewedFunction_2 0 rfl rfl)
abbrev cX10_renewedBag : ByteArray := prog_29_method_4_code
def yX10_renewedBag : MethodName := ⟨RX10, "renewedBag", "(LRowenTongue$Bag;)LRowenTongue$Bag;"⟩
def dkwX10_renewedBag_1 : List UInt8 := [183, 0, 91, 77, 43, 42, 181, 0, 79, 43, 44, 181, 0, 94, 43, 180, 0, 94, 176]
abbrev dktX10_renewedBag_1 : List UInt8 := dkwX10_renewedBag_1 ++ []
def dkwX10_renewedBag_0 : List UInt8 := [43, 180, 0, 79, 42, 165, 0, 33, 187, 0, 51, 89, 43, 180, 0, 80, 42, 43, 180, 0, 84, 182, 0, 88]
abbrev dktX10_renewedBag_0 : List UInt8 := dkwX10_renewedBag_0 ++ dktX10_renewedBag_1
theorem dksX10_renewedBag_0 : cX10_renewedBag.data.toList.drop 0 = dktX10_renewedBag_0 := by decide +kernel
theorem dksX10_renewedBag_1 : cX10_renewedBag.data.toList.drop 24 = dktX10_renewedBag_1 := dk_seg dksX10_renewedBag_0 24 rfl rfl
theorem dX10_renewedBag_0 : decode cX10_renewedBag 0 = .ok (.aload_n 1, 1) := dk_43 (dk_at dksX10_renewedBag_0 0 rfl rfl)
theorem dX10_renewedBag_1 : decode cX10_renewedBag 1 = .ok (.getfield 79, 3) := dk_180 0 79 (dk_at dksX10_renewedBag_0 1 rfl rfl)
theorem dX10_renewedBag_4 : decode cX10_renewedBag 4 = .ok (.aload_n 0, 1) := dk_42 (dk_at dksX10_renewedBag_0 4 rfl rfl)
theorem dX10_renewedBag_5 : decode cX10_renewedBag 5 = .ok (.if_acmp .eq 33, 3) := dk_165 0 33 (dk_at dksX10_renewedBag_0 5 rfl rfl)
theorem dX10_renewedBag_8 : decode cX10_renewedBag 8 = .ok (.new 51, 3) := dk_187 0 51 (dk_at dksX10_renewedBag_0 8 rfl rfl)
theorem dX10_renewedBag_11 : decode cX10_renewedBag 11 = .ok (.dup, 1) := dk_89 (dk_at dksX10_renewedBag_0 11 rfl rfl)
theorem dX10_renewedBag_12 : decode cX10_renewedBag 12 = .ok (.aload_n 1, 1) := dk_43 (dk_at dksX10_renewedBag_0 12 rfl rfl)
theorem dX10_renewedBag_13 : decode cX10_renewedBag 13 = .ok (.getfield 80, 3) := dk_180 0 80 (dk_at dksX10_renewedBag_0 13 rfl rfl)
theorem dX10_renewedBag_16 : decode cX10_renewedBag 16 = .ok (.aload_n 0, 1) := dk_42 (dk_at dksX10_renewedBag_0 16 rfl rfl)
theorem dX10_renewedBag_17 : decode cX10_renewedBag 17 = .ok (.aload_n 1, 1) := dk_43 (dk_at dksX10_renewedBag_0 17 rfl rfl)
theorem dX10_renewedBag_18 : decode cX10_renewedBag 18 = .ok (.getfield 84, 3) := dk_180 0 84 (dk_at dksX10_renewedBag_0 18 rfl rfl)
theorem dX10_renewedBag_21 : decode cX10_renewedBag 21 = .ok (.invokevirtual 88, 3) := dk_182 0 88 (dk_at dksX10_renewedBag_0 21 rfl rfl)
theorem dX10_renewedBag_24 : decode cX10_renewedBag 24 = .ok (.invokespecial 91, 3) := dk_183 0 91 (dk_at dksX10_renewedBag_1 0 rfl rfl)
theorem dX10_renewedBag_27 : decode cX10_renewedBag 27 = .ok (.astore_n 2, 1) := dk_77 (dk_at dksX10_renewedBag_1 3 rfl rfl)
theorem dX10_renewedBag_28 : decode cX10_renewedBag 28 = .ok (.aload_n 1, 1) := dk_43 (dk_at dksX10_renewedBag_1 4 rfl rfl)
theorem dX10_renewedBag_29 : decode cX10_renewedBag 29 = .ok (.aload_n 0, 1) := dk_42 (dk_at dksX10_renewedBag_1 5 rfl rfl)
theorem dX10_renewedBag_30 : decode cX10_renewedBag 30 = .ok (.putfield 79, 3) := dk_181 0 79 (dk_at dksX10_renewedBag_1 6 rfl rfl)
theorem dX10_renewedBag_33 : decode cX10_renewedBag 33 = .ok (.aload_n 1, 1) := dk_43 (dk_at dksX10_renewedBag_1 9 rfl rfl)
theorem dX10_renewedBag_34 : decode cX10_renewedBag 34 = .ok (.aload_n 2, 1) := dk_44 (dk_at dksX10_renewedBag_1 10 rfl rfl)
theorem dX10_renewedBag_35 : decode cX10_renewedBag 35 = .ok (.putfield 94, 3) := dk_181 0 94 (dk_at dksX10_renewedBag_1 11 rfl rfl)
theorem dX10_renewedBag_38 : decode cX10_renewedBag 38 = .ok (.aload_n 1, 1) := dk_43 (dk_at dksX10_renewedBag_1 14 rfl rfl)
theorem dX10_renewedBag_39 : decode cX10_renewedBag 39 = .ok (.getfield 94, 3) := dk_180 0 94 (dk_at dksX10_renewedBag_1 15 rfl rfl)
theorem dX10_renewedBag_42 : decode cX10_renewedBag 42 = .ok (.areturn, 1) := dk_176 (dk_at dksX10_renewedBag_1 18 rfl rfl)
abbrev cX10_of_2 : ByteArray := prog_29_method_6_code
def yX10_of_2 : MethodName := ⟨RX10, "of", "(LRowenTongue$Row;)LRowenTongue$Row;"⟩
def dkwX10_of_2_3 : List UInt8 := [182, 0, 141, 167, 0, 4, 44, 176]
abbrev dktX10_of_2_3 : List UInt8 := dkwX10_of_2_3 ++ []
def dkwX10_of_2_2 : List UInt8 := [193, 0, 138, 153, 0, 25, 44, 192, 0, 138, 78, 45, 180, 0, 140, 18, 40, 160, 0, 11, 42, 45]
abbrev dktX10_of_2_2 : List UInt8 := dkwX10_of_2_2 ++ dktX10_of_2_3
def dkwX10_of_2_1 : List UInt8 := [180, 0, 126, 42, 45, 180, 0, 129, 182, 0, 65, 42, 45, 180, 0, 132, 182, 0, 88, 183, 0, 135, 176, 44]
abbrev dktX10_of_2_1 : List UInt8 := dkwX10_of_2_1 ++ dktX10_of_2_2
def dkwX10_of_2_0 : List UInt8 := [43, 182, 0, 119, 77, 44, 193, 0, 124, 153, 0, 36, 44, 192, 0, 124, 78, 187, 0, 124, 89, 45]
abbrev dktX10_of_2_0 : List UInt8 := dkwX10_of_2_0 ++ dktX10_of_2_1
theorem dksX10_of_2_0 : cX10_of_2.data.toList.drop 0 = dktX10_of_2_0 := by decide +kernel
theorem dksX10_of_2_1 : cX10_of_2.data.toList.drop 22 = dktX10_of_2_1 := dk_seg dksX10_of_2_0 22 rfl rfl
theorem dksX10_of_2_2 : cX10_of_2.data.toList.drop 46 = dktX10_of_2_2 := dk_seg dksX10_of_2_1 24 rfl rfl
theorem dksX10_of_2_3 : cX10_of_2.data.toList.drop 68 = dktX10_of_2_3 := dk_seg dksX10_of_2_2 22 rfl rfl
theorem dX10_of_2_0 : decode cX10_of_2 0 = .ok (.aload_n 1, 1) := dk_43 (dk_at dksX10_of_2_0 0 rfl rfl)
theorem dX10_of_2_1 : decode cX10_of_2 1 = .ok (.invokevirtual 119, 3) := dk_182 0 119 (dk_at dksX10_of_2_0 1 rfl rfl)
theorem dX10_of_2_4 : decode cX10_of_2 4 = .ok (.astore_n 2, 1) := dk_77 (dk_at dksX10_of_2_0 4 rfl rfl)
theorem dX10_of_2_5 : decode cX10_of_2 5 = .ok (.aload_n 2, 1) := dk_44 (dk_at dksX10_of_2_0 5 rfl rfl)
theorem dX10_of_2_6 : decode cX10_of_2 6 = .ok (.instanceof 124, 3) := dk_193 0 124 (dk_at dksX10_of_2_0 6 rfl rfl)
theorem dX10_of_2_9 : decode cX10_of_2 9 = .ok (.ifCond .eq 36, 3) := dk_153 0 36 (dk_at dksX10_of_2_0 9 rfl rfl)
theorem dX10_of_2_12 : decode cX10_of_2 12 = .ok (.aload_n 2, 1) := dk_44 (dk_at dksX10_of_2_0 12 rfl rfl)
theorem dX10_of_2_13 : decode cX10_of_2 13 = .ok (.checkcast 124, 3) := dk_192 0 124 (dk_at dksX10_of_2_0 13 rfl rfl)
theorem dX10_of_2_16 : decode cX10_of_2 16 = .ok (.astore_n 3, 1) := dk_78 (dk_at dksX10_of_2_0 16 rfl rfl)
theorem dX10_of_2_17 : decode cX10_of_2 17 = .ok (.new 124, 3) := dk_187 0 124 (dk_at dksX10_of_2_0 17 rfl rfl)
theorem dX10_of_2_20 : decode cX10_of_2 20 = .ok (.dup, 1) := dk_89 (dk_at dksX10_of_2_0 20 rfl rfl)
theorem dX10_of_2_21 : decode cX10_of_2 21 = .ok (.aload_n 3, 1) := dk_45 (dk_at dksX10_of_2_0 21 rfl rfl)
theorem dX10_of_2_22 : decode cX10_of_2 22 = .ok (.getfield 126, 3) := dk_180 0 126 (dk_at dksX10_of_2_1 0 rfl rfl)
theorem dX10_of_2_25 : decode cX10_of_2 25 = .ok (.aload_n 0, 1) := dk_42 (dk_at dksX10_of_2_1 3 rfl rfl)
theorem dX10_of_2_26 : decode cX10_of_2 26 = .ok (.aload_n 3, 1) := dk_45 (dk_at dksX10_of_2_1 4 rfl rfl)
theorem dX10_of_2_27 : decode cX10_of_2 27 = .ok (.getfield 129, 3) := dk_180 0 129 (dk_at dksX10_of_2_1 5 rfl rfl)
theorem dX10_of_2_30 : decode cX10_of_2 30 = .ok (.invokevirtual 65, 3) := dk_182 0 65 (dk_at dksX10_of_2_1 8 rfl rfl)
theorem dX10_of_2_33 : decode cX10_of_2 33 = .ok (.aload_n 0, 1) := dk_42 (dk_at dksX10_of_2_1 11 rfl rfl)
theorem dX10_of_2_34 : decode cX10_of_2 34 = .ok (.aload_n 3, 1) := dk_45 (dk_at dksX10_of_2_1 12 rfl rfl)
theorem dX10_of_2_35 : decode cX10_of_2 35 = .ok (.getfield 132, 3) := dk_180 0 132 (dk_at dksX10_of_2_1 13 rfl rfl)
theorem dX10_of_2_38 : decode cX10_of_2 38 = .ok (.invokevirtual 88, 3) := dk_182 0 88 (dk_at dksX10_of_2_1 16 rfl rfl)
theorem dX10_of_2_41 : decode cX10_of_2 41 = .ok (.invokespecial 135, 3) := dk_183 0 135 (dk_at dksX10_of_2_1 19 rfl rfl)
theorem dX10_of_2_44 : decode cX10_of_2 44 = .ok (.areturn, 1) := dk_176 (dk_at dksX10_of_2_1 22 rfl rfl)
theorem dX10_of_2_45 : decode cX10_of_2 45 = .ok (.aload_n 2, 1) := dk_44 (dk_at dksX10_of_2_1 23 rfl rfl)
theorem dX10_of_2_46 : decode cX10_of_2 46 = .ok (.instanceof 138, 3) := dk_193 0 138 (dk_at dksX10_of_2_2 0 rfl rfl)
theorem dX10_of_2_49 : decode cX10_of_2 49 = .ok (.ifCond .eq 25, 3) := dk_153 0 25 (dk_at dksX10_of_2_2 3 rfl rfl)
theorem dX10_of_2_52 : decode cX10_of_2 52 = .ok (.aload_n 2, 1) := dk_44 (dk_at dksX10_of_2_2 6 rfl rfl)
theorem dX10_of_2_53 : decode cX10_of_2 53 = .ok (.checkcast 138, 3) := dk_192 0 138 (dk_at dksX10_of_2_2 7 rfl rfl)
theorem dX10_of_2_56 : decode cX10_of_2 56 = .ok (.astore_n 3, 1) := dk_78 (dk_at dksX10_of_2_2 10 rfl rfl)
theorem dX10_of_2_57 : decode cX10_of_2 57 = .ok (.aload_n 3, 1) := dk_45 (dk_at dksX10_of_2_2 11 rfl rfl)
theorem dX10_of_2_58 : decode cX10_of_2 58 = .ok (.getfield 140, 3) := dk_180 0 140 (dk_at dksX10_of_2_2 12 rfl rfl)
theorem dX10_of_2_61 : decode cX10_of_2 61 = .ok (.ldc 40, 2) := dk_18 40 (dk_at dksX10_of_2_2 15 rfl rfl)
theorem dX10_of_2_63 : decode cX10_of_2 63 = .ok (.if_icmp .ne 11, 3) := dk_160 0 11 (dk_at dksX10_of_2_2 17 rfl rfl)
theorem dX10_of_2_66 : decode cX10_of_2 66 = .ok (.aload_n 0, 1) := dk_42 (dk_at dksX10_of_2_2 20 rfl rfl)
theorem dX10_of_2_67 : decode cX10_of_2 67 = .ok (.aload_n 3, 1) := dk_45 (dk_at dksX10_of_2_2 21 rfl rfl)
theorem dX10_of_2_68 : decode cX10_of_2 68 = .ok (.invokevirtual 141, 3) := dk_182 0 141 (dk_at dksX10_of_2_3 0 rfl rfl)
theorem dX10_of_2_71 : decode cX10_of_2 71 = .ok (.goto 4, 3) := dk_167 0 4 (dk_at dksX10_of_2_3 3 rfl rfl)
theorem dX10_of_2_74 : decode cX10_of_2 74 = .ok (.aload_n 2, 1) := dk_44 (dk_at dksX10_of_2_3 6 rfl rfl)
theorem dX10_of_2_75 : decode cX10_of_2 75 = .ok (.areturn, 1) := dk_176 (dk_at dksX10_of_2_3 7 rfl rfl)
abbrev cX10_renewedOpenRow : ByteArray := prog_29_method_7_code
def yX10_renewedOpenRow : MethodName := ⟨RX10, "renewedOpenRow", "(LRowenTongue$OpenRow;)LRowenTongue$OpenRow;"⟩
def dkwX10_renewedOpenRow_3 : List UInt8 := [167, 0, 4, 28, 182, 0, 115, 192, 0, 138, 176]
abbrev dktX10_renewedOpenRow_3 : List UInt8 := dkwX10_renewedOpenRow_3 ++ []
def dkwX10_renewedOpenRow_2 : List UInt8 := [182, 0, 101, 87, 42, 180, 0, 24, 28, 2, 160, 0, 15, 42, 180, 0, 24, 182, 0, 111, 4, 100]
abbrev dktX10_renewedOpenRow_2 : List UInt8 := dkwX10_renewedOpenRow_2 ++ dktX10_renewedOpenRow_3
def dkwX10_renewedOpenRow_1 : List UInt8 := [180, 0, 24, 187, 0, 138, 89, 42, 180, 0, 27, 43, 180, 0, 145, 43, 180, 0, 146, 183, 0, 149]
abbrev dktX10_renewedOpenRow_1 : List UInt8 := dkwX10_renewedOpenRow_1 ++ dktX10_renewedOpenRow_2
def dkwX10_renewedOpenRow_0 : List UInt8 := [42, 180, 0, 21, 43, 182, 0, 97, 61, 28, 2, 160, 0, 39, 42, 180, 0, 21, 43, 182, 0, 101, 87, 42]
abbrev dktX10_renewedOpenRow_0 : List UInt8 := dkwX10_renewedOpenRow_0 ++ dktX10_renewedOpenRow_1
theorem dksX10_renewedOpenRow_0 : cX10_renewedOpenRow.data.toList.drop 0 = dktX10_renewedOpenRow_0 := by decide +kernel
theorem dksX10_renewedOpenRow_1 : cX10_renewedOpenRow.data.toList.drop 24 = dktX10_renewedOpenRow_1 := dk_seg dksX10_renewedOpenRow_0 24 rfl rfl
theorem dksX10_renewedOpenRow_2 : cX10_renewedOpenRow.data.toList.drop 46 = dktX10_renewedOpenRow_2 := dk_seg dksX10_renewedOpenRow_1 22 rfl rfl
theorem dksX10_renewedOpenRow_3 : cX10_renewedOpenRow.data.toList.drop 68 = dktX10_renewedOpenRow_3 := dk_seg dksX10_renewedOpenRow_2 22 rfl rfl
theorem dX10_renewedOpenRow_0 : decode cX10_renewedOpenRow 0 = .ok (.aload_n 0, 1) := dk_42 (dk_at dksX10_renewedOpenRow_0 0 rfl rfl)
theorem dX10_renewedOpenRow_1 : decode cX10_renewedOpenRow 1 = .ok (.getfield 21, 3) := dk_180 0 21 (dk_at dksX10_renewedOpenRow_0 1 rfl rfl)
theorem dX10_renewedOpenRow_4 : decode cX10_renewedOpenRow 4 = .ok (.aload_n 1, 1) := dk_43 (dk_at dksX10_renewedOpenRow_0 4 rfl rfl)
theorem dX10_renewedOpenRow_5 : decode cX10_renewedOpenRow 5 = .ok (.invokevirtual 97, 3) := dk_182 0 97 (dk_at dksX10_renewedOpenRow_0 5 rfl rfl)
theorem dX10_renewedOpenRow_8 : decode cX10_renewedOpenRow 8 = .ok (.istore_n 2, 1) := dk_61 (dk_at dksX10_renewedOpenRow_0 8 rfl rfl)
theorem dX10_renewedOpenRow_9 : decode cX10_renewedOpenRow 9 = .ok (.iload_n 2, 1) := dk_28 (dk_at dksX10_renewedOpenRow_0 9 rfl rfl)
theorem dX10_renewedOpenRow_10 : decode cX10_renewedOpenRow 10 = .ok (.iconst (-1), 1) := dk_2 (dk_at dksX10_renewedOpenRow_0 10 rfl rfl)
theorem dX10_renewedOpenRow_11 : decode cX10_renewedOpenRow 11 = .ok (.if_icmp .ne 39, 3) := dk_160 0 39 (dk_at dksX10_renewedOpenRow_0 11 rfl rfl)
theorem dX10_renewedOpenRow_14 : decode cX10_renewedOpenRow 14 = .ok (.aload_n 0, 1) := dk_42 (dk_at dksX10_renewedOpenRow_0 14 rfl rfl)
theorem dX10_renewedOpenRow_15 : decode cX10_renewedOpenRow 15 = .ok (.getfield 21, 3) := dk_180 0 21 (dk_at dksX10_renewedOpenRow_0 15 rfl rfl)
theorem dX10_renewedOpenRow_18 : decode cX10_renewedOpenRow 18 = .ok (.aload_n 1, 1) := dk_43 (dk_at dksX10_renewedOpenRow_0 18 rfl rfl)
theorem dX10_renewedOpenRow_19 : decode cX10_renewedOpenRow 19 = .ok (.invokevirtual 101, 3) := dk_182 0 101 (dk_at dksX10_renewedOpenRow_0 19 rfl rfl)
theorem dX10_renewedOpenRow_22 : decode cX10_renewedOpenRow 22 = .ok (.pop, 1) := dk_87 (dk_at dksX10_renewedOpenRow_0 22 rfl rfl)
theorem dX10_renewedOpenRow_23 : decode cX10_renewedOpenRow 23 = .ok (.aload_n 0, 1) := dk_42 (dk_at dksX10_renewedOpenRow_0 23 rfl rfl)
theorem dX10_renewedOpenRow_24 : decode cX10_renewedOpenRow 24 = .ok (.getfield 24, 3) := dk_180 0 24 (dk_at dksX10_renewedOpenRow_1 0 rfl rfl)
theorem dX10_renewedOpenRow_27 : decode cX10_renewedOpenRow 27 = .ok (.new 138, 3) := dk_187 0 138 (dk_at dksX10_renewedOpenRow_1 3 rfl rfl)
theorem dX10_renewedOpenRow_30 : decode cX10_renewedOpenRow 30 = .ok (.dup, 1) := dk_89 (dk_at dksX10_renewedOpenRow_1 6 rfl rfl)
theorem dX10_renewedOpenRow_31 : decode cX10_renewedOpenRow 31 = .ok (.aload_n 0, 1) := dk_42 (dk_at dksX10_renewedOpenRow_1 7 rfl rfl)
theorem dX10_renewedOpenRow_32 : decode cX10_renewedOpenRow 32 = .ok (.getfield 27, 3) := dk_180 0 27 (dk_at dksX10_renewedOpenRow_1 8 rfl rfl)
theorem dX10_renewedOpenRow_35 : decode cX10_renewedOpenRow 35 = .ok (.aload_n 1, 1) := dk_43 (dk_at dksX10_renewedOpenRow_1 11 rfl rfl)
theorem dX10_renewedOpenRow_36 : decode cX10_renewedOpenRow 36 = .ok (.getfield 145, 3) := dk_180 0 145 (dk_at dksX10_renewedOpenRow_1 12 rfl rfl)
theorem dX10_renewedOpenRow_39 : decode cX10_renewedOpenRow 39 = .ok (.aload_n 1, 1) := dk_43 (dk_at dksX10_renewedOpenRow_1 15 rfl rfl)
theorem dX10_renewedOpenRow_40 : decode cX10_renewedOpenRow 40 = .ok (.getfield 146, 3) := dk_180 0 146 (dk_at dksX10_renewedOpenRow_1 16 rfl rfl)
theorem dX10_renewedOpenRow_43 : decode cX10_renewedOpenRow 43 = .ok (.invokespecial 149, 3) := dk_183 0 149 (dk_at dksX10_renewedOpenRow_1 19 rfl rfl)
theorem dX10_renewedOpenRow_46 : decode cX10_renewedOpenRow 46 = .ok (.invokevirtual 101, 3) := dk_182 0 101 (dk_at dksX10_renewedOpenRow_2 0 rfl rfl)
theorem dX10_renewedOpenRow_49 : decode cX10_renewedOpenRow 49 = .ok (.pop, 1) := dk_87 (dk_at dksX10_renewedOpenRow_2 3 rfl rfl)
theorem dX10_renewedOpenRow_50 : decode cX10_renewedOpenRow 50 = .ok (.aload_n 0, 1) := dk_42 (dk_at dksX10_renewedOpenRow_2 4 rfl rfl)
theorem dX10_renewedOpenRow_51 : decode cX10_renewedOpenRow 51 = .ok (.getfield 24, 3) := dk_180 0 24 (dk_at dksX10_renewedOpenRow_2 5 rfl rfl)
theorem dX10_renewedOpenRow_54 : decode cX10_renewedOpenRow 54 = .ok (.iload_n 2, 1) := dk_28 (dk_at dksX10_renewedOpenRow_2 8 rfl rfl)
theorem dX10_renewedOpenRow_55 : decode cX10_renewedOpenRow 55 = .ok (.iconst (-1), 1) := dk_2 (dk_at dksX10_renewedOpenRow_2 9 rfl rfl)
theorem dX10_renewedOpenRow_56 : decode cX10_renewedOpenRow 56 = .ok (.if_icmp .ne 15, 3) := dk_160 0 15 (dk_at dksX10_renewedOpenRow_2 10 rfl rfl)
theorem dX10_renewedOpenRow_59 : decode cX10_renewedOpenRow 59 = .ok (.aload_n 0, 1) := dk_42 (dk_at dksX10_renewedOpenRow_2 13 rfl rfl)
theorem dX10_renewedOpenRow_60 : decode cX10_renewedOpenRow 60 = .ok (.getfield 24, 3) := dk_180 0 24 (dk_at dksX10_renewedOpenRow_2 14 rfl rfl)
theorem dX10_renewedOpenRow_63 : decode cX10_renewedOpenRow 63 = .ok (.invokevirtual 111, 3) := dk_182 0 111 (dk_at dksX10_renewedOpenRow_2 17 rfl rfl)
theorem dX10_renewedOpenRow_66 : decode cX10_renewedOpenRow 66 = .ok (.iconst 1, 1) := dk_4 (dk_at dksX10_renewedOpenRow_2 20 rfl rfl)
theorem dX10_renewedOpenRow_67 : decode cX10_renewedOpenRow 67 = .ok (.isub, 1) := dk_100 (dk_at dksX10_renewedOpenRow_2 21 rfl rfl)
theorem dX10_renewedOpenRow_68 : decode cX10_renewedOpenRow 68 = .ok (.goto 4, 3) := dk_167 0 4 (dk_at dksX10_renewedOpenRow_3 0 rfl rfl)
theorem dX10_renewedOpenRow_71 : decode cX10_renewedOpenRow 71 = .ok (.iload_n 2, 1) := dk_28 (dk_at dksX10_renewedOpenRow_3 3 rfl rfl)
theorem dX10_renewedOpenRow_72 : decode cX10_renewedOpenRow 72 = .ok (.invokevirtual 115, 3) := dk_182 0 115 (dk_at dksX10_renewedOpenRow_3 4 rfl rfl)
theorem dX10_renewedOpenRow_75 : decode cX10_renewedOpenRow 75 = .ok (.checkcast 138, 3) := dk_192 0 138 (dk_at dksX10_renewedOpenRow_3 7 rfl rfl)
theorem dX10_renewedOpenRow_78 : decode cX10_renewedOpenRow 78 = .ok (.areturn, 1) := dk_176 (dk_at dksX10_renewedOpenRow_3 10 rfl rfl)
theorem q76 : (Jvm.Cond.initialized "RowenTongue$Renewal") ∈ lw_all := lw_g (lw_at lw_m1 27 rfl) rfl
theorem q394 : (Jvm.Cond.selects "RowenTongue$Renewal" ({ cls := "java/lang/Object", name := "getClass", desc := "()Ljava/lang/Class;" } : Jvm.MethodName) ({ cls := "java/lang/Object", name := "getClass", desc := "()Ljava/lang/Class;" } : Jvm.MethodName)) ∈ lw_all := lw_g (lw_at lw_m2 105 rfl) rfl
theorem q618 : (Jvm.Cond.fieldLinkNest "RowenTongue$Renewal" (80 : Nat) "RowenTongue$Bag" "isVariant" "Z" "RowenTongue") ∈ lw_tbl := lw_at lw_m3 89 rfl
theorem q624 : (Jvm.Cond.fieldLinkNest "RowenTongue$Renewal" (84 : Nat) "RowenTongue$Bag" "row" "LRowenTongue$Row;" "RowenTongue") ∈ lw_tbl := lw_at lw_m3 95 rfl
theorem q630 : (Jvm.Cond.fieldLinkNest "RowenTongue$Renewal" (79 : Nat) "RowenTongue$Bag" "by" "LRowenTongue$Renewal;" "RowenTongue") ∈ lw_tbl := lw_at lw_m3 101 rfl
theorem q631 : (Jvm.Cond.fieldLinkNest "RowenTongue$Renewal" (94 : Nat) "RowenTongue$Bag" "renewed" "LRowenTongue$Bag;" "RowenTongue") ∈ lw_tbl := lw_at lw_m3 102 rfl
theorem q678 : (Jvm.Cond.instantiable "RowenTongue$Renewal" (5 : Nat)) ∈ lw_all := lw_g (lw_at lw_m3 149 rfl) rfl
theorem q680 : (Jvm.Cond.instanceMethod ({ cls := "RowenTongue$Renewal", name := "<init>", desc := "(I)V" } : Jvm.MethodName)) ∈ lw_all := lw_g (lw_at lw_m3 151 rfl) rfl
theorem q681 : (Jvm.Cond.code ({ cls := "RowenTongue$Renewal", name := "<init>", desc := "(I)V" } : Jvm.MethodName) prog_29_method_1_code (2 : Nat) (Option.none : Option Jvm.ClassFile.FieldType)) ∈ lw_all := lw_g (lw_at lw_m3 152 rfl) rfl
theorem q682 : (Jvm.Cond.methodLink "RowenTongue$Renewal" (3 : Nat) ({ cls := "java/lang/Object", name := "<init>", desc := "()V" } : Jvm.MethodName)) ∈ lw_all := lw_g (lw_at lw_m3 153 rfl) rfl
theorem q683 : (Jvm.Cond.classLink "RowenTongue$Renewal" (9 : Nat) "java/util/ArrayList") ∈ lw_all := lw_g (lw_at lw_m3 154 rfl) rfl
theorem q684 : (Jvm.Cond.methodLink "RowenTongue$Renewal" (11 : Nat) ({ cls := "java/util/ArrayList", name := "<init>", desc := "()V" } : Jvm.MethodName)) ∈ lw_all := lw_g (lw_at lw_m3 155 rfl) rfl
theorem q685 : (Jvm.Cond.fieldLink "RowenTongue$Renewal" (12 : Nat) "RowenTongue$Renewal" "opens" "Ljava/util/ArrayList;") ∈ lw_all := lw_g (lw_at lw_m3 156 rfl) rfl
theorem q686 : (Jvm.Cond.fieldLink "RowenTongue$Renewal" (18 : Nat) "RowenTongue$Renewal" "newOpens" "Ljava/util/ArrayList;") ∈ lw_all := lw_g (lw_at lw_m3 157 rfl) rfl
theorem q687 : (Jvm.Cond.fieldLink "RowenTongue$Renewal" (21 : Nat) "RowenTongue$Renewal" "rows" "Ljava/util/ArrayList;") ∈ lw_all := lw_g (lw_at lw_m3 158 rfl) rfl
theorem q688 : (Jvm.Cond.fieldLink "RowenTongue$Renewal" (24 : Nat) "RowenTongue$Renewal" "newRows" "Ljava/util/ArrayList;") ∈ lw_all := lw_g (lw_at lw_m3 159 rfl) rfl
theorem q689 : (Jvm.Cond.fieldLink "RowenTongue$Renewal" (27 : Nat) "RowenTongue$Renewal" "level" "I") ∈ lw_all := lw_g (lw_at lw_m3 160 rfl) rfl
theorem q690 : (Jvm.Cond.laysFinal "RowenTongue$Renewal" "RowenTongue$Renewal" "opens" "Ljava/util/ArrayList;") ∈ lw_all := lw_g (lw_at lw_m3 161 rfl) rfl
theorem q691 : (Jvm.Cond.soleField "RowenTongue$Renewal" "opens") ∈ lw_all := lw_g (lw_at lw_m3 162 rfl) rfl
theorem q692 : (Jvm.Cond.laysFinal "RowenTongue$Renewal" "RowenTongue$Renewal" "newOpens" "Ljava/util/ArrayList;") ∈ lw_all := lw_g (lw_at lw_m3 163 rfl) rfl
theorem q693 : (Jvm.Cond.soleField "RowenTongue$Renewal" "newOpens") ∈ lw_all := lw_g (lw_at lw_m3 164 rfl) rfl
theorem q694 : (Jvm.Cond.laysFinal "RowenTongue$Renewal" "RowenTongue$Renewal" "rows" "Ljava/util/ArrayList;") ∈ lw_all := lw_g (lw_at lw_m3 165 rfl) rfl
theorem q695 : (Jvm.Cond.soleField "RowenTongue$Renewal" "rows") ∈ lw_all := lw_g (lw_at lw_m3 166 rfl) rfl
theorem q696 : (Jvm.Cond.laysFinal "RowenTongue$Renewal" "RowenTongue$Renewal" "newRows" "Ljava/util/ArrayList;") ∈ lw_all := lw_g (lw_at lw_m3 167 rfl) rfl
theorem q697 : (Jvm.Cond.soleField "RowenTongue$Renewal" "newRows") ∈ lw_all := lw_g (lw_at lw_m3 168 rfl) rfl
theorem q698 : (Jvm.Cond.laysFinal "RowenTongue$Renewal" "RowenTongue$Renewal" "level" "I") ∈ lw_all := lw_g (lw_at lw_m3 169 rfl) rfl
theorem q699 : (Jvm.Cond.soleField "RowenTongue$Renewal" "level") ∈ lw_all := lw_g (lw_at lw_m3 170 rfl) rfl
theorem q700 : (Jvm.Cond.superclass "RowenTongue$Renewal" "java/lang/Object") ∈ lw_all := lw_g (lw_at lw_m3 171 rfl) rfl
theorem q702 : (Jvm.Cond.instanceMethod ({ cls := "RowenTongue$Renewal", name := "of", desc := "(LRowenTongue$Type;)LRowenTongue$Type;" } : Jvm.MethodName)) ∈ lw_all := lw_g (lw_at lw_m3 173 rfl) rfl
theorem q703 : (Jvm.Cond.selects "RowenTongue$Renewal" ({ cls := "RowenTongue$Renewal", name := "of", desc := "(LRowenTongue$Type;)LRowenTongue$Type;" } : Jvm.MethodName) ({ cls := "RowenTongue$Renewal", name := "of", desc := "(LRowenTongue$Type;)LRowenTongue$Type;" } : Jvm.MethodName)) ∈ lw_all := lw_g (lw_at lw_m3 174 rfl) rfl
theorem q704 : (Jvm.Cond.code ({ cls := "RowenTongue$Renewal", name := "of", desc := "(LRowenTongue$Type;)LRowenTongue$Type;" } : Jvm.MethodName) prog_29_method_2_code (4 : Nat) (Option.some (Jvm.ClassFile.FieldType.object "RowenTongue$Type"))) ∈ lw_all := lw_g (lw_at lw_m3 175 rfl) rfl
theorem q705 : (Jvm.Cond.methodLink "RowenTongue$Renewal" (31 : Nat) ({ cls := "RowenTongue$Type", name := "now", desc := "()LRowenTongue$Type;" } : Jvm.MethodName)) ∈ lw_all := lw_g (lw_at lw_m3 176 rfl) rfl
theorem q722 : (Jvm.Cond.classLink "RowenTongue$Renewal" (37 : Nat) "RowenTongue$Open") ∈ lw_all := lw_g (lw_at lw_m3 193 rfl) rfl
theorem q723 : (Jvm.Cond.constant "RowenTongue$Renewal" (40 : Nat) (1048576 : Int32)) ∈ lw_all := lw_g (lw_at lw_m3 194 rfl) rfl
theorem q724 : (Jvm.Cond.methodLink "RowenTongue$Renewal" (41 : Nat) ({ cls := "RowenTongue$Renewal", name := "renewedOpen", desc := "(LRowenTongue$Open;)LRowenTongue$Open;" } : Jvm.MethodName)) ∈ lw_all := lw_g (lw_at lw_m3 195 rfl) rfl
theorem q725 : (Jvm.Cond.privateMethod ({ cls := "RowenTongue$Renewal", name := "renewedOpen", desc := "(LRowenTongue$Open;)LRowenTongue$Open;" } : Jvm.MethodName)) ∈ lw_tbl := lw_at lw_m3 196 rfl
theorem q726 : (Jvm.Cond.instanceMethod ({ cls := "RowenTongue$Renewal", name := "renewedOpen", desc := "(LRowenTongue$Open;)LRowenTongue$Open;" } : Jvm.MethodName)) ∈ lw_all := lw_g (lw_at lw_m3 197 rfl) rfl
theorem q727 : (Jvm.Cond.code ({ cls := "RowenTongue$Renewal", name := "renewedOpen", desc := "(LRowenTongue$Open;)LRowenTongue$Open;" } : Jvm.MethodName) prog_29_method_5_code (3 : Nat) (Option.some (Jvm.ClassFile.FieldType.object "RowenTongue$Open"))) ∈ lw_all := lw_g (lw_at lw_m3 198 rfl) rfl
theorem q728 : (Jvm.Cond.methodLink "RowenTongue$Renewal" (97 : Nat) ({ cls := "java/util/ArrayList", name := "indexOf", desc := "(Ljava/lang/Object;)I" } : Jvm.MethodName)) ∈ lw_all := lw_g (lw_at lw_m3 199 rfl) rfl
theorem q768 : (Jvm.Cond.selects "RowenTongue$Renewal" ({ cls := "java/lang/Object", name := "equals", desc := "(Ljava/lang/Object;)Z" } : Jvm.MethodName) ({ cls := "java/lang/Object", name := "equals", desc := "(Ljava/lang/Object;)Z" } : Jvm.MethodName)) ∈ lw_all := lw_g (lw_at lw_m3 239 rfl) rfl
theorem q800 : (Jvm.Cond.methodLink "RowenTongue$Renewal" (101 : Nat) ({ cls := "java/util/ArrayList", name := "add", desc := "(Ljava/lang/Object;)Z" } : Jvm.MethodName)) ∈ lw_all := lw_g (lw_at lw_m4 31 rfl) rfl
theorem q802 : (Jvm.Cond.methodLink "RowenTongue$Renewal" (108 : Nat) ({ cls := "RowenTongue$Open", name := "<init>", desc := "(IZ)V" } : Jvm.MethodName)) ∈ lw_all := lw_g (lw_at lw_m4 33 rfl) rfl
theorem q810 : (Jvm.Cond.fieldLinkNest "RowenTongue$Renewal" (39 : Nat) "RowenTongue$Open" "level" "I" "RowenTongue") ∈ lw_tbl := lw_at lw_m4 41 rfl
theorem q816 : (Jvm.Cond.fieldLinkNest "RowenTongue$Renewal" (105 : Nat) "RowenTongue$Open" "isLike" "Z" "RowenTongue") ∈ lw_tbl := lw_at lw_m4 47 rfl
theorem q824 : (Jvm.Cond.methodLink "RowenTongue$Renewal" (111 : Nat) ({ cls := "java/util/ArrayList", name := "size", desc := "()I" } : Jvm.MethodName)) ∈ lw_all := lw_g (lw_at lw_m4 55 rfl) rfl
theorem q825 : (Jvm.Cond.methodLink "RowenTongue$Renewal" (115 : Nat) ({ cls := "java/util/ArrayList", name := "get", desc := "(I)Ljava/lang/Object;" } : Jvm.MethodName)) ∈ lw_all := lw_g (lw_at lw_m4 56 rfl) rfl
theorem q826 : (Jvm.Cond.classLink "RowenTongue$Renewal" (45 : Nat) "RowenTongue$Function") ∈ lw_all := lw_g (lw_at lw_m4 57 rfl) rfl
theorem q827 : (Jvm.Cond.methodLink "RowenTongue$Renewal" (47 : Nat) ({ cls := "RowenTongue$Renewal", name := "renewedFunction", desc := "(LRowenTongue$Function;)LRowenTongue$Function;" } : Jvm.MethodName)) ∈ lw_all := lw_g (lw_at lw_m4 58 rfl) rfl
theorem q828 : (Jvm.Cond.privateMethod ({ cls := "RowenTongue$Renewal", name := "renewedFunction", desc := "(LRowenTongue$Function;)LRowenTongue$Function;" } : Jvm.MethodName)) ∈ lw_tbl := lw_at lw_m4 59 rfl
theorem q829 : (Jvm.Cond.instanceMethod ({ cls := "RowenTongue$Renewal", name := "renewedFunction", desc := "(LRowenTongue$Function;)LRowenTongue$Function;" } : Jvm.MethodName)) ∈ lw_all := lw_g (lw_at lw_m4 60 rfl) rfl
theorem q830 : (Jvm.Cond.code ({ cls := "RowenTongue$Renewal", name := "renewedFunction", desc := "(LRowenTongue$Function;)LRowenTongue$Function;" } : Jvm.MethodName) prog_29_method_3_code (3 : Nat) (Option.some (Jvm.ClassFile.FieldType.object "RowenTongue$Function"))) ∈ lw_all := lw_g (lw_at lw_m4 61 rfl) rfl
theorem q832 : (Jvm.Cond.methodLink "RowenTongue$Renewal" (65 : Nat) ({ cls := "RowenTongue$Renewal", name := "of", desc := "(LRowenTongue$Type;)LRowenTongue$Type;" } : Jvm.MethodName)) ∈ lw_all := lw_g (lw_at lw_m4 63 rfl) rfl
theorem q833 : (Jvm.Cond.methodLink "RowenTongue$Renewal" (72 : Nat) ({ cls := "RowenTongue$Function", name := "<init>", desc := "(LRowenTongue$Type;LRowenTongue$Type;)V" } : Jvm.MethodName)) ∈ lw_all := lw_g (lw_at lw_m4 64 rfl) rfl
theorem q838 : (Jvm.Cond.fieldLinkNest "RowenTongue$Renewal" (61 : Nat) "RowenTongue$Function" "from" "LRowenTongue$Type;" "RowenTongue") ∈ lw_tbl := lw_at lw_m4 69 rfl
theorem q843 : (Jvm.Cond.fieldLinkNest "RowenTongue$Renewal" (69 : Nat) "RowenTongue$Function" "to" "LRowenTongue$Type;" "RowenTongue") ∈ lw_tbl := lw_at lw_m4 74 rfl
theorem q849 : (Jvm.Cond.fieldLinkNest "RowenTongue$Renewal" (57 : Nat) "RowenTongue$Function" "by" "LRowenTongue$Renewal;" "RowenTongue") ∈ lw_tbl := lw_at lw_m4 80 rfl
theorem q850 : (Jvm.Cond.fieldLinkNest "RowenTongue$Renewal" (75 : Nat) "RowenTongue$Function" "renewed" "LRowenTongue$Function;" "RowenTongue") ∈ lw_tbl := lw_at lw_m4 81 rfl
theorem q862 : (Jvm.Cond.classLink "RowenTongue$Renewal" (51 : Nat) "RowenTongue$Bag") ∈ lw_all := lw_g (lw_at lw_m4 93 rfl) rfl
theorem q863 : (Jvm.Cond.methodLink "RowenTongue$Renewal" (53 : Nat) ({ cls := "RowenTongue$Renewal", name := "renewedBag", desc := "(LRowenTongue$Bag;)LRowenTongue$Bag;" } : Jvm.MethodName)) ∈ lw_all := lw_g (lw_at lw_m4 94 rfl) rfl
theorem q864 : (Jvm.Cond.privateMethod ({ cls := "RowenTongue$Renewal", name := "renewedBag", desc := "(LRowenTongue$Bag;)LRowenTongue$Bag;" } : Jvm.MethodName)) ∈ lw_tbl := lw_at lw_m4 95 rfl
theorem q865 : (Jvm.Cond.instanceMethod ({ cls := "RowenTongue$Renewal", name := "renewedBag", desc := "(LRowenTongue$Bag;)LRowenTongue$Bag;" } : Jvm.MethodName)) ∈ lw_all := lw_g (lw_at lw_m4 96 rfl) rfl
theorem q866 : (Jvm.Cond.code ({ cls := "RowenTongue$Renewal", name := "renewedBag", desc := "(LRowenTongue$Bag;)LRowenTongue$Bag;" } : Jvm.MethodName) prog_29_method_4_code (3 : Nat) (Option.some (Jvm.ClassFile.FieldType.object "RowenTongue$Bag"))) ∈ lw_all := lw_g (lw_at lw_m4 97 rfl) rfl
theorem q867 : (Jvm.Cond.methodLink "RowenTongue$Renewal" (88 : Nat) ({ cls := "RowenTongue$Renewal", name := "of", desc := "(LRowenTongue$Row;)LRowenTongue$Row;" } : Jvm.MethodName)) ∈ lw_all := lw_g (lw_at lw_m4 98 rfl) rfl
theorem q868 : (Jvm.Cond.instanceMethod ({ cls := "RowenTongue$Renewal", name := "of", desc := "(LRowenTongue$Row;)LRowenTongue$Row;" } : Jvm.MethodName)) ∈ lw_all := lw_g (lw_at lw_m4 99 rfl) rfl
theorem q869 : (Jvm.Cond.selects "RowenTongue$Renewal" ({ cls := "RowenTongue$Renewal", name := "of", desc := "(LRowenTongue$Row;)LRowenTongue$Row;" } : Jvm.MethodName) ({ cls := "RowenTongue$Renewal", name := "of", desc := "(LRowenTongue$Row;)LRowenTongue$Row;" } : Jvm.MethodName)) ∈ lw_all := lw_g (lw_at lw_m4 100 rfl) rfl
theorem q870 : (Jvm.Cond.code ({ cls := "RowenTongue$Renewal", name := "of", desc := "(LRowenTongue$Row;)LRowenTongue$Row;" } : Jvm.MethodName) prog_29_method_6_code (4 : Nat) (Option.some (Jvm.ClassFile.FieldType.object "RowenTongue$Row"))) ∈ lw_all := lw_g (lw_at lw_m4 101 rfl) rfl
theorem q871 : (Jvm.Cond.methodLink "RowenTongue$Renewal" (119 : Nat) ({ cls := "RowenTongue$Row", name := "now", desc := "()LRowenTongue$Row;" } : Jvm.MethodName)) ∈ lw_all := lw_g (lw_at lw_m4 102 rfl) rfl
theorem q881 : (Jvm.Cond.classLink "RowenTongue$Renewal" (124 : Nat) "RowenTongue$Cell") ∈ lw_all := lw_g (lw_at lw_m4 112 rfl) rfl
theorem q883 : (Jvm.Cond.methodLink "RowenTongue$Renewal" (135 : Nat) ({ cls := "RowenTongue$Cell", name := "<init>", desc := "(ILRowenTongue$Type;LRowenTongue$Row;)V" } : Jvm.MethodName)) ∈ lw_all := lw_g (lw_at lw_m4 114 rfl) rfl
theorem q892 : (Jvm.Cond.fieldLinkNest "RowenTongue$Renewal" (126 : Nat) "RowenTongue$Cell" "label" "I" "RowenTongue") ∈ lw_tbl := lw_at lw_m4 123 rfl
theorem q897 : (Jvm.Cond.fieldLinkNest "RowenTongue$Renewal" (129 : Nat) "RowenTongue$Cell" "type" "LRowenTongue$Type;" "RowenTongue") ∈ lw_tbl := lw_at lw_m4 128 rfl
theorem q901 : (Jvm.Cond.fieldLinkNest "RowenTongue$Renewal" (132 : Nat) "RowenTongue$Cell" "rest" "LRowenTongue$Row;" "RowenTongue") ∈ lw_tbl := lw_at lw_m4 132 rfl
theorem q910 : (Jvm.Cond.classLink "RowenTongue$Renewal" (138 : Nat) "RowenTongue$OpenRow") ∈ lw_all := lw_g (lw_at lw_m4 141 rfl) rfl
theorem q911 : (Jvm.Cond.methodLink "RowenTongue$Renewal" (141 : Nat) ({ cls := "RowenTongue$Renewal", name := "renewedOpenRow", desc := "(LRowenTongue$OpenRow;)LRowenTongue$OpenRow;" } : Jvm.MethodName)) ∈ lw_all := lw_g (lw_at lw_m4 142 rfl) rfl
theorem q912 : (Jvm.Cond.instanceMethod ({ cls := "RowenTongue$Renewal", name := "renewedOpenRow", desc := "(LRowenTongue$OpenRow;)LRowenTongue$OpenRow;" } : Jvm.MethodName)) ∈ lw_all := lw_g (lw_at lw_m4 143 rfl) rfl
theorem q913 : (Jvm.Cond.selects "RowenTongue$Renewal" ({ cls := "RowenTongue$Renewal", name := "renewedOpenRow", desc := "(LRowenTongue$OpenRow;)LRowenTongue$OpenRow;" } : Jvm.MethodName) ({ cls := "RowenTongue$Renewal", name := "renewedOpenRow", desc := "(LRowenTongue$OpenRow;)LRowenTongue$OpenRow;" } : Jvm.MethodName)) ∈ lw_all := lw_g (lw_at lw_m4 144 rfl) rfl
theorem q914 : (Jvm.Cond.code ({ cls := "RowenTongue$Renewal", name := "renewedOpenRow", desc := "(LRowenTongue$OpenRow;)LRowenTongue$OpenRow;" } : Jvm.MethodName) prog_29_method_7_code (3 : Nat) (Option.some (Jvm.ClassFile.FieldType.object "RowenTongue$OpenRow"))) ∈ lw_all := lw_g (lw_at lw_m4 145 rfl) rfl
theorem q916 : (Jvm.Cond.methodLink "RowenTongue$Renewal" (149 : Nat) ({ cls := "RowenTongue$OpenRow", name := "<init>", desc := "(IZI)V" } : Jvm.MethodName)) ∈ lw_all := lw_g (lw_at lw_m4 147 rfl) rfl
theorem q925 : (Jvm.Cond.fieldLinkNest "RowenTongue$Renewal" (140 : Nat) "RowenTongue$OpenRow" "level" "I" "RowenTongue") ∈ lw_tbl := lw_at lw_m4 156 rfl
theorem q929 : (Jvm.Cond.fieldLinkNest "RowenTongue$Renewal" (145 : Nat) "RowenTongue$OpenRow" "isLike" "Z" "RowenTongue") ∈ lw_tbl := lw_at lw_m4 160 rfl
theorem q933 : (Jvm.Cond.fieldLinkNest "RowenTongue$Renewal" (146 : Nat) "RowenTongue$OpenRow" "lacks" "I" "RowenTongue") ∈ lw_tbl := lw_at lw_m4 164 rfl
theorem q944 : (Jvm.Cond.methodLink "RowenTongue$Renewal" (91 : Nat) ({ cls := "RowenTongue$Bag", name := "<init>", desc := "(ZLRowenTongue$Row;)V" } : Jvm.MethodName)) ∈ lw_all := lw_g (lw_at lw_m4 175 rfl) rfl
theorem q2900 : (Jvm.Cond.castable "RowenTongue$Renewal" "java/lang/Object") ∈ lw_tbl := lw_at lw_m12 211 rfl
theorem in_X10 : ∀ w ∈ wsX100, w ∈ lw_all := lw_in wsX100 [690, 692, 694, 696, 698] (by decide +kernel) (by decide +kernel)
/-! RowenTongue$Open -/
set_option maxRecDepth 100000
def RX11 : String := "RowenTongue$Open"
def TX11 : u_T := fun k => match k with
  | 0 => ("RowenTongue$Open", "bound", "LRowenTongue$Type;", false)
  | 1 => ("RowenTongue$Open", "level", "I", false)
  | _ => ("RowenTongue$Open", "isLike", "Z", false)
def tyX11 : Nat → FieldType := fun k => match k with
  | 0 => .object "RowenTongue$Type"
  | 1 => .int
  | _ => .boolean
abbrev wsX110 : List Cond := u_ws RX11 TX11 3
theorem nmX11 : ∀ a, a < 3 → ∀ b, b < 3 → a ≠ b → (TX11 a).2.1 ≠ (TX11 b).2.1 := by decide +kernel
theorem tyX11_ok : ∀ k, k < 3 → parseFieldDescriptor (TX11 k).2.2.1 = some (tyX11 k) := by decide +kernel
abbrev cX11_now : ByteArray := prog_24_method_4_code
def yX11_now : MethodName := ⟨RX11, "now", "()LRowenTongue$Type;"⟩
def dkwX11_now_0 : List UInt8 := [42, 180, 0, 17, 199, 0, 7, 42, 167, 0, 10, 42, 180, 0, 17, 182, 0, 21, 176]
abbrev dktX11_now_0 : List UInt8 := dkwX11_now_0 ++ []
theorem dksX11_now_0 : cX11_now.data.toList.drop 0 = dktX11_now_0 := by decide +kernel
theorem dX11_now_0 : decode cX11_now 0 = .ok (.aload_n 0, 1) := dk_42 (dk_at dksX11_now_0 0 rfl rfl)
theorem dX11_now_1 : decode cX11_now 1 = .ok (.getfield 17, 3) := dk_180 0 17 (dk_at dksX11_now_0 1 rfl rfl)
theorem dX11_now_4 : decode cX11_now 4 = .ok (.ifnonnull 7, 3) := dk_199 0 7 (dk_at dksX11_now_0 4 rfl rfl)
theorem dX11_now_7 : decode cX11_now 7 = .ok (.aload_n 0, 1) := dk_42 (dk_at dksX11_now_0 7 rfl rfl)
theorem dX11_now_8 : decode cX11_now 8 = .ok (.goto 10, 3) := dk_167 0 10 (dk_at dksX11_now_0 8 rfl rfl)
theorem dX11_now_11 : decode cX11_now 11 = .ok (.aload_n 0, 1) := dk_42 (dk_at dksX11_now_0 11 rfl rfl)
theorem dX11_now_12 : decode cX11_now 12 = .ok (.getfield 17, 3) := dk_180 0 17 (dk_at dksX11_now_0 12 rfl rfl)
theorem dX11_now_15 : decode cX11_now 15 = .ok (.invokevirtual 21, 3) := dk_182 0 21 (dk_at dksX11_now_0 15 rfl rfl)
theorem dX11_now_18 : decode cX11_now 18 = .ok (.areturn, 1) := dk_176 (dk_at dksX11_now_0 18 rfl rfl)
abbrev cX11_init : ByteArray := prog_24_method_1_code
def yX11_init : MethodName := ⟨RX11, "<init>", "(IZ)V"⟩
def dkwX11_init_0 : List UInt8 := [42, 183, 0, 1, 42, 27, 181, 0, 7, 42, 28, 181, 0, 13, 177]
abbrev dktX11_init_0 : List UInt8 := dkwX11_init_0 ++ []
theorem dksX11_init_0 : cX11_init.data.toList.drop 0 = dktX11_init_0 := by decide +kernel
theorem dX11_init_0 : decode cX11_init 0 = .ok (.aload_n 0, 1) := dk_42 (dk_at dksX11_init_0 0 rfl rfl)
theorem dX11_init_1 : decode cX11_init 1 = .ok (.invokespecial 1, 3) := dk_183 0 1 (dk_at dksX11_init_0 1 rfl rfl)
theorem dX11_init_4 : decode cX11_init 4 = .ok (.aload_n 0, 1) := dk_42 (dk_at dksX11_init_0 4 rfl rfl)
theorem dX11_init_5 : decode cX11_init 5 = .ok (.iload_n 1, 1) := dk_27 (dk_at dksX11_init_0 5 rfl rfl)
theorem dX11_init_6 : decode cX11_init 6 = .ok (.putfield 7, 3) := dk_181 0 7 (dk_at dksX11_init_0 6 rfl rfl)
theorem dX11_init_9 : decode cX11_init 9 = .ok (.aload_n 0, 1) := dk_42 (dk_at dksX11_init_0 9 rfl rfl)
theorem dX11_init_10 : decode cX11_init 10 = .ok (.iload_n 2, 1) := dk_28 (dk_at dksX11_init_0 10 rfl rfl)
theorem dX11_init_11 : decode cX11_init 11 = .ok (.putfield 13, 3) := dk_181 0 13 (dk_at dksX11_init_0 11 rfl rfl)
theorem dX11_init_14 : decode cX11_init 14 = .ok (.return_, 1) := dk_177 (dk_at dksX11_init_0 14 rfl rfl)
abbrev cX11_isLike : ByteArray := prog_24_method_2_code
def yX11_isLike : MethodName := ⟨RX11, "isLike", "()Z"⟩
theorem dX11_isLike_0 : decode cX11_isLike 0 = .ok (.aload_n 0, 1) := by decide +kernel
theorem dX11_isLike_1 : decode cX11_isLike 1 = .ok (.getfield 13, 3) := by decide +kernel
theorem dX11_isLike_4 : decode cX11_isLike 4 = .ok (.ireturn, 1) := by decide +kernel
abbrev cX11_lacking : ByteArray := prog_24_method_3_code
def yX11_lacking : MethodName := ⟨RX11, "lacking", "()I"⟩
theorem dX11_lacking_0 : decode cX11_lacking 0 = .ok (.iconst 0, 1) := by decide +kernel
theorem dX11_lacking_1 : decode cX11_lacking 1 = .ok (.ireturn, 1) := by decide +kernel
theorem q78 : (Jvm.Cond.initialized "RowenTongue$Open") ∈ lw_all := lw_g (lw_at lw_m1 29 rfl) rfl
theorem q389 : (Jvm.Cond.selects "RowenTongue$Open" ({ cls := "java/lang/Object", name := "getClass", desc := "()Ljava/lang/Class;" } : Jvm.MethodName) ({ cls := "java/lang/Object", name := "getClass", desc := "()Ljava/lang/Class;" } : Jvm.MethodName)) ∈ lw_all := lw_g (lw_at lw_m2 100 rfl) rfl
theorem q715 : (Jvm.Cond.instanceMethod ({ cls := "RowenTongue$Open", name := "now", desc := "()LRowenTongue$Type;" } : Jvm.MethodName)) ∈ lw_all := lw_g (lw_at lw_m3 186 rfl) rfl
theorem q716 : (Jvm.Cond.code ({ cls := "RowenTongue$Open", name := "now", desc := "()LRowenTongue$Type;" } : Jvm.MethodName) prog_24_method_4_code (1 : Nat) (Option.some (Jvm.ClassFile.FieldType.object "RowenTongue$Type"))) ∈ lw_all := lw_g (lw_at lw_m3 187 rfl) rfl
theorem q717 : (Jvm.Cond.methodLink "RowenTongue$Open" (21 : Nat) ({ cls := "RowenTongue$Type", name := "now", desc := "()LRowenTongue$Type;" } : Jvm.MethodName)) ∈ lw_all := lw_g (lw_at lw_m3 188 rfl) rfl
theorem q720 : (Jvm.Cond.selects "RowenTongue$Open" ({ cls := "RowenTongue$Type", name := "now", desc := "()LRowenTongue$Type;" } : Jvm.MethodName) ({ cls := "RowenTongue$Open", name := "now", desc := "()LRowenTongue$Type;" } : Jvm.MethodName)) ∈ lw_all := lw_g (lw_at lw_m3 191 rfl) rfl
theorem q763 : (Jvm.Cond.selects "RowenTongue$Open" ({ cls := "java/lang/Object", name := "equals", desc := "(Ljava/lang/Object;)Z" } : Jvm.MethodName) ({ cls := "java/lang/Object", name := "equals", desc := "(Ljava/lang/Object;)Z" } : Jvm.MethodName)) ∈ lw_all := lw_g (lw_at lw_m3 234 rfl) rfl
theorem q801 : (Jvm.Cond.instantiable "RowenTongue$Open" (3 : Nat)) ∈ lw_all := lw_g (lw_at lw_m4 32 rfl) rfl
theorem q803 : (Jvm.Cond.instanceMethod ({ cls := "RowenTongue$Open", name := "<init>", desc := "(IZ)V" } : Jvm.MethodName)) ∈ lw_all := lw_g (lw_at lw_m4 34 rfl) rfl
theorem q804 : (Jvm.Cond.code ({ cls := "RowenTongue$Open", name := "<init>", desc := "(IZ)V" } : Jvm.MethodName) prog_24_method_1_code (3 : Nat) (Option.none : Option Jvm.ClassFile.FieldType)) ∈ lw_all := lw_g (lw_at lw_m4 35 rfl) rfl
theorem q805 : (Jvm.Cond.methodLinkNest "RowenTongue$Open" (1 : Nat) ({ cls := "RowenTongue$Type", name := "<init>", desc := "()V" } : Jvm.MethodName) "RowenTongue") ∈ lw_tbl := lw_at lw_m4 36 rfl
theorem q806 : (Jvm.Cond.fieldLink "RowenTongue$Open" (17 : Nat) "RowenTongue$Open" "bound" "LRowenTongue$Type;") ∈ lw_all := lw_g (lw_at lw_m4 37 rfl) rfl
theorem q808 : (Jvm.Cond.fieldLink "RowenTongue$Open" (7 : Nat) "RowenTongue$Open" "level" "I") ∈ lw_all := lw_g (lw_at lw_m4 39 rfl) rfl
theorem q813 : (Jvm.Cond.fieldLink "RowenTongue$Open" (13 : Nat) "RowenTongue$Open" "isLike" "Z") ∈ lw_all := lw_g (lw_at lw_m4 44 rfl) rfl
theorem q817 : (Jvm.Cond.lays "RowenTongue$Open" "RowenTongue$Open" "bound" "LRowenTongue$Type;") ∈ lw_all := lw_g (lw_at lw_m4 48 rfl) rfl
theorem q818 : (Jvm.Cond.soleField "RowenTongue$Open" "bound") ∈ lw_all := lw_g (lw_at lw_m4 49 rfl) rfl
theorem q819 : (Jvm.Cond.lays "RowenTongue$Open" "RowenTongue$Open" "level" "I") ∈ lw_all := lw_g (lw_at lw_m4 50 rfl) rfl
theorem q820 : (Jvm.Cond.soleField "RowenTongue$Open" "level") ∈ lw_all := lw_g (lw_at lw_m4 51 rfl) rfl
theorem q821 : (Jvm.Cond.lays "RowenTongue$Open" "RowenTongue$Open" "isLike" "Z") ∈ lw_all := lw_g (lw_at lw_m4 52 rfl) rfl
theorem q822 : (Jvm.Cond.soleField "RowenTongue$Open" "isLike") ∈ lw_all := lw_g (lw_at lw_m4 53 rfl) rfl
theorem q823 : (Jvm.Cond.superclass "RowenTongue$Open" "RowenTongue$Type") ∈ lw_all := lw_g (lw_at lw_m4 54 rfl) rfl
theorem q1676 : (Jvm.Cond.castable "RowenTongue$Open" "RowenTongue$Variable") ∈ lw_tbl := lw_at lw_m7 187 rfl
theorem q1677 : (Jvm.Cond.selects "RowenTongue$Open" ({ cls := "RowenTongue$Variable", name := "isLike", desc := "()Z" } : Jvm.MethodName) ({ cls := "RowenTongue$Open", name := "isLike", desc := "()Z" } : Jvm.MethodName)) ∈ lw_all := lw_g (lw_at lw_m7 188 rfl) rfl
theorem q1678 : (Jvm.Cond.unhidden "RowenTongue$Open" "isLike" "()Z") ∈ lw_tbl := lw_at lw_m7 189 rfl
theorem q1679 : (Jvm.Cond.instanceMethod ({ cls := "RowenTongue$Open", name := "isLike", desc := "()Z" } : Jvm.MethodName)) ∈ lw_all := lw_g (lw_at lw_m7 190 rfl) rfl
theorem q1680 : (Jvm.Cond.publicMethod ({ cls := "RowenTongue$Open", name := "isLike", desc := "()Z" } : Jvm.MethodName)) ∈ lw_tbl := lw_at lw_m7 191 rfl
theorem q1681 : (Jvm.Cond.code ({ cls := "RowenTongue$Open", name := "isLike", desc := "()Z" } : Jvm.MethodName) prog_24_method_2_code (1 : Nat) (Option.some Jvm.ClassFile.FieldType.boolean)) ∈ lw_all := lw_g (lw_at lw_m7 192 rfl) rfl
theorem q1692 : (Jvm.Cond.selects "RowenTongue$Open" ({ cls := "RowenTongue$Variable", name := "lacking", desc := "()I" } : Jvm.MethodName) ({ cls := "RowenTongue$Open", name := "lacking", desc := "()I" } : Jvm.MethodName)) ∈ lw_all := lw_g (lw_at lw_m7 203 rfl) rfl
theorem q1693 : (Jvm.Cond.unhidden "RowenTongue$Open" "lacking" "()I") ∈ lw_tbl := lw_at lw_m7 204 rfl
theorem q1694 : (Jvm.Cond.instanceMethod ({ cls := "RowenTongue$Open", name := "lacking", desc := "()I" } : Jvm.MethodName)) ∈ lw_all := lw_g (lw_at lw_m7 205 rfl) rfl
theorem q1695 : (Jvm.Cond.publicMethod ({ cls := "RowenTongue$Open", name := "lacking", desc := "()I" } : Jvm.MethodName)) ∈ lw_tbl := lw_at lw_m7 206 rfl
theorem q1696 : (Jvm.Cond.code ({ cls := "RowenTongue$Open", name := "lacking", desc := "()I" } : Jvm.MethodName) prog_24_method_3_code (1 : Nat) (Option.some Jvm.ClassFile.FieldType.int)) ∈ lw_all := lw_g (lw_at lw_m7 207 rfl) rfl
theorem q2869 : (Jvm.Cond.castable "RowenTongue$Open" "RowenTongue$Type") ∈ lw_tbl := lw_at lw_m12 180 rfl
theorem q2901 : (Jvm.Cond.castable "RowenTongue$Open" "java/lang/Object") ∈ lw_tbl := lw_at lw_m12 212 rfl
theorem in_X11 : ∀ w ∈ wsX110, w ∈ lw_all := lw_in wsX110 [817, 819, 821] (by decide +kernel) (by decide +kernel)
/-! RowenTongue$Function -/
set_option maxRecDepth 100000
def RX12 : String := "RowenTongue$Function"
def TX12 : u_T := fun k => match k with
  | 0 => ("RowenTongue$Function", "from", "LRowenTongue$Type;", true)
  | 1 => ("RowenTongue$Function", "to", "LRowenTongue$Type;", true)
  | 2 => ("RowenTongue$Function", "same", "LRowenTongue$Type;", false)
  | 3 => ("RowenTongue$Function", "by", "LRowenTongue$Renewal;", false)
  | _ => ("RowenTongue$Function", "renewed", "LRowenTongue$Function;", false)
def tyX12 : Nat → FieldType := fun k => match k with
  | 0 => .object "RowenTongue$Type"
  | 1 => .object "RowenTongue$Type"
  | 2 => .object "RowenTongue$Type"
  | 3 => .object "RowenTongue$Renewal"
  | _ => .object "RowenTongue$Function"
abbrev wsX120 : List Cond := u_ws RX12 TX12 5
theorem nmX12 : ∀ a, a < 5 → ∀ b, b < 5 → a ≠ b → (TX12 a).2.1 ≠ (TX12 b).2.1 := by decide +kernel
theorem tyX12_ok : ∀ k, k < 5 → parseFieldDescriptor (TX12 k).2.2.1 = some (tyX12 k) := by decide +kernel
abbrev cX12_now : ByteArray := prog_16_method_2_code
def yX12_now : MethodName := ⟨RX12, "now", "()LRowenTongue$Type;"⟩
def dkwX12_now_0 : List UInt8 := [42, 180, 0, 16, 199, 0, 7, 42, 167, 0, 10, 42, 180, 0, 16, 182, 0, 19, 176]
abbrev dktX12_now_0 : List UInt8 := dkwX12_now_0 ++ []
theorem dksX12_now_0 : cX12_now.data.toList.drop 0 = dktX12_now_0 := by decide +kernel
theorem dX12_now_0 : decode cX12_now 0 = .ok (.aload_n 0, 1) := dk_42 (dk_at dksX12_now_0 0 rfl rfl)
theorem dX12_now_1 : decode cX12_now 1 = .ok (.getfield 16, 3) := dk_180 0 16 (dk_at dksX12_now_0 1 rfl rfl)
theorem dX12_now_4 : decode cX12_now 4 = .ok (.ifnonnull 7, 3) := dk_199 0 7 (dk_at dksX12_now_0 4 rfl rfl)
theorem dX12_now_7 : decode cX12_now 7 = .ok (.aload_n 0, 1) := dk_42 (dk_at dksX12_now_0 7 rfl rfl)
theorem dX12_now_8 : decode cX12_now 8 = .ok (.goto 10, 3) := dk_167 0 10 (dk_at dksX12_now_0 8 rfl rfl)
theorem dX12_now_11 : decode cX12_now 11 = .ok (.aload_n 0, 1) := dk_42 (dk_at dksX12_now_0 11 rfl rfl)
theorem dX12_now_12 : decode cX12_now 12 = .ok (.getfield 16, 3) := dk_180 0 16 (dk_at dksX12_now_0 12 rfl rfl)
theorem dX12_now_15 : decode cX12_now 15 = .ok (.invokevirtual 19, 3) := dk_182 0 19 (dk_at dksX12_now_0 15 rfl rfl)
theorem dX12_now_18 : decode cX12_now 18 = .ok (.areturn, 1) := dk_176 (dk_at dksX12_now_0 18 rfl rfl)
abbrev cX12_init : ByteArray := prog_16_method_1_code
def yX12_init : MethodName := ⟨RX12, "<init>", "(LRowenTongue$Type;LRowenTongue$Type;)V"⟩
def dkwX12_init_0 : List UInt8 := [42, 183, 0, 1, 42, 43, 181, 0, 7, 42, 44, 181, 0, 13, 177]
abbrev dktX12_init_0 : List UInt8 := dkwX12_init_0 ++ []
theorem dksX12_init_0 : cX12_init.data.toList.drop 0 = dktX12_init_0 := by decide +kernel
theorem dX12_init_0 : decode cX12_init 0 = .ok (.aload_n 0, 1) := dk_42 (dk_at dksX12_init_0 0 rfl rfl)
theorem dX12_init_1 : decode cX12_init 1 = .ok (.invokespecial 1, 3) := dk_183 0 1 (dk_at dksX12_init_0 1 rfl rfl)
theorem dX12_init_4 : decode cX12_init 4 = .ok (.aload_n 0, 1) := dk_42 (dk_at dksX12_init_0 4 rfl rfl)
theorem dX12_init_5 : decode cX12_init 5 = .ok (.aload_n 1, 1) := dk_43 (dk_at dksX12_init_0 5 rfl rfl)
theorem dX12_init_6 : decode cX12_init 6 = .ok (.putfield 7, 3) := dk_181 0 7 (dk_at dksX12_init_0 6 rfl rfl)
theorem dX12_init_9 : decode cX12_init 9 = .ok (.aload_n 0, 1) := dk_42 (dk_at dksX12_init_0 9 rfl rfl)
theorem dX12_init_10 : decode cX12_init 10 = .ok (.aload_n 2, 1) := dk_44 (dk_at dksX12_init_0 10 rfl rfl)
theorem dX12_init_11 : decode cX12_init 11 = .ok (.putfield 13, 3) := dk_181 0 13 (dk_at dksX12_init_0 11 rfl rfl)
theorem dX12_init_14 : decode cX12_init 14 = .ok (.return_, 1) := dk_177 (dk_at dksX12_init_0 14 rfl rfl)
theorem q79 : (Jvm.Cond.initialized "RowenTongue$Function") ∈ lw_all := lw_g (lw_at lw_m1 30 rfl) rfl
theorem q381 : (Jvm.Cond.selects "RowenTongue$Function" ({ cls := "java/lang/Object", name := "getClass", desc := "()Ljava/lang/Class;" } : Jvm.MethodName) ({ cls := "java/lang/Object", name := "getClass", desc := "()Ljava/lang/Class;" } : Jvm.MethodName)) ∈ lw_all := lw_g (lw_at lw_m2 92 rfl) rfl
theorem q712 : (Jvm.Cond.instanceMethod ({ cls := "RowenTongue$Function", name := "now", desc := "()LRowenTongue$Type;" } : Jvm.MethodName)) ∈ lw_all := lw_g (lw_at lw_m3 183 rfl) rfl
theorem q713 : (Jvm.Cond.code ({ cls := "RowenTongue$Function", name := "now", desc := "()LRowenTongue$Type;" } : Jvm.MethodName) prog_16_method_2_code (1 : Nat) (Option.some (Jvm.ClassFile.FieldType.object "RowenTongue$Type"))) ∈ lw_all := lw_g (lw_at lw_m3 184 rfl) rfl
theorem q714 : (Jvm.Cond.methodLink "RowenTongue$Function" (19 : Nat) ({ cls := "RowenTongue$Type", name := "now", desc := "()LRowenTongue$Type;" } : Jvm.MethodName)) ∈ lw_all := lw_g (lw_at lw_m3 185 rfl) rfl
theorem q718 : (Jvm.Cond.selects "RowenTongue$Function" ({ cls := "RowenTongue$Type", name := "now", desc := "()LRowenTongue$Type;" } : Jvm.MethodName) ({ cls := "RowenTongue$Function", name := "now", desc := "()LRowenTongue$Type;" } : Jvm.MethodName)) ∈ lw_all := lw_g (lw_at lw_m3 189 rfl) rfl
theorem q755 : (Jvm.Cond.selects "RowenTongue$Function" ({ cls := "java/lang/Object", name := "equals", desc := "(Ljava/lang/Object;)Z" } : Jvm.MethodName) ({ cls := "java/lang/Object", name := "equals", desc := "(Ljava/lang/Object;)Z" } : Jvm.MethodName)) ∈ lw_all := lw_g (lw_at lw_m3 226 rfl) rfl
theorem q831 : (Jvm.Cond.instantiable "RowenTongue$Function" (5 : Nat)) ∈ lw_all := lw_g (lw_at lw_m4 62 rfl) rfl
theorem q834 : (Jvm.Cond.instanceMethod ({ cls := "RowenTongue$Function", name := "<init>", desc := "(LRowenTongue$Type;LRowenTongue$Type;)V" } : Jvm.MethodName)) ∈ lw_all := lw_g (lw_at lw_m4 65 rfl) rfl
theorem q835 : (Jvm.Cond.code ({ cls := "RowenTongue$Function", name := "<init>", desc := "(LRowenTongue$Type;LRowenTongue$Type;)V" } : Jvm.MethodName) prog_16_method_1_code (3 : Nat) (Option.none : Option Jvm.ClassFile.FieldType)) ∈ lw_all := lw_g (lw_at lw_m4 66 rfl) rfl
theorem q836 : (Jvm.Cond.methodLinkNest "RowenTongue$Function" (1 : Nat) ({ cls := "RowenTongue$Type", name := "<init>", desc := "()V" } : Jvm.MethodName) "RowenTongue") ∈ lw_tbl := lw_at lw_m4 67 rfl
theorem q837 : (Jvm.Cond.fieldLink "RowenTongue$Function" (7 : Nat) "RowenTongue$Function" "from" "LRowenTongue$Type;") ∈ lw_all := lw_g (lw_at lw_m4 68 rfl) rfl
theorem q842 : (Jvm.Cond.fieldLink "RowenTongue$Function" (13 : Nat) "RowenTongue$Function" "to" "LRowenTongue$Type;") ∈ lw_all := lw_g (lw_at lw_m4 73 rfl) rfl
theorem q847 : (Jvm.Cond.fieldLink "RowenTongue$Function" (16 : Nat) "RowenTongue$Function" "same" "LRowenTongue$Type;") ∈ lw_all := lw_g (lw_at lw_m4 78 rfl) rfl
theorem q851 : (Jvm.Cond.laysFinal "RowenTongue$Function" "RowenTongue$Function" "from" "LRowenTongue$Type;") ∈ lw_all := lw_g (lw_at lw_m4 82 rfl) rfl
theorem q852 : (Jvm.Cond.soleField "RowenTongue$Function" "from") ∈ lw_all := lw_g (lw_at lw_m4 83 rfl) rfl
theorem q853 : (Jvm.Cond.laysFinal "RowenTongue$Function" "RowenTongue$Function" "to" "LRowenTongue$Type;") ∈ lw_all := lw_g (lw_at lw_m4 84 rfl) rfl
theorem q854 : (Jvm.Cond.soleField "RowenTongue$Function" "to") ∈ lw_all := lw_g (lw_at lw_m4 85 rfl) rfl
theorem q855 : (Jvm.Cond.lays "RowenTongue$Function" "RowenTongue$Function" "same" "LRowenTongue$Type;") ∈ lw_all := lw_g (lw_at lw_m4 86 rfl) rfl
theorem q856 : (Jvm.Cond.soleField "RowenTongue$Function" "same") ∈ lw_all := lw_g (lw_at lw_m4 87 rfl) rfl
theorem q857 : (Jvm.Cond.lays "RowenTongue$Function" "RowenTongue$Function" "by" "LRowenTongue$Renewal;") ∈ lw_all := lw_g (lw_at lw_m4 88 rfl) rfl
theorem q858 : (Jvm.Cond.soleField "RowenTongue$Function" "by") ∈ lw_all := lw_g (lw_at lw_m4 89 rfl) rfl
theorem q859 : (Jvm.Cond.lays "RowenTongue$Function" "RowenTongue$Function" "renewed" "LRowenTongue$Function;") ∈ lw_all := lw_g (lw_at lw_m4 90 rfl) rfl
theorem q860 : (Jvm.Cond.soleField "RowenTongue$Function" "renewed") ∈ lw_all := lw_g (lw_at lw_m4 91 rfl) rfl
theorem q861 : (Jvm.Cond.superclass "RowenTongue$Function" "RowenTongue$Type") ∈ lw_all := lw_g (lw_at lw_m4 92 rfl) rfl
theorem q2867 : (Jvm.Cond.castable "RowenTongue$Function" "RowenTongue$Type") ∈ lw_tbl := lw_at lw_m12 178 rfl
theorem q2902 : (Jvm.Cond.castable "RowenTongue$Function" "java/lang/Object") ∈ lw_tbl := lw_at lw_m12 213 rfl
theorem in_X12 : ∀ w ∈ wsX120, w ∈ lw_all := lw_in wsX120 [851, 853, 855, 857, 859] (by decide +kernel) (by decide +kernel)
/-! RowenTongue$Row -/
set_option maxRecDepth 100000
def RX13 : String := "RowenTongue$Row"
abbrev cX13_now : ByteArray := prog_30_method_2_code
def yX13_now : MethodName := ⟨RX13, "now", "()LRowenTongue$Row;"⟩
theorem dX13_now_0 : decode cX13_now 0 = .ok (.aload_n 0, 1) := by decide +kernel
theorem dX13_now_1 : decode cX13_now 1 = .ok (.areturn, 1) := by decide +kernel
abbrev cX13_init : ByteArray := prog_30_method_1_code
def yX13_init : MethodName := ⟨RX13, "<init>", "()V"⟩
theorem dX13_init_0 : decode cX13_init 0 = .ok (.aload_n 0, 1) := by decide +kernel
theorem dX13_init_1 : decode cX13_init 1 = .ok (.invokespecial 1, 3) := by decide +kernel
theorem dX13_init_4 : decode cX13_init 4 = .ok (.return_, 1) := by decide +kernel
theorem q80 : (Jvm.Cond.initialized "RowenTongue$Row") ∈ lw_all := lw_g (lw_at lw_m1 31 rfl) rfl
theorem q872 : (Jvm.Cond.instanceMethod ({ cls := "RowenTongue$Row", name := "now", desc := "()LRowenTongue$Row;" } : Jvm.MethodName)) ∈ lw_all := lw_g (lw_at lw_m4 103 rfl) rfl
theorem q873 : (Jvm.Cond.sameMethod "RowenTongue$Row" "RowenTongue$Row" "now" "()LRowenTongue$Row;") ∈ lw_all := lw_g (lw_at lw_m4 104 rfl) rfl
theorem q880 : (Jvm.Cond.code ({ cls := "RowenTongue$Row", name := "now", desc := "()LRowenTongue$Row;" } : Jvm.MethodName) prog_30_method_2_code (1 : Nat) (Option.some (Jvm.ClassFile.FieldType.object "RowenTongue$Row"))) ∈ lw_all := lw_g (lw_at lw_m4 111 rfl) rfl
theorem q887 : (Jvm.Cond.instanceMethod ({ cls := "RowenTongue$Row", name := "<init>", desc := "()V" } : Jvm.MethodName)) ∈ lw_all := lw_g (lw_at lw_m4 118 rfl) rfl
theorem q888 : (Jvm.Cond.code ({ cls := "RowenTongue$Row", name := "<init>", desc := "()V" } : Jvm.MethodName) prog_30_method_1_code (1 : Nat) (Option.none : Option Jvm.ClassFile.FieldType)) ∈ lw_all := lw_g (lw_at lw_m4 119 rfl) rfl
theorem q889 : (Jvm.Cond.methodLink "RowenTongue$Row" (1 : Nat) ({ cls := "java/lang/Object", name := "<init>", desc := "()V" } : Jvm.MethodName)) ∈ lw_all := lw_g (lw_at lw_m4 120 rfl) rfl
/-! RowenTongue$Cell -/
set_option maxRecDepth 100000
def RX14 : String := "RowenTongue$Cell"
def TX14 : u_T := fun k => match k with
  | 0 => ("RowenTongue$Cell", "label", "I", true)
  | 1 => ("RowenTongue$Cell", "type", "LRowenTongue$Type;", true)
  | _ => ("RowenTongue$Cell", "rest", "LRowenTongue$Row;", true)
def tyX14 : Nat → FieldType := fun k => match k with
  | 0 => .int
  | 1 => .object "RowenTongue$Type"
  | _ => .object "RowenTongue$Row"
abbrev wsX140 : List Cond := u_ws RX14 TX14 3
theorem nmX14 : ∀ a, a < 3 → ∀ b, b < 3 → a ≠ b → (TX14 a).2.1 ≠ (TX14 b).2.1 := by decide +kernel
theorem tyX14_ok : ∀ k, k < 3 → parseFieldDescriptor (TX14 k).2.2.1 = some (tyX14 k) := by decide +kernel
abbrev cX14_init : ByteArray := prog_7_method_1_code
def yX14_init : MethodName := ⟨RX14, "<init>", "(ILRowenTongue$Type;LRowenTongue$Row;)V"⟩
def dkwX14_init_0 : List UInt8 := [42, 183, 0, 1, 42, 27, 181, 0, 7, 42, 44, 181, 0, 13, 42, 45, 181, 0, 17, 177]
abbrev dktX14_init_0 : List UInt8 := dkwX14_init_0 ++ []
theorem dksX14_init_0 : cX14_init.data.toList.drop 0 = dktX14_init_0 := by decide +kernel
theorem dX14_init_0 : decode cX14_init 0 = .ok (.aload_n 0, 1) := dk_42 (dk_at dksX14_init_0 0 rfl rfl)
theorem dX14_init_1 : decode cX14_init 1 = .ok (.invokespecial 1, 3) := dk_183 0 1 (dk_at dksX14_init_0 1 rfl rfl)
theorem dX14_init_4 : decode cX14_init 4 = .ok (.aload_n 0, 1) := dk_42 (dk_at dksX14_init_0 4 rfl rfl)
theorem dX14_init_5 : decode cX14_init 5 = .ok (.iload_n 1, 1) := dk_27 (dk_at dksX14_init_0 5 rfl rfl)
theorem dX14_init_6 : decode cX14_init 6 = .ok (.putfield 7, 3) := dk_181 0 7 (dk_at dksX14_init_0 6 rfl rfl)
theorem dX14_init_9 : decode cX14_init 9 = .ok (.aload_n 0, 1) := dk_42 (dk_at dksX14_init_0 9 rfl rfl)
theorem dX14_init_10 : decode cX14_init 10 = .ok (.aload_n 2, 1) := dk_44 (dk_at dksX14_init_0 10 rfl rfl)
theorem dX14_init_11 : decode cX14_init 11 = .ok (.putfield 13, 3) := dk_181 0 13 (dk_at dksX14_init_0 11 rfl rfl)
theorem dX14_init_14 : decode cX14_init 14 = .ok (.aload_n 0, 1) := dk_42 (dk_at dksX14_init_0 14 rfl rfl)
theorem dX14_init_15 : decode cX14_init 15 = .ok (.aload_n 3, 1) := dk_45 (dk_at dksX14_init_0 15 rfl rfl)
theorem dX14_init_16 : decode cX14_init 16 = .ok (.putfield 17, 3) := dk_181 0 17 (dk_at dksX14_init_0 16 rfl rfl)
theorem dX14_init_19 : decode cX14_init 19 = .ok (.return_, 1) := dk_177 (dk_at dksX14_init_0 19 rfl rfl)
theorem q81 : (Jvm.Cond.initialized "RowenTongue$Cell") ∈ lw_all := lw_g (lw_at lw_m1 32 rfl) rfl
theorem q372 : (Jvm.Cond.selects "RowenTongue$Cell" ({ cls := "java/lang/Object", name := "getClass", desc := "()Ljava/lang/Class;" } : Jvm.MethodName) ({ cls := "java/lang/Object", name := "getClass", desc := "()Ljava/lang/Class;" } : Jvm.MethodName)) ∈ lw_all := lw_g (lw_at lw_m2 83 rfl) rfl
theorem q746 : (Jvm.Cond.selects "RowenTongue$Cell" ({ cls := "java/lang/Object", name := "equals", desc := "(Ljava/lang/Object;)Z" } : Jvm.MethodName) ({ cls := "java/lang/Object", name := "equals", desc := "(Ljava/lang/Object;)Z" } : Jvm.MethodName)) ∈ lw_all := lw_g (lw_at lw_m3 217 rfl) rfl
theorem q874 : (Jvm.Cond.selects "RowenTongue$Cell" ({ cls := "RowenTongue$Row", name := "now", desc := "()LRowenTongue$Row;" } : Jvm.MethodName) ({ cls := "RowenTongue$Row", name := "now", desc := "()LRowenTongue$Row;" } : Jvm.MethodName)) ∈ lw_all := lw_g (lw_at lw_m4 105 rfl) rfl
theorem q882 : (Jvm.Cond.instantiable "RowenTongue$Cell" (3 : Nat)) ∈ lw_all := lw_g (lw_at lw_m4 113 rfl) rfl
theorem q884 : (Jvm.Cond.instanceMethod ({ cls := "RowenTongue$Cell", name := "<init>", desc := "(ILRowenTongue$Type;LRowenTongue$Row;)V" } : Jvm.MethodName)) ∈ lw_all := lw_g (lw_at lw_m4 115 rfl) rfl
theorem q885 : (Jvm.Cond.code ({ cls := "RowenTongue$Cell", name := "<init>", desc := "(ILRowenTongue$Type;LRowenTongue$Row;)V" } : Jvm.MethodName) prog_7_method_1_code (4 : Nat) (Option.none : Option Jvm.ClassFile.FieldType)) ∈ lw_all := lw_g (lw_at lw_m4 116 rfl) rfl
theorem q886 : (Jvm.Cond.methodLinkNest "RowenTongue$Cell" (1 : Nat) ({ cls := "RowenTongue$Row", name := "<init>", desc := "()V" } : Jvm.MethodName) "RowenTongue") ∈ lw_tbl := lw_at lw_m4 117 rfl
theorem q890 : (Jvm.Cond.fieldLink "RowenTongue$Cell" (7 : Nat) "RowenTongue$Cell" "label" "I") ∈ lw_all := lw_g (lw_at lw_m4 121 rfl) rfl
theorem q894 : (Jvm.Cond.fieldLink "RowenTongue$Cell" (13 : Nat) "RowenTongue$Cell" "type" "LRowenTongue$Type;") ∈ lw_all := lw_g (lw_at lw_m4 125 rfl) rfl
theorem q898 : (Jvm.Cond.fieldLink "RowenTongue$Cell" (17 : Nat) "RowenTongue$Cell" "rest" "LRowenTongue$Row;") ∈ lw_all := lw_g (lw_at lw_m4 129 rfl) rfl
theorem q903 : (Jvm.Cond.laysFinal "RowenTongue$Cell" "RowenTongue$Cell" "label" "I") ∈ lw_all := lw_g (lw_at lw_m4 134 rfl) rfl
theorem q904 : (Jvm.Cond.soleField "RowenTongue$Cell" "label") ∈ lw_all := lw_g (lw_at lw_m4 135 rfl) rfl
theorem q905 : (Jvm.Cond.laysFinal "RowenTongue$Cell" "RowenTongue$Cell" "type" "LRowenTongue$Type;") ∈ lw_all := lw_g (lw_at lw_m4 136 rfl) rfl
theorem q906 : (Jvm.Cond.soleField "RowenTongue$Cell" "type") ∈ lw_all := lw_g (lw_at lw_m4 137 rfl) rfl
theorem q907 : (Jvm.Cond.laysFinal "RowenTongue$Cell" "RowenTongue$Cell" "rest" "LRowenTongue$Row;") ∈ lw_all := lw_g (lw_at lw_m4 138 rfl) rfl
theorem q908 : (Jvm.Cond.soleField "RowenTongue$Cell" "rest") ∈ lw_all := lw_g (lw_at lw_m4 139 rfl) rfl
theorem q909 : (Jvm.Cond.superclass "RowenTongue$Cell" "RowenTongue$Row") ∈ lw_all := lw_g (lw_at lw_m4 140 rfl) rfl
theorem q2870 : (Jvm.Cond.castable "RowenTongue$Cell" "RowenTongue$Row") ∈ lw_tbl := lw_at lw_m12 181 rfl
theorem q2903 : (Jvm.Cond.castable "RowenTongue$Cell" "java/lang/Object") ∈ lw_tbl := lw_at lw_m12 214 rfl
theorem in_X14 : ∀ w ∈ wsX140, w ∈ lw_all := lw_in wsX140 [903, 905, 907] (by decide +kernel) (by decide +kernel)
/-! RowenTongue$OpenRow -/
set_option maxRecDepth 100000
def RX15 : String := "RowenTongue$OpenRow"
def TX15 : u_T := fun k => match k with
  | 0 => ("RowenTongue$OpenRow", "bound", "LRowenTongue$Row;", false)
  | 1 => ("RowenTongue$OpenRow", "level", "I", false)
  | 2 => ("RowenTongue$OpenRow", "isLike", "Z", false)
  | _ => ("RowenTongue$OpenRow", "lacks", "I", true)
def tyX15 : Nat → FieldType := fun k => match k with
  | 0 => .object "RowenTongue$Row"
  | 1 => .int
  | 2 => .boolean
  | _ => .int
abbrev wsX150 : List Cond := u_ws RX15 TX15 4
theorem nmX15 : ∀ a, a < 4 → ∀ b, b < 4 → a ≠ b → (TX15 a).2.1 ≠ (TX15 b).2.1 := by decide +kernel
theorem tyX15_ok : ∀ k, k < 4 → parseFieldDescriptor (TX15 k).2.2.1 = some (tyX15 k) := by decide +kernel
abbrev cX15_now : ByteArray := prog_25_method_4_code
def yX15_now : MethodName := ⟨RX15, "now", "()LRowenTongue$Row;"⟩
def dkwX15_now_0 : List UInt8 := [42, 180, 0, 20, 199, 0, 7, 42, 167, 0, 10, 42, 180, 0, 20, 182, 0, 24, 176]
abbrev dktX15_now_0 : List UInt8 := dkwX15_now_0 ++ []
theorem dksX15_now_0 : cX15_now.data.toList.drop 0 = dktX15_now_0 := by decide +kernel
theorem dX15_now_0 : decode cX15_now 0 = .ok (.aload_n 0, 1) := dk_42 (dk_at dksX15_now_0 0 rfl rfl)
theorem dX15_now_1 : decode cX15_now 1 = .ok (.getfield 20, 3) := dk_180 0 20 (dk_at dksX15_now_0 1 rfl rfl)
theorem dX15_now_4 : decode cX15_now 4 = .ok (.ifnonnull 7, 3) := dk_199 0 7 (dk_at dksX15_now_0 4 rfl rfl)
theorem dX15_now_7 : decode cX15_now 7 = .ok (.aload_n 0, 1) := dk_42 (dk_at dksX15_now_0 7 rfl rfl)
theorem dX15_now_8 : decode cX15_now 8 = .ok (.goto 10, 3) := dk_167 0 10 (dk_at dksX15_now_0 8 rfl rfl)
theorem dX15_now_11 : decode cX15_now 11 = .ok (.aload_n 0, 1) := dk_42 (dk_at dksX15_now_0 11 rfl rfl)
theorem dX15_now_12 : decode cX15_now 12 = .ok (.getfield 20, 3) := dk_180 0 20 (dk_at dksX15_now_0 12 rfl rfl)
theorem dX15_now_15 : decode cX15_now 15 = .ok (.invokevirtual 24, 3) := dk_182 0 24 (dk_at dksX15_now_0 15 rfl rfl)
theorem dX15_now_18 : decode cX15_now 18 = .ok (.areturn, 1) := dk_176 (dk_at dksX15_now_0 18 rfl rfl)
abbrev cX15_init : ByteArray := prog_25_method_1_code
def yX15_init : MethodName := ⟨RX15, "<init>", "(IZI)V"⟩
def dkwX15_init_0 : List UInt8 := [42, 183, 0, 1, 42, 27, 181, 0, 7, 42, 28, 181, 0, 13, 42, 29, 181, 0, 17, 177]
abbrev dktX15_init_0 : List UInt8 := dkwX15_init_0 ++ []
theorem dksX15_init_0 : cX15_init.data.toList.drop 0 = dktX15_init_0 := by decide +kernel
theorem dX15_init_0 : decode cX15_init 0 = .ok (.aload_n 0, 1) := dk_42 (dk_at dksX15_init_0 0 rfl rfl)
theorem dX15_init_1 : decode cX15_init 1 = .ok (.invokespecial 1, 3) := dk_183 0 1 (dk_at dksX15_init_0 1 rfl rfl)
theorem dX15_init_4 : decode cX15_init 4 = .ok (.aload_n 0, 1) := dk_42 (dk_at dksX15_init_0 4 rfl rfl)
theorem dX15_init_5 : decode cX15_init 5 = .ok (.iload_n 1, 1) := dk_27 (dk_at dksX15_init_0 5 rfl rfl)
theorem dX15_init_6 : decode cX15_init 6 = .ok (.putfield 7, 3) := dk_181 0 7 (dk_at dksX15_init_0 6 rfl rfl)
theorem dX15_init_9 : decode cX15_init 9 = .ok (.aload_n 0, 1) := dk_42 (dk_at dksX15_init_0 9 rfl rfl)
theorem dX15_init_10 : decode cX15_init 10 = .ok (.iload_n 2, 1) := dk_28 (dk_at dksX15_init_0 10 rfl rfl)
theorem dX15_init_11 : decode cX15_init 11 = .ok (.putfield 13, 3) := dk_181 0 13 (dk_at dksX15_init_0 11 rfl rfl)
theorem dX15_init_14 : decode cX15_init 14 = .ok (.aload_n 0, 1) := dk_42 (dk_at dksX15_init_0 14 rfl rfl)
theorem dX15_init_15 : decode cX15_init 15 = .ok (.iload_n 3, 1) := dk_29 (dk_at dksX15_init_0 15 rfl rfl)
theorem dX15_init_16 : decode cX15_init 16 = .ok (.putfield 17, 3) := dk_181 0 17 (dk_at dksX15_init_0 16 rfl rfl)
theorem dX15_init_19 : decode cX15_init 19 = .ok (.return_, 1) := dk_177 (dk_at dksX15_init_0 19 rfl rfl)
abbrev cX15_isLike : ByteArray := prog_25_method_2_code
def yX15_isLike : MethodName := ⟨RX15, "isLike", "()Z"⟩
theorem dX15_isLike_0 : decode cX15_isLike 0 = .ok (.aload_n 0, 1) := by decide +kernel
theorem dX15_isLike_1 : decode cX15_isLike 1 = .ok (.getfield 13, 3) := by decide +kernel
theorem dX15_isLike_4 : decode cX15_isLike 4 = .ok (.ireturn, 1) := by decide +kernel
abbrev cX15_lacking : ByteArray := prog_25_method_3_code
def yX15_lacking : MethodName := ⟨RX15, "lacking", "()I"⟩
theorem dX15_lacking_0 : decode cX15_lacking 0 = .ok (.aload_n 0, 1) := by decide +kernel
theorem dX15_lacking_1 : decode cX15_lacking 1 = .ok (.getfield 17, 3) := by decide +kernel
theorem dX15_lacking_4 : decode cX15_lacking 4 = .ok (.ireturn, 1) := by decide +kernel
theorem q82 : (Jvm.Cond.initialized "RowenTongue$OpenRow") ∈ lw_all := lw_g (lw_at lw_m1 33 rfl) rfl
theorem q390 : (Jvm.Cond.selects "RowenTongue$OpenRow" ({ cls := "java/lang/Object", name := "getClass", desc := "()Ljava/lang/Class;" } : Jvm.MethodName) ({ cls := "java/lang/Object", name := "getClass", desc := "()Ljava/lang/Class;" } : Jvm.MethodName)) ∈ lw_all := lw_g (lw_at lw_m2 101 rfl) rfl
theorem q764 : (Jvm.Cond.selects "RowenTongue$OpenRow" ({ cls := "java/lang/Object", name := "equals", desc := "(Ljava/lang/Object;)Z" } : Jvm.MethodName) ({ cls := "java/lang/Object", name := "equals", desc := "(Ljava/lang/Object;)Z" } : Jvm.MethodName)) ∈ lw_all := lw_g (lw_at lw_m3 235 rfl) rfl
theorem q876 : (Jvm.Cond.selects "RowenTongue$OpenRow" ({ cls := "RowenTongue$Row", name := "now", desc := "()LRowenTongue$Row;" } : Jvm.MethodName) ({ cls := "RowenTongue$OpenRow", name := "now", desc := "()LRowenTongue$Row;" } : Jvm.MethodName)) ∈ lw_all := lw_g (lw_at lw_m4 107 rfl) rfl
theorem q877 : (Jvm.Cond.instanceMethod ({ cls := "RowenTongue$OpenRow", name := "now", desc := "()LRowenTongue$Row;" } : Jvm.MethodName)) ∈ lw_all := lw_g (lw_at lw_m4 108 rfl) rfl
theorem q878 : (Jvm.Cond.code ({ cls := "RowenTongue$OpenRow", name := "now", desc := "()LRowenTongue$Row;" } : Jvm.MethodName) prog_25_method_4_code (1 : Nat) (Option.some (Jvm.ClassFile.FieldType.object "RowenTongue$Row"))) ∈ lw_all := lw_g (lw_at lw_m4 109 rfl) rfl
theorem q879 : (Jvm.Cond.methodLink "RowenTongue$OpenRow" (24 : Nat) ({ cls := "RowenTongue$Row", name := "now", desc := "()LRowenTongue$Row;" } : Jvm.MethodName)) ∈ lw_all := lw_g (lw_at lw_m4 110 rfl) rfl
theorem q915 : (Jvm.Cond.instantiable "RowenTongue$OpenRow" (4 : Nat)) ∈ lw_all := lw_g (lw_at lw_m4 146 rfl) rfl
theorem q917 : (Jvm.Cond.instanceMethod ({ cls := "RowenTongue$OpenRow", name := "<init>", desc := "(IZI)V" } : Jvm.MethodName)) ∈ lw_all := lw_g (lw_at lw_m4 148 rfl) rfl
theorem q918 : (Jvm.Cond.code ({ cls := "RowenTongue$OpenRow", name := "<init>", desc := "(IZI)V" } : Jvm.MethodName) prog_25_method_1_code (4 : Nat) (Option.none : Option Jvm.ClassFile.FieldType)) ∈ lw_all := lw_g (lw_at lw_m4 149 rfl) rfl
theorem q919 : (Jvm.Cond.methodLinkNest "RowenTongue$OpenRow" (1 : Nat) ({ cls := "RowenTongue$Row", name := "<init>", desc := "()V" } : Jvm.MethodName) "RowenTongue") ∈ lw_tbl := lw_at lw_m4 150 rfl
theorem q920 : (Jvm.Cond.fieldLink "RowenTongue$OpenRow" (20 : Nat) "RowenTongue$OpenRow" "bound" "LRowenTongue$Row;") ∈ lw_all := lw_g (lw_at lw_m4 151 rfl) rfl
theorem q922 : (Jvm.Cond.fieldLink "RowenTongue$OpenRow" (7 : Nat) "RowenTongue$OpenRow" "level" "I") ∈ lw_all := lw_g (lw_at lw_m4 153 rfl) rfl
theorem q927 : (Jvm.Cond.fieldLink "RowenTongue$OpenRow" (13 : Nat) "RowenTongue$OpenRow" "isLike" "Z") ∈ lw_all := lw_g (lw_at lw_m4 158 rfl) rfl
theorem q931 : (Jvm.Cond.fieldLink "RowenTongue$OpenRow" (17 : Nat) "RowenTongue$OpenRow" "lacks" "I") ∈ lw_all := lw_g (lw_at lw_m4 162 rfl) rfl
theorem q935 : (Jvm.Cond.lays "RowenTongue$OpenRow" "RowenTongue$OpenRow" "bound" "LRowenTongue$Row;") ∈ lw_all := lw_g (lw_at lw_m4 166 rfl) rfl
theorem q936 : (Jvm.Cond.soleField "RowenTongue$OpenRow" "bound") ∈ lw_all := lw_g (lw_at lw_m4 167 rfl) rfl
theorem q937 : (Jvm.Cond.lays "RowenTongue$OpenRow" "RowenTongue$OpenRow" "level" "I") ∈ lw_all := lw_g (lw_at lw_m4 168 rfl) rfl
theorem q938 : (Jvm.Cond.soleField "RowenTongue$OpenRow" "level") ∈ lw_all := lw_g (lw_at lw_m4 169 rfl) rfl
theorem q939 : (Jvm.Cond.lays "RowenTongue$OpenRow" "RowenTongue$OpenRow" "isLike" "Z") ∈ lw_all := lw_g (lw_at lw_m4 170 rfl) rfl
theorem q940 : (Jvm.Cond.soleField "RowenTongue$OpenRow" "isLike") ∈ lw_all := lw_g (lw_at lw_m4 171 rfl) rfl
theorem q941 : (Jvm.Cond.laysFinal "RowenTongue$OpenRow" "RowenTongue$OpenRow" "lacks" "I") ∈ lw_all := lw_g (lw_at lw_m4 172 rfl) rfl
theorem q942 : (Jvm.Cond.soleField "RowenTongue$OpenRow" "lacks") ∈ lw_all := lw_g (lw_at lw_m4 173 rfl) rfl
theorem q943 : (Jvm.Cond.superclass "RowenTongue$OpenRow" "RowenTongue$Row") ∈ lw_all := lw_g (lw_at lw_m4 174 rfl) rfl
theorem q1682 : (Jvm.Cond.castable "RowenTongue$OpenRow" "RowenTongue$Variable") ∈ lw_tbl := lw_at lw_m7 193 rfl
theorem q1683 : (Jvm.Cond.selects "RowenTongue$OpenRow" ({ cls := "RowenTongue$Variable", name := "isLike", desc := "()Z" } : Jvm.MethodName) ({ cls := "RowenTongue$OpenRow", name := "isLike", desc := "()Z" } : Jvm.MethodName)) ∈ lw_all := lw_g (lw_at lw_m7 194 rfl) rfl
theorem q1684 : (Jvm.Cond.unhidden "RowenTongue$OpenRow" "isLike" "()Z") ∈ lw_tbl := lw_at lw_m7 195 rfl
theorem q1685 : (Jvm.Cond.instanceMethod ({ cls := "RowenTongue$OpenRow", name := "isLike", desc := "()Z" } : Jvm.MethodName)) ∈ lw_all := lw_g (lw_at lw_m7 196 rfl) rfl
theorem q1686 : (Jvm.Cond.publicMethod ({ cls := "RowenTongue$OpenRow", name := "isLike", desc := "()Z" } : Jvm.MethodName)) ∈ lw_tbl := lw_at lw_m7 197 rfl
theorem q1687 : (Jvm.Cond.code ({ cls := "RowenTongue$OpenRow", name := "isLike", desc := "()Z" } : Jvm.MethodName) prog_25_method_2_code (1 : Nat) (Option.some Jvm.ClassFile.FieldType.boolean)) ∈ lw_all := lw_g (lw_at lw_m7 198 rfl) rfl
theorem q1697 : (Jvm.Cond.selects "RowenTongue$OpenRow" ({ cls := "RowenTongue$Variable", name := "lacking", desc := "()I" } : Jvm.MethodName) ({ cls := "RowenTongue$OpenRow", name := "lacking", desc := "()I" } : Jvm.MethodName)) ∈ lw_all := lw_g (lw_at lw_m7 208 rfl) rfl
theorem q1698 : (Jvm.Cond.unhidden "RowenTongue$OpenRow" "lacking" "()I") ∈ lw_tbl := lw_at lw_m7 209 rfl
theorem q1699 : (Jvm.Cond.instanceMethod ({ cls := "RowenTongue$OpenRow", name := "lacking", desc := "()I" } : Jvm.MethodName)) ∈ lw_all := lw_g (lw_at lw_m7 210 rfl) rfl
theorem q1700 : (Jvm.Cond.publicMethod ({ cls := "RowenTongue$OpenRow", name := "lacking", desc := "()I" } : Jvm.MethodName)) ∈ lw_tbl := lw_at lw_m7 211 rfl
theorem q1701 : (Jvm.Cond.code ({ cls := "RowenTongue$OpenRow", name := "lacking", desc := "()I" } : Jvm.MethodName) prog_25_method_3_code (1 : Nat) (Option.some Jvm.ClassFile.FieldType.int)) ∈ lw_all := lw_g (lw_at lw_m7 212 rfl) rfl
theorem q2872 : (Jvm.Cond.castable "RowenTongue$OpenRow" "RowenTongue$Row") ∈ lw_tbl := lw_at lw_m12 183 rfl
theorem q2904 : (Jvm.Cond.castable "RowenTongue$OpenRow" "java/lang/Object") ∈ lw_tbl := lw_at lw_m12 215 rfl
theorem in_X15 : ∀ w ∈ wsX150, w ∈ lw_all := lw_in wsX150 [935, 937, 939, 941] (by decide +kernel) (by decide +kernel)
/-! RowenTongue$Place -/
set_option maxRecDepth 100000
def RX16 : String := "RowenTongue$Place"
def TX16 : u_T := fun k => match k with
  | 0 => ("RowenTongue$Place", "row", "LRowenTongue$OpenRow;", true)
  | _ => ("RowenTongue$Place", "label", "I", true)
def tyX16 : Nat → FieldType := fun k => match k with
  | 0 => .object "RowenTongue$OpenRow"
  | _ => .int
abbrev wsX160 : List Cond := u_ws RX16 TX16 2
theorem nmX16 : ∀ a, a < 2 → ∀ b, b < 2 → a ≠ b → (TX16 a).2.1 ≠ (TX16 b).2.1 := by decide +kernel
theorem tyX16_ok : ∀ k, k < 2 → parseFieldDescriptor (TX16 k).2.2.1 = some (tyX16 k) := by decide +kernel
abbrev cX16_init : ByteArray := prog_27_method_1_code
def yX16_init : MethodName := ⟨RX16, "<init>", "(LRowenTongue$OpenRow;I)V"⟩
def dkwX16_init_0 : List UInt8 := [42, 183, 0, 1, 42, 43, 181, 0, 7, 42, 28, 181, 0, 13, 177]
abbrev dktX16_init_0 : List UInt8 := dkwX16_init_0 ++ []
theorem dksX16_init_0 : cX16_init.data.toList.drop 0 = dktX16_init_0 := by decide +kernel
theorem dX16_init_0 : decode cX16_init 0 = .ok (.aload_n 0, 1) := dk_42 (dk_at dksX16_init_0 0 rfl rfl)
theorem dX16_init_1 : decode cX16_init 1 = .ok (.invokespecial 1, 3) := dk_183 0 1 (dk_at dksX16_init_0 1 rfl rfl)
theorem dX16_init_4 : decode cX16_init 4 = .ok (.aload_n 0, 1) := dk_42 (dk_at dksX16_init_0 4 rfl rfl)
theorem dX16_init_5 : decode cX16_init 5 = .ok (.aload_n 1, 1) := dk_43 (dk_at dksX16_init_0 5 rfl rfl)
theorem dX16_init_6 : decode cX16_init 6 = .ok (.putfield 7, 3) := dk_181 0 7 (dk_at dksX16_init_0 6 rfl rfl)
theorem dX16_init_9 : decode cX16_init 9 = .ok (.aload_n 0, 1) := dk_42 (dk_at dksX16_init_0 9 rfl rfl)
theorem dX16_init_10 : decode cX16_init 10 = .ok (.iload_n 2, 1) := dk_28 (dk_at dksX16_init_0 10 rfl rfl)
theorem dX16_init_11 : decode cX16_init 11 = .ok (.putfield 13, 3) := dk_181 0 13 (dk_at dksX16_init_0 11 rfl rfl)
theorem dX16_init_14 : decode cX16_init 14 = .ok (.return_, 1) := dk_177 (dk_at dksX16_init_0 14 rfl rfl)
theorem q84 : (Jvm.Cond.initialized "RowenTongue$Place") ∈ lw_all := lw_g (lw_at lw_m1 35 rfl) rfl
theorem q392 : (Jvm.Cond.selects "RowenTongue$Place" ({ cls := "java/lang/Object", name := "getClass", desc := "()Ljava/lang/Class;" } : Jvm.MethodName) ({ cls := "java/lang/Object", name := "getClass", desc := "()Ljava/lang/Class;" } : Jvm.MethodName)) ∈ lw_all := lw_g (lw_at lw_m2 103 rfl) rfl
theorem q766 : (Jvm.Cond.selects "RowenTongue$Place" ({ cls := "java/lang/Object", name := "equals", desc := "(Ljava/lang/Object;)Z" } : Jvm.MethodName) ({ cls := "java/lang/Object", name := "equals", desc := "(Ljava/lang/Object;)Z" } : Jvm.MethodName)) ∈ lw_all := lw_g (lw_at lw_m3 237 rfl) rfl
theorem q994 : (Jvm.Cond.instantiable "RowenTongue$Place" (2 : Nat)) ∈ lw_all := lw_g (lw_at lw_m4 225 rfl) rfl
theorem q997 : (Jvm.Cond.instanceMethod ({ cls := "RowenTongue$Place", name := "<init>", desc := "(LRowenTongue$OpenRow;I)V" } : Jvm.MethodName)) ∈ lw_all := lw_g (lw_at lw_m4 228 rfl) rfl
theorem q998 : (Jvm.Cond.code ({ cls := "RowenTongue$Place", name := "<init>", desc := "(LRowenTongue$OpenRow;I)V" } : Jvm.MethodName) prog_27_method_1_code (3 : Nat) (Option.none : Option Jvm.ClassFile.FieldType)) ∈ lw_all := lw_g (lw_at lw_m4 229 rfl) rfl
theorem q999 : (Jvm.Cond.methodLink "RowenTongue$Place" (1 : Nat) ({ cls := "java/lang/Object", name := "<init>", desc := "()V" } : Jvm.MethodName)) ∈ lw_all := lw_g (lw_at lw_m4 230 rfl) rfl
theorem q1000 : (Jvm.Cond.fieldLink "RowenTongue$Place" (7 : Nat) "RowenTongue$Place" "row" "LRowenTongue$OpenRow;") ∈ lw_all := lw_g (lw_at lw_m4 231 rfl) rfl
theorem q1004 : (Jvm.Cond.fieldLink "RowenTongue$Place" (13 : Nat) "RowenTongue$Place" "label" "I") ∈ lw_all := lw_g (lw_at lw_m4 235 rfl) rfl
theorem q1008 : (Jvm.Cond.laysFinal "RowenTongue$Place" "RowenTongue$Place" "row" "LRowenTongue$OpenRow;") ∈ lw_all := lw_g (lw_at lw_m4 239 rfl) rfl
theorem q1009 : (Jvm.Cond.soleField "RowenTongue$Place" "row") ∈ lw_all := lw_g (lw_at lw_m5 0 rfl) rfl
theorem q1010 : (Jvm.Cond.laysFinal "RowenTongue$Place" "RowenTongue$Place" "label" "I") ∈ lw_all := lw_g (lw_at lw_m5 1 rfl) rfl
theorem q1011 : (Jvm.Cond.soleField "RowenTongue$Place" "label") ∈ lw_all := lw_g (lw_at lw_m5 2 rfl) rfl
theorem q1012 : (Jvm.Cond.superclass "RowenTongue$Place" "java/lang/Object") ∈ lw_all := lw_g (lw_at lw_m5 3 rfl) rfl
theorem q2906 : (Jvm.Cond.castable "RowenTongue$Place" "java/lang/Object") ∈ lw_tbl := lw_at lw_m12 217 rfl
theorem in_X16 : ∀ w ∈ wsX160, w ∈ lw_all := lw_in wsX160 [1008, 1010] (by decide +kernel) (by decide +kernel)
/-! RowenTongue$Known -/
set_option maxRecDepth 100000
def RX17 : String := "RowenTongue$Known"
def TX17 : u_T := fun k => match k with
  | 0 => ("RowenTongue$Known", "name", "I", true)
  | 1 => ("RowenTongue$Known", "type", "LRowenTongue$Type;", true)
  | 2 => ("RowenTongue$Known", "places", "Ljava/util/ArrayList;", true)
  | _ => ("RowenTongue$Known", "next", "LRowenTongue$Known;", true)
def tyX17 : Nat → FieldType := fun k => match k with
  | 0 => .int
  | 1 => .object "RowenTongue$Type"
  | 2 => .object "java/util/ArrayList"
  | _ => .object "RowenTongue$Known"
abbrev wsX170 : List Cond := u_ws RX17 TX17 4
theorem nmX17 : ∀ a, a < 4 → ∀ b, b < 4 → a ≠ b → (TX17 a).2.1 ≠ (TX17 b).2.1 := by decide +kernel
theorem tyX17_ok : ∀ k, k < 4 → parseFieldDescriptor (TX17 k).2.2.1 = some (tyX17 k) := by decide +kernel
abbrev cX17_init : ByteArray := prog_18_method_1_code
def yX17_init : MethodName := ⟨RX17, "<init>", "(ILRowenTongue$Type;Ljava/util/ArrayList;LRowenTongue$Known;)V"⟩
def dkwX17_init_1 : List UInt8 := [181, 0, 21, 177]
abbrev dktX17_init_1 : List UInt8 := dkwX17_init_1 ++ []
def dkwX17_init_0 : List UInt8 := [42, 183, 0, 1, 42, 27, 181, 0, 7, 42, 44, 181, 0, 13, 42, 45, 181, 0, 17, 42, 25, 4]
abbrev dktX17_init_0 : List UInt8 := dkwX17_init_0 ++ dktX17_init_1
theorem dksX17_init_0 : cX17_init.data.toList.drop 0 = dktX17_init_0 := by decide +kernel
theorem dksX17_init_1 : cX17_init.data.toList.drop 22 = dktX17_init_1 := dk_seg dksX17_init_0 22 rfl rfl
theorem dX17_init_0 : decode cX17_init 0 = .ok (.aload_n 0, 1) := dk_42 (dk_at dksX17_init_0 0 rfl rfl)
theorem dX17_init_1 : decode cX17_init 1 = .ok (.invokespecial 1, 3) := dk_183 0 1 (dk_at dksX17_init_0 1 rfl rfl)
theorem dX17_init_4 : decode cX17_init 4 = .ok (.aload_n 0, 1) := dk_42 (dk_at dksX17_init_0 4 rfl rfl)
theorem dX17_init_5 : decode cX17_init 5 = .ok (.iload_n 1, 1) := dk_27 (dk_at dksX17_init_0 5 rfl rfl)
theorem dX17_init_6 : decode cX17_init 6 = .ok (.putfield 7, 3) := dk_181 0 7 (dk_at dksX17_init_0 6 rfl rfl)
theorem dX17_init_9 : decode cX17_init 9 = .ok (.aload_n 0, 1) := dk_42 (dk_at dksX17_init_0 9 rfl rfl)
theorem dX17_init_10 : decode cX17_init 10 = .ok (.aload_n 2, 1) := dk_44 (dk_at dksX17_init_0 10 rfl rfl)
theorem dX17_init_11 : decode cX17_init 11 = .ok (.putfield 13, 3) := dk_181 0 13 (dk_at dksX17_init_0 11 rfl rfl)
theorem dX17_init_14 : decode cX17_init 14 = .ok (.aload_n 0, 1) := dk_42 (dk_at dksX17_init_0 14 rfl rfl)
theorem dX17_init_15 : decode cX17_init 15 = .ok (.aload_n 3, 1) := dk_45 (dk_at dksX17_init_0 15 rfl rfl)
theorem dX17_init_16 : decode cX17_init 16 = .ok (.putfield 17, 3) := dk_181 0 17 (dk_at dksX17_init_0 16 rfl rfl)
theorem dX17_init_19 : decode cX17_init 19 = .ok (.aload_n 0, 1) := dk_42 (dk_at dksX17_init_0 19 rfl rfl)
theorem dX17_init_20 : decode cX17_init 20 = .ok (.aload 4, 2) := dk_25 4 (dk_at dksX17_init_0 20 rfl rfl)
theorem dX17_init_22 : decode cX17_init 22 = .ok (.putfield 21, 3) := dk_181 0 21 (dk_at dksX17_init_1 0 rfl rfl)
theorem dX17_init_25 : decode cX17_init 25 = .ok (.return_, 1) := dk_177 (dk_at dksX17_init_1 3 rfl rfl)
theorem q85 : (Jvm.Cond.initialized "RowenTongue$Known") ∈ lw_all := lw_g (lw_at lw_m1 36 rfl) rfl
theorem q383 : (Jvm.Cond.selects "RowenTongue$Known" ({ cls := "java/lang/Object", name := "getClass", desc := "()Ljava/lang/Class;" } : Jvm.MethodName) ({ cls := "java/lang/Object", name := "getClass", desc := "()Ljava/lang/Class;" } : Jvm.MethodName)) ∈ lw_all := lw_g (lw_at lw_m2 94 rfl) rfl
theorem q757 : (Jvm.Cond.selects "RowenTongue$Known" ({ cls := "java/lang/Object", name := "equals", desc := "(Ljava/lang/Object;)Z" } : Jvm.MethodName) ({ cls := "java/lang/Object", name := "equals", desc := "(Ljava/lang/Object;)Z" } : Jvm.MethodName)) ∈ lw_all := lw_g (lw_at lw_m3 228 rfl) rfl
theorem q1021 : (Jvm.Cond.instantiable "RowenTongue$Known" (4 : Nat)) ∈ lw_all := lw_g (lw_at lw_m5 12 rfl) rfl
theorem q1023 : (Jvm.Cond.instanceMethod ({ cls := "RowenTongue$Known", name := "<init>", desc := "(ILRowenTongue$Type;Ljava/util/ArrayList;LRowenTongue$Known;)V" } : Jvm.MethodName)) ∈ lw_all := lw_g (lw_at lw_m5 14 rfl) rfl
theorem q1024 : (Jvm.Cond.code ({ cls := "RowenTongue$Known", name := "<init>", desc := "(ILRowenTongue$Type;Ljava/util/ArrayList;LRowenTongue$Known;)V" } : Jvm.MethodName) prog_18_method_1_code (5 : Nat) (Option.none : Option Jvm.ClassFile.FieldType)) ∈ lw_all := lw_g (lw_at lw_m5 15 rfl) rfl
theorem q1025 : (Jvm.Cond.methodLink "RowenTongue$Known" (1 : Nat) ({ cls := "java/lang/Object", name := "<init>", desc := "()V" } : Jvm.MethodName)) ∈ lw_all := lw_g (lw_at lw_m5 16 rfl) rfl
theorem q1026 : (Jvm.Cond.fieldLink "RowenTongue$Known" (7 : Nat) "RowenTongue$Known" "name" "I") ∈ lw_all := lw_g (lw_at lw_m5 17 rfl) rfl
theorem q1028 : (Jvm.Cond.fieldLink "RowenTongue$Known" (13 : Nat) "RowenTongue$Known" "type" "LRowenTongue$Type;") ∈ lw_all := lw_g (lw_at lw_m5 19 rfl) rfl
theorem q1030 : (Jvm.Cond.fieldLink "RowenTongue$Known" (17 : Nat) "RowenTongue$Known" "places" "Ljava/util/ArrayList;") ∈ lw_all := lw_g (lw_at lw_m5 21 rfl) rfl
theorem q1032 : (Jvm.Cond.fieldLink "RowenTongue$Known" (21 : Nat) "RowenTongue$Known" "next" "LRowenTongue$Known;") ∈ lw_all := lw_g (lw_at lw_m5 23 rfl) rfl
theorem q1034 : (Jvm.Cond.laysFinal "RowenTongue$Known" "RowenTongue$Known" "name" "I") ∈ lw_all := lw_g (lw_at lw_m5 25 rfl) rfl
theorem q1035 : (Jvm.Cond.soleField "RowenTongue$Known" "name") ∈ lw_all := lw_g (lw_at lw_m5 26 rfl) rfl
theorem q1036 : (Jvm.Cond.laysFinal "RowenTongue$Known" "RowenTongue$Known" "type" "LRowenTongue$Type;") ∈ lw_all := lw_g (lw_at lw_m5 27 rfl) rfl
theorem q1037 : (Jvm.Cond.soleField "RowenTongue$Known" "type") ∈ lw_all := lw_g (lw_at lw_m5 28 rfl) rfl
theorem q1038 : (Jvm.Cond.laysFinal "RowenTongue$Known" "RowenTongue$Known" "places" "Ljava/util/ArrayList;") ∈ lw_all := lw_g (lw_at lw_m5 29 rfl) rfl
theorem q1039 : (Jvm.Cond.soleField "RowenTongue$Known" "places") ∈ lw_all := lw_g (lw_at lw_m5 30 rfl) rfl
theorem q1040 : (Jvm.Cond.laysFinal "RowenTongue$Known" "RowenTongue$Known" "next" "LRowenTongue$Known;") ∈ lw_all := lw_g (lw_at lw_m5 31 rfl) rfl
theorem q1041 : (Jvm.Cond.soleField "RowenTongue$Known" "next") ∈ lw_all := lw_g (lw_at lw_m5 32 rfl) rfl
theorem q1042 : (Jvm.Cond.superclass "RowenTongue$Known" "java/lang/Object") ∈ lw_all := lw_g (lw_at lw_m5 33 rfl) rfl
theorem q2907 : (Jvm.Cond.castable "RowenTongue$Known" "java/lang/Object") ∈ lw_tbl := lw_at lw_m12 218 rfl
theorem in_X17 : ∀ w ∈ wsX170, w ∈ lw_all := lw_in wsX170 [1034, 1036, 1038, 1040] (by decide +kernel) (by decide +kernel)
/-! RowenTongue$Within -/
set_option maxRecDepth 100000
def RX18 : String := "RowenTongue$Within"
def TX18 : u_T := fun k => match k with
  | 0 => ("RowenTongue$Within", "open", "LRowenTongue$Open;", true)
  | 1 => ("RowenTongue$Within", "row", "LRowenTongue$OpenRow;", true)
  | _ => ("RowenTongue$Within", "level", "I", true)
def tyX18 : Nat → FieldType := fun k => match k with
  | 0 => .object "RowenTongue$Open"
  | 1 => .object "RowenTongue$OpenRow"
  | _ => .int
abbrev wsX180 : List Cond := u_ws RX18 TX18 3
theorem nmX18 : ∀ a, a < 3 → ∀ b, b < 3 → a ≠ b → (TX18 a).2.1 ≠ (TX18 b).2.1 := by decide +kernel
theorem tyX18_ok : ∀ k, k < 3 → parseFieldDescriptor (TX18 k).2.2.1 = some (tyX18 k) := by decide +kernel
abbrev cX18_init : ByteArray := prog_42_method_1_code
def yX18_init : MethodName := ⟨RX18, "<init>", "(LRowenTongue$Open;LRowenTongue$OpenRow;I)V"⟩
def dkwX18_init_0 : List UInt8 := [42, 183, 0, 3, 42, 43, 181, 0, 9, 42, 44, 181, 0, 15, 42, 29, 181, 0, 19, 177]
abbrev dktX18_init_0 : List UInt8 := dkwX18_init_0 ++ []
theorem dksX18_init_0 : cX18_init.data.toList.drop 0 = dktX18_init_0 := by decide +kernel
theorem dX18_init_0 : decode cX18_init 0 = .ok (.aload_n 0, 1) := dk_42 (dk_at dksX18_init_0 0 rfl rfl)
theorem dX18_init_1 : decode cX18_init 1 = .ok (.invokespecial 3, 3) := dk_183 0 3 (dk_at dksX18_init_0 1 rfl rfl)
theorem dX18_init_4 : decode cX18_init 4 = .ok (.aload_n 0, 1) := dk_42 (dk_at dksX18_init_0 4 rfl rfl)
theorem dX18_init_5 : decode cX18_init 5 = .ok (.aload_n 1, 1) := dk_43 (dk_at dksX18_init_0 5 rfl rfl)
theorem dX18_init_6 : decode cX18_init 6 = .ok (.putfield 9, 3) := dk_181 0 9 (dk_at dksX18_init_0 6 rfl rfl)
theorem dX18_init_9 : decode cX18_init 9 = .ok (.aload_n 0, 1) := dk_42 (dk_at dksX18_init_0 9 rfl rfl)
theorem dX18_init_10 : decode cX18_init 10 = .ok (.aload_n 2, 1) := dk_44 (dk_at dksX18_init_0 10 rfl rfl)
theorem dX18_init_11 : decode cX18_init 11 = .ok (.putfield 15, 3) := dk_181 0 15 (dk_at dksX18_init_0 11 rfl rfl)
theorem dX18_init_14 : decode cX18_init 14 = .ok (.aload_n 0, 1) := dk_42 (dk_at dksX18_init_0 14 rfl rfl)
theorem dX18_init_15 : decode cX18_init 15 = .ok (.iload_n 3, 1) := dk_29 (dk_at dksX18_init_0 15 rfl rfl)
theorem dX18_init_16 : decode cX18_init 16 = .ok (.putfield 19, 3) := dk_181 0 19 (dk_at dksX18_init_0 16 rfl rfl)
theorem dX18_init_19 : decode cX18_init 19 = .ok (.return_, 1) := dk_177 (dk_at dksX18_init_0 19 rfl rfl)
abbrev cX18_at : ByteArray := prog_42_method_2_code
def yX18_at : MethodName := ⟨RX18, "at", "(LRowenTongue$Open;)V"⟩
def dkwX18_at_1 : List UInt8 := [180, 0, 19, 184, 0, 31, 181, 0, 28, 177]
abbrev dktX18_at_1 : List UInt8 := dkwX18_at_1 ++ []
def dkwX18_at_0 : List UInt8 := [43, 42, 180, 0, 9, 166, 0, 12, 187, 0, 23, 89, 6, 183, 0, 25, 191, 43, 43, 180, 0, 28, 42]
abbrev dktX18_at_0 : List UInt8 := dkwX18_at_0 ++ dktX18_at_1
theorem dksX18_at_0 : cX18_at.data.toList.drop 0 = dktX18_at_0 := by decide +kernel
theorem dksX18_at_1 : cX18_at.data.toList.drop 23 = dktX18_at_1 := dk_seg dksX18_at_0 23 rfl rfl
theorem dX18_at_0 : decode cX18_at 0 = .ok (.aload_n 1, 1) := dk_43 (dk_at dksX18_at_0 0 rfl rfl)
theorem dX18_at_1 : decode cX18_at 1 = .ok (.aload_n 0, 1) := dk_42 (dk_at dksX18_at_0 1 rfl rfl)
theorem dX18_at_2 : decode cX18_at 2 = .ok (.getfield 9, 3) := dk_180 0 9 (dk_at dksX18_at_0 2 rfl rfl)
theorem dX18_at_5 : decode cX18_at 5 = .ok (.if_acmp .ne 12, 3) := dk_166 0 12 (dk_at dksX18_at_0 5 rfl rfl)
theorem dX18_at_8 : decode cX18_at 8 = .ok (.new 23, 3) := dk_187 0 23 (dk_at dksX18_at_0 8 rfl rfl)
theorem dX18_at_11 : decode cX18_at 11 = .ok (.dup, 1) := dk_89 (dk_at dksX18_at_0 11 rfl rfl)
theorem dX18_at_12 : decode cX18_at 12 = .ok (.iconst 3, 1) := dk_6 (dk_at dksX18_at_0 12 rfl rfl)
theorem dX18_at_13 : decode cX18_at 13 = .ok (.invokespecial 25, 3) := dk_183 0 25 (dk_at dksX18_at_0 13 rfl rfl)
theorem dX18_at_16 : decode cX18_at 16 = .ok (.athrow, 1) := dk_191 (dk_at dksX18_at_0 16 rfl rfl)
theorem dX18_at_17 : decode cX18_at 17 = .ok (.aload_n 1, 1) := dk_43 (dk_at dksX18_at_0 17 rfl rfl)
theorem dX18_at_18 : decode cX18_at 18 = .ok (.aload_n 1, 1) := dk_43 (dk_at dksX18_at_0 18 rfl rfl)
theorem dX18_at_19 : decode cX18_at 19 = .ok (.getfield 28, 3) := dk_180 0 28 (dk_at dksX18_at_0 19 rfl rfl)
theorem dX18_at_22 : decode cX18_at 22 = .ok (.aload_n 0, 1) := dk_42 (dk_at dksX18_at_0 22 rfl rfl)
theorem dX18_at_23 : decode cX18_at 23 = .ok (.getfield 19, 3) := dk_180 0 19 (dk_at dksX18_at_1 0 rfl rfl)
theorem dX18_at_26 : decode cX18_at 26 = .ok (.invokestatic 31, 3) := dk_184 0 31 (dk_at dksX18_at_1 3 rfl rfl)
theorem dX18_at_29 : decode cX18_at 29 = .ok (.putfield 28, 3) := dk_181 0 28 (dk_at dksX18_at_1 6 rfl rfl)
theorem dX18_at_32 : decode cX18_at 32 = .ok (.return_, 1) := dk_177 (dk_at dksX18_at_1 9 rfl rfl)
abbrev cX18_at_2 : ByteArray := prog_42_method_3_code
def yX18_at_2 : MethodName := ⟨RX18, "at", "(LRowenTongue$OpenRow;)V"⟩
def dkwX18_at_2_1 : List UInt8 := [180, 0, 19, 184, 0, 31, 181, 0, 37, 177]
abbrev dktX18_at_2_1 : List UInt8 := dkwX18_at_2_1 ++ []
def dkwX18_at_2_0 : List UInt8 := [43, 42, 180, 0, 15, 166, 0, 12, 187, 0, 23, 89, 6, 183, 0, 25, 191, 43, 43, 180, 0, 37, 42]
abbrev dktX18_at_2_0 : List UInt8 := dkwX18_at_2_0 ++ dktX18_at_2_1
theorem dksX18_at_2_0 : cX18_at_2.data.toList.drop 0 = dktX18_at_2_0 := by decide +kernel
theorem dksX18_at_2_1 : cX18_at_2.data.toList.drop 23 = dktX18_at_2_1 := dk_seg dksX18_at_2_0 23 rfl rfl
theorem dX18_at_2_0 : decode cX18_at_2 0 = .ok (.aload_n 1, 1) := dk_43 (dk_at dksX18_at_2_0 0 rfl rfl)
theorem dX18_at_2_1 : decode cX18_at_2 1 = .ok (.aload_n 0, 1) := dk_42 (dk_at dksX18_at_2_0 1 rfl rfl)
theorem dX18_at_2_2 : decode cX18_at_2 2 = .ok (.getfield 15, 3) := dk_180 0 15 (dk_at dksX18_at_2_0 2 rfl rfl)
theorem dX18_at_2_5 : decode cX18_at_2 5 = .ok (.if_acmp .ne 12, 3) := dk_166 0 12 (dk_at dksX18_at_2_0 5 rfl rfl)
theorem dX18_at_2_8 : decode cX18_at_2 8 = .ok (.new 23, 3) := dk_187 0 23 (dk_at dksX18_at_2_0 8 rfl rfl)
theorem dX18_at_2_11 : decode cX18_at_2 11 = .ok (.dup, 1) := dk_89 (dk_at dksX18_at_2_0 11 rfl rfl)
theorem dX18_at_2_12 : decode cX18_at_2 12 = .ok (.iconst 3, 1) := dk_6 (dk_at dksX18_at_2_0 12 rfl rfl)
theorem dX18_at_2_13 : decode cX18_at_2 13 = .ok (.invokespecial 25, 3) := dk_183 0 25 (dk_at dksX18_at_2_0 13 rfl rfl)
theorem dX18_at_2_16 : decode cX18_at_2 16 = .ok (.athrow, 1) := dk_191 (dk_at dksX18_at_2_0 16 rfl rfl)
theorem dX18_at_2_17 : decode cX18_at_2 17 = .ok (.aload_n 1, 1) := dk_43 (dk_at dksX18_at_2_0 17 rfl rfl)
theorem dX18_at_2_18 : decode cX18_at_2 18 = .ok (.aload_n 1, 1) := dk_43 (dk_at dksX18_at_2_0 18 rfl rfl)
theorem dX18_at_2_19 : decode cX18_at_2 19 = .ok (.getfield 37, 3) := dk_180 0 37 (dk_at dksX18_at_2_0 19 rfl rfl)
theorem dX18_at_2_22 : decode cX18_at_2 22 = .ok (.aload_n 0, 1) := dk_42 (dk_at dksX18_at_2_0 22 rfl rfl)
theorem dX18_at_2_23 : decode cX18_at_2 23 = .ok (.getfield 19, 3) := dk_180 0 19 (dk_at dksX18_at_2_1 0 rfl rfl)
theorem dX18_at_2_26 : decode cX18_at_2 26 = .ok (.invokestatic 31, 3) := dk_184 0 31 (dk_at dksX18_at_2_1 3 rfl rfl)
theorem dX18_at_2_29 : decode cX18_at_2 29 = .ok (.putfield 37, 3) := dk_181 0 37 (dk_at dksX18_at_2_1 6 rfl rfl)
theorem dX18_at_2_32 : decode cX18_at_2 32 = .ok (.return_, 1) := dk_177 (dk_at dksX18_at_2_1 9 rfl rfl)
theorem q86 : (Jvm.Cond.initialized "RowenTongue$Within") ∈ lw_all := lw_g (lw_at lw_m1 37 rfl) rfl
theorem q401 : (Jvm.Cond.selects "RowenTongue$Within" ({ cls := "java/lang/Object", name := "getClass", desc := "()Ljava/lang/Class;" } : Jvm.MethodName) ({ cls := "java/lang/Object", name := "getClass", desc := "()Ljava/lang/Class;" } : Jvm.MethodName)) ∈ lw_all := lw_g (lw_at lw_m2 112 rfl) rfl
theorem q775 : (Jvm.Cond.selects "RowenTongue$Within" ({ cls := "java/lang/Object", name := "equals", desc := "(Ljava/lang/Object;)Z" } : Jvm.MethodName) ({ cls := "java/lang/Object", name := "equals", desc := "(Ljava/lang/Object;)Z" } : Jvm.MethodName)) ∈ lw_all := lw_g (lw_at lw_m4 6 rfl) rfl
theorem q811 : (Jvm.Cond.fieldLinkNest "RowenTongue$Within" (28 : Nat) "RowenTongue$Open" "level" "I" "RowenTongue") ∈ lw_tbl := lw_at lw_m4 42 rfl
theorem q924 : (Jvm.Cond.fieldLinkNest "RowenTongue$Within" (37 : Nat) "RowenTongue$OpenRow" "level" "I" "RowenTongue") ∈ lw_tbl := lw_at lw_m4 155 rfl
theorem q1064 : (Jvm.Cond.instantiable "RowenTongue$Within" (3 : Nat)) ∈ lw_all := lw_g (lw_at lw_m5 55 rfl) rfl
theorem q1066 : (Jvm.Cond.instanceMethod ({ cls := "RowenTongue$Within", name := "<init>", desc := "(LRowenTongue$Open;LRowenTongue$OpenRow;I)V" } : Jvm.MethodName)) ∈ lw_all := lw_g (lw_at lw_m5 57 rfl) rfl
theorem q1067 : (Jvm.Cond.code ({ cls := "RowenTongue$Within", name := "<init>", desc := "(LRowenTongue$Open;LRowenTongue$OpenRow;I)V" } : Jvm.MethodName) prog_42_method_1_code (4 : Nat) (Option.none : Option Jvm.ClassFile.FieldType)) ∈ lw_all := lw_g (lw_at lw_m5 58 rfl) rfl
theorem q1068 : (Jvm.Cond.methodLink "RowenTongue$Within" (3 : Nat) ({ cls := "java/lang/Object", name := "<init>", desc := "()V" } : Jvm.MethodName)) ∈ lw_all := lw_g (lw_at lw_m5 59 rfl) rfl
theorem q1069 : (Jvm.Cond.fieldLink "RowenTongue$Within" (9 : Nat) "RowenTongue$Within" "open" "LRowenTongue$Open;") ∈ lw_all := lw_g (lw_at lw_m5 60 rfl) rfl
theorem q1070 : (Jvm.Cond.fieldLink "RowenTongue$Within" (15 : Nat) "RowenTongue$Within" "row" "LRowenTongue$OpenRow;") ∈ lw_all := lw_g (lw_at lw_m5 61 rfl) rfl
theorem q1071 : (Jvm.Cond.fieldLink "RowenTongue$Within" (19 : Nat) "RowenTongue$Within" "level" "I") ∈ lw_all := lw_g (lw_at lw_m5 62 rfl) rfl
theorem q1072 : (Jvm.Cond.laysFinal "RowenTongue$Within" "RowenTongue$Within" "open" "LRowenTongue$Open;") ∈ lw_all := lw_g (lw_at lw_m5 63 rfl) rfl
theorem q1073 : (Jvm.Cond.soleField "RowenTongue$Within" "open") ∈ lw_all := lw_g (lw_at lw_m5 64 rfl) rfl
theorem q1074 : (Jvm.Cond.laysFinal "RowenTongue$Within" "RowenTongue$Within" "row" "LRowenTongue$OpenRow;") ∈ lw_all := lw_g (lw_at lw_m5 65 rfl) rfl
theorem q1075 : (Jvm.Cond.soleField "RowenTongue$Within" "row") ∈ lw_all := lw_g (lw_at lw_m5 66 rfl) rfl
theorem q1076 : (Jvm.Cond.laysFinal "RowenTongue$Within" "RowenTongue$Within" "level" "I") ∈ lw_all := lw_g (lw_at lw_m5 67 rfl) rfl
theorem q1077 : (Jvm.Cond.soleField "RowenTongue$Within" "level") ∈ lw_all := lw_g (lw_at lw_m5 68 rfl) rfl
theorem q1078 : (Jvm.Cond.superclass "RowenTongue$Within" "java/lang/Object") ∈ lw_all := lw_g (lw_at lw_m5 69 rfl) rfl
theorem q1101 : (Jvm.Cond.castable "RowenTongue$Within" "RowenTongue$Walk") ∈ lw_tbl := lw_at lw_m5 92 rfl
theorem q1102 : (Jvm.Cond.selects "RowenTongue$Within" ({ cls := "RowenTongue$Walk", name := "at", desc := "(LRowenTongue$Open;)V" } : Jvm.MethodName) ({ cls := "RowenTongue$Within", name := "at", desc := "(LRowenTongue$Open;)V" } : Jvm.MethodName)) ∈ lw_all := lw_g (lw_at lw_m5 93 rfl) rfl
theorem q1103 : (Jvm.Cond.unhidden "RowenTongue$Within" "at" "(LRowenTongue$Open;)V") ∈ lw_tbl := lw_at lw_m5 94 rfl
theorem q1104 : (Jvm.Cond.instanceMethod ({ cls := "RowenTongue$Within", name := "at", desc := "(LRowenTongue$Open;)V" } : Jvm.MethodName)) ∈ lw_all := lw_g (lw_at lw_m5 95 rfl) rfl
theorem q1105 : (Jvm.Cond.publicMethod ({ cls := "RowenTongue$Within", name := "at", desc := "(LRowenTongue$Open;)V" } : Jvm.MethodName)) ∈ lw_tbl := lw_at lw_m5 96 rfl
theorem q1106 : (Jvm.Cond.code ({ cls := "RowenTongue$Within", name := "at", desc := "(LRowenTongue$Open;)V" } : Jvm.MethodName) prog_42_method_2_code (2 : Nat) (Option.none : Option Jvm.ClassFile.FieldType)) ∈ lw_all := lw_g (lw_at lw_m5 97 rfl) rfl
theorem q1107 : (Jvm.Cond.classLink "RowenTongue$Within" (23 : Nat) "RowenTongue$Clash") ∈ lw_all := lw_g (lw_at lw_m5 98 rfl) rfl
theorem q1116 : (Jvm.Cond.methodLink "RowenTongue$Within" (25 : Nat) ({ cls := "RowenTongue$Clash", name := "<init>", desc := "(I)V" } : Jvm.MethodName)) ∈ lw_all := lw_g (lw_at lw_m5 107 rfl) rfl
theorem q1126 : (Jvm.Cond.methodLink "RowenTongue$Within" (31 : Nat) ({ cls := "java/lang/Math", name := "min", desc := "(II)I" } : Jvm.MethodName)) ∈ lw_all := lw_g (lw_at lw_m5 117 rfl) rfl
theorem q1143 : (Jvm.Cond.unhidden "RowenTongue$Within" "at" "(LRowenTongue$Function;)V") ∈ lw_tbl := lw_at lw_m5 134 rfl
theorem q1172 : (Jvm.Cond.selects "RowenTongue$Within" ({ cls := "RowenTongue$Walk", name := "at", desc := "(LRowenTongue$OpenRow;)V" } : Jvm.MethodName) ({ cls := "RowenTongue$Within", name := "at", desc := "(LRowenTongue$OpenRow;)V" } : Jvm.MethodName)) ∈ lw_all := lw_g (lw_at lw_m5 163 rfl) rfl
theorem q1173 : (Jvm.Cond.unhidden "RowenTongue$Within" "at" "(LRowenTongue$OpenRow;)V") ∈ lw_tbl := lw_at lw_m5 164 rfl
theorem q1174 : (Jvm.Cond.instanceMethod ({ cls := "RowenTongue$Within", name := "at", desc := "(LRowenTongue$OpenRow;)V" } : Jvm.MethodName)) ∈ lw_all := lw_g (lw_at lw_m5 165 rfl) rfl
theorem q1175 : (Jvm.Cond.publicMethod ({ cls := "RowenTongue$Within", name := "at", desc := "(LRowenTongue$OpenRow;)V" } : Jvm.MethodName)) ∈ lw_tbl := lw_at lw_m5 166 rfl
theorem q1176 : (Jvm.Cond.code ({ cls := "RowenTongue$Within", name := "at", desc := "(LRowenTongue$OpenRow;)V" } : Jvm.MethodName) prog_42_method_3_code (2 : Nat) (Option.none : Option Jvm.ClassFile.FieldType)) ∈ lw_all := lw_g (lw_at lw_m5 167 rfl) rfl
theorem q2908 : (Jvm.Cond.castable "RowenTongue$Within" "java/lang/Object") ∈ lw_tbl := lw_at lw_m12 219 rfl
theorem in_X18 : ∀ w ∈ wsX180, w ∈ lw_all := lw_in wsX180 [1072, 1074, 1076] (by decide +kernel) (by decide +kernel)
/-! RowenTongue$Walk -/
set_option maxRecDepth 100000
def RX19 : String := "RowenTongue$Walk"
abbrev cX19_through : ByteArray := prog_41_method_4_code
def yX19_through : MethodName := ⟨RX19, "through", "(LRowenTongue$Type;LRowenTongue$Walk;)V"⟩
def dkwX19_through_3 : List UInt8 := [193, 0, 31, 153, 0, 18, 44, 192, 0, 31, 58, 5, 25, 5, 180, 0, 33, 43, 184, 0, 37, 177]
abbrev dktX19_through_3 : List UInt8 := dkwX19_through_3 ++ []
def dkwX19_through_2 : List UInt8 := [25, 4, 180, 0, 20, 43, 184, 0, 24, 25, 4, 180, 0, 28, 43, 184, 0, 24, 167, 0, 25, 44]
abbrev dktX19_through_2 : List UInt8 := dkwX19_through_2 ++ dktX19_through_3
def dkwX19_through_1 : List UInt8 := [167, 0, 67, 44, 193, 0, 15, 153, 0, 38, 44, 192, 0, 15, 58, 4, 43, 25, 4, 185, 0, 17, 2, 0]
abbrev dktX19_through_1 : List UInt8 := dkwX19_through_1 ++ dktX19_through_2
def dkwX19_through_0 : List UInt8 := [42, 182, 0, 1, 77, 44, 193, 0, 7, 153, 0, 18, 44, 192, 0, 7, 78, 43, 45, 185, 0, 9, 2, 0]
abbrev dktX19_through_0 : List UInt8 := dkwX19_through_0 ++ dktX19_through_1
theorem dksX19_through_0 : cX19_through.data.toList.drop 0 = dktX19_through_0 := by decide +kernel
theorem dksX19_through_1 : cX19_through.data.toList.drop 24 = dktX19_through_1 := dk_seg dksX19_through_0 24 rfl rfl
theorem dksX19_through_2 : cX19_through.data.toList.drop 48 = dktX19_through_2 := dk_seg dksX19_through_1 24 rfl rfl
theorem dksX19_through_3 : cX19_through.data.toList.drop 70 = dktX19_through_3 := dk_seg dksX19_through_2 22 rfl rfl
theorem dX19_through_0 : decode cX19_through 0 = .ok (.aload_n 0, 1) := dk_42 (dk_at dksX19_through_0 0 rfl rfl)
theorem dX19_through_1 : decode cX19_through 1 = .ok (.invokevirtual 1, 3) := dk_182 0 1 (dk_at dksX19_through_0 1 rfl rfl)
theorem dX19_through_4 : decode cX19_through 4 = .ok (.astore_n 2, 1) := dk_77 (dk_at dksX19_through_0 4 rfl rfl)
theorem dX19_through_5 : decode cX19_through 5 = .ok (.aload_n 2, 1) := dk_44 (dk_at dksX19_through_0 5 rfl rfl)
theorem dX19_through_6 : decode cX19_through 6 = .ok (.instanceof 7, 3) := dk_193 0 7 (dk_at dksX19_through_0 6 rfl rfl)
theorem dX19_through_9 : decode cX19_through 9 = .ok (.ifCond .eq 18, 3) := dk_153 0 18 (dk_at dksX19_through_0 9 rfl rfl)
theorem dX19_through_12 : decode cX19_through 12 = .ok (.aload_n 2, 1) := dk_44 (dk_at dksX19_through_0 12 rfl rfl)
theorem dX19_through_13 : decode cX19_through 13 = .ok (.checkcast 7, 3) := dk_192 0 7 (dk_at dksX19_through_0 13 rfl rfl)
theorem dX19_through_16 : decode cX19_through 16 = .ok (.astore_n 3, 1) := dk_78 (dk_at dksX19_through_0 16 rfl rfl)
theorem dX19_through_17 : decode cX19_through 17 = .ok (.aload_n 1, 1) := dk_43 (dk_at dksX19_through_0 17 rfl rfl)
theorem dX19_through_18 : decode cX19_through 18 = .ok (.aload_n 3, 1) := dk_45 (dk_at dksX19_through_0 18 rfl rfl)
theorem dX19_through_19 : decode cX19_through 19 = .ok (.invokeinterface 9 2, 5) := by decide +kernel
theorem dX19_through_24 : decode cX19_through 24 = .ok (.goto 67, 3) := dk_167 0 67 (dk_at dksX19_through_1 0 rfl rfl)
theorem dX19_through_27 : decode cX19_through 27 = .ok (.aload_n 2, 1) := dk_44 (dk_at dksX19_through_1 3 rfl rfl)
theorem dX19_through_28 : decode cX19_through 28 = .ok (.instanceof 15, 3) := dk_193 0 15 (dk_at dksX19_through_1 4 rfl rfl)
theorem dX19_through_31 : decode cX19_through 31 = .ok (.ifCond .eq 38, 3) := dk_153 0 38 (dk_at dksX19_through_1 7 rfl rfl)
theorem dX19_through_34 : decode cX19_through 34 = .ok (.aload_n 2, 1) := dk_44 (dk_at dksX19_through_1 10 rfl rfl)
theorem dX19_through_35 : decode cX19_through 35 = .ok (.checkcast 15, 3) := dk_192 0 15 (dk_at dksX19_through_1 11 rfl rfl)
theorem dX19_through_38 : decode cX19_through 38 = .ok (.astore 4, 2) := dk_58 4 (dk_at dksX19_through_1 14 rfl rfl)
theorem dX19_through_40 : decode cX19_through 40 = .ok (.aload_n 1, 1) := dk_43 (dk_at dksX19_through_1 16 rfl rfl)
theorem dX19_through_41 : decode cX19_through 41 = .ok (.aload 4, 2) := dk_25 4 (dk_at dksX19_through_1 17 rfl rfl)
theorem dX19_through_43 : decode cX19_through 43 = .ok (.invokeinterface 17 2, 5) := by decide +kernel
theorem dX19_through_48 : decode cX19_through 48 = .ok (.aload 4, 2) := dk_25 4 (dk_at dksX19_through_2 0 rfl rfl)
theorem dX19_through_50 : decode cX19_through 50 = .ok (.getfield 20, 3) := dk_180 0 20 (dk_at dksX19_through_2 2 rfl rfl)
theorem dX19_through_53 : decode cX19_through 53 = .ok (.aload_n 1, 1) := dk_43 (dk_at dksX19_through_2 5 rfl rfl)
theorem dX19_through_54 : decode cX19_through 54 = .ok (.invokestatic 24, 3) := dk_184 0 24 (dk_at dksX19_through_2 6 rfl rfl)
theorem dX19_through_57 : decode cX19_through 57 = .ok (.aload 4, 2) := dk_25 4 (dk_at dksX19_through_2 9 rfl rfl)
theorem dX19_through_59 : decode cX19_through 59 = .ok (.getfield 28, 3) := dk_180 0 28 (dk_at dksX19_through_2 11 rfl rfl)
theorem dX19_through_62 : decode cX19_through 62 = .ok (.aload_n 1, 1) := dk_43 (dk_at dksX19_through_2 14 rfl rfl)
theorem dX19_through_63 : decode cX19_through 63 = .ok (.invokestatic 24, 3) := dk_184 0 24 (dk_at dksX19_through_2 15 rfl rfl)
theorem dX19_through_66 : decode cX19_through 66 = .ok (.goto 25, 3) := dk_167 0 25 (dk_at dksX19_through_2 18 rfl rfl)
theorem dX19_through_69 : decode cX19_through 69 = .ok (.aload_n 2, 1) := dk_44 (dk_at dksX19_through_2 21 rfl rfl)
theorem dX19_through_70 : decode cX19_through 70 = .ok (.instanceof 31, 3) := dk_193 0 31 (dk_at dksX19_through_3 0 rfl rfl)
theorem dX19_through_73 : decode cX19_through 73 = .ok (.ifCond .eq 18, 3) := dk_153 0 18 (dk_at dksX19_through_3 3 rfl rfl)
theorem dX19_through_76 : decode cX19_through 76 = .ok (.aload_n 2, 1) := dk_44 (dk_at dksX19_through_3 6 rfl rfl)
theorem dX19_through_77 : decode cX19_through 77 = .ok (.checkcast 31, 3) := dk_192 0 31 (dk_at dksX19_through_3 7 rfl rfl)
theorem dX19_through_80 : decode cX19_through 80 = .ok (.astore 5, 2) := dk_58 5 (dk_at dksX19_through_3 10 rfl rfl)
theorem dX19_through_82 : decode cX19_through 82 = .ok (.aload 5, 2) := dk_25 5 (dk_at dksX19_through_3 12 rfl rfl)
theorem dX19_through_84 : decode cX19_through 84 = .ok (.getfield 33, 3) := dk_180 0 33 (dk_at dksX19_through_3 14 rfl rfl)
theorem dX19_through_87 : decode cX19_through 87 = .ok (.aload_n 1, 1) := dk_43 (dk_at dksX19_through_3 17 rfl rfl)
theorem dX19_through_88 : decode cX19_through 88 = .ok (.invokestatic 37, 3) := dk_184 0 37 (dk_at dksX19_through_3 18 rfl rfl)
theorem dX19_through_91 : decode cX19_through 91 = .ok (.return_, 1) := dk_177 (dk_at dksX19_through_3 21 rfl rfl)
abbrev cX19_at : ByteArray := prog_41_method_3_code
def yX19_at : MethodName := ⟨RX19, "at", "(LRowenTongue$Function;)V"⟩
theorem dX19_at_0 : decode cX19_at 0 = .ok (.return_, 1) := by decide +kernel
abbrev cX19_through_2 : ByteArray := prog_41_method_5_code
def yX19_through_2 : MethodName := ⟨RX19, "through", "(LRowenTongue$Row;LRowenTongue$Walk;)V"⟩
def dkwX19_through_2_2 : List UInt8 := [192, 0, 53, 78, 43, 45, 185, 0, 55, 2, 0, 177]
abbrev dktX19_through_2_2 : List UInt8 := dkwX19_through_2_2 ++ []
def dkwX19_through_2_1 : List UInt8 := [184, 0, 24, 45, 180, 0, 50, 182, 0, 40, 77, 167, 255, 228, 44, 193, 0, 53, 153, 0, 15, 44]
abbrev dktX19_through_2_1 : List UInt8 := dkwX19_through_2_1 ++ dktX19_through_2_2
def dkwX19_through_2_0 : List UInt8 := [42, 182, 0, 40, 77, 44, 193, 0, 45, 153, 0, 27, 44, 192, 0, 45, 78, 45, 180, 0, 47, 43]
abbrev dktX19_through_2_0 : List UInt8 := dkwX19_through_2_0 ++ dktX19_through_2_1
theorem dksX19_through_2_0 : cX19_through_2.data.toList.drop 0 = dktX19_through_2_0 := by decide +kernel
theorem dksX19_through_2_1 : cX19_through_2.data.toList.drop 22 = dktX19_through_2_1 := dk_seg dksX19_through_2_0 22 rfl rfl
theorem dksX19_through_2_2 : cX19_through_2.data.toList.drop 44 = dktX19_through_2_2 := dk_seg dksX19_through_2_1 22 rfl rfl
theorem dX19_through_2_0 : decode cX19_through_2 0 = .ok (.aload_n 0, 1) := dk_42 (dk_at dksX19_through_2_0 0 rfl rfl)
theorem dX19_through_2_1 : decode cX19_through_2 1 = .ok (.invokevirtual 40, 3) := dk_182 0 40 (dk_at dksX19_through_2_0 1 rfl rfl)
theorem dX19_through_2_4 : decode cX19_through_2 4 = .ok (.astore_n 2, 1) := dk_77 (dk_at dksX19_through_2_0 4 rfl rfl)
theorem dX19_through_2_5 : decode cX19_through_2 5 = .ok (.aload_n 2, 1) := dk_44 (dk_at dksX19_through_2_0 5 rfl rfl)
theorem dX19_through_2_6 : decode cX19_through_2 6 = .ok (.instanceof 45, 3) := dk_193 0 45 (dk_at dksX19_through_2_0 6 rfl rfl)
theorem dX19_through_2_9 : decode cX19_through_2 9 = .ok (.ifCond .eq 27, 3) := dk_153 0 27 (dk_at dksX19_through_2_0 9 rfl rfl)
theorem dX19_through_2_12 : decode cX19_through_2 12 = .ok (.aload_n 2, 1) := dk_44 (dk_at dksX19_through_2_0 12 rfl rfl)
theorem dX19_through_2_13 : decode cX19_through_2 13 = .ok (.checkcast 45, 3) := dk_192 0 45 (dk_at dksX19_through_2_0 13 rfl rfl)
theorem dX19_through_2_16 : decode cX19_through_2 16 = .ok (.astore_n 3, 1) := dk_78 (dk_at dksX19_through_2_0 16 rfl rfl)
theorem dX19_through_2_17 : decode cX19_through_2 17 = .ok (.aload_n 3, 1) := dk_45 (dk_at dksX19_through_2_0 17 rfl rfl)
theorem dX19_through_2_18 : decode cX19_through_2 18 = .ok (.getfield 47, 3) := dk_180 0 47 (dk_at dksX19_through_2_0 18 rfl rfl)
theorem dX19_through_2_21 : decode cX19_through_2 21 = .ok (.aload_n 1, 1) := dk_43 (dk_at dksX19_through_2_0 21 rfl rfl)
theorem dX19_through_2_22 : decode cX19_through_2 22 = .ok (.invokestatic 24, 3) := dk_184 0 24 (dk_at dksX19_through_2_1 0 rfl rfl)
theorem dX19_through_2_25 : decode cX19_through_2 25 = .ok (.aload_n 3, 1) := dk_45 (dk_at dksX19_through_2_1 3 rfl rfl)
theorem dX19_through_2_26 : decode cX19_through_2 26 = .ok (.getfield 50, 3) := dk_180 0 50 (dk_at dksX19_through_2_1 4 rfl rfl)
theorem dX19_through_2_29 : decode cX19_through_2 29 = .ok (.invokevirtual 40, 3) := dk_182 0 40 (dk_at dksX19_through_2_1 7 rfl rfl)
theorem dX19_through_2_32 : decode cX19_through_2 32 = .ok (.astore_n 2, 1) := dk_77 (dk_at dksX19_through_2_1 10 rfl rfl)
theorem dX19_through_2_33 : decode cX19_through_2 33 = .ok (.goto (-28), 3) := dk_167 255 228 (dk_at dksX19_through_2_1 11 rfl rfl)
theorem dX19_through_2_36 : decode cX19_through_2 36 = .ok (.aload_n 2, 1) := dk_44 (dk_at dksX19_through_2_1 14 rfl rfl)
theorem dX19_through_2_37 : decode cX19_through_2 37 = .ok (.instanceof 53, 3) := dk_193 0 53 (dk_at dksX19_through_2_1 15 rfl rfl)
theorem dX19_through_2_40 : decode cX19_through_2 40 = .ok (.ifCond .eq 15, 3) := dk_153 0 15 (dk_at dksX19_through_2_1 18 rfl rfl)
theorem dX19_through_2_43 : decode cX19_through_2 43 = .ok (.aload_n 2, 1) := dk_44 (dk_at dksX19_through_2_1 21 rfl rfl)
theorem dX19_through_2_44 : decode cX19_through_2 44 = .ok (.checkcast 53, 3) := dk_192 0 53 (dk_at dksX19_through_2_2 0 rfl rfl)
theorem dX19_through_2_47 : decode cX19_through_2 47 = .ok (.astore_n 3, 1) := dk_78 (dk_at dksX19_through_2_2 3 rfl rfl)
theorem dX19_through_2_48 : decode cX19_through_2 48 = .ok (.aload_n 1, 1) := dk_43 (dk_at dksX19_through_2_2 4 rfl rfl)
theorem dX19_through_2_49 : decode cX19_through_2 49 = .ok (.aload_n 3, 1) := dk_45 (dk_at dksX19_through_2_2 5 rfl rfl)
theorem dX19_through_2_50 : decode cX19_through_2 50 = .ok (.invokeinterface 55 2, 5) := by decide +kernel
theorem dX19_through_2_55 : decode cX19_through_2 55 = .ok (.return_, 1) := dk_177 (dk_at dksX19_through_2_2 11 rfl rfl)
theorem q87 : (Jvm.Cond.initialized "RowenTongue$Walk") ∈ lw_all := lw_g (lw_at lw_m1 38 rfl) rfl
theorem q625 : (Jvm.Cond.fieldLinkNest "RowenTongue$Walk" (33 : Nat) "RowenTongue$Bag" "row" "LRowenTongue$Row;" "RowenTongue") ∈ lw_tbl := lw_at lw_m3 96 rfl
theorem q840 : (Jvm.Cond.fieldLinkNest "RowenTongue$Walk" (20 : Nat) "RowenTongue$Function" "from" "LRowenTongue$Type;" "RowenTongue") ∈ lw_tbl := lw_at lw_m4 71 rfl
theorem q844 : (Jvm.Cond.fieldLinkNest "RowenTongue$Walk" (28 : Nat) "RowenTongue$Function" "to" "LRowenTongue$Type;" "RowenTongue") ∈ lw_tbl := lw_at lw_m4 75 rfl
theorem q896 : (Jvm.Cond.fieldLinkNest "RowenTongue$Walk" (47 : Nat) "RowenTongue$Cell" "type" "LRowenTongue$Type;" "RowenTongue") ∈ lw_tbl := lw_at lw_m4 127 rfl
theorem q900 : (Jvm.Cond.fieldLinkNest "RowenTongue$Walk" (50 : Nat) "RowenTongue$Cell" "rest" "LRowenTongue$Row;" "RowenTongue") ∈ lw_tbl := lw_at lw_m4 131 rfl
theorem q1080 : (Jvm.Cond.static ({ cls := "RowenTongue$Walk", name := "through", desc := "(LRowenTongue$Type;LRowenTongue$Walk;)V" } : Jvm.MethodName)) ∈ lw_all := lw_g (lw_at lw_m5 71 rfl) rfl
theorem q1081 : (Jvm.Cond.code ({ cls := "RowenTongue$Walk", name := "through", desc := "(LRowenTongue$Type;LRowenTongue$Walk;)V" } : Jvm.MethodName) prog_41_method_4_code (6 : Nat) (Option.none : Option Jvm.ClassFile.FieldType)) ∈ lw_all := lw_g (lw_at lw_m5 72 rfl) rfl
theorem q1082 : (Jvm.Cond.methodLink "RowenTongue$Walk" (1 : Nat) ({ cls := "RowenTongue$Type", name := "now", desc := "()LRowenTongue$Type;" } : Jvm.MethodName)) ∈ lw_all := lw_g (lw_at lw_m5 73 rfl) rfl
theorem q1083 : (Jvm.Cond.classLink "RowenTongue$Walk" (7 : Nat) "RowenTongue$Open") ∈ lw_all := lw_g (lw_at lw_m5 74 rfl) rfl
theorem q1084 : (Jvm.Cond.interfaceEntry "RowenTongue$Walk" (9 : Nat)) ∈ lw_tbl := lw_at lw_m5 75 rfl
theorem q1085 : (Jvm.Cond.methodLink "RowenTongue$Walk" (9 : Nat) ({ cls := "RowenTongue$Walk", name := "at", desc := "(LRowenTongue$Open;)V" } : Jvm.MethodName)) ∈ lw_all := lw_g (lw_at lw_m5 76 rfl) rfl
theorem q1086 : (Jvm.Cond.interfaceMethod "RowenTongue$Walk" "RowenTongue$Walk" "at" "(LRowenTongue$Open;)V") ∈ lw_tbl := lw_at lw_m5 77 rfl
theorem q1087 : (Jvm.Cond.declares ({ cls := "RowenTongue$Walk", name := "at", desc := "(LRowenTongue$Open;)V" } : Jvm.MethodName)) ∈ lw_tbl := lw_at lw_m5 78 rfl
theorem q1127 : (Jvm.Cond.classLink "RowenTongue$Walk" (15 : Nat) "RowenTongue$Function") ∈ lw_all := lw_g (lw_at lw_m5 118 rfl) rfl
theorem q1128 : (Jvm.Cond.interfaceEntry "RowenTongue$Walk" (17 : Nat)) ∈ lw_tbl := lw_at lw_m5 119 rfl
theorem q1129 : (Jvm.Cond.methodLink "RowenTongue$Walk" (17 : Nat) ({ cls := "RowenTongue$Walk", name := "at", desc := "(LRowenTongue$Function;)V" } : Jvm.MethodName)) ∈ lw_all := lw_g (lw_at lw_m5 120 rfl) rfl
theorem q1130 : (Jvm.Cond.interfaceMethod "RowenTongue$Walk" "RowenTongue$Walk" "at" "(LRowenTongue$Function;)V") ∈ lw_tbl := lw_at lw_m5 121 rfl
theorem q1131 : (Jvm.Cond.declares ({ cls := "RowenTongue$Walk", name := "at", desc := "(LRowenTongue$Function;)V" } : Jvm.MethodName)) ∈ lw_tbl := lw_at lw_m5 122 rfl
theorem q1133 : (Jvm.Cond.instanceMethod ({ cls := "RowenTongue$Walk", name := "at", desc := "(LRowenTongue$Function;)V" } : Jvm.MethodName)) ∈ lw_all := lw_g (lw_at lw_m5 124 rfl) rfl
theorem q1134 : (Jvm.Cond.publicMethod ({ cls := "RowenTongue$Walk", name := "at", desc := "(LRowenTongue$Function;)V" } : Jvm.MethodName)) ∈ lw_tbl := lw_at lw_m5 125 rfl
theorem q1135 : (Jvm.Cond.code ({ cls := "RowenTongue$Walk", name := "at", desc := "(LRowenTongue$Function;)V" } : Jvm.MethodName) prog_41_method_3_code (2 : Nat) (Option.none : Option Jvm.ClassFile.FieldType)) ∈ lw_all := lw_g (lw_at lw_m5 126 rfl) rfl
theorem q1144 : (Jvm.Cond.methodLink "RowenTongue$Walk" (24 : Nat) ({ cls := "RowenTongue$Walk", name := "through", desc := "(LRowenTongue$Type;LRowenTongue$Walk;)V" } : Jvm.MethodName)) ∈ lw_all := lw_g (lw_at lw_m5 135 rfl) rfl
theorem q1145 : (Jvm.Cond.classLink "RowenTongue$Walk" (31 : Nat) "RowenTongue$Bag") ∈ lw_all := lw_g (lw_at lw_m5 136 rfl) rfl
theorem q1146 : (Jvm.Cond.methodLink "RowenTongue$Walk" (37 : Nat) ({ cls := "RowenTongue$Walk", name := "through", desc := "(LRowenTongue$Row;LRowenTongue$Walk;)V" } : Jvm.MethodName)) ∈ lw_all := lw_g (lw_at lw_m5 137 rfl) rfl
theorem q1147 : (Jvm.Cond.static ({ cls := "RowenTongue$Walk", name := "through", desc := "(LRowenTongue$Row;LRowenTongue$Walk;)V" } : Jvm.MethodName)) ∈ lw_all := lw_g (lw_at lw_m5 138 rfl) rfl
theorem q1148 : (Jvm.Cond.code ({ cls := "RowenTongue$Walk", name := "through", desc := "(LRowenTongue$Row;LRowenTongue$Walk;)V" } : Jvm.MethodName) prog_41_method_5_code (4 : Nat) (Option.none : Option Jvm.ClassFile.FieldType)) ∈ lw_all := lw_g (lw_at lw_m5 139 rfl) rfl
theorem q1149 : (Jvm.Cond.methodLink "RowenTongue$Walk" (40 : Nat) ({ cls := "RowenTongue$Row", name := "now", desc := "()LRowenTongue$Row;" } : Jvm.MethodName)) ∈ lw_all := lw_g (lw_at lw_m5 140 rfl) rfl
theorem q1150 : (Jvm.Cond.classLink "RowenTongue$Walk" (45 : Nat) "RowenTongue$Cell") ∈ lw_all := lw_g (lw_at lw_m5 141 rfl) rfl
theorem q1151 : (Jvm.Cond.classLink "RowenTongue$Walk" (53 : Nat) "RowenTongue$OpenRow") ∈ lw_all := lw_g (lw_at lw_m5 142 rfl) rfl
theorem q1152 : (Jvm.Cond.interfaceEntry "RowenTongue$Walk" (55 : Nat)) ∈ lw_tbl := lw_at lw_m5 143 rfl
theorem q1153 : (Jvm.Cond.methodLink "RowenTongue$Walk" (55 : Nat) ({ cls := "RowenTongue$Walk", name := "at", desc := "(LRowenTongue$OpenRow;)V" } : Jvm.MethodName)) ∈ lw_all := lw_g (lw_at lw_m5 144 rfl) rfl
theorem q1154 : (Jvm.Cond.interfaceMethod "RowenTongue$Walk" "RowenTongue$Walk" "at" "(LRowenTongue$OpenRow;)V") ∈ lw_tbl := lw_at lw_m5 145 rfl
theorem q1155 : (Jvm.Cond.declares ({ cls := "RowenTongue$Walk", name := "at", desc := "(LRowenTongue$OpenRow;)V" } : Jvm.MethodName)) ∈ lw_tbl := lw_at lw_m5 146 rfl
/-! RowenTongue$Clash -/
set_option maxRecDepth 100000
def RX20 : String := "RowenTongue$Clash"
def TX20 : u_T := fun k => match k with
  | 0 => ("java/lang/Throwable", "cause", "Ljava/lang/Throwable;", false)
  | 1 => ("java/lang/Throwable", "stackTrace", "[Ljava/lang/StackTraceElement;", false)
  | 2 => ("java/lang/Throwable", "suppressedExceptions", "Ljava/util/List;", false)
  | 3 => ("java/lang/Throwable", "detailMessage", "Ljava/lang/String;", false)
  | 4 => ("java/lang/Throwable", "backtrace", "Ljava/lang/Object;", false)
  | 5 => ("java/lang/Throwable", "depth", "I", false)
  | _ => ("RowenTongue$Clash", "error", "I", true)
def tyX20 : Nat → FieldType := fun k => match k with
  | 0 => .object "java/lang/Throwable"
  | 1 => .array (.object "java/lang/StackTraceElement")
  | 2 => .object "java/util/List"
  | 3 => .object "java/lang/String"
  | 4 => .object "java/lang/Object"
  | 5 => .int
  | _ => .int
abbrev wsX200 : List Cond := u_ws RX20 TX20 7
theorem nmX20 : ∀ a, a < 7 → ∀ b, b < 7 → a ≠ b → (TX20 a).2.1 ≠ (TX20 b).2.1 := by decide +kernel
theorem tyX20_ok : ∀ k, k < 7 → parseFieldDescriptor (TX20 k).2.2.1 = some (tyX20 k) := by decide +kernel
abbrev cX20_init : ByteArray := prog_9_method_1_code
def yX20_init : MethodName := ⟨RX20, "<init>", "(I)V"⟩
def dkwX20_init_0 : List UInt8 := [42, 183, 0, 1, 42, 27, 181, 0, 7, 177]
abbrev dktX20_init_0 : List UInt8 := dkwX20_init_0 ++ []
theorem dksX20_init_0 : cX20_init.data.toList.drop 0 = dktX20_init_0 := by decide +kernel
theorem dX20_init_0 : decode cX20_init 0 = .ok (.aload_n 0, 1) := dk_42 (dk_at dksX20_init_0 0 rfl rfl)
theorem dX20_init_1 : decode cX20_init 1 = .ok (.invokespecial 1, 3) := dk_183 0 1 (dk_at dksX20_init_0 1 rfl rfl)
theorem dX20_init_4 : decode cX20_init 4 = .ok (.aload_n 0, 1) := dk_42 (dk_at dksX20_init_0 4 rfl rfl)
theorem dX20_init_5 : decode cX20_init 5 = .ok (.iload_n 1, 1) := dk_27 (dk_at dksX20_init_0 5 rfl rfl)
theorem dX20_init_6 : decode cX20_init 6 = .ok (.putfield 7, 3) := dk_181 0 7 (dk_at dksX20_init_0 6 rfl rfl)
theorem dX20_init_9 : decode cX20_init 9 = .ok (.return_, 1) := dk_177 (dk_at dksX20_init_0 9 rfl rfl)
theorem q88 : (Jvm.Cond.initialized "RowenTongue$Clash") ∈ lw_all := lw_g (lw_at lw_m1 39 rfl) rfl
theorem q234 : (Jvm.Cond.selects "RowenTongue$Clash" ({ cls := "java/lang/Throwable", name := "fillInStackTrace", desc := "()Ljava/lang/Throwable;" } : Jvm.MethodName) ({ cls := "java/lang/Throwable", name := "fillInStackTrace", desc := "()Ljava/lang/Throwable;" } : Jvm.MethodName)) ∈ lw_all := lw_g (lw_at lw_m1 185 rfl) rfl
theorem q374 : (Jvm.Cond.selects "RowenTongue$Clash" ({ cls := "java/lang/Object", name := "getClass", desc := "()Ljava/lang/Class;" } : Jvm.MethodName) ({ cls := "java/lang/Object", name := "getClass", desc := "()Ljava/lang/Class;" } : Jvm.MethodName)) ∈ lw_all := lw_g (lw_at lw_m2 85 rfl) rfl
theorem q748 : (Jvm.Cond.selects "RowenTongue$Clash" ({ cls := "java/lang/Object", name := "equals", desc := "(Ljava/lang/Object;)Z" } : Jvm.MethodName) ({ cls := "java/lang/Object", name := "equals", desc := "(Ljava/lang/Object;)Z" } : Jvm.MethodName)) ∈ lw_all := lw_g (lw_at lw_m3 219 rfl) rfl
theorem q1108 : (Jvm.Cond.instantiable "RowenTongue$Clash" (7 : Nat)) ∈ lw_all := lw_g (lw_at lw_m5 99 rfl) rfl
theorem q1109 : (Jvm.Cond.castable "RowenTongue$Clash" "RowenTongue$Clash") ∈ lw_tbl := lw_at lw_m5 100 rfl
theorem q1110 : (Jvm.Cond.selects "RowenTongue$Clash" ({ cls := "java/lang/Throwable", name := "fillInStackTrace", desc := "(I)Ljava/lang/Throwable;" } : Jvm.MethodName) ({ cls := "java/lang/Throwable", name := "fillInStackTrace", desc := "(I)Ljava/lang/Throwable;" } : Jvm.MethodName)) ∈ lw_all := lw_g (lw_at lw_m5 101 rfl) rfl
theorem q1111 : (Jvm.Cond.lays "RowenTongue$Clash" "java/lang/Throwable" "cause" "Ljava/lang/Throwable;") ∈ lw_all := lw_g (lw_at lw_m5 102 rfl) rfl
theorem q1112 : (Jvm.Cond.lays "RowenTongue$Clash" "java/lang/Throwable" "stackTrace" "[Ljava/lang/StackTraceElement;") ∈ lw_all := lw_g (lw_at lw_m5 103 rfl) rfl
theorem q1113 : (Jvm.Cond.lays "RowenTongue$Clash" "java/lang/Throwable" "suppressedExceptions" "Ljava/util/List;") ∈ lw_all := lw_g (lw_at lw_m5 104 rfl) rfl
theorem q1114 : (Jvm.Cond.lays "RowenTongue$Clash" "java/lang/Throwable" "detailMessage" "Ljava/lang/String;") ∈ lw_all := lw_g (lw_at lw_m5 105 rfl) rfl
theorem q1115 : (Jvm.Cond.lays "RowenTongue$Clash" "java/lang/Throwable" "backtrace" "Ljava/lang/Object;") ∈ lw_all := lw_g (lw_at lw_m5 106 rfl) rfl
theorem q1117 : (Jvm.Cond.instanceMethod ({ cls := "RowenTongue$Clash", name := "<init>", desc := "(I)V" } : Jvm.MethodName)) ∈ lw_all := lw_g (lw_at lw_m5 108 rfl) rfl
theorem q1118 : (Jvm.Cond.code ({ cls := "RowenTongue$Clash", name := "<init>", desc := "(I)V" } : Jvm.MethodName) prog_9_method_1_code (2 : Nat) (Option.none : Option Jvm.ClassFile.FieldType)) ∈ lw_all := lw_g (lw_at lw_m5 109 rfl) rfl
theorem q1119 : (Jvm.Cond.methodLink "RowenTongue$Clash" (1 : Nat) ({ cls := "java/lang/Exception", name := "<init>", desc := "()V" } : Jvm.MethodName)) ∈ lw_all := lw_g (lw_at lw_m5 110 rfl) rfl
theorem q1120 : (Jvm.Cond.fieldLink "RowenTongue$Clash" (7 : Nat) "RowenTongue$Clash" "error" "I") ∈ lw_all := lw_g (lw_at lw_m5 111 rfl) rfl
theorem q1122 : (Jvm.Cond.laysFinal "RowenTongue$Clash" "RowenTongue$Clash" "error" "I") ∈ lw_all := lw_g (lw_at lw_m5 113 rfl) rfl
theorem q1123 : (Jvm.Cond.soleField "RowenTongue$Clash" "error") ∈ lw_all := lw_g (lw_at lw_m5 114 rfl) rfl
theorem q1124 : (Jvm.Cond.lays "RowenTongue$Clash" "java/lang/Throwable" "depth" "I") ∈ lw_all := lw_g (lw_at lw_m5 115 rfl) rfl
theorem q1125 : (Jvm.Cond.superclass "RowenTongue$Clash" "java/lang/Exception") ∈ lw_all := lw_g (lw_at lw_m5 116 rfl) rfl
theorem q2909 : (Jvm.Cond.castable "RowenTongue$Clash" "java/lang/Object") ∈ lw_tbl := lw_at lw_m12 220 rfl
theorem in_X20 : ∀ w ∈ wsX200, w ∈ lw_all := lw_in wsX200 [1111, 1112, 1113, 1114, 1115, 1124, 1122] (by decide +kernel) (by decide +kernel)
/-! RowenTongue$Likening -/
set_option maxRecDepth 100000
def RX21 : String := "RowenTongue$Likening"
abbrev cX21_at : ByteArray := prog_19_method_2_code
def yX21_at : MethodName := ⟨RX21, "at", "(LRowenTongue$Open;)V"⟩
def dkwX21_at_0 : List UInt8 := [43, 4, 181, 0, 9, 177]
abbrev dktX21_at_0 : List UInt8 := dkwX21_at_0 ++ []
theorem dksX21_at_0 : cX21_at.data.toList.drop 0 = dktX21_at_0 := by decide +kernel
theorem dX21_at_0 : decode cX21_at 0 = .ok (.aload_n 1, 1) := dk_43 (dk_at dksX21_at_0 0 rfl rfl)
theorem dX21_at_1 : decode cX21_at 1 = .ok (.iconst 1, 1) := dk_4 (dk_at dksX21_at_0 1 rfl rfl)
theorem dX21_at_2 : decode cX21_at 2 = .ok (.putfield 9, 3) := dk_181 0 9 (dk_at dksX21_at_0 2 rfl rfl)
theorem dX21_at_5 : decode cX21_at 5 = .ok (.return_, 1) := dk_177 (dk_at dksX21_at_0 5 rfl rfl)
abbrev cX21_at_2 : ByteArray := prog_19_method_4_code
def yX21_at_2 : MethodName := ⟨RX21, "at", "(LRowenTongue$Function;)V"⟩
def dkwX21_at_2_0 : List UInt8 := [187, 0, 18, 89, 8, 183, 0, 20, 191]
abbrev dktX21_at_2_0 : List UInt8 := dkwX21_at_2_0 ++ []
theorem dksX21_at_2_0 : cX21_at_2.data.toList.drop 0 = dktX21_at_2_0 := by decide +kernel
theorem dX21_at_2_0 : decode cX21_at_2 0 = .ok (.new 18, 3) := dk_187 0 18 (dk_at dksX21_at_2_0 0 rfl rfl)
theorem dX21_at_2_3 : decode cX21_at_2 3 = .ok (.dup, 1) := dk_89 (dk_at dksX21_at_2_0 3 rfl rfl)
theorem dX21_at_2_4 : decode cX21_at_2 4 = .ok (.iconst 5, 1) := dk_8 (dk_at dksX21_at_2_0 4 rfl rfl)
theorem dX21_at_2_5 : decode cX21_at_2 5 = .ok (.invokespecial 20, 3) := dk_183 0 20 (dk_at dksX21_at_2_0 5 rfl rfl)
theorem dX21_at_2_8 : decode cX21_at_2 8 = .ok (.athrow, 1) := dk_191 (dk_at dksX21_at_2_0 8 rfl rfl)
abbrev cX21_at_3 : ByteArray := prog_19_method_3_code
def yX21_at_3 : MethodName := ⟨RX21, "at", "(LRowenTongue$OpenRow;)V"⟩
def dkwX21_at_3_0 : List UInt8 := [43, 4, 181, 0, 15, 177]
abbrev dktX21_at_3_0 : List UInt8 := dkwX21_at_3_0 ++ []
theorem dksX21_at_3_0 : cX21_at_3.data.toList.drop 0 = dktX21_at_3_0 := by decide +kernel
theorem dX21_at_3_0 : decode cX21_at_3 0 = .ok (.aload_n 1, 1) := dk_43 (dk_at dksX21_at_3_0 0 rfl rfl)
theorem dX21_at_3_1 : decode cX21_at_3 1 = .ok (.iconst 1, 1) := dk_4 (dk_at dksX21_at_3_0 1 rfl rfl)
theorem dX21_at_3_2 : decode cX21_at_3 2 = .ok (.putfield 15, 3) := dk_181 0 15 (dk_at dksX21_at_3_0 2 rfl rfl)
theorem dX21_at_3_5 : decode cX21_at_3 5 = .ok (.return_, 1) := dk_177 (dk_at dksX21_at_3_0 5 rfl rfl)
abbrev cX21_init : ByteArray := prog_19_method_1_code
def yX21_init : MethodName := ⟨RX21, "<init>", "()V"⟩
theorem dX21_init_0 : decode cX21_init 0 = .ok (.aload_n 0, 1) := by decide +kernel
theorem dX21_init_1 : decode cX21_init 1 = .ok (.invokespecial 3, 3) := by decide +kernel
theorem dX21_init_4 : decode cX21_init 4 = .ok (.return_, 1) := by decide +kernel
theorem q89 : (Jvm.Cond.initialized "RowenTongue$Likening") ∈ lw_all := lw_g (lw_at lw_m1 40 rfl) rfl
theorem q384 : (Jvm.Cond.selects "RowenTongue$Likening" ({ cls := "java/lang/Object", name := "getClass", desc := "()Ljava/lang/Class;" } : Jvm.MethodName) ({ cls := "java/lang/Object", name := "getClass", desc := "()Ljava/lang/Class;" } : Jvm.MethodName)) ∈ lw_all := lw_g (lw_at lw_m2 95 rfl) rfl
theorem q758 : (Jvm.Cond.selects "RowenTongue$Likening" ({ cls := "java/lang/Object", name := "equals", desc := "(Ljava/lang/Object;)Z" } : Jvm.MethodName) ({ cls := "java/lang/Object", name := "equals", desc := "(Ljava/lang/Object;)Z" } : Jvm.MethodName)) ∈ lw_all := lw_g (lw_at lw_m3 229 rfl) rfl
theorem q814 : (Jvm.Cond.fieldLinkNest "RowenTongue$Likening" (9 : Nat) "RowenTongue$Open" "isLike" "Z" "RowenTongue") ∈ lw_tbl := lw_at lw_m4 45 rfl
theorem q928 : (Jvm.Cond.fieldLinkNest "RowenTongue$Likening" (15 : Nat) "RowenTongue$OpenRow" "isLike" "Z" "RowenTongue") ∈ lw_tbl := lw_at lw_m4 159 rfl
theorem q1095 : (Jvm.Cond.castable "RowenTongue$Likening" "RowenTongue$Walk") ∈ lw_tbl := lw_at lw_m5 86 rfl
theorem q1096 : (Jvm.Cond.selects "RowenTongue$Likening" ({ cls := "RowenTongue$Walk", name := "at", desc := "(LRowenTongue$Open;)V" } : Jvm.MethodName) ({ cls := "RowenTongue$Likening", name := "at", desc := "(LRowenTongue$Open;)V" } : Jvm.MethodName)) ∈ lw_all := lw_g (lw_at lw_m5 87 rfl) rfl
theorem q1097 : (Jvm.Cond.unhidden "RowenTongue$Likening" "at" "(LRowenTongue$Open;)V") ∈ lw_tbl := lw_at lw_m5 88 rfl
theorem q1098 : (Jvm.Cond.instanceMethod ({ cls := "RowenTongue$Likening", name := "at", desc := "(LRowenTongue$Open;)V" } : Jvm.MethodName)) ∈ lw_all := lw_g (lw_at lw_m5 89 rfl) rfl
theorem q1099 : (Jvm.Cond.publicMethod ({ cls := "RowenTongue$Likening", name := "at", desc := "(LRowenTongue$Open;)V" } : Jvm.MethodName)) ∈ lw_tbl := lw_at lw_m5 90 rfl
theorem q1100 : (Jvm.Cond.code ({ cls := "RowenTongue$Likening", name := "at", desc := "(LRowenTongue$Open;)V" } : Jvm.MethodName) prog_19_method_2_code (2 : Nat) (Option.none : Option Jvm.ClassFile.FieldType)) ∈ lw_all := lw_g (lw_at lw_m5 91 rfl) rfl
theorem q1136 : (Jvm.Cond.selects "RowenTongue$Likening" ({ cls := "RowenTongue$Walk", name := "at", desc := "(LRowenTongue$Function;)V" } : Jvm.MethodName) ({ cls := "RowenTongue$Likening", name := "at", desc := "(LRowenTongue$Function;)V" } : Jvm.MethodName)) ∈ lw_all := lw_g (lw_at lw_m5 127 rfl) rfl
theorem q1137 : (Jvm.Cond.unhidden "RowenTongue$Likening" "at" "(LRowenTongue$Function;)V") ∈ lw_tbl := lw_at lw_m5 128 rfl
theorem q1138 : (Jvm.Cond.instanceMethod ({ cls := "RowenTongue$Likening", name := "at", desc := "(LRowenTongue$Function;)V" } : Jvm.MethodName)) ∈ lw_all := lw_g (lw_at lw_m5 129 rfl) rfl
theorem q1139 : (Jvm.Cond.publicMethod ({ cls := "RowenTongue$Likening", name := "at", desc := "(LRowenTongue$Function;)V" } : Jvm.MethodName)) ∈ lw_tbl := lw_at lw_m5 130 rfl
theorem q1140 : (Jvm.Cond.code ({ cls := "RowenTongue$Likening", name := "at", desc := "(LRowenTongue$Function;)V" } : Jvm.MethodName) prog_19_method_4_code (2 : Nat) (Option.none : Option Jvm.ClassFile.FieldType)) ∈ lw_all := lw_g (lw_at lw_m5 131 rfl) rfl
theorem q1141 : (Jvm.Cond.classLink "RowenTongue$Likening" (18 : Nat) "RowenTongue$Clash") ∈ lw_all := lw_g (lw_at lw_m5 132 rfl) rfl
theorem q1142 : (Jvm.Cond.methodLink "RowenTongue$Likening" (20 : Nat) ({ cls := "RowenTongue$Clash", name := "<init>", desc := "(I)V" } : Jvm.MethodName)) ∈ lw_all := lw_g (lw_at lw_m5 133 rfl) rfl
theorem q1167 : (Jvm.Cond.selects "RowenTongue$Likening" ({ cls := "RowenTongue$Walk", name := "at", desc := "(LRowenTongue$OpenRow;)V" } : Jvm.MethodName) ({ cls := "RowenTongue$Likening", name := "at", desc := "(LRowenTongue$OpenRow;)V" } : Jvm.MethodName)) ∈ lw_all := lw_g (lw_at lw_m5 158 rfl) rfl
theorem q1168 : (Jvm.Cond.unhidden "RowenTongue$Likening" "at" "(LRowenTongue$OpenRow;)V") ∈ lw_tbl := lw_at lw_m5 159 rfl
theorem q1169 : (Jvm.Cond.instanceMethod ({ cls := "RowenTongue$Likening", name := "at", desc := "(LRowenTongue$OpenRow;)V" } : Jvm.MethodName)) ∈ lw_all := lw_g (lw_at lw_m5 160 rfl) rfl
theorem q1170 : (Jvm.Cond.publicMethod ({ cls := "RowenTongue$Likening", name := "at", desc := "(LRowenTongue$OpenRow;)V" } : Jvm.MethodName)) ∈ lw_tbl := lw_at lw_m5 161 rfl
theorem q1171 : (Jvm.Cond.code ({ cls := "RowenTongue$Likening", name := "at", desc := "(LRowenTongue$OpenRow;)V" } : Jvm.MethodName) prog_19_method_3_code (2 : Nat) (Option.none : Option Jvm.ClassFile.FieldType)) ∈ lw_all := lw_g (lw_at lw_m5 162 rfl) rfl
theorem q1181 : (Jvm.Cond.instantiable "RowenTongue$Likening" (0 : Nat)) ∈ lw_all := lw_g (lw_at lw_m5 172 rfl) rfl
theorem q1183 : (Jvm.Cond.instanceMethod ({ cls := "RowenTongue$Likening", name := "<init>", desc := "()V" } : Jvm.MethodName)) ∈ lw_all := lw_g (lw_at lw_m5 174 rfl) rfl
theorem q1184 : (Jvm.Cond.code ({ cls := "RowenTongue$Likening", name := "<init>", desc := "()V" } : Jvm.MethodName) prog_19_method_1_code (1 : Nat) (Option.none : Option Jvm.ClassFile.FieldType)) ∈ lw_all := lw_g (lw_at lw_m5 175 rfl) rfl
theorem q1185 : (Jvm.Cond.methodLink "RowenTongue$Likening" (3 : Nat) ({ cls := "java/lang/Object", name := "<init>", desc := "()V" } : Jvm.MethodName)) ∈ lw_all := lw_g (lw_at lw_m5 176 rfl) rfl
theorem q1186 : (Jvm.Cond.superclass "RowenTongue$Likening" "java/lang/Object") ∈ lw_all := lw_g (lw_at lw_m5 177 rfl) rfl
theorem q2910 : (Jvm.Cond.castable "RowenTongue$Likening" "java/lang/Object") ∈ lw_tbl := lw_at lw_m12 221 rfl
/-! RowenTongue$Flat -/
set_option maxRecDepth 100000
def RX22 : String := "RowenTongue$Flat"
def TX22 : u_T := fun k => match k with
  | 0 => ("RowenTongue$Flat", "types", "Ljava/util/ArrayList;", true)
  | 1 => ("RowenTongue$Flat", "tail", "LRowenTongue$OpenRow;", true)
  | _ => ("RowenTongue$Flat", "labels", "I", false)
def tyX22 : Nat → FieldType := fun k => match k with
  | 0 => .object "java/util/ArrayList"
  | 1 => .object "RowenTongue$OpenRow"
  | _ => .int
abbrev wsX220 : List Cond := u_ws RX22 TX22 3
theorem nmX22 : ∀ a, a < 3 → ∀ b, b < 3 → a ≠ b → (TX22 a).2.1 ≠ (TX22 b).2.1 := by decide +kernel
theorem tyX22_ok : ∀ k, k < 3 → parseFieldDescriptor (TX22 k).2.2.1 = some (tyX22 k) := by decide +kernel
abbrev cX22_init : ByteArray := prog_14_method_1_code
def yX22_init : MethodName := ⟨RX22, "<init>", "(LRowenTongue$Row;)V"⟩
def dkwX22_init_5 : List UInt8 := [1, 181, 0, 53, 177]
abbrev dktX22_init_5 : List UInt8 := dkwX22_init_5 ++ []
def dkwX22_init_4 : List UInt8 := [182, 0, 22, 77, 167, 255, 201, 42, 44, 193, 0, 51, 153, 0, 12, 44, 192, 0, 51, 78, 45, 167, 0, 4]
abbrev dktX22_init_4 : List UInt8 := dkwX22_init_4 ++ dktX22_init_5
def dkwX22_init_3 : List UInt8 := [192, 0, 42, 58, 4, 42, 89, 180, 0, 44, 4, 45, 180, 0, 30, 120, 128, 181, 0, 44, 45, 180, 0, 47]
abbrev dktX22_init_3 : List UInt8 := dkwX22_init_3 ++ dktX22_init_4
def dkwX22_init_2 : List UInt8 := [153, 0, 54, 44, 192, 0, 28, 78, 42, 180, 0, 12, 45, 180, 0, 30, 45, 180, 0, 34, 182, 0, 38]
abbrev dktX22_init_2 : List UInt8 := dkwX22_init_2 ++ dktX22_init_3
def dkwX22_init_1 : List UInt8 := [180, 0, 12, 1, 182, 0, 18, 87, 132, 2, 1, 167, 255, 238, 43, 182, 0, 22, 77, 44, 193, 0, 28]
abbrev dktX22_init_1 : List UInt8 := dkwX22_init_1 ++ dktX22_init_2
def dkwX22_init_0 : List UInt8 := [42, 183, 0, 3, 42, 187, 0, 9, 89, 183, 0, 11, 181, 0, 12, 3, 61, 28, 16, 10, 162, 0, 18, 42]
abbrev dktX22_init_0 : List UInt8 := dkwX22_init_0 ++ dktX22_init_1
theorem dksX22_init_0 : cX22_init.data.toList.drop 0 = dktX22_init_0 := by decide +kernel
theorem dksX22_init_1 : cX22_init.data.toList.drop 24 = dktX22_init_1 := dk_seg dksX22_init_0 24 rfl rfl
theorem dksX22_init_2 : cX22_init.data.toList.drop 47 = dktX22_init_2 := dk_seg dksX22_init_1 23 rfl rfl
theorem dksX22_init_3 : cX22_init.data.toList.drop 70 = dktX22_init_3 := dk_seg dksX22_init_2 23 rfl rfl
theorem dksX22_init_4 : cX22_init.data.toList.drop 94 = dktX22_init_4 := dk_seg dksX22_init_3 24 rfl rfl
theorem dksX22_init_5 : cX22_init.data.toList.drop 118 = dktX22_init_5 := dk_seg dksX22_init_4 24 rfl rfl
theorem dX22_init_0 : decode cX22_init 0 = .ok (.aload_n 0, 1) := dk_42 (dk_at dksX22_init_0 0 rfl rfl)
theorem dX22_init_1 : decode cX22_init 1 = .ok (.invokespecial 3, 3) := dk_183 0 3 (dk_at dksX22_init_0 1 rfl rfl)
theorem dX22_init_4 : decode cX22_init 4 = .ok (.aload_n 0, 1) := dk_42 (dk_at dksX22_init_0 4 rfl rfl)
theorem dX22_init_5 : decode cX22_init 5 = .ok (.new 9, 3) := dk_187 0 9 (dk_at dksX22_init_0 5 rfl rfl)
theorem dX22_init_8 : decode cX22_init 8 = .ok (.dup, 1) := dk_89 (dk_at dksX22_init_0 8 rfl rfl)
theorem dX22_init_9 : decode cX22_init 9 = .ok (.invokespecial 11, 3) := dk_183 0 11 (dk_at dksX22_init_0 9 rfl rfl)
theorem dX22_init_12 : decode cX22_init 12 = .ok (.putfield 12, 3) := dk_181 0 12 (dk_at dksX22_init_0 12 rfl rfl)
theorem dX22_init_15 : decode cX22_init 15 = .ok (.iconst 0, 1) := dk_3 (dk_at dksX22_init_0 15 rfl rfl)
theorem dX22_init_16 : decode cX22_init 16 = .ok (.istore_n 2, 1) := dk_61 (dk_at dksX22_init_0 16 rfl rfl)
theorem dX22_init_17 : decode cX22_init 17 = .ok (.iload_n 2, 1) := dk_28 (dk_at dksX22_init_0 17 rfl rfl)
theorem dX22_init_18 : decode cX22_init 18 = .ok (.bipush 10, 2) := dk_16 10 (dk_at dksX22_init_0 18 rfl rfl)
theorem dX22_init_20 : decode cX22_init 20 = .ok (.if_icmp .ge 18, 3) := dk_162 0 18 (dk_at dksX22_init_0 20 rfl rfl)
theorem dX22_init_23 : decode cX22_init 23 = .ok (.aload_n 0, 1) := dk_42 (dk_at dksX22_init_0 23 rfl rfl)
theorem dX22_init_24 : decode cX22_init 24 = .ok (.getfield 12, 3) := dk_180 0 12 (dk_at dksX22_init_1 0 rfl rfl)
theorem dX22_init_27 : decode cX22_init 27 = .ok (.aconst_null, 1) := dk_1 (dk_at dksX22_init_1 3 rfl rfl)
theorem dX22_init_28 : decode cX22_init 28 = .ok (.invokevirtual 18, 3) := dk_182 0 18 (dk_at dksX22_init_1 4 rfl rfl)
theorem dX22_init_31 : decode cX22_init 31 = .ok (.pop, 1) := dk_87 (dk_at dksX22_init_1 7 rfl rfl)
theorem dX22_init_32 : decode cX22_init 32 = .ok (.iinc 2 1, 3) := dk_132 2 1 (dk_at dksX22_init_1 8 rfl rfl)
theorem dX22_init_35 : decode cX22_init 35 = .ok (.goto (-18), 3) := dk_167 255 238 (dk_at dksX22_init_1 11 rfl rfl)
theorem dX22_init_38 : decode cX22_init 38 = .ok (.aload_n 1, 1) := dk_43 (dk_at dksX22_init_1 14 rfl rfl)
theorem dX22_init_39 : decode cX22_init 39 = .ok (.invokevirtual 22, 3) := dk_182 0 22 (dk_at dksX22_init_1 15 rfl rfl)
theorem dX22_init_42 : decode cX22_init 42 = .ok (.astore_n 2, 1) := dk_77 (dk_at dksX22_init_1 18 rfl rfl)
theorem dX22_init_43 : decode cX22_init 43 = .ok (.aload_n 2, 1) := dk_44 (dk_at dksX22_init_1 19 rfl rfl)
theorem dX22_init_44 : decode cX22_init 44 = .ok (.instanceof 28, 3) := dk_193 0 28 (dk_at dksX22_init_1 20 rfl rfl)
theorem dX22_init_47 : decode cX22_init 47 = .ok (.ifCond .eq 54, 3) := dk_153 0 54 (dk_at dksX22_init_2 0 rfl rfl)
theorem dX22_init_50 : decode cX22_init 50 = .ok (.aload_n 2, 1) := dk_44 (dk_at dksX22_init_2 3 rfl rfl)
theorem dX22_init_51 : decode cX22_init 51 = .ok (.checkcast 28, 3) := dk_192 0 28 (dk_at dksX22_init_2 4 rfl rfl)
theorem dX22_init_54 : decode cX22_init 54 = .ok (.astore_n 3, 1) := dk_78 (dk_at dksX22_init_2 7 rfl rfl)
theorem dX22_init_55 : decode cX22_init 55 = .ok (.aload_n 0, 1) := dk_42 (dk_at dksX22_init_2 8 rfl rfl)
theorem dX22_init_56 : decode cX22_init 56 = .ok (.getfield 12, 3) := dk_180 0 12 (dk_at dksX22_init_2 9 rfl rfl)
theorem dX22_init_59 : decode cX22_init 59 = .ok (.aload_n 3, 1) := dk_45 (dk_at dksX22_init_2 12 rfl rfl)
theorem dX22_init_60 : decode cX22_init 60 = .ok (.getfield 30, 3) := dk_180 0 30 (dk_at dksX22_init_2 13 rfl rfl)
theorem dX22_init_63 : decode cX22_init 63 = .ok (.aload_n 3, 1) := dk_45 (dk_at dksX22_init_2 16 rfl rfl)
theorem dX22_init_64 : decode cX22_init 64 = .ok (.getfield 34, 3) := dk_180 0 34 (dk_at dksX22_init_2 17 rfl rfl)
theorem dX22_init_67 : decode cX22_init 67 = .ok (.invokevirtual 38, 3) := dk_182 0 38 (dk_at dksX22_init_2 20 rfl rfl)
theorem dX22_init_70 : decode cX22_init 70 = .ok (.checkcast 42, 3) := dk_192 0 42 (dk_at dksX22_init_3 0 rfl rfl)
theorem dX22_init_73 : decode cX22_init 73 = .ok (.astore 4, 2) := dk_58 4 (dk_at dksX22_init_3 3 rfl rfl)
theorem dX22_init_75 : decode cX22_init 75 = .ok (.aload_n 0, 1) := dk_42 (dk_at dksX22_init_3 5 rfl rfl)
theorem dX22_init_76 : decode cX22_init 76 = .ok (.dup, 1) := dk_89 (dk_at dksX22_init_3 6 rfl rfl)
theorem dX22_init_77 : decode cX22_init 77 = .ok (.getfield 44, 3) := dk_180 0 44 (dk_at dksX22_init_3 7 rfl rfl)
theorem dX22_init_80 : decode cX22_init 80 = .ok (.iconst 1, 1) := dk_4 (dk_at dksX22_init_3 10 rfl rfl)
theorem dX22_init_81 : decode cX22_init 81 = .ok (.aload_n 3, 1) := dk_45 (dk_at dksX22_init_3 11 rfl rfl)
theorem dX22_init_82 : decode cX22_init 82 = .ok (.getfield 30, 3) := dk_180 0 30 (dk_at dksX22_init_3 12 rfl rfl)
theorem dX22_init_85 : decode cX22_init 85 = .ok (.ishl, 1) := dk_120 (dk_at dksX22_init_3 15 rfl rfl)
theorem dX22_init_86 : decode cX22_init 86 = .ok (.ior, 1) := dk_128 (dk_at dksX22_init_3 16 rfl rfl)
theorem dX22_init_87 : decode cX22_init 87 = .ok (.putfield 44, 3) := dk_181 0 44 (dk_at dksX22_init_3 17 rfl rfl)
theorem dX22_init_90 : decode cX22_init 90 = .ok (.aload_n 3, 1) := dk_45 (dk_at dksX22_init_3 20 rfl rfl)
theorem dX22_init_91 : decode cX22_init 91 = .ok (.getfield 47, 3) := dk_180 0 47 (dk_at dksX22_init_3 21 rfl rfl)
theorem dX22_init_94 : decode cX22_init 94 = .ok (.invokevirtual 22, 3) := dk_182 0 22 (dk_at dksX22_init_4 0 rfl rfl)
theorem dX22_init_97 : decode cX22_init 97 = .ok (.astore_n 2, 1) := dk_77 (dk_at dksX22_init_4 3 rfl rfl)
theorem dX22_init_98 : decode cX22_init 98 = .ok (.goto (-55), 3) := dk_167 255 201 (dk_at dksX22_init_4 4 rfl rfl)
theorem dX22_init_101 : decode cX22_init 101 = .ok (.aload_n 0, 1) := dk_42 (dk_at dksX22_init_4 7 rfl rfl)
theorem dX22_init_102 : decode cX22_init 102 = .ok (.aload_n 2, 1) := dk_44 (dk_at dksX22_init_4 8 rfl rfl)
theorem dX22_init_103 : decode cX22_init 103 = .ok (.instanceof 51, 3) := dk_193 0 51 (dk_at dksX22_init_4 9 rfl rfl)
theorem dX22_init_106 : decode cX22_init 106 = .ok (.ifCond .eq 12, 3) := dk_153 0 12 (dk_at dksX22_init_4 12 rfl rfl)
theorem dX22_init_109 : decode cX22_init 109 = .ok (.aload_n 2, 1) := dk_44 (dk_at dksX22_init_4 15 rfl rfl)
theorem dX22_init_110 : decode cX22_init 110 = .ok (.checkcast 51, 3) := dk_192 0 51 (dk_at dksX22_init_4 16 rfl rfl)
theorem dX22_init_113 : decode cX22_init 113 = .ok (.astore_n 3, 1) := dk_78 (dk_at dksX22_init_4 19 rfl rfl)
theorem dX22_init_114 : decode cX22_init 114 = .ok (.aload_n 3, 1) := dk_45 (dk_at dksX22_init_4 20 rfl rfl)
theorem dX22_init_115 : decode cX22_init 115 = .ok (.goto 4, 3) := dk_167 0 4 (dk_at dksX22_init_4 21 rfl rfl)
theorem dX22_init_118 : decode cX22_init 118 = .ok (.aconst_null, 1) := dk_1 (dk_at dksX22_init_5 0 rfl rfl)
theorem dX22_init_119 : decode cX22_init 119 = .ok (.putfield 53, 3) := dk_181 0 53 (dk_at dksX22_init_5 1 rfl rfl)
theorem dX22_init_122 : decode cX22_init 122 = .ok (.return_, 1) := dk_177 (dk_at dksX22_init_5 4 rfl rfl)
abbrev cX22_some : ByteArray := prog_14_method_2_code
def yX22_some : MethodName := ⟨RX22, "some", "(ILRowenTongue$Row;)LRowenTongue$Row;"⟩
def dkwX22_some_2 : List UInt8 := [132, 4, 255, 167, 255, 212, 45, 176]
abbrev dktX22_some_2 : List UInt8 := dkwX22_some_2 ++ []
def dkwX22_some_1 : List UInt8 := [21, 4, 42, 180, 0, 12, 21, 4, 182, 0, 61, 192, 0, 42, 45, 183, 0, 65, 167, 0, 4, 45, 78]
abbrev dktX22_some_1 : List UInt8 := dkwX22_some_1 ++ dktX22_some_2
def dkwX22_some_0 : List UInt8 := [44, 78, 16, 9, 54, 4, 21, 4, 155, 0, 45, 27, 21, 4, 184, 0, 57, 153, 0, 28, 187, 0, 28, 89]
abbrev dktX22_some_0 : List UInt8 := dkwX22_some_0 ++ dktX22_some_1
theorem dksX22_some_0 : cX22_some.data.toList.drop 0 = dktX22_some_0 := by decide +kernel
theorem dksX22_some_1 : cX22_some.data.toList.drop 24 = dktX22_some_1 := dk_seg dksX22_some_0 24 rfl rfl
theorem dksX22_some_2 : cX22_some.data.toList.drop 47 = dktX22_some_2 := dk_seg dksX22_some_1 23 rfl rfl
theorem dX22_some_0 : decode cX22_some 0 = .ok (.aload_n 2, 1) := dk_44 (dk_at dksX22_some_0 0 rfl rfl)
theorem dX22_some_1 : decode cX22_some 1 = .ok (.astore_n 3, 1) := dk_78 (dk_at dksX22_some_0 1 rfl rfl)
theorem dX22_some_2 : decode cX22_some 2 = .ok (.bipush 9, 2) := dk_16 9 (dk_at dksX22_some_0 2 rfl rfl)
theorem dX22_some_4 : decode cX22_some 4 = .ok (.istore 4, 2) := dk_54 4 (dk_at dksX22_some_0 4 rfl rfl)
theorem dX22_some_6 : decode cX22_some 6 = .ok (.iload 4, 2) := dk_21 4 (dk_at dksX22_some_0 6 rfl rfl)
theorem dX22_some_8 : decode cX22_some 8 = .ok (.ifCond .lt 45, 3) := dk_155 0 45 (dk_at dksX22_some_0 8 rfl rfl)
theorem dX22_some_11 : decode cX22_some 11 = .ok (.iload_n 1, 1) := dk_27 (dk_at dksX22_some_0 11 rfl rfl)
theorem dX22_some_12 : decode cX22_some 12 = .ok (.iload 4, 2) := dk_21 4 (dk_at dksX22_some_0 12 rfl rfl)
theorem dX22_some_14 : decode cX22_some 14 = .ok (.invokestatic 57, 3) := dk_184 0 57 (dk_at dksX22_some_0 14 rfl rfl)
theorem dX22_some_17 : decode cX22_some 17 = .ok (.ifCond .eq 28, 3) := dk_153 0 28 (dk_at dksX22_some_0 17 rfl rfl)
theorem dX22_some_20 : decode cX22_some 20 = .ok (.new 28, 3) := dk_187 0 28 (dk_at dksX22_some_0 20 rfl rfl)
theorem dX22_some_23 : decode cX22_some 23 = .ok (.dup, 1) := dk_89 (dk_at dksX22_some_0 23 rfl rfl)
theorem dX22_some_24 : decode cX22_some 24 = .ok (.iload 4, 2) := dk_21 4 (dk_at dksX22_some_1 0 rfl rfl)
theorem dX22_some_26 : decode cX22_some 26 = .ok (.aload_n 0, 1) := dk_42 (dk_at dksX22_some_1 2 rfl rfl)
theorem dX22_some_27 : decode cX22_some 27 = .ok (.getfield 12, 3) := dk_180 0 12 (dk_at dksX22_some_1 3 rfl rfl)
theorem dX22_some_30 : decode cX22_some 30 = .ok (.iload 4, 2) := dk_21 4 (dk_at dksX22_some_1 6 rfl rfl)
theorem dX22_some_32 : decode cX22_some 32 = .ok (.invokevirtual 61, 3) := dk_182 0 61 (dk_at dksX22_some_1 8 rfl rfl)
theorem dX22_some_35 : decode cX22_some 35 = .ok (.checkcast 42, 3) := dk_192 0 42 (dk_at dksX22_some_1 11 rfl rfl)
theorem dX22_some_38 : decode cX22_some 38 = .ok (.aload_n 3, 1) := dk_45 (dk_at dksX22_some_1 14 rfl rfl)
theorem dX22_some_39 : decode cX22_some 39 = .ok (.invokespecial 65, 3) := dk_183 0 65 (dk_at dksX22_some_1 15 rfl rfl)
theorem dX22_some_42 : decode cX22_some 42 = .ok (.goto 4, 3) := dk_167 0 4 (dk_at dksX22_some_1 18 rfl rfl)
theorem dX22_some_45 : decode cX22_some 45 = .ok (.aload_n 3, 1) := dk_45 (dk_at dksX22_some_1 21 rfl rfl)
theorem dX22_some_46 : decode cX22_some 46 = .ok (.astore_n 3, 1) := dk_78 (dk_at dksX22_some_1 22 rfl rfl)
theorem dX22_some_47 : decode cX22_some 47 = .ok (.iinc 4 (-1), 3) := dk_132 4 255 (dk_at dksX22_some_2 0 rfl rfl)
theorem dX22_some_50 : decode cX22_some 50 = .ok (.goto (-44), 3) := dk_167 255 212 (dk_at dksX22_some_2 3 rfl rfl)
theorem dX22_some_53 : decode cX22_some 53 = .ok (.aload_n 3, 1) := dk_45 (dk_at dksX22_some_2 6 rfl rfl)
theorem dX22_some_54 : decode cX22_some 54 = .ok (.areturn, 1) := dk_176 (dk_at dksX22_some_2 7 rfl rfl)
theorem q90 : (Jvm.Cond.initialized "RowenTongue$Flat") ∈ lw_all := lw_g (lw_at lw_m1 41 rfl) rfl
theorem q379 : (Jvm.Cond.selects "RowenTongue$Flat" ({ cls := "java/lang/Object", name := "getClass", desc := "()Ljava/lang/Class;" } : Jvm.MethodName) ({ cls := "java/lang/Object", name := "getClass", desc := "()Ljava/lang/Class;" } : Jvm.MethodName)) ∈ lw_all := lw_g (lw_at lw_m2 90 rfl) rfl
theorem q753 : (Jvm.Cond.selects "RowenTongue$Flat" ({ cls := "java/lang/Object", name := "equals", desc := "(Ljava/lang/Object;)Z" } : Jvm.MethodName) ({ cls := "java/lang/Object", name := "equals", desc := "(Ljava/lang/Object;)Z" } : Jvm.MethodName)) ∈ lw_all := lw_g (lw_at lw_m3 224 rfl) rfl
theorem q891 : (Jvm.Cond.fieldLinkNest "RowenTongue$Flat" (30 : Nat) "RowenTongue$Cell" "label" "I" "RowenTongue") ∈ lw_tbl := lw_at lw_m4 122 rfl
theorem q895 : (Jvm.Cond.fieldLinkNest "RowenTongue$Flat" (34 : Nat) "RowenTongue$Cell" "type" "LRowenTongue$Type;" "RowenTongue") ∈ lw_tbl := lw_at lw_m4 126 rfl
theorem q899 : (Jvm.Cond.fieldLinkNest "RowenTongue$Flat" (47 : Nat) "RowenTongue$Cell" "rest" "LRowenTongue$Row;" "RowenTongue") ∈ lw_tbl := lw_at lw_m4 130 rfl
theorem q1194 : (Jvm.Cond.instantiable "RowenTongue$Flat" (3 : Nat)) ∈ lw_all := lw_g (lw_at lw_m5 185 rfl) rfl
theorem q1196 : (Jvm.Cond.instanceMethod ({ cls := "RowenTongue$Flat", name := "<init>", desc := "(LRowenTongue$Row;)V" } : Jvm.MethodName)) ∈ lw_all := lw_g (lw_at lw_m5 187 rfl) rfl
theorem q1197 : (Jvm.Cond.code ({ cls := "RowenTongue$Flat", name := "<init>", desc := "(LRowenTongue$Row;)V" } : Jvm.MethodName) prog_14_method_1_code (5 : Nat) (Option.none : Option Jvm.ClassFile.FieldType)) ∈ lw_all := lw_g (lw_at lw_m5 188 rfl) rfl
theorem q1198 : (Jvm.Cond.methodLink "RowenTongue$Flat" (3 : Nat) ({ cls := "java/lang/Object", name := "<init>", desc := "()V" } : Jvm.MethodName)) ∈ lw_all := lw_g (lw_at lw_m5 189 rfl) rfl
theorem q1199 : (Jvm.Cond.classLink "RowenTongue$Flat" (9 : Nat) "java/util/ArrayList") ∈ lw_all := lw_g (lw_at lw_m5 190 rfl) rfl
theorem q1200 : (Jvm.Cond.methodLink "RowenTongue$Flat" (11 : Nat) ({ cls := "java/util/ArrayList", name := "<init>", desc := "()V" } : Jvm.MethodName)) ∈ lw_all := lw_g (lw_at lw_m5 191 rfl) rfl
theorem q1201 : (Jvm.Cond.methodLink "RowenTongue$Flat" (18 : Nat) ({ cls := "java/util/ArrayList", name := "add", desc := "(Ljava/lang/Object;)Z" } : Jvm.MethodName)) ∈ lw_all := lw_g (lw_at lw_m5 192 rfl) rfl
theorem q1202 : (Jvm.Cond.methodLink "RowenTongue$Flat" (22 : Nat) ({ cls := "RowenTongue$Row", name := "now", desc := "()LRowenTongue$Row;" } : Jvm.MethodName)) ∈ lw_all := lw_g (lw_at lw_m5 193 rfl) rfl
theorem q1203 : (Jvm.Cond.classLink "RowenTongue$Flat" (28 : Nat) "RowenTongue$Cell") ∈ lw_all := lw_g (lw_at lw_m5 194 rfl) rfl
theorem q1204 : (Jvm.Cond.methodLink "RowenTongue$Flat" (38 : Nat) ({ cls := "java/util/ArrayList", name := "set", desc := "(ILjava/lang/Object;)Ljava/lang/Object;" } : Jvm.MethodName)) ∈ lw_all := lw_g (lw_at lw_m5 195 rfl) rfl
theorem q1208 : (Jvm.Cond.classLink "RowenTongue$Flat" (42 : Nat) "RowenTongue$Type") ∈ lw_all := lw_g (lw_at lw_m5 199 rfl) rfl
theorem q1209 : (Jvm.Cond.classLink "RowenTongue$Flat" (51 : Nat) "RowenTongue$OpenRow") ∈ lw_all := lw_g (lw_at lw_m5 200 rfl) rfl
theorem q1210 : (Jvm.Cond.fieldLink "RowenTongue$Flat" (12 : Nat) "RowenTongue$Flat" "types" "Ljava/util/ArrayList;") ∈ lw_all := lw_g (lw_at lw_m5 201 rfl) rfl
theorem q1215 : (Jvm.Cond.fieldLink "RowenTongue$Flat" (53 : Nat) "RowenTongue$Flat" "tail" "LRowenTongue$OpenRow;") ∈ lw_all := lw_g (lw_at lw_m5 206 rfl) rfl
theorem q1218 : (Jvm.Cond.fieldLink "RowenTongue$Flat" (44 : Nat) "RowenTongue$Flat" "labels" "I") ∈ lw_all := lw_g (lw_at lw_m5 209 rfl) rfl
theorem q1223 : (Jvm.Cond.laysFinal "RowenTongue$Flat" "RowenTongue$Flat" "types" "Ljava/util/ArrayList;") ∈ lw_all := lw_g (lw_at lw_m5 214 rfl) rfl
theorem q1224 : (Jvm.Cond.soleField "RowenTongue$Flat" "types") ∈ lw_all := lw_g (lw_at lw_m5 215 rfl) rfl
theorem q1225 : (Jvm.Cond.laysFinal "RowenTongue$Flat" "RowenTongue$Flat" "tail" "LRowenTongue$OpenRow;") ∈ lw_all := lw_g (lw_at lw_m5 216 rfl) rfl
theorem q1226 : (Jvm.Cond.soleField "RowenTongue$Flat" "tail") ∈ lw_all := lw_g (lw_at lw_m5 217 rfl) rfl
theorem q1227 : (Jvm.Cond.lays "RowenTongue$Flat" "RowenTongue$Flat" "labels" "I") ∈ lw_all := lw_g (lw_at lw_m5 218 rfl) rfl
theorem q1228 : (Jvm.Cond.soleField "RowenTongue$Flat" "labels") ∈ lw_all := lw_g (lw_at lw_m5 219 rfl) rfl
theorem q1229 : (Jvm.Cond.superclass "RowenTongue$Flat" "java/lang/Object") ∈ lw_all := lw_g (lw_at lw_m5 220 rfl) rfl
theorem q1243 : (Jvm.Cond.instanceMethod ({ cls := "RowenTongue$Flat", name := "some", desc := "(ILRowenTongue$Row;)LRowenTongue$Row;" } : Jvm.MethodName)) ∈ lw_all := lw_g (lw_at lw_m5 234 rfl) rfl
theorem q1244 : (Jvm.Cond.selects "RowenTongue$Flat" ({ cls := "RowenTongue$Flat", name := "some", desc := "(ILRowenTongue$Row;)LRowenTongue$Row;" } : Jvm.MethodName) ({ cls := "RowenTongue$Flat", name := "some", desc := "(ILRowenTongue$Row;)LRowenTongue$Row;" } : Jvm.MethodName)) ∈ lw_all := lw_g (lw_at lw_m5 235 rfl) rfl
theorem q1245 : (Jvm.Cond.code ({ cls := "RowenTongue$Flat", name := "some", desc := "(ILRowenTongue$Row;)LRowenTongue$Row;" } : Jvm.MethodName) prog_14_method_2_code (5 : Nat) (Option.some (Jvm.ClassFile.FieldType.object "RowenTongue$Row"))) ∈ lw_all := lw_g (lw_at lw_m5 236 rfl) rfl
theorem q1246 : (Jvm.Cond.methodLinkNest "RowenTongue$Flat" (57 : Nat) ({ cls := "RowenTongue", name := "has", desc := "(II)Z" } : Jvm.MethodName) "RowenTongue") ∈ lw_tbl := lw_at lw_m5 237 rfl
theorem q1247 : (Jvm.Cond.methodLink "RowenTongue$Flat" (61 : Nat) ({ cls := "java/util/ArrayList", name := "get", desc := "(I)Ljava/lang/Object;" } : Jvm.MethodName)) ∈ lw_all := lw_g (lw_at lw_m5 238 rfl) rfl
theorem q1248 : (Jvm.Cond.methodLink "RowenTongue$Flat" (65 : Nat) ({ cls := "RowenTongue$Cell", name := "<init>", desc := "(ILRowenTongue$Type;LRowenTongue$Row;)V" } : Jvm.MethodName)) ∈ lw_all := lw_g (lw_at lw_m5 239 rfl) rfl
theorem q2911 : (Jvm.Cond.castable "RowenTongue$Flat" "java/lang/Object") ∈ lw_tbl := lw_at lw_m12 222 rfl
theorem in_X22 : ∀ w ∈ wsX220, w ∈ lw_all := lw_in wsX220 [1223, 1225, 1227] (by decide +kernel) (by decide +kernel)
/-! RowenTongue$Generalising -/
set_option maxRecDepth 100000
def RX23 : String := "RowenTongue$Generalising"
def TX23 : u_T := fun k => match k with
  | 0 => ("RowenTongue$Generalising", "places", "Ljava/util/ArrayList;", true)
  | _ => ("RowenTongue$Generalising", "level", "I", true)
def tyX23 : Nat → FieldType := fun k => match k with
  | 0 => .object "java/util/ArrayList"
  | _ => .int
abbrev wsX230 : List Cond := u_ws RX23 TX23 2
theorem nmX23 : ∀ a, a < 2 → ∀ b, b < 2 → a ≠ b → (TX23 a).2.1 ≠ (TX23 b).2.1 := by decide +kernel
theorem tyX23_ok : ∀ k, k < 2 → parseFieldDescriptor (TX23 k).2.2.1 = some (tyX23 k) := by decide +kernel
abbrev cX23_at : ByteArray := prog_17_method_2_code
def yX23_at : MethodName := ⟨RX23, "at", "(LRowenTongue$Open;)V"⟩
def dkwX23_at_1 : List UInt8 := [177]
abbrev dktX23_at_1 : List UInt8 := dkwX23_at_1 ++ []
def dkwX23_at_0 : List UInt8 := [43, 43, 180, 0, 22, 42, 180, 0, 18, 164, 0, 8, 18, 25, 167, 0, 7, 43, 180, 0, 22, 181, 0, 22]
abbrev dktX23_at_0 : List UInt8 := dkwX23_at_0 ++ dktX23_at_1
theorem dksX23_at_0 : cX23_at.data.toList.drop 0 = dktX23_at_0 := by decide +kernel
theorem dksX23_at_1 : cX23_at.data.toList.drop 24 = dktX23_at_1 := dk_seg dksX23_at_0 24 rfl rfl
theorem dX23_at_0 : decode cX23_at 0 = .ok (.aload_n 1, 1) := dk_43 (dk_at dksX23_at_0 0 rfl rfl)
theorem dX23_at_1 : decode cX23_at 1 = .ok (.aload_n 1, 1) := dk_43 (dk_at dksX23_at_0 1 rfl rfl)
theorem dX23_at_2 : decode cX23_at 2 = .ok (.getfield 22, 3) := dk_180 0 22 (dk_at dksX23_at_0 2 rfl rfl)
theorem dX23_at_5 : decode cX23_at 5 = .ok (.aload_n 0, 1) := dk_42 (dk_at dksX23_at_0 5 rfl rfl)
theorem dX23_at_6 : decode cX23_at 6 = .ok (.getfield 18, 3) := dk_180 0 18 (dk_at dksX23_at_0 6 rfl rfl)
theorem dX23_at_9 : decode cX23_at 9 = .ok (.if_icmp .le 8, 3) := dk_164 0 8 (dk_at dksX23_at_0 9 rfl rfl)
theorem dX23_at_12 : decode cX23_at 12 = .ok (.ldc 25, 2) := dk_18 25 (dk_at dksX23_at_0 12 rfl rfl)
theorem dX23_at_14 : decode cX23_at 14 = .ok (.goto 7, 3) := dk_167 0 7 (dk_at dksX23_at_0 14 rfl rfl)
theorem dX23_at_17 : decode cX23_at 17 = .ok (.aload_n 1, 1) := dk_43 (dk_at dksX23_at_0 17 rfl rfl)
theorem dX23_at_18 : decode cX23_at 18 = .ok (.getfield 22, 3) := dk_180 0 22 (dk_at dksX23_at_0 18 rfl rfl)
theorem dX23_at_21 : decode cX23_at 21 = .ok (.putfield 22, 3) := dk_181 0 22 (dk_at dksX23_at_0 21 rfl rfl)
theorem dX23_at_24 : decode cX23_at 24 = .ok (.return_, 1) := dk_177 (dk_at dksX23_at_1 0 rfl rfl)
abbrev cX23_at_2 : ByteArray := prog_17_method_3_code
def yX23_at_2 : MethodName := ⟨RX23, "at", "(LRowenTongue$OpenRow;)V"⟩
def dkwX23_at_2_2 : List UInt8 := [180, 0, 12, 187, 0, 36, 89, 43, 28, 183, 0, 38, 182, 0, 41, 87, 132, 2, 1, 167, 255, 219, 177]
abbrev dktX23_at_2_2 : List UInt8 := dkwX23_at_2_2 ++ []
def dkwX23_at_2_1 : List UInt8 := [181, 0, 26, 3, 61, 28, 16, 10, 162, 0, 37, 43, 180, 0, 29, 28, 184, 0, 32, 153, 0, 20, 42]
abbrev dktX23_at_2_1 : List UInt8 := dkwX23_at_2_1 ++ dktX23_at_2_2
def dkwX23_at_2_0 : List UInt8 := [43, 180, 0, 26, 42, 180, 0, 18, 164, 0, 60, 43, 180, 0, 26, 18, 25, 162, 0, 51, 43, 18, 25]
abbrev dktX23_at_2_0 : List UInt8 := dkwX23_at_2_0 ++ dktX23_at_2_1
theorem dksX23_at_2_0 : cX23_at_2.data.toList.drop 0 = dktX23_at_2_0 := by decide +kernel
theorem dksX23_at_2_1 : cX23_at_2.data.toList.drop 23 = dktX23_at_2_1 := dk_seg dksX23_at_2_0 23 rfl rfl
theorem dksX23_at_2_2 : cX23_at_2.data.toList.drop 46 = dktX23_at_2_2 := dk_seg dksX23_at_2_1 23 rfl rfl
theorem dX23_at_2_0 : decode cX23_at_2 0 = .ok (.aload_n 1, 1) := dk_43 (dk_at dksX23_at_2_0 0 rfl rfl)
theorem dX23_at_2_1 : decode cX23_at_2 1 = .ok (.getfield 26, 3) := dk_180 0 26 (dk_at dksX23_at_2_0 1 rfl rfl)
theorem dX23_at_2_4 : decode cX23_at_2 4 = .ok (.aload_n 0, 1) := dk_42 (dk_at dksX23_at_2_0 4 rfl rfl)
theorem dX23_at_2_5 : decode cX23_at_2 5 = .ok (.getfield 18, 3) := dk_180 0 18 (dk_at dksX23_at_2_0 5 rfl rfl)
theorem dX23_at_2_8 : decode cX23_at_2 8 = .ok (.if_icmp .le 60, 3) := dk_164 0 60 (dk_at dksX23_at_2_0 8 rfl rfl)
theorem dX23_at_2_11 : decode cX23_at_2 11 = .ok (.aload_n 1, 1) := dk_43 (dk_at dksX23_at_2_0 11 rfl rfl)
theorem dX23_at_2_12 : decode cX23_at_2 12 = .ok (.getfield 26, 3) := dk_180 0 26 (dk_at dksX23_at_2_0 12 rfl rfl)
theorem dX23_at_2_15 : decode cX23_at_2 15 = .ok (.ldc 25, 2) := dk_18 25 (dk_at dksX23_at_2_0 15 rfl rfl)
theorem dX23_at_2_17 : decode cX23_at_2 17 = .ok (.if_icmp .ge 51, 3) := dk_162 0 51 (dk_at dksX23_at_2_0 17 rfl rfl)
theorem dX23_at_2_20 : decode cX23_at_2 20 = .ok (.aload_n 1, 1) := dk_43 (dk_at dksX23_at_2_0 20 rfl rfl)
theorem dX23_at_2_21 : decode cX23_at_2 21 = .ok (.ldc 25, 2) := dk_18 25 (dk_at dksX23_at_2_0 21 rfl rfl)
theorem dX23_at_2_23 : decode cX23_at_2 23 = .ok (.putfield 26, 3) := dk_181 0 26 (dk_at dksX23_at_2_1 0 rfl rfl)
theorem dX23_at_2_26 : decode cX23_at_2 26 = .ok (.iconst 0, 1) := dk_3 (dk_at dksX23_at_2_1 3 rfl rfl)
theorem dX23_at_2_27 : decode cX23_at_2 27 = .ok (.istore_n 2, 1) := dk_61 (dk_at dksX23_at_2_1 4 rfl rfl)
theorem dX23_at_2_28 : decode cX23_at_2 28 = .ok (.iload_n 2, 1) := dk_28 (dk_at dksX23_at_2_1 5 rfl rfl)
theorem dX23_at_2_29 : decode cX23_at_2 29 = .ok (.bipush 10, 2) := dk_16 10 (dk_at dksX23_at_2_1 6 rfl rfl)
theorem dX23_at_2_31 : decode cX23_at_2 31 = .ok (.if_icmp .ge 37, 3) := dk_162 0 37 (dk_at dksX23_at_2_1 8 rfl rfl)
theorem dX23_at_2_34 : decode cX23_at_2 34 = .ok (.aload_n 1, 1) := dk_43 (dk_at dksX23_at_2_1 11 rfl rfl)
theorem dX23_at_2_35 : decode cX23_at_2 35 = .ok (.getfield 29, 3) := dk_180 0 29 (dk_at dksX23_at_2_1 12 rfl rfl)
theorem dX23_at_2_38 : decode cX23_at_2 38 = .ok (.iload_n 2, 1) := dk_28 (dk_at dksX23_at_2_1 15 rfl rfl)
theorem dX23_at_2_39 : decode cX23_at_2 39 = .ok (.invokestatic 32, 3) := dk_184 0 32 (dk_at dksX23_at_2_1 16 rfl rfl)
theorem dX23_at_2_42 : decode cX23_at_2 42 = .ok (.ifCond .eq 20, 3) := dk_153 0 20 (dk_at dksX23_at_2_1 19 rfl rfl)
theorem dX23_at_2_45 : decode cX23_at_2 45 = .ok (.aload_n 0, 1) := dk_42 (dk_at dksX23_at_2_1 22 rfl rfl)
theorem dX23_at_2_46 : decode cX23_at_2 46 = .ok (.getfield 12, 3) := dk_180 0 12 (dk_at dksX23_at_2_2 0 rfl rfl)
theorem dX23_at_2_49 : decode cX23_at_2 49 = .ok (.new 36, 3) := dk_187 0 36 (dk_at dksX23_at_2_2 3 rfl rfl)
theorem dX23_at_2_52 : decode cX23_at_2 52 = .ok (.dup, 1) := dk_89 (dk_at dksX23_at_2_2 6 rfl rfl)
theorem dX23_at_2_53 : decode cX23_at_2 53 = .ok (.aload_n 1, 1) := dk_43 (dk_at dksX23_at_2_2 7 rfl rfl)
theorem dX23_at_2_54 : decode cX23_at_2 54 = .ok (.iload_n 2, 1) := dk_28 (dk_at dksX23_at_2_2 8 rfl rfl)
theorem dX23_at_2_55 : decode cX23_at_2 55 = .ok (.invokespecial 38, 3) := dk_183 0 38 (dk_at dksX23_at_2_2 9 rfl rfl)
theorem dX23_at_2_58 : decode cX23_at_2 58 = .ok (.invokevirtual 41, 3) := dk_182 0 41 (dk_at dksX23_at_2_2 12 rfl rfl)
theorem dX23_at_2_61 : decode cX23_at_2 61 = .ok (.pop, 1) := dk_87 (dk_at dksX23_at_2_2 15 rfl rfl)
theorem dX23_at_2_62 : decode cX23_at_2 62 = .ok (.iinc 2 1, 3) := dk_132 2 1 (dk_at dksX23_at_2_2 16 rfl rfl)
theorem dX23_at_2_65 : decode cX23_at_2 65 = .ok (.goto (-37), 3) := dk_167 255 219 (dk_at dksX23_at_2_2 19 rfl rfl)
theorem dX23_at_2_68 : decode cX23_at_2 68 = .ok (.return_, 1) := dk_177 (dk_at dksX23_at_2_2 22 rfl rfl)
abbrev cX23_init : ByteArray := prog_17_method_1_code
def yX23_init : MethodName := ⟨RX23, "<init>", "(I)V"⟩
def dkwX23_init_0 : List UInt8 := [42, 183, 0, 3, 42, 187, 0, 9, 89, 183, 0, 11, 181, 0, 12, 42, 27, 181, 0, 18, 177]
abbrev dktX23_init_0 : List UInt8 := dkwX23_init_0 ++ []
theorem dksX23_init_0 : cX23_init.data.toList.drop 0 = dktX23_init_0 := by decide +kernel
theorem dX23_init_0 : decode cX23_init 0 = .ok (.aload_n 0, 1) := dk_42 (dk_at dksX23_init_0 0 rfl rfl)
theorem dX23_init_1 : decode cX23_init 1 = .ok (.invokespecial 3, 3) := dk_183 0 3 (dk_at dksX23_init_0 1 rfl rfl)
theorem dX23_init_4 : decode cX23_init 4 = .ok (.aload_n 0, 1) := dk_42 (dk_at dksX23_init_0 4 rfl rfl)
theorem dX23_init_5 : decode cX23_init 5 = .ok (.new 9, 3) := dk_187 0 9 (dk_at dksX23_init_0 5 rfl rfl)
theorem dX23_init_8 : decode cX23_init 8 = .ok (.dup, 1) := dk_89 (dk_at dksX23_init_0 8 rfl rfl)
theorem dX23_init_9 : decode cX23_init 9 = .ok (.invokespecial 11, 3) := dk_183 0 11 (dk_at dksX23_init_0 9 rfl rfl)
theorem dX23_init_12 : decode cX23_init 12 = .ok (.putfield 12, 3) := dk_181 0 12 (dk_at dksX23_init_0 12 rfl rfl)
theorem dX23_init_15 : decode cX23_init 15 = .ok (.aload_n 0, 1) := dk_42 (dk_at dksX23_init_0 15 rfl rfl)
theorem dX23_init_16 : decode cX23_init 16 = .ok (.iload_n 1, 1) := dk_27 (dk_at dksX23_init_0 16 rfl rfl)
theorem dX23_init_17 : decode cX23_init 17 = .ok (.putfield 18, 3) := dk_181 0 18 (dk_at dksX23_init_0 17 rfl rfl)
theorem dX23_init_20 : decode cX23_init 20 = .ok (.return_, 1) := dk_177 (dk_at dksX23_init_0 20 rfl rfl)
theorem q91 : (Jvm.Cond.initialized "RowenTongue$Generalising") ∈ lw_all := lw_g (lw_at lw_m1 42 rfl) rfl
theorem q382 : (Jvm.Cond.selects "RowenTongue$Generalising" ({ cls := "java/lang/Object", name := "getClass", desc := "()Ljava/lang/Class;" } : Jvm.MethodName) ({ cls := "java/lang/Object", name := "getClass", desc := "()Ljava/lang/Class;" } : Jvm.MethodName)) ∈ lw_all := lw_g (lw_at lw_m2 93 rfl) rfl
theorem q756 : (Jvm.Cond.selects "RowenTongue$Generalising" ({ cls := "java/lang/Object", name := "equals", desc := "(Ljava/lang/Object;)Z" } : Jvm.MethodName) ({ cls := "java/lang/Object", name := "equals", desc := "(Ljava/lang/Object;)Z" } : Jvm.MethodName)) ∈ lw_all := lw_g (lw_at lw_m3 227 rfl) rfl
theorem q809 : (Jvm.Cond.fieldLinkNest "RowenTongue$Generalising" (22 : Nat) "RowenTongue$Open" "level" "I" "RowenTongue") ∈ lw_tbl := lw_at lw_m4 40 rfl
theorem q923 : (Jvm.Cond.fieldLinkNest "RowenTongue$Generalising" (26 : Nat) "RowenTongue$OpenRow" "level" "I" "RowenTongue") ∈ lw_tbl := lw_at lw_m4 154 rfl
theorem q932 : (Jvm.Cond.fieldLinkNest "RowenTongue$Generalising" (29 : Nat) "RowenTongue$OpenRow" "lacks" "I" "RowenTongue") ∈ lw_tbl := lw_at lw_m4 163 rfl
theorem q1088 : (Jvm.Cond.castable "RowenTongue$Generalising" "RowenTongue$Walk") ∈ lw_tbl := lw_at lw_m5 79 rfl
theorem q1089 : (Jvm.Cond.selects "RowenTongue$Generalising" ({ cls := "RowenTongue$Walk", name := "at", desc := "(LRowenTongue$Open;)V" } : Jvm.MethodName) ({ cls := "RowenTongue$Generalising", name := "at", desc := "(LRowenTongue$Open;)V" } : Jvm.MethodName)) ∈ lw_all := lw_g (lw_at lw_m5 80 rfl) rfl
theorem q1090 : (Jvm.Cond.unhidden "RowenTongue$Generalising" "at" "(LRowenTongue$Open;)V") ∈ lw_tbl := lw_at lw_m5 81 rfl
theorem q1091 : (Jvm.Cond.instanceMethod ({ cls := "RowenTongue$Generalising", name := "at", desc := "(LRowenTongue$Open;)V" } : Jvm.MethodName)) ∈ lw_all := lw_g (lw_at lw_m5 82 rfl) rfl
theorem q1092 : (Jvm.Cond.publicMethod ({ cls := "RowenTongue$Generalising", name := "at", desc := "(LRowenTongue$Open;)V" } : Jvm.MethodName)) ∈ lw_tbl := lw_at lw_m5 83 rfl
theorem q1093 : (Jvm.Cond.code ({ cls := "RowenTongue$Generalising", name := "at", desc := "(LRowenTongue$Open;)V" } : Jvm.MethodName) prog_17_method_2_code (2 : Nat) (Option.none : Option Jvm.ClassFile.FieldType)) ∈ lw_all := lw_g (lw_at lw_m5 84 rfl) rfl
theorem q1094 : (Jvm.Cond.constant "RowenTongue$Generalising" (25 : Nat) (1048576 : Int32)) ∈ lw_all := lw_g (lw_at lw_m5 85 rfl) rfl
theorem q1132 : (Jvm.Cond.unhidden "RowenTongue$Generalising" "at" "(LRowenTongue$Function;)V") ∈ lw_tbl := lw_at lw_m5 123 rfl
theorem q1156 : (Jvm.Cond.selects "RowenTongue$Generalising" ({ cls := "RowenTongue$Walk", name := "at", desc := "(LRowenTongue$OpenRow;)V" } : Jvm.MethodName) ({ cls := "RowenTongue$Generalising", name := "at", desc := "(LRowenTongue$OpenRow;)V" } : Jvm.MethodName)) ∈ lw_all := lw_g (lw_at lw_m5 147 rfl) rfl
theorem q1157 : (Jvm.Cond.unhidden "RowenTongue$Generalising" "at" "(LRowenTongue$OpenRow;)V") ∈ lw_tbl := lw_at lw_m5 148 rfl
theorem q1158 : (Jvm.Cond.instanceMethod ({ cls := "RowenTongue$Generalising", name := "at", desc := "(LRowenTongue$OpenRow;)V" } : Jvm.MethodName)) ∈ lw_all := lw_g (lw_at lw_m5 149 rfl) rfl
theorem q1159 : (Jvm.Cond.publicMethod ({ cls := "RowenTongue$Generalising", name := "at", desc := "(LRowenTongue$OpenRow;)V" } : Jvm.MethodName)) ∈ lw_tbl := lw_at lw_m5 150 rfl
theorem q1160 : (Jvm.Cond.code ({ cls := "RowenTongue$Generalising", name := "at", desc := "(LRowenTongue$OpenRow;)V" } : Jvm.MethodName) prog_17_method_3_code (3 : Nat) (Option.none : Option Jvm.ClassFile.FieldType)) ∈ lw_all := lw_g (lw_at lw_m5 151 rfl) rfl
theorem q1161 : (Jvm.Cond.methodLinkNest "RowenTongue$Generalising" (32 : Nat) ({ cls := "RowenTongue", name := "has", desc := "(II)Z" } : Jvm.MethodName) "RowenTongue") ∈ lw_tbl := lw_at lw_m5 152 rfl
theorem q1164 : (Jvm.Cond.classLink "RowenTongue$Generalising" (36 : Nat) "RowenTongue$Place") ∈ lw_all := lw_g (lw_at lw_m5 155 rfl) rfl
theorem q1165 : (Jvm.Cond.methodLink "RowenTongue$Generalising" (38 : Nat) ({ cls := "RowenTongue$Place", name := "<init>", desc := "(LRowenTongue$OpenRow;I)V" } : Jvm.MethodName)) ∈ lw_all := lw_g (lw_at lw_m5 156 rfl) rfl
theorem q1166 : (Jvm.Cond.methodLink "RowenTongue$Generalising" (41 : Nat) ({ cls := "java/util/ArrayList", name := "add", desc := "(Ljava/lang/Object;)Z" } : Jvm.MethodName)) ∈ lw_all := lw_g (lw_at lw_m5 157 rfl) rfl
theorem q1261 : (Jvm.Cond.instantiable "RowenTongue$Generalising" (2 : Nat)) ∈ lw_all := lw_g (lw_at lw_m6 12 rfl) rfl
theorem q1263 : (Jvm.Cond.instanceMethod ({ cls := "RowenTongue$Generalising", name := "<init>", desc := "(I)V" } : Jvm.MethodName)) ∈ lw_all := lw_g (lw_at lw_m6 14 rfl) rfl
theorem q1264 : (Jvm.Cond.code ({ cls := "RowenTongue$Generalising", name := "<init>", desc := "(I)V" } : Jvm.MethodName) prog_17_method_1_code (2 : Nat) (Option.none : Option Jvm.ClassFile.FieldType)) ∈ lw_all := lw_g (lw_at lw_m6 15 rfl) rfl
theorem q1265 : (Jvm.Cond.methodLink "RowenTongue$Generalising" (3 : Nat) ({ cls := "java/lang/Object", name := "<init>", desc := "()V" } : Jvm.MethodName)) ∈ lw_all := lw_g (lw_at lw_m6 16 rfl) rfl
theorem q1266 : (Jvm.Cond.classLink "RowenTongue$Generalising" (9 : Nat) "java/util/ArrayList") ∈ lw_all := lw_g (lw_at lw_m6 17 rfl) rfl
theorem q1267 : (Jvm.Cond.methodLink "RowenTongue$Generalising" (11 : Nat) ({ cls := "java/util/ArrayList", name := "<init>", desc := "()V" } : Jvm.MethodName)) ∈ lw_all := lw_g (lw_at lw_m6 18 rfl) rfl
theorem q1268 : (Jvm.Cond.fieldLink "RowenTongue$Generalising" (12 : Nat) "RowenTongue$Generalising" "places" "Ljava/util/ArrayList;") ∈ lw_all := lw_g (lw_at lw_m6 19 rfl) rfl
theorem q1270 : (Jvm.Cond.fieldLink "RowenTongue$Generalising" (18 : Nat) "RowenTongue$Generalising" "level" "I") ∈ lw_all := lw_g (lw_at lw_m6 21 rfl) rfl
theorem q1271 : (Jvm.Cond.laysFinal "RowenTongue$Generalising" "RowenTongue$Generalising" "places" "Ljava/util/ArrayList;") ∈ lw_all := lw_g (lw_at lw_m6 22 rfl) rfl
theorem q1272 : (Jvm.Cond.soleField "RowenTongue$Generalising" "places") ∈ lw_all := lw_g (lw_at lw_m6 23 rfl) rfl
theorem q1273 : (Jvm.Cond.laysFinal "RowenTongue$Generalising" "RowenTongue$Generalising" "level" "I") ∈ lw_all := lw_g (lw_at lw_m6 24 rfl) rfl
theorem q1274 : (Jvm.Cond.soleField "RowenTongue$Generalising" "level") ∈ lw_all := lw_g (lw_at lw_m6 25 rfl) rfl
theorem q1275 : (Jvm.Cond.superclass "RowenTongue$Generalising" "java/lang/Object") ∈ lw_all := lw_g (lw_at lw_m6 26 rfl) rfl
theorem q2912 : (Jvm.Cond.castable "RowenTongue$Generalising" "java/lang/Object") ∈ lw_tbl := lw_at lw_m12 223 rfl
theorem in_X23 : ∀ w ∈ wsX230, w ∈ lw_all := lw_in wsX230 [1271, 1273] (by decide +kernel) (by decide +kernel)
/-! RowenTongue$Found -/
set_option maxRecDepth 100000
def RX24 : String := "RowenTongue$Found"
def TX24 : u_T := fun k => match k with
  | 0 => ("RowenTongue$Found", "type", "LRowenTongue$Type;", true)
  | 1 => ("RowenTongue$Found", "code", "LRowenTongue$Code;", true)
  | 2 => ("RowenTongue$Found", "wrong", "LRowenTongue$Wrong;", true)
  | 3 => ("RowenTongue$Found", "handed", "[I", true)
  | _ => ("RowenTongue$Found", "text", "Ljava/lang/String;", false)
def tyX24 : Nat → FieldType := fun k => match k with
  | 0 => .object "RowenTongue$Type"
  | 1 => .object "RowenTongue$Code"
  | 2 => .object "RowenTongue$Wrong"
  | 3 => .array .int
  | _ => .object "java/lang/String"
abbrev wsX240 : List Cond := u_ws RX24 TX24 5
theorem nmX24 : ∀ a, a < 5 → ∀ b, b < 5 → a ≠ b → (TX24 a).2.1 ≠ (TX24 b).2.1 := by decide +kernel
theorem tyX24_ok : ∀ k, k < 5 → parseFieldDescriptor (TX24 k).2.2.1 = some (tyX24 k) := by decide +kernel
abbrev cX24_init : ByteArray := prog_15_method_1_code
def yX24_init : MethodName := ⟨RX24, "<init>", "(LRowenTongue$Type;LRowenTongue$Code;LRowenTongue$Wrong;[I)V"⟩
def dkwX24_init_1 : List UInt8 := [181, 0, 21, 177]
abbrev dktX24_init_1 : List UInt8 := dkwX24_init_1 ++ []
def dkwX24_init_0 : List UInt8 := [42, 183, 0, 1, 42, 25, 4, 181, 0, 7, 42, 43, 181, 0, 13, 42, 44, 181, 0, 17, 42, 45]
abbrev dktX24_init_0 : List UInt8 := dkwX24_init_0 ++ dktX24_init_1
theorem dksX24_init_0 : cX24_init.data.toList.drop 0 = dktX24_init_0 := by decide +kernel
theorem dksX24_init_1 : cX24_init.data.toList.drop 22 = dktX24_init_1 := dk_seg dksX24_init_0 22 rfl rfl
theorem dX24_init_0 : decode cX24_init 0 = .ok (.aload_n 0, 1) := dk_42 (dk_at dksX24_init_0 0 rfl rfl)
theorem dX24_init_1 : decode cX24_init 1 = .ok (.invokespecial 1, 3) := dk_183 0 1 (dk_at dksX24_init_0 1 rfl rfl)
theorem dX24_init_4 : decode cX24_init 4 = .ok (.aload_n 0, 1) := dk_42 (dk_at dksX24_init_0 4 rfl rfl)
theorem dX24_init_5 : decode cX24_init 5 = .ok (.aload 4, 2) := dk_25 4 (dk_at dksX24_init_0 5 rfl rfl)
theorem dX24_init_7 : decode cX24_init 7 = .ok (.putfield 7, 3) := dk_181 0 7 (dk_at dksX24_init_0 7 rfl rfl)
theorem dX24_init_10 : decode cX24_init 10 = .ok (.aload_n 0, 1) := dk_42 (dk_at dksX24_init_0 10 rfl rfl)
theorem dX24_init_11 : decode cX24_init 11 = .ok (.aload_n 1, 1) := dk_43 (dk_at dksX24_init_0 11 rfl rfl)
theorem dX24_init_12 : decode cX24_init 12 = .ok (.putfield 13, 3) := dk_181 0 13 (dk_at dksX24_init_0 12 rfl rfl)
theorem dX24_init_15 : decode cX24_init 15 = .ok (.aload_n 0, 1) := dk_42 (dk_at dksX24_init_0 15 rfl rfl)
theorem dX24_init_16 : decode cX24_init 16 = .ok (.aload_n 2, 1) := dk_44 (dk_at dksX24_init_0 16 rfl rfl)
theorem dX24_init_17 : decode cX24_init 17 = .ok (.putfield 17, 3) := dk_181 0 17 (dk_at dksX24_init_0 17 rfl rfl)
theorem dX24_init_20 : decode cX24_init 20 = .ok (.aload_n 0, 1) := dk_42 (dk_at dksX24_init_0 20 rfl rfl)
theorem dX24_init_21 : decode cX24_init 21 = .ok (.aload_n 3, 1) := dk_45 (dk_at dksX24_init_0 21 rfl rfl)
theorem dX24_init_22 : decode cX24_init 22 = .ok (.putfield 21, 3) := dk_181 0 21 (dk_at dksX24_init_1 0 rfl rfl)
theorem dX24_init_25 : decode cX24_init 25 = .ok (.return_, 1) := dk_177 (dk_at dksX24_init_1 3 rfl rfl)
theorem q97 : (Jvm.Cond.initialized "RowenTongue$Found") ∈ lw_all := lw_g (lw_at lw_m1 48 rfl) rfl
theorem q380 : (Jvm.Cond.selects "RowenTongue$Found" ({ cls := "java/lang/Object", name := "getClass", desc := "()Ljava/lang/Class;" } : Jvm.MethodName) ({ cls := "java/lang/Object", name := "getClass", desc := "()Ljava/lang/Class;" } : Jvm.MethodName)) ∈ lw_all := lw_g (lw_at lw_m2 91 rfl) rfl
theorem q754 : (Jvm.Cond.selects "RowenTongue$Found" ({ cls := "java/lang/Object", name := "equals", desc := "(Ljava/lang/Object;)Z" } : Jvm.MethodName) ({ cls := "java/lang/Object", name := "equals", desc := "(Ljava/lang/Object;)Z" } : Jvm.MethodName)) ∈ lw_all := lw_g (lw_at lw_m3 225 rfl) rfl
theorem q1559 : (Jvm.Cond.instantiable "RowenTongue$Found" (5 : Nat)) ∈ lw_all := lw_g (lw_at lw_m7 70 rfl) rfl
theorem q1561 : (Jvm.Cond.instanceMethod ({ cls := "RowenTongue$Found", name := "<init>", desc := "(LRowenTongue$Type;LRowenTongue$Code;LRowenTongue$Wrong;[I)V" } : Jvm.MethodName)) ∈ lw_all := lw_g (lw_at lw_m7 72 rfl) rfl
theorem q1562 : (Jvm.Cond.code ({ cls := "RowenTongue$Found", name := "<init>", desc := "(LRowenTongue$Type;LRowenTongue$Code;LRowenTongue$Wrong;[I)V" } : Jvm.MethodName) prog_15_method_1_code (5 : Nat) (Option.none : Option Jvm.ClassFile.FieldType)) ∈ lw_all := lw_g (lw_at lw_m7 73 rfl) rfl
theorem q1563 : (Jvm.Cond.methodLink "RowenTongue$Found" (1 : Nat) ({ cls := "java/lang/Object", name := "<init>", desc := "()V" } : Jvm.MethodName)) ∈ lw_all := lw_g (lw_at lw_m7 74 rfl) rfl
theorem q1564 : (Jvm.Cond.fieldLink "RowenTongue$Found" (13 : Nat) "RowenTongue$Found" "type" "LRowenTongue$Type;") ∈ lw_all := lw_g (lw_at lw_m7 75 rfl) rfl
theorem q1566 : (Jvm.Cond.fieldLink "RowenTongue$Found" (17 : Nat) "RowenTongue$Found" "code" "LRowenTongue$Code;") ∈ lw_all := lw_g (lw_at lw_m7 77 rfl) rfl
theorem q1568 : (Jvm.Cond.fieldLink "RowenTongue$Found" (21 : Nat) "RowenTongue$Found" "wrong" "LRowenTongue$Wrong;") ∈ lw_all := lw_g (lw_at lw_m7 79 rfl) rfl
theorem q1570 : (Jvm.Cond.fieldLink "RowenTongue$Found" (7 : Nat) "RowenTongue$Found" "handed" "[I") ∈ lw_all := lw_g (lw_at lw_m7 81 rfl) rfl
theorem q1573 : (Jvm.Cond.laysFinal "RowenTongue$Found" "RowenTongue$Found" "type" "LRowenTongue$Type;") ∈ lw_all := lw_g (lw_at lw_m7 84 rfl) rfl
theorem q1574 : (Jvm.Cond.soleField "RowenTongue$Found" "type") ∈ lw_all := lw_g (lw_at lw_m7 85 rfl) rfl
theorem q1575 : (Jvm.Cond.laysFinal "RowenTongue$Found" "RowenTongue$Found" "code" "LRowenTongue$Code;") ∈ lw_all := lw_g (lw_at lw_m7 86 rfl) rfl
theorem q1576 : (Jvm.Cond.soleField "RowenTongue$Found" "code") ∈ lw_all := lw_g (lw_at lw_m7 87 rfl) rfl
theorem q1577 : (Jvm.Cond.laysFinal "RowenTongue$Found" "RowenTongue$Found" "wrong" "LRowenTongue$Wrong;") ∈ lw_all := lw_g (lw_at lw_m7 88 rfl) rfl
theorem q1578 : (Jvm.Cond.soleField "RowenTongue$Found" "wrong") ∈ lw_all := lw_g (lw_at lw_m7 89 rfl) rfl
theorem q1579 : (Jvm.Cond.laysFinal "RowenTongue$Found" "RowenTongue$Found" "handed" "[I") ∈ lw_all := lw_g (lw_at lw_m7 90 rfl) rfl
theorem q1580 : (Jvm.Cond.soleField "RowenTongue$Found" "handed") ∈ lw_all := lw_g (lw_at lw_m7 91 rfl) rfl
theorem q1581 : (Jvm.Cond.lays "RowenTongue$Found" "RowenTongue$Found" "text" "Ljava/lang/String;") ∈ lw_all := lw_g (lw_at lw_m7 92 rfl) rfl
theorem q1582 : (Jvm.Cond.soleField "RowenTongue$Found" "text") ∈ lw_all := lw_g (lw_at lw_m7 93 rfl) rfl
theorem q1583 : (Jvm.Cond.superclass "RowenTongue$Found" "java/lang/Object") ∈ lw_all := lw_g (lw_at lw_m7 94 rfl) rfl
theorem q2915 : (Jvm.Cond.castable "RowenTongue$Found" "java/lang/Object") ∈ lw_tbl := lw_at lw_m12 226 rfl
theorem in_X24 : ∀ w ∈ wsX240, w ∈ lw_all := lw_in wsX240 [1573, 1575, 1577, 1579, 1581] (by decide +kernel) (by decide +kernel)
