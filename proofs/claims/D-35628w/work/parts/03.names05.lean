/-! RowenTongue$Action -/
set_option maxRecDepth 100000
def RX46 : String := "RowenTongue$Action"
def TX46 : u_T := fun k => match k with
  | 0 => ("RowenTongue$Action", "code", "LRowenTongue$Code;", true)
  | 1 => ("RowenTongue$Action", "binds", "LRowenTongue$Bind;", true)
  | _ => ("RowenTongue$Action", "slots", "LRowenTongue$Slot;", true)
def tyX46 : Nat → FieldType := fun k => match k with
  | 0 => .object "RowenTongue$Code"
  | 1 => .object "RowenTongue$Bind"
  | _ => .object "RowenTongue$Slot"
abbrev wsX460 : List Cond := u_ws RX46 TX46 3
theorem nmX46 : ∀ a, a < 3 → ∀ b, b < 3 → a ≠ b → (TX46 a).2.1 ≠ (TX46 b).2.1 := by decide +kernel
theorem tyX46_ok : ∀ k, k < 3 → parseFieldDescriptor (TX46 k).2.2.1 = some (tyX46 k) := by decide +kernel
abbrev cX46_init : ByteArray := prog_2_method_1_code
def yX46_init : MethodName := ⟨RX46, "<init>", "(LRowenTongue$Code;LRowenTongue$Bind;LRowenTongue$Slot;)V"⟩
def dkwX46_init_0 : List UInt8 := [42, 183, 0, 1, 42, 43, 181, 0, 7, 42, 44, 181, 0, 13, 42, 45, 181, 0, 17, 177]
abbrev dktX46_init_0 : List UInt8 := dkwX46_init_0 ++ []
theorem dksX46_init_0 : cX46_init.data.toList.drop 0 = dktX46_init_0 := by decide +kernel
theorem dX46_init_0 : decode cX46_init 0 = .ok (.aload_n 0, 1) := dk_42 (dk_at dksX46_init_0 0 rfl rfl)
theorem dX46_init_1 : decode cX46_init 1 = .ok (.invokespecial 1, 3) := dk_183 0 1 (dk_at dksX46_init_0 1 rfl rfl)
theorem dX46_init_4 : decode cX46_init 4 = .ok (.aload_n 0, 1) := dk_42 (dk_at dksX46_init_0 4 rfl rfl)
theorem dX46_init_5 : decode cX46_init 5 = .ok (.aload_n 1, 1) := dk_43 (dk_at dksX46_init_0 5 rfl rfl)
theorem dX46_init_6 : decode cX46_init 6 = .ok (.putfield 7, 3) := dk_181 0 7 (dk_at dksX46_init_0 6 rfl rfl)
theorem dX46_init_9 : decode cX46_init 9 = .ok (.aload_n 0, 1) := dk_42 (dk_at dksX46_init_0 9 rfl rfl)
theorem dX46_init_10 : decode cX46_init 10 = .ok (.aload_n 2, 1) := dk_44 (dk_at dksX46_init_0 10 rfl rfl)
theorem dX46_init_11 : decode cX46_init 11 = .ok (.putfield 13, 3) := dk_181 0 13 (dk_at dksX46_init_0 11 rfl rfl)
theorem dX46_init_14 : decode cX46_init 14 = .ok (.aload_n 0, 1) := dk_42 (dk_at dksX46_init_0 14 rfl rfl)
theorem dX46_init_15 : decode cX46_init 15 = .ok (.aload_n 3, 1) := dk_45 (dk_at dksX46_init_0 15 rfl rfl)
theorem dX46_init_16 : decode cX46_init 16 = .ok (.putfield 17, 3) := dk_181 0 17 (dk_at dksX46_init_0 16 rfl rfl)
theorem dX46_init_19 : decode cX46_init 19 = .ok (.return_, 1) := dk_177 (dk_at dksX46_init_0 19 rfl rfl)
abbrev cX46_isSame : ByteArray := prog_2_method_3_code
def yX46_isSame : MethodName := ⟨RX46, "isSame", "(LRowenTongue$Thing;)Z"⟩
theorem dX46_isSame_0 : decode cX46_isSame 0 = .ok (.iconst 0, 1) := by decide +kernel
theorem dX46_isSame_1 : decode cX46_isSame 1 = .ok (.ireturn, 1) := by decide +kernel
abbrev cX46_tell : ByteArray := prog_2_method_2_code
def yX46_tell : MethodName := ⟨RX46, "tell", "(LRowenTongue$Type;Ljava/lang/StringBuilder;)V"⟩
def dkwX46_tell_0 : List UInt8 := [44, 16, 70, 182, 0, 21, 87, 177]
abbrev dktX46_tell_0 : List UInt8 := dkwX46_tell_0 ++ []
theorem dksX46_tell_0 : cX46_tell.data.toList.drop 0 = dktX46_tell_0 := by decide +kernel
theorem dX46_tell_0 : decode cX46_tell 0 = .ok (.aload_n 2, 1) := dk_44 (dk_at dksX46_tell_0 0 rfl rfl)
theorem dX46_tell_1 : decode cX46_tell 1 = .ok (.bipush 70, 2) := dk_16 70 (dk_at dksX46_tell_0 1 rfl rfl)
theorem dX46_tell_3 : decode cX46_tell 3 = .ok (.invokevirtual 21, 3) := dk_182 0 21 (dk_at dksX46_tell_0 3 rfl rfl)
theorem dX46_tell_6 : decode cX46_tell 6 = .ok (.pop, 1) := dk_87 (dk_at dksX46_tell_0 6 rfl rfl)
theorem dX46_tell_7 : decode cX46_tell 7 = .ok (.return_, 1) := dk_177 (dk_at dksX46_tell_0 7 rfl rfl)
theorem q119 : (Jvm.Cond.initialized "RowenTongue$Action") ∈ lw_all := lw_g (lw_at lw_m1 70 rfl) rfl
theorem q367 : (Jvm.Cond.selects "RowenTongue$Action" ({ cls := "java/lang/Object", name := "getClass", desc := "()Ljava/lang/Class;" } : Jvm.MethodName) ({ cls := "java/lang/Object", name := "getClass", desc := "()Ljava/lang/Class;" } : Jvm.MethodName)) ∈ lw_all := lw_g (lw_at lw_m2 78 rfl) rfl
theorem q741 : (Jvm.Cond.selects "RowenTongue$Action" ({ cls := "java/lang/Object", name := "equals", desc := "(Ljava/lang/Object;)Z" } : Jvm.MethodName) ({ cls := "java/lang/Object", name := "equals", desc := "(Ljava/lang/Object;)Z" } : Jvm.MethodName)) ∈ lw_all := lw_g (lw_at lw_m3 212 rfl) rfl
theorem q2208 : (Jvm.Cond.instantiable "RowenTongue$Action" (3 : Nat)) ∈ lw_all := lw_g (lw_at lw_m9 239 rfl) rfl
theorem q2210 : (Jvm.Cond.instanceMethod ({ cls := "RowenTongue$Action", name := "<init>", desc := "(LRowenTongue$Code;LRowenTongue$Bind;LRowenTongue$Slot;)V" } : Jvm.MethodName)) ∈ lw_all := lw_g (lw_at lw_m10 1 rfl) rfl
theorem q2211 : (Jvm.Cond.code ({ cls := "RowenTongue$Action", name := "<init>", desc := "(LRowenTongue$Code;LRowenTongue$Bind;LRowenTongue$Slot;)V" } : Jvm.MethodName) prog_2_method_1_code (4 : Nat) (Option.none : Option Jvm.ClassFile.FieldType)) ∈ lw_all := lw_g (lw_at lw_m10 2 rfl) rfl
theorem q2212 : (Jvm.Cond.methodLinkNest "RowenTongue$Action" (1 : Nat) ({ cls := "RowenTongue$Thing", name := "<init>", desc := "()V" } : Jvm.MethodName) "RowenTongue") ∈ lw_tbl := lw_at lw_m10 3 rfl
theorem q2213 : (Jvm.Cond.fieldLink "RowenTongue$Action" (7 : Nat) "RowenTongue$Action" "code" "LRowenTongue$Code;") ∈ lw_all := lw_g (lw_at lw_m10 4 rfl) rfl
theorem q2215 : (Jvm.Cond.fieldLink "RowenTongue$Action" (13 : Nat) "RowenTongue$Action" "binds" "LRowenTongue$Bind;") ∈ lw_all := lw_g (lw_at lw_m10 6 rfl) rfl
theorem q2217 : (Jvm.Cond.fieldLink "RowenTongue$Action" (17 : Nat) "RowenTongue$Action" "slots" "LRowenTongue$Slot;") ∈ lw_all := lw_g (lw_at lw_m10 8 rfl) rfl
theorem q2219 : (Jvm.Cond.laysFinal "RowenTongue$Action" "RowenTongue$Action" "code" "LRowenTongue$Code;") ∈ lw_all := lw_g (lw_at lw_m10 10 rfl) rfl
theorem q2220 : (Jvm.Cond.soleField "RowenTongue$Action" "code") ∈ lw_all := lw_g (lw_at lw_m10 11 rfl) rfl
theorem q2221 : (Jvm.Cond.laysFinal "RowenTongue$Action" "RowenTongue$Action" "binds" "LRowenTongue$Bind;") ∈ lw_all := lw_g (lw_at lw_m10 12 rfl) rfl
theorem q2222 : (Jvm.Cond.soleField "RowenTongue$Action" "binds") ∈ lw_all := lw_g (lw_at lw_m10 13 rfl) rfl
theorem q2223 : (Jvm.Cond.laysFinal "RowenTongue$Action" "RowenTongue$Action" "slots" "LRowenTongue$Slot;") ∈ lw_all := lw_g (lw_at lw_m10 14 rfl) rfl
theorem q2224 : (Jvm.Cond.soleField "RowenTongue$Action" "slots") ∈ lw_all := lw_g (lw_at lw_m10 15 rfl) rfl
theorem q2225 : (Jvm.Cond.superclass "RowenTongue$Action" "RowenTongue$Thing") ∈ lw_all := lw_g (lw_at lw_m10 16 rfl) rfl
theorem q2261 : (Jvm.Cond.selects "RowenTongue$Action" ({ cls := "RowenTongue$Thing", name := "isSame", desc := "(LRowenTongue$Thing;)Z" } : Jvm.MethodName) ({ cls := "RowenTongue$Action", name := "isSame", desc := "(LRowenTongue$Thing;)Z" } : Jvm.MethodName)) ∈ lw_all := lw_g (lw_at lw_m10 52 rfl) rfl
theorem q2262 : (Jvm.Cond.instanceMethod ({ cls := "RowenTongue$Action", name := "isSame", desc := "(LRowenTongue$Thing;)Z" } : Jvm.MethodName)) ∈ lw_all := lw_g (lw_at lw_m10 53 rfl) rfl
theorem q2263 : (Jvm.Cond.code ({ cls := "RowenTongue$Action", name := "isSame", desc := "(LRowenTongue$Thing;)Z" } : Jvm.MethodName) prog_2_method_3_code (2 : Nat) (Option.some Jvm.ClassFile.FieldType.boolean)) ∈ lw_all := lw_g (lw_at lw_m10 54 rfl) rfl
theorem q2323 : (Jvm.Cond.selects "RowenTongue$Action" ({ cls := "RowenTongue$Thing", name := "tell", desc := "(LRowenTongue$Type;Ljava/lang/StringBuilder;)V" } : Jvm.MethodName) ({ cls := "RowenTongue$Action", name := "tell", desc := "(LRowenTongue$Type;Ljava/lang/StringBuilder;)V" } : Jvm.MethodName)) ∈ lw_all := lw_g (lw_at lw_m10 114 rfl) rfl
theorem q2324 : (Jvm.Cond.instanceMethod ({ cls := "RowenTongue$Action", name := "tell", desc := "(LRowenTongue$Type;Ljava/lang/StringBuilder;)V" } : Jvm.MethodName)) ∈ lw_all := lw_g (lw_at lw_m10 115 rfl) rfl
theorem q2325 : (Jvm.Cond.code ({ cls := "RowenTongue$Action", name := "tell", desc := "(LRowenTongue$Type;Ljava/lang/StringBuilder;)V" } : Jvm.MethodName) prog_2_method_2_code (3 : Nat) (Option.none : Option Jvm.ClassFile.FieldType)) ∈ lw_all := lw_g (lw_at lw_m10 116 rfl) rfl
theorem q2326 : (Jvm.Cond.methodLink "RowenTongue$Action" (21 : Nat) ({ cls := "java/lang/StringBuilder", name := "append", desc := "(C)Ljava/lang/StringBuilder;" } : Jvm.MethodName)) ∈ lw_all := lw_g (lw_at lw_m10 117 rfl) rfl
theorem q2877 : (Jvm.Cond.castable "RowenTongue$Action" "RowenTongue$Thing") ∈ lw_tbl := lw_at lw_m12 188 rfl
theorem q2933 : (Jvm.Cond.castable "RowenTongue$Action" "java/lang/Object") ∈ lw_tbl := lw_at lw_m13 4 rfl
theorem in_X46 : ∀ w ∈ wsX460, w ∈ lw_all := lw_in wsX460 [2219, 2221, 2223] (by decide +kernel) (by decide +kernel)
/-! RowenTongue$Pick -/
set_option maxRecDepth 100000
def RX47 : String := "RowenTongue$Pick"
def TX47 : u_T := fun k => match k with
  | 0 => ("RowenTongue$Pick", "place", "I", true)
  | _ => ("RowenTongue$Pick", "thing", "LRowenTongue$Thing;", true)
def tyX47 : Nat → FieldType := fun k => match k with
  | 0 => .int
  | _ => .object "RowenTongue$Thing"
abbrev wsX470 : List Cond := u_ws RX47 TX47 2
theorem nmX47 : ∀ a, a < 2 → ∀ b, b < 2 → a ≠ b → (TX47 a).2.1 ≠ (TX47 b).2.1 := by decide +kernel
theorem tyX47_ok : ∀ k, k < 2 → parseFieldDescriptor (TX47 k).2.2.1 = some (tyX47 k) := by decide +kernel
abbrev cX47_init : ByteArray := prog_26_method_1_code
def yX47_init : MethodName := ⟨RX47, "<init>", "(ILRowenTongue$Thing;)V"⟩
def dkwX47_init_0 : List UInt8 := [42, 183, 0, 3, 42, 27, 181, 0, 9, 42, 44, 181, 0, 15, 177]
abbrev dktX47_init_0 : List UInt8 := dkwX47_init_0 ++ []
theorem dksX47_init_0 : cX47_init.data.toList.drop 0 = dktX47_init_0 := by decide +kernel
theorem dX47_init_0 : decode cX47_init 0 = .ok (.aload_n 0, 1) := dk_42 (dk_at dksX47_init_0 0 rfl rfl)
theorem dX47_init_1 : decode cX47_init 1 = .ok (.invokespecial 3, 3) := dk_183 0 3 (dk_at dksX47_init_0 1 rfl rfl)
theorem dX47_init_4 : decode cX47_init 4 = .ok (.aload_n 0, 1) := dk_42 (dk_at dksX47_init_0 4 rfl rfl)
theorem dX47_init_5 : decode cX47_init 5 = .ok (.iload_n 1, 1) := dk_27 (dk_at dksX47_init_0 5 rfl rfl)
theorem dX47_init_6 : decode cX47_init 6 = .ok (.putfield 9, 3) := dk_181 0 9 (dk_at dksX47_init_0 6 rfl rfl)
theorem dX47_init_9 : decode cX47_init 9 = .ok (.aload_n 0, 1) := dk_42 (dk_at dksX47_init_0 9 rfl rfl)
theorem dX47_init_10 : decode cX47_init 10 = .ok (.aload_n 2, 1) := dk_44 (dk_at dksX47_init_0 10 rfl rfl)
theorem dX47_init_11 : decode cX47_init 11 = .ok (.putfield 15, 3) := dk_181 0 15 (dk_at dksX47_init_0 11 rfl rfl)
theorem dX47_init_14 : decode cX47_init 14 = .ok (.return_, 1) := dk_177 (dk_at dksX47_init_0 14 rfl rfl)
abbrev cX47_isSame : ByteArray := prog_26_method_3_code
def yX47_isSame : MethodName := ⟨RX47, "isSame", "(LRowenTongue$Thing;)Z"⟩
def dkwX47_isSame_1 : List UInt8 := [182, 0, 70, 153, 0, 7, 4, 167, 0, 4, 3, 172]
abbrev dktX47_isSame_1 : List UInt8 := dkwX47_isSame_1 ++ []
def dkwX47_isSame_0 : List UInt8 := [43, 192, 0, 10, 77, 44, 180, 0, 9, 42, 180, 0, 9, 160, 0, 21, 42, 180, 0, 15, 44, 180, 0, 15]
abbrev dktX47_isSame_0 : List UInt8 := dkwX47_isSame_0 ++ dktX47_isSame_1
theorem dksX47_isSame_0 : cX47_isSame.data.toList.drop 0 = dktX47_isSame_0 := by decide +kernel
theorem dksX47_isSame_1 : cX47_isSame.data.toList.drop 24 = dktX47_isSame_1 := dk_seg dksX47_isSame_0 24 rfl rfl
theorem dX47_isSame_0 : decode cX47_isSame 0 = .ok (.aload_n 1, 1) := dk_43 (dk_at dksX47_isSame_0 0 rfl rfl)
theorem dX47_isSame_1 : decode cX47_isSame 1 = .ok (.checkcast 10, 3) := dk_192 0 10 (dk_at dksX47_isSame_0 1 rfl rfl)
theorem dX47_isSame_4 : decode cX47_isSame 4 = .ok (.astore_n 2, 1) := dk_77 (dk_at dksX47_isSame_0 4 rfl rfl)
theorem dX47_isSame_5 : decode cX47_isSame 5 = .ok (.aload_n 2, 1) := dk_44 (dk_at dksX47_isSame_0 5 rfl rfl)
theorem dX47_isSame_6 : decode cX47_isSame 6 = .ok (.getfield 9, 3) := dk_180 0 9 (dk_at dksX47_isSame_0 6 rfl rfl)
theorem dX47_isSame_9 : decode cX47_isSame 9 = .ok (.aload_n 0, 1) := dk_42 (dk_at dksX47_isSame_0 9 rfl rfl)
theorem dX47_isSame_10 : decode cX47_isSame 10 = .ok (.getfield 9, 3) := dk_180 0 9 (dk_at dksX47_isSame_0 10 rfl rfl)
theorem dX47_isSame_13 : decode cX47_isSame 13 = .ok (.if_icmp .ne 21, 3) := dk_160 0 21 (dk_at dksX47_isSame_0 13 rfl rfl)
theorem dX47_isSame_16 : decode cX47_isSame 16 = .ok (.aload_n 0, 1) := dk_42 (dk_at dksX47_isSame_0 16 rfl rfl)
theorem dX47_isSame_17 : decode cX47_isSame 17 = .ok (.getfield 15, 3) := dk_180 0 15 (dk_at dksX47_isSame_0 17 rfl rfl)
theorem dX47_isSame_20 : decode cX47_isSame 20 = .ok (.aload_n 2, 1) := dk_44 (dk_at dksX47_isSame_0 20 rfl rfl)
theorem dX47_isSame_21 : decode cX47_isSame 21 = .ok (.getfield 15, 3) := dk_180 0 15 (dk_at dksX47_isSame_0 21 rfl rfl)
theorem dX47_isSame_24 : decode cX47_isSame 24 = .ok (.invokevirtual 70, 3) := dk_182 0 70 (dk_at dksX47_isSame_1 0 rfl rfl)
theorem dX47_isSame_27 : decode cX47_isSame 27 = .ok (.ifCond .eq 7, 3) := dk_153 0 7 (dk_at dksX47_isSame_1 3 rfl rfl)
theorem dX47_isSame_30 : decode cX47_isSame 30 = .ok (.iconst 1, 1) := dk_4 (dk_at dksX47_isSame_1 6 rfl rfl)
theorem dX47_isSame_31 : decode cX47_isSame 31 = .ok (.goto 4, 3) := dk_167 0 4 (dk_at dksX47_isSame_1 7 rfl rfl)
theorem dX47_isSame_34 : decode cX47_isSame 34 = .ok (.iconst 0, 1) := dk_3 (dk_at dksX47_isSame_1 10 rfl rfl)
theorem dX47_isSame_35 : decode cX47_isSame 35 = .ok (.ireturn, 1) := dk_172 (dk_at dksX47_isSame_1 11 rfl rfl)
abbrev cX47_tell : ByteArray := prog_26_method_2_code
def yX47_tell : MethodName := ⟨RX47, "tell", "(LRowenTongue$Type;Ljava/lang/StringBuilder;)V"⟩
def dkwX47_tell_5 : List UInt8 := [182, 0, 66, 44, 16, 93, 182, 0, 43, 87, 177]
abbrev dktX47_tell_5 : List UInt8 := dkwX47_tell_5 ++ []
def dkwX47_tell_4 : List UInt8 := [17, 1, 44, 163, 0, 23, 42, 180, 0, 15, 45, 180, 0, 56, 21, 5, 182, 0, 60, 192, 0, 22, 44]
abbrev dktX47_tell_4 : List UInt8 := dkwX47_tell_4 ++ dktX47_tell_5
def dkwX47_tell_3 : List UInt8 := [167, 255, 214, 44, 16, 91, 182, 0, 43, 21, 5, 182, 0, 49, 16, 58, 182, 0, 43, 87, 44, 182, 0, 52]
abbrev dktX47_tell_3 : List UInt8 := dkwX47_tell_3 ++ dktX47_tell_4
def dkwX47_tell_2 : List UInt8 := [180, 0, 36, 21, 5, 184, 0, 39, 153, 0, 7, 4, 167, 0, 4, 3, 100, 54, 4, 132, 5, 1]
abbrev dktX47_tell_2 : List UInt8 := dkwX47_tell_2 ++ dktX47_tell_3
def dkwX47_tell_1 : List UInt8 := [3, 54, 5, 45, 180, 0, 36, 21, 5, 184, 0, 39, 153, 0, 8, 21, 4, 158, 0, 31, 21, 4, 45]
abbrev dktX47_tell_1 : List UInt8 := dkwX47_tell_1 ++ dktX47_tell_2
def dkwX47_tell_0 : List UInt8 := [187, 0, 19, 89, 43, 182, 0, 21, 192, 0, 27, 180, 0, 29, 183, 0, 33, 78, 42, 180, 0, 9, 54, 4]
abbrev dktX47_tell_0 : List UInt8 := dkwX47_tell_0 ++ dktX47_tell_1
theorem dksX47_tell_0 : cX47_tell.data.toList.drop 0 = dktX47_tell_0 := by decide +kernel
theorem dksX47_tell_1 : cX47_tell.data.toList.drop 24 = dktX47_tell_1 := dk_seg dksX47_tell_0 24 rfl rfl
theorem dksX47_tell_2 : cX47_tell.data.toList.drop 47 = dktX47_tell_2 := dk_seg dksX47_tell_1 23 rfl rfl
theorem dksX47_tell_3 : cX47_tell.data.toList.drop 69 = dktX47_tell_3 := dk_seg dksX47_tell_2 22 rfl rfl
theorem dksX47_tell_4 : cX47_tell.data.toList.drop 93 = dktX47_tell_4 := dk_seg dksX47_tell_3 24 rfl rfl
theorem dksX47_tell_5 : cX47_tell.data.toList.drop 116 = dktX47_tell_5 := dk_seg dksX47_tell_4 23 rfl rfl
theorem dX47_tell_0 : decode cX47_tell 0 = .ok (.new 19, 3) := dk_187 0 19 (dk_at dksX47_tell_0 0 rfl rfl)
theorem dX47_tell_3 : decode cX47_tell 3 = .ok (.dup, 1) := dk_89 (dk_at dksX47_tell_0 3 rfl rfl)
theorem dX47_tell_4 : decode cX47_tell 4 = .ok (.aload_n 1, 1) := dk_43 (dk_at dksX47_tell_0 4 rfl rfl)
theorem dX47_tell_5 : decode cX47_tell 5 = .ok (.invokevirtual 21, 3) := dk_182 0 21 (dk_at dksX47_tell_0 5 rfl rfl)
theorem dX47_tell_8 : decode cX47_tell 8 = .ok (.checkcast 27, 3) := dk_192 0 27 (dk_at dksX47_tell_0 8 rfl rfl)
theorem dX47_tell_11 : decode cX47_tell 11 = .ok (.getfield 29, 3) := dk_180 0 29 (dk_at dksX47_tell_0 11 rfl rfl)
theorem dX47_tell_14 : decode cX47_tell 14 = .ok (.invokespecial 33, 3) := dk_183 0 33 (dk_at dksX47_tell_0 14 rfl rfl)
theorem dX47_tell_17 : decode cX47_tell 17 = .ok (.astore_n 3, 1) := dk_78 (dk_at dksX47_tell_0 17 rfl rfl)
theorem dX47_tell_18 : decode cX47_tell 18 = .ok (.aload_n 0, 1) := dk_42 (dk_at dksX47_tell_0 18 rfl rfl)
theorem dX47_tell_19 : decode cX47_tell 19 = .ok (.getfield 9, 3) := dk_180 0 9 (dk_at dksX47_tell_0 19 rfl rfl)
theorem dX47_tell_22 : decode cX47_tell 22 = .ok (.istore 4, 2) := dk_54 4 (dk_at dksX47_tell_0 22 rfl rfl)
theorem dX47_tell_24 : decode cX47_tell 24 = .ok (.iconst 0, 1) := dk_3 (dk_at dksX47_tell_1 0 rfl rfl)
theorem dX47_tell_25 : decode cX47_tell 25 = .ok (.istore 5, 2) := dk_54 5 (dk_at dksX47_tell_1 1 rfl rfl)
theorem dX47_tell_27 : decode cX47_tell 27 = .ok (.aload_n 3, 1) := dk_45 (dk_at dksX47_tell_1 3 rfl rfl)
theorem dX47_tell_28 : decode cX47_tell 28 = .ok (.getfield 36, 3) := dk_180 0 36 (dk_at dksX47_tell_1 4 rfl rfl)
theorem dX47_tell_31 : decode cX47_tell 31 = .ok (.iload 5, 2) := dk_21 5 (dk_at dksX47_tell_1 7 rfl rfl)
theorem dX47_tell_33 : decode cX47_tell 33 = .ok (.invokestatic 39, 3) := dk_184 0 39 (dk_at dksX47_tell_1 9 rfl rfl)
theorem dX47_tell_36 : decode cX47_tell 36 = .ok (.ifCond .eq 8, 3) := dk_153 0 8 (dk_at dksX47_tell_1 12 rfl rfl)
theorem dX47_tell_39 : decode cX47_tell 39 = .ok (.iload 4, 2) := dk_21 4 (dk_at dksX47_tell_1 15 rfl rfl)
theorem dX47_tell_41 : decode cX47_tell 41 = .ok (.ifCond .le 31, 3) := dk_158 0 31 (dk_at dksX47_tell_1 17 rfl rfl)
theorem dX47_tell_44 : decode cX47_tell 44 = .ok (.iload 4, 2) := dk_21 4 (dk_at dksX47_tell_1 20 rfl rfl)
theorem dX47_tell_46 : decode cX47_tell 46 = .ok (.aload_n 3, 1) := dk_45 (dk_at dksX47_tell_1 22 rfl rfl)
theorem dX47_tell_47 : decode cX47_tell 47 = .ok (.getfield 36, 3) := dk_180 0 36 (dk_at dksX47_tell_2 0 rfl rfl)
theorem dX47_tell_50 : decode cX47_tell 50 = .ok (.iload 5, 2) := dk_21 5 (dk_at dksX47_tell_2 3 rfl rfl)
theorem dX47_tell_52 : decode cX47_tell 52 = .ok (.invokestatic 39, 3) := dk_184 0 39 (dk_at dksX47_tell_2 5 rfl rfl)
theorem dX47_tell_55 : decode cX47_tell 55 = .ok (.ifCond .eq 7, 3) := dk_153 0 7 (dk_at dksX47_tell_2 8 rfl rfl)
theorem dX47_tell_58 : decode cX47_tell 58 = .ok (.iconst 1, 1) := dk_4 (dk_at dksX47_tell_2 11 rfl rfl)
theorem dX47_tell_59 : decode cX47_tell 59 = .ok (.goto 4, 3) := dk_167 0 4 (dk_at dksX47_tell_2 12 rfl rfl)
theorem dX47_tell_62 : decode cX47_tell 62 = .ok (.iconst 0, 1) := dk_3 (dk_at dksX47_tell_2 15 rfl rfl)
theorem dX47_tell_63 : decode cX47_tell 63 = .ok (.isub, 1) := dk_100 (dk_at dksX47_tell_2 16 rfl rfl)
theorem dX47_tell_64 : decode cX47_tell 64 = .ok (.istore 4, 2) := dk_54 4 (dk_at dksX47_tell_2 17 rfl rfl)
theorem dX47_tell_66 : decode cX47_tell 66 = .ok (.iinc 5 1, 3) := dk_132 5 1 (dk_at dksX47_tell_2 19 rfl rfl)
theorem dX47_tell_69 : decode cX47_tell 69 = .ok (.goto (-42), 3) := dk_167 255 214 (dk_at dksX47_tell_3 0 rfl rfl)
theorem dX47_tell_72 : decode cX47_tell 72 = .ok (.aload_n 2, 1) := dk_44 (dk_at dksX47_tell_3 3 rfl rfl)
theorem dX47_tell_73 : decode cX47_tell 73 = .ok (.bipush 91, 2) := dk_16 91 (dk_at dksX47_tell_3 4 rfl rfl)
theorem dX47_tell_75 : decode cX47_tell 75 = .ok (.invokevirtual 43, 3) := dk_182 0 43 (dk_at dksX47_tell_3 6 rfl rfl)
theorem dX47_tell_78 : decode cX47_tell 78 = .ok (.iload 5, 2) := dk_21 5 (dk_at dksX47_tell_3 9 rfl rfl)
theorem dX47_tell_80 : decode cX47_tell 80 = .ok (.invokevirtual 49, 3) := dk_182 0 49 (dk_at dksX47_tell_3 11 rfl rfl)
theorem dX47_tell_83 : decode cX47_tell 83 = .ok (.bipush 58, 2) := dk_16 58 (dk_at dksX47_tell_3 14 rfl rfl)
theorem dX47_tell_85 : decode cX47_tell 85 = .ok (.invokevirtual 43, 3) := dk_182 0 43 (dk_at dksX47_tell_3 16 rfl rfl)
theorem dX47_tell_88 : decode cX47_tell 88 = .ok (.pop, 1) := dk_87 (dk_at dksX47_tell_3 19 rfl rfl)
theorem dX47_tell_89 : decode cX47_tell 89 = .ok (.aload_n 2, 1) := dk_44 (dk_at dksX47_tell_3 20 rfl rfl)
theorem dX47_tell_90 : decode cX47_tell 90 = .ok (.invokevirtual 52, 3) := dk_182 0 52 (dk_at dksX47_tell_3 21 rfl rfl)
theorem dX47_tell_93 : decode cX47_tell 93 = .ok (.sipush 300, 3) := dk_17 1 44 (dk_at dksX47_tell_4 0 rfl rfl)
theorem dX47_tell_96 : decode cX47_tell 96 = .ok (.if_icmp .gt 23, 3) := dk_163 0 23 (dk_at dksX47_tell_4 3 rfl rfl)
theorem dX47_tell_99 : decode cX47_tell 99 = .ok (.aload_n 0, 1) := dk_42 (dk_at dksX47_tell_4 6 rfl rfl)
theorem dX47_tell_100 : decode cX47_tell 100 = .ok (.getfield 15, 3) := dk_180 0 15 (dk_at dksX47_tell_4 7 rfl rfl)
theorem dX47_tell_103 : decode cX47_tell 103 = .ok (.aload_n 3, 1) := dk_45 (dk_at dksX47_tell_4 10 rfl rfl)
theorem dX47_tell_104 : decode cX47_tell 104 = .ok (.getfield 56, 3) := dk_180 0 56 (dk_at dksX47_tell_4 11 rfl rfl)
theorem dX47_tell_107 : decode cX47_tell 107 = .ok (.iload 5, 2) := dk_21 5 (dk_at dksX47_tell_4 14 rfl rfl)
theorem dX47_tell_109 : decode cX47_tell 109 = .ok (.invokevirtual 60, 3) := dk_182 0 60 (dk_at dksX47_tell_4 16 rfl rfl)
theorem dX47_tell_112 : decode cX47_tell 112 = .ok (.checkcast 22, 3) := dk_192 0 22 (dk_at dksX47_tell_4 19 rfl rfl)
theorem dX47_tell_115 : decode cX47_tell 115 = .ok (.aload_n 2, 1) := dk_44 (dk_at dksX47_tell_4 22 rfl rfl)
theorem dX47_tell_116 : decode cX47_tell 116 = .ok (.invokevirtual 66, 3) := dk_182 0 66 (dk_at dksX47_tell_5 0 rfl rfl)
theorem dX47_tell_119 : decode cX47_tell 119 = .ok (.aload_n 2, 1) := dk_44 (dk_at dksX47_tell_5 3 rfl rfl)
theorem dX47_tell_120 : decode cX47_tell 120 = .ok (.bipush 93, 2) := dk_16 93 (dk_at dksX47_tell_5 4 rfl rfl)
theorem dX47_tell_122 : decode cX47_tell 122 = .ok (.invokevirtual 43, 3) := dk_182 0 43 (dk_at dksX47_tell_5 6 rfl rfl)
theorem dX47_tell_125 : decode cX47_tell 125 = .ok (.pop, 1) := dk_87 (dk_at dksX47_tell_5 9 rfl rfl)
theorem dX47_tell_126 : decode cX47_tell 126 = .ok (.return_, 1) := dk_177 (dk_at dksX47_tell_5 10 rfl rfl)
theorem q120 : (Jvm.Cond.initialized "RowenTongue$Pick") ∈ lw_all := lw_g (lw_at lw_m1 71 rfl) rfl
theorem q391 : (Jvm.Cond.selects "RowenTongue$Pick" ({ cls := "java/lang/Object", name := "getClass", desc := "()Ljava/lang/Class;" } : Jvm.MethodName) ({ cls := "java/lang/Object", name := "getClass", desc := "()Ljava/lang/Class;" } : Jvm.MethodName)) ∈ lw_all := lw_g (lw_at lw_m2 102 rfl) rfl
theorem q622 : (Jvm.Cond.fieldLinkNest "RowenTongue$Pick" (29 : Nat) "RowenTongue$Bag" "row" "LRowenTongue$Row;" "RowenTongue") ∈ lw_tbl := lw_at lw_m3 93 rfl
theorem q765 : (Jvm.Cond.selects "RowenTongue$Pick" ({ cls := "java/lang/Object", name := "equals", desc := "(Ljava/lang/Object;)Z" } : Jvm.MethodName) ({ cls := "java/lang/Object", name := "equals", desc := "(Ljava/lang/Object;)Z" } : Jvm.MethodName)) ∈ lw_all := lw_g (lw_at lw_m3 236 rfl) rfl
theorem q1211 : (Jvm.Cond.fieldLinkNest "RowenTongue$Pick" (56 : Nat) "RowenTongue$Flat" "types" "Ljava/util/ArrayList;" "RowenTongue") ∈ lw_tbl := lw_at lw_m5 202 rfl
theorem q1219 : (Jvm.Cond.fieldLinkNest "RowenTongue$Pick" (36 : Nat) "RowenTongue$Flat" "labels" "I" "RowenTongue") ∈ lw_tbl := lw_at lw_m5 210 rfl
theorem q2240 : (Jvm.Cond.instantiable "RowenTongue$Pick" (2 : Nat)) ∈ lw_all := lw_g (lw_at lw_m10 31 rfl) rfl
theorem q2242 : (Jvm.Cond.instanceMethod ({ cls := "RowenTongue$Pick", name := "<init>", desc := "(ILRowenTongue$Thing;)V" } : Jvm.MethodName)) ∈ lw_all := lw_g (lw_at lw_m10 33 rfl) rfl
theorem q2243 : (Jvm.Cond.code ({ cls := "RowenTongue$Pick", name := "<init>", desc := "(ILRowenTongue$Thing;)V" } : Jvm.MethodName) prog_26_method_1_code (3 : Nat) (Option.none : Option Jvm.ClassFile.FieldType)) ∈ lw_all := lw_g (lw_at lw_m10 34 rfl) rfl
theorem q2244 : (Jvm.Cond.methodLinkNest "RowenTongue$Pick" (3 : Nat) ({ cls := "RowenTongue$Thing", name := "<init>", desc := "()V" } : Jvm.MethodName) "RowenTongue") ∈ lw_tbl := lw_at lw_m10 35 rfl
theorem q2245 : (Jvm.Cond.fieldLink "RowenTongue$Pick" (9 : Nat) "RowenTongue$Pick" "place" "I") ∈ lw_all := lw_g (lw_at lw_m10 36 rfl) rfl
theorem q2247 : (Jvm.Cond.fieldLink "RowenTongue$Pick" (15 : Nat) "RowenTongue$Pick" "thing" "LRowenTongue$Thing;") ∈ lw_all := lw_g (lw_at lw_m10 38 rfl) rfl
theorem q2249 : (Jvm.Cond.laysFinal "RowenTongue$Pick" "RowenTongue$Pick" "place" "I") ∈ lw_all := lw_g (lw_at lw_m10 40 rfl) rfl
theorem q2250 : (Jvm.Cond.soleField "RowenTongue$Pick" "place") ∈ lw_all := lw_g (lw_at lw_m10 41 rfl) rfl
theorem q2251 : (Jvm.Cond.laysFinal "RowenTongue$Pick" "RowenTongue$Pick" "thing" "LRowenTongue$Thing;") ∈ lw_all := lw_g (lw_at lw_m10 42 rfl) rfl
theorem q2252 : (Jvm.Cond.soleField "RowenTongue$Pick" "thing") ∈ lw_all := lw_g (lw_at lw_m10 43 rfl) rfl
theorem q2253 : (Jvm.Cond.superclass "RowenTongue$Pick" "RowenTongue$Thing") ∈ lw_all := lw_g (lw_at lw_m10 44 rfl) rfl
theorem q2272 : (Jvm.Cond.instanceMethod ({ cls := "RowenTongue$Pick", name := "isSame", desc := "(LRowenTongue$Thing;)Z" } : Jvm.MethodName)) ∈ lw_all := lw_g (lw_at lw_m10 63 rfl) rfl
theorem q2273 : (Jvm.Cond.code ({ cls := "RowenTongue$Pick", name := "isSame", desc := "(LRowenTongue$Thing;)Z" } : Jvm.MethodName) prog_26_method_3_code (3 : Nat) (Option.some Jvm.ClassFile.FieldType.boolean)) ∈ lw_all := lw_g (lw_at lw_m10 64 rfl) rfl
theorem q2274 : (Jvm.Cond.classLink "RowenTongue$Pick" (10 : Nat) "RowenTongue$Pick") ∈ lw_all := lw_g (lw_at lw_m10 65 rfl) rfl
theorem q2275 : (Jvm.Cond.methodLink "RowenTongue$Pick" (70 : Nat) ({ cls := "RowenTongue$Thing", name := "isSame", desc := "(LRowenTongue$Thing;)Z" } : Jvm.MethodName)) ∈ lw_all := lw_g (lw_at lw_m10 66 rfl) rfl
theorem q2279 : (Jvm.Cond.selects "RowenTongue$Pick" ({ cls := "RowenTongue$Thing", name := "isSame", desc := "(LRowenTongue$Thing;)Z" } : Jvm.MethodName) ({ cls := "RowenTongue$Pick", name := "isSame", desc := "(LRowenTongue$Thing;)Z" } : Jvm.MethodName)) ∈ lw_all := lw_g (lw_at lw_m10 70 rfl) rfl
theorem q2343 : (Jvm.Cond.instanceMethod ({ cls := "RowenTongue$Pick", name := "tell", desc := "(LRowenTongue$Type;Ljava/lang/StringBuilder;)V" } : Jvm.MethodName)) ∈ lw_all := lw_g (lw_at lw_m10 134 rfl) rfl
theorem q2344 : (Jvm.Cond.code ({ cls := "RowenTongue$Pick", name := "tell", desc := "(LRowenTongue$Type;Ljava/lang/StringBuilder;)V" } : Jvm.MethodName) prog_26_method_2_code (6 : Nat) (Option.none : Option Jvm.ClassFile.FieldType)) ∈ lw_all := lw_g (lw_at lw_m10 135 rfl) rfl
theorem q2345 : (Jvm.Cond.classLink "RowenTongue$Pick" (19 : Nat) "RowenTongue$Flat") ∈ lw_all := lw_g (lw_at lw_m10 136 rfl) rfl
theorem q2346 : (Jvm.Cond.methodLink "RowenTongue$Pick" (21 : Nat) ({ cls := "RowenTongue$Type", name := "now", desc := "()LRowenTongue$Type;" } : Jvm.MethodName)) ∈ lw_all := lw_g (lw_at lw_m10 137 rfl) rfl
theorem q2347 : (Jvm.Cond.classLink "RowenTongue$Pick" (27 : Nat) "RowenTongue$Bag") ∈ lw_all := lw_g (lw_at lw_m10 138 rfl) rfl
theorem q2348 : (Jvm.Cond.methodLink "RowenTongue$Pick" (33 : Nat) ({ cls := "RowenTongue$Flat", name := "<init>", desc := "(LRowenTongue$Row;)V" } : Jvm.MethodName)) ∈ lw_all := lw_g (lw_at lw_m10 139 rfl) rfl
theorem q2349 : (Jvm.Cond.methodLinkNest "RowenTongue$Pick" (39 : Nat) ({ cls := "RowenTongue", name := "has", desc := "(II)Z" } : Jvm.MethodName) "RowenTongue") ∈ lw_tbl := lw_at lw_m10 140 rfl
theorem q2350 : (Jvm.Cond.methodLink "RowenTongue$Pick" (43 : Nat) ({ cls := "java/lang/StringBuilder", name := "append", desc := "(C)Ljava/lang/StringBuilder;" } : Jvm.MethodName)) ∈ lw_all := lw_g (lw_at lw_m10 141 rfl) rfl
theorem q2351 : (Jvm.Cond.methodLink "RowenTongue$Pick" (49 : Nat) ({ cls := "java/lang/StringBuilder", name := "append", desc := "(I)Ljava/lang/StringBuilder;" } : Jvm.MethodName)) ∈ lw_all := lw_g (lw_at lw_m10 142 rfl) rfl
theorem q2352 : (Jvm.Cond.methodLink "RowenTongue$Pick" (52 : Nat) ({ cls := "java/lang/StringBuilder", name := "length", desc := "()I" } : Jvm.MethodName)) ∈ lw_all := lw_g (lw_at lw_m10 143 rfl) rfl
theorem q2353 : (Jvm.Cond.methodLink "RowenTongue$Pick" (60 : Nat) ({ cls := "java/util/ArrayList", name := "get", desc := "(I)Ljava/lang/Object;" } : Jvm.MethodName)) ∈ lw_all := lw_g (lw_at lw_m10 144 rfl) rfl
theorem q2354 : (Jvm.Cond.classLink "RowenTongue$Pick" (22 : Nat) "RowenTongue$Type") ∈ lw_all := lw_g (lw_at lw_m10 145 rfl) rfl
theorem q2355 : (Jvm.Cond.methodLink "RowenTongue$Pick" (66 : Nat) ({ cls := "RowenTongue$Thing", name := "tell", desc := "(LRowenTongue$Type;Ljava/lang/StringBuilder;)V" } : Jvm.MethodName)) ∈ lw_all := lw_g (lw_at lw_m10 146 rfl) rfl
theorem q2359 : (Jvm.Cond.selects "RowenTongue$Pick" ({ cls := "RowenTongue$Thing", name := "tell", desc := "(LRowenTongue$Type;Ljava/lang/StringBuilder;)V" } : Jvm.MethodName) ({ cls := "RowenTongue$Pick", name := "tell", desc := "(LRowenTongue$Type;Ljava/lang/StringBuilder;)V" } : Jvm.MethodName)) ∈ lw_all := lw_g (lw_at lw_m10 150 rfl) rfl
theorem q2879 : (Jvm.Cond.castable "RowenTongue$Pick" "RowenTongue$Thing") ∈ lw_tbl := lw_at lw_m12 190 rfl
theorem q2934 : (Jvm.Cond.castable "RowenTongue$Pick" "java/lang/Object") ∈ lw_tbl := lw_at lw_m13 5 rfl
theorem in_X47 : ∀ w ∈ wsX470, w ∈ lw_all := lw_in wsX470 [2249, 2251] (by decide +kernel) (by decide +kernel)
/-! the law's own entry -/
set_option maxRecDepth 100000
abbrev cL_law : ByteArray := code
def dkwL_law_40 : List UInt8 := [148, 153, 0, 5, 3, 172, 167, 0, 3, 132, 4, 5, 167, 252, 51, 4, 172]
abbrev dktL_law_40 : List UInt8 := dkwL_law_40 ++ []
def dkwL_law_39 : List UInt8 := [54, 6, 44, 182, 0, 68, 21, 5, 159, 0, 5, 3, 172, 21, 5, 154, 0, 15, 45, 3, 47, 21, 6, 133]
abbrev dktL_law_39 : List UInt8 := dkwL_law_39 ++ dktL_law_40
def dkwL_law_38 : List UInt8 := [96, 46, 45, 184, 0, 116, 54, 5, 44, 42, 21, 4, 4, 96, 46, 42, 21, 4, 5, 96, 46, 182, 0, 118]
abbrev dktL_law_38 : List UInt8 := dkwL_law_38 ++ dktL_law_39
def dkwL_law_37 : List UInt8 := [167, 0, 4, 9, 148, 153, 0, 5, 3, 172, 167, 0, 71, 43, 42, 21, 4, 4, 96, 46, 42, 21, 4, 5]
abbrev dktL_law_37 : List UInt8 := dkwL_law_37 ++ dktL_law_38
def dkwL_law_36 : List UInt8 := [182, 0, 68, 21, 5, 159, 0, 5, 3, 172, 21, 5, 154, 0, 22, 45, 3, 47, 21, 6, 153, 0, 7, 10]
abbrev dktL_law_36 : List UInt8 := dkwL_law_36 ++ dktL_law_37
def dkwL_law_35 : List UInt8 := [21, 4, 4, 96, 46, 45, 184, 0, 113, 54, 5, 44, 42, 21, 4, 4, 96, 46, 182, 0, 115, 54, 6, 44]
abbrev dktL_law_35 : List UInt8 := dkwL_law_35 ++ dktL_law_36
def dkwL_law_34 : List UInt8 := [172, 21, 5, 154, 0, 15, 45, 3, 47, 21, 6, 133, 148, 153, 0, 5, 3, 172, 167, 0, 134, 43, 42]
abbrev dktL_law_34 : List UInt8 := dkwL_law_34 ++ dktL_law_35
def dkwL_law_33 : List UInt8 := [54, 5, 44, 42, 21, 4, 4, 96, 46, 182, 0, 112, 54, 6, 44, 182, 0, 68, 21, 5, 159, 0, 5, 3]
abbrev dktL_law_33 : List UInt8 := dkwL_law_33 ++ dktL_law_34
def dkwL_law_32 : List UInt8 := [182, 0, 106, 44, 182, 0, 109, 159, 0, 192, 3, 172, 43, 42, 21, 4, 4, 96, 46, 45, 184, 0, 110]
abbrev dktL_law_32 : List UInt8 := dkwL_law_32 ++ dktL_law_33
def dkwL_law_31 : List UInt8 := [172, 21, 5, 154, 0, 15, 45, 3, 47, 21, 6, 133, 148, 153, 0, 5, 3, 172, 167, 0, 203, 43]
abbrev dktL_law_31 : List UInt8 := dkwL_law_31 ++ dktL_law_32
def dkwL_law_30 : List UInt8 := [54, 5, 44, 42, 21, 4, 4, 96, 46, 182, 0, 105, 54, 6, 44, 182, 0, 68, 21, 5, 159, 0, 5, 3]
abbrev dktL_law_30 : List UInt8 := dkwL_law_30 ++ dktL_law_31
def dkwL_law_29 : List UInt8 := [167, 0, 4, 9, 148, 153, 0, 5, 3, 172, 167, 1, 3, 43, 42, 21, 4, 4, 96, 46, 45, 184, 0, 103]
abbrev dktL_law_29 : List UInt8 := dkwL_law_29 ++ dktL_law_30
def dkwL_law_28 : List UInt8 := [182, 0, 68, 21, 5, 159, 0, 5, 3, 172, 21, 5, 154, 0, 22, 45, 3, 47, 21, 6, 153, 0, 7, 10]
abbrev dktL_law_28 : List UInt8 := dkwL_law_28 ++ dktL_law_29
def dkwL_law_27 : List UInt8 := [184, 0, 100, 54, 5, 44, 42, 21, 4, 4, 96, 46, 42, 21, 4, 5, 96, 46, 182, 0, 102, 54, 6, 44]
abbrev dktL_law_27 : List UInt8 := dkwL_law_27 ++ dktL_law_28
def dkwL_law_26 : List UInt8 := [153, 0, 5, 3, 172, 167, 1, 78, 43, 42, 21, 4, 4, 96, 46, 42, 21, 4, 5, 96, 46, 45]
abbrev dktL_law_26 : List UInt8 := dkwL_law_26 ++ dktL_law_27
def dkwL_law_25 : List UInt8 := [182, 0, 68, 21, 5, 159, 0, 5, 3, 172, 21, 5, 154, 0, 15, 45, 3, 47, 21, 6, 133, 148]
abbrev dktL_law_25 : List UInt8 := dkwL_law_25 ++ dktL_law_26
def dkwL_law_24 : List UInt8 := [184, 0, 97, 54, 5, 44, 42, 21, 4, 4, 96, 46, 42, 21, 4, 5, 96, 46, 182, 0, 99, 54, 6, 44]
abbrev dktL_law_24 : List UInt8 := dkwL_law_24 ++ dktL_law_25
def dkwL_law_23 : List UInt8 := [153, 0, 5, 3, 172, 167, 1, 146, 43, 42, 21, 4, 4, 96, 46, 42, 21, 4, 5, 96, 46, 45]
abbrev dktL_law_23 : List UInt8 := dkwL_law_23 ++ dktL_law_24
def dkwL_law_22 : List UInt8 := [182, 0, 68, 21, 5, 159, 0, 5, 3, 172, 21, 5, 154, 0, 15, 45, 3, 47, 21, 6, 133, 148]
abbrev dktL_law_22 : List UInt8 := dkwL_law_22 ++ dktL_law_23
def dkwL_law_21 : List UInt8 := [21, 4, 4, 96, 46, 45, 184, 0, 94, 54, 5, 44, 42, 21, 4, 4, 96, 46, 182, 0, 96, 54, 6, 44]
abbrev dktL_law_21 : List UInt8 := dkwL_law_21 ++ dktL_law_22
def dkwL_law_20 : List UInt8 := [148, 153, 0, 5, 3, 172, 167, 1, 215, 43, 182, 0, 90, 44, 182, 0, 93, 159, 1, 204, 3, 172, 43, 42]
abbrev dktL_law_20 : List UInt8 := dkwL_law_20 ++ dktL_law_21
def dkwL_law_19 : List UInt8 := [54, 6, 44, 182, 0, 68, 21, 5, 159, 0, 5, 3, 172, 21, 5, 154, 0, 15, 45, 3, 47, 21, 6, 133]
abbrev dktL_law_19 : List UInt8 := dkwL_law_19 ++ dktL_law_20
def dkwL_law_18 : List UInt8 := [172, 43, 42, 21, 4, 4, 96, 46, 45, 184, 0, 86, 54, 5, 44, 42, 21, 4, 4, 96, 46, 182, 0, 89]
abbrev dktL_law_18 : List UInt8 := dkwL_law_18 ++ dktL_law_19
def dkwL_law_17 : List UInt8 := [21, 6, 133, 148, 153, 0, 5, 3, 172, 167, 2, 28, 43, 182, 0, 82, 44, 182, 0, 85, 159, 2, 17, 3]
abbrev dktL_law_17 : List UInt8 := dkwL_law_17 ++ dktL_law_18
def dkwL_law_16 : List UInt8 := [182, 0, 81, 54, 6, 44, 182, 0, 68, 21, 5, 159, 0, 5, 3, 172, 21, 5, 154, 0, 15, 45, 3, 47]
abbrev dktL_law_16 : List UInt8 := dkwL_law_16 ++ dktL_law_17
def dkwL_law_15 : List UInt8 := [42, 21, 4, 4, 96, 46, 42, 21, 4, 5, 96, 46, 42, 21, 4, 6, 96, 46, 42, 21, 4, 7, 96, 46]
abbrev dktL_law_15 : List UInt8 := dkwL_law_15 ++ dktL_law_16
def dkwL_law_14 : List UInt8 := [21, 4, 5, 96, 46, 42, 21, 4, 6, 96, 46, 42, 21, 4, 7, 96, 46, 45, 184, 0, 79, 54, 5, 44]
abbrev dktL_law_14 : List UInt8 := dkwL_law_14 ++ dktL_law_15
def dkwL_law_13 : List UInt8 := [45, 3, 47, 21, 6, 133, 148, 153, 0, 5, 3, 172, 167, 2, 120, 43, 42, 21, 4, 4, 96, 46, 42]
abbrev dktL_law_13 : List UInt8 := dkwL_law_13 ++ dktL_law_14
def dkwL_law_12 : List UInt8 := [7, 96, 46, 182, 0, 78, 54, 6, 44, 182, 0, 68, 21, 5, 159, 0, 5, 3, 172, 21, 5, 154, 0, 15]
abbrev dktL_law_12 : List UInt8 := dkwL_law_12 ++ dktL_law_13
def dkwL_law_11 : List UInt8 := [54, 5, 44, 42, 21, 4, 4, 96, 46, 42, 21, 4, 5, 96, 46, 42, 21, 4, 6, 96, 46, 42, 21, 4]
abbrev dktL_law_11 : List UInt8 := dkwL_law_11 ++ dktL_law_12
def dkwL_law_10 : List UInt8 := [46, 42, 21, 4, 5, 96, 46, 42, 21, 4, 6, 96, 46, 42, 21, 4, 7, 96, 46, 45, 184, 0, 76]
abbrev dktL_law_10 : List UInt8 := dkwL_law_10 ++ dktL_law_11
def dkwL_law_9 : List UInt8 := [154, 0, 15, 45, 3, 47, 21, 6, 133, 148, 153, 0, 5, 3, 172, 167, 2, 212, 43, 42, 21, 4, 4, 96]
abbrev dktL_law_9 : List UInt8 := dkwL_law_9 ++ dktL_law_10
def dkwL_law_8 : List UInt8 := [42, 21, 4, 7, 96, 46, 182, 0, 75, 54, 6, 44, 182, 0, 68, 21, 5, 159, 0, 5, 3, 172, 21, 5]
abbrev dktL_law_8 : List UInt8 := dkwL_law_8 ++ dktL_law_9
def dkwL_law_7 : List UInt8 := [184, 0, 72, 54, 5, 44, 42, 21, 4, 4, 96, 46, 42, 21, 4, 5, 96, 46, 42, 21, 4, 6, 96, 46]
abbrev dktL_law_7 : List UInt8 := dkwL_law_7 ++ dktL_law_8
def dkwL_law_6 : List UInt8 := [4, 96, 46, 42, 21, 4, 5, 96, 46, 42, 21, 4, 6, 96, 46, 42, 21, 4, 7, 96, 46, 45]
abbrev dktL_law_6 : List UInt8 := dkwL_law_6 ++ dktL_law_7
def dkwL_law_5 : List UInt8 := [21, 5, 154, 0, 15, 45, 3, 47, 21, 6, 133, 148, 153, 0, 5, 3, 172, 167, 3, 48, 43, 42, 21, 4]
abbrev dktL_law_5 : List UInt8 := dkwL_law_5 ++ dktL_law_6
def dkwL_law_4 : List UInt8 := [96, 46, 42, 21, 4, 5, 96, 46, 182, 0, 67, 54, 6, 44, 182, 0, 68, 21, 5, 159, 0, 5, 3, 172]
abbrev dktL_law_4 : List UInt8 := dkwL_law_4 ++ dktL_law_5
def dkwL_law_3 : List UInt8 := [43, 42, 21, 4, 4, 96, 46, 42, 21, 4, 5, 96, 46, 45, 184, 0, 62, 54, 5, 44, 42, 21, 4, 4]
abbrev dktL_law_3 : List UInt8 := dkwL_law_3 ++ dktL_law_4
def dkwL_law_2 : List UInt8 := [170, 0, 0, 3, 186, 0, 0, 0, 0, 0, 0, 0, 14, 0, 0, 0, 73, 0, 0, 0, 141, 0, 0, 0, 233, 0, 0, 1, 69, 0, 0, 1, 161, 0, 0, 1, 174, 0, 0, 1, 230, 0, 0, 1, 243, 0, 0, 2, 43, 0, 0, 2, 111, 0, 0, 2, 186, 0, 0, 2, 242, 0, 0, 2, 255, 0, 0, 3, 55, 0, 0, 3, 118]
abbrev dktL_law_2 : List UInt8 := dkwL_law_2 ++ dktL_law_3
def dkwL_law_1 : List UInt8 := [21, 4, 42, 190, 8, 100, 163, 3, 202, 42, 21, 4, 46, 16, 15, 126]
abbrev dktL_law_1 : List UInt8 := dkwL_law_1 ++ dktL_law_2
def dkwL_law_0 : List UInt8 := [187, 0, 8, 89, 183, 0, 58, 76, 187, 0, 59, 89, 183, 0, 61, 77, 4, 188, 11, 78, 3, 54, 4]
abbrev dktL_law_0 : List UInt8 := dkwL_law_0 ++ dktL_law_1
theorem dksL_law_0 : cL_law.data.toList.drop 0 = dktL_law_0 := by decide +kernel
theorem dksL_law_1 : cL_law.data.toList.drop 23 = dktL_law_1 := dk_seg dksL_law_0 23 rfl rfl
theorem dksL_law_2 : cL_law.data.toList.drop 39 = dktL_law_2 := dk_seg dksL_law_1 16 rfl rfl
theorem dksL_law_3 : cL_law.data.toList.drop 112 = dktL_law_3 := dk_seg dksL_law_2 73 rfl rfl
theorem dksL_law_4 : cL_law.data.toList.drop 136 = dktL_law_4 := dk_seg dksL_law_3 24 rfl rfl
theorem dksL_law_5 : cL_law.data.toList.drop 160 = dktL_law_5 := dk_seg dksL_law_4 24 rfl rfl
theorem dksL_law_6 : cL_law.data.toList.drop 184 = dktL_law_6 := dk_seg dksL_law_5 24 rfl rfl
theorem dksL_law_7 : cL_law.data.toList.drop 206 = dktL_law_7 := dk_seg dksL_law_6 22 rfl rfl
theorem dksL_law_8 : cL_law.data.toList.drop 230 = dktL_law_8 := dk_seg dksL_law_7 24 rfl rfl
theorem dksL_law_9 : cL_law.data.toList.drop 254 = dktL_law_9 := dk_seg dksL_law_8 24 rfl rfl
theorem dksL_law_10 : cL_law.data.toList.drop 278 = dktL_law_10 := dk_seg dksL_law_9 24 rfl rfl
theorem dksL_law_11 : cL_law.data.toList.drop 301 = dktL_law_11 := dk_seg dksL_law_10 23 rfl rfl
theorem dksL_law_12 : cL_law.data.toList.drop 325 = dktL_law_12 := dk_seg dksL_law_11 24 rfl rfl
theorem dksL_law_13 : cL_law.data.toList.drop 349 = dktL_law_13 := dk_seg dksL_law_12 24 rfl rfl
theorem dksL_law_14 : cL_law.data.toList.drop 372 = dktL_law_14 := dk_seg dksL_law_13 23 rfl rfl
theorem dksL_law_15 : cL_law.data.toList.drop 396 = dktL_law_15 := dk_seg dksL_law_14 24 rfl rfl
theorem dksL_law_16 : cL_law.data.toList.drop 420 = dktL_law_16 := dk_seg dksL_law_15 24 rfl rfl
theorem dksL_law_17 : cL_law.data.toList.drop 444 = dktL_law_17 := dk_seg dksL_law_16 24 rfl rfl
theorem dksL_law_18 : cL_law.data.toList.drop 468 = dktL_law_18 := dk_seg dksL_law_17 24 rfl rfl
theorem dksL_law_19 : cL_law.data.toList.drop 492 = dktL_law_19 := dk_seg dksL_law_18 24 rfl rfl
theorem dksL_law_20 : cL_law.data.toList.drop 516 = dktL_law_20 := dk_seg dksL_law_19 24 rfl rfl
theorem dksL_law_21 : cL_law.data.toList.drop 540 = dktL_law_21 := dk_seg dksL_law_20 24 rfl rfl
theorem dksL_law_22 : cL_law.data.toList.drop 564 = dktL_law_22 := dk_seg dksL_law_21 24 rfl rfl
theorem dksL_law_23 : cL_law.data.toList.drop 586 = dktL_law_23 := dk_seg dksL_law_22 22 rfl rfl
theorem dksL_law_24 : cL_law.data.toList.drop 608 = dktL_law_24 := dk_seg dksL_law_23 22 rfl rfl
theorem dksL_law_25 : cL_law.data.toList.drop 632 = dktL_law_25 := dk_seg dksL_law_24 24 rfl rfl
theorem dksL_law_26 : cL_law.data.toList.drop 654 = dktL_law_26 := dk_seg dksL_law_25 22 rfl rfl
theorem dksL_law_27 : cL_law.data.toList.drop 676 = dktL_law_27 := dk_seg dksL_law_26 22 rfl rfl
theorem dksL_law_28 : cL_law.data.toList.drop 700 = dktL_law_28 := dk_seg dksL_law_27 24 rfl rfl
theorem dksL_law_29 : cL_law.data.toList.drop 724 = dktL_law_29 := dk_seg dksL_law_28 24 rfl rfl
theorem dksL_law_30 : cL_law.data.toList.drop 748 = dktL_law_30 := dk_seg dksL_law_29 24 rfl rfl
theorem dksL_law_31 : cL_law.data.toList.drop 772 = dktL_law_31 := dk_seg dksL_law_30 24 rfl rfl
theorem dksL_law_32 : cL_law.data.toList.drop 794 = dktL_law_32 := dk_seg dksL_law_31 22 rfl rfl
theorem dksL_law_33 : cL_law.data.toList.drop 817 = dktL_law_33 := dk_seg dksL_law_32 23 rfl rfl
theorem dksL_law_34 : cL_law.data.toList.drop 841 = dktL_law_34 := dk_seg dksL_law_33 24 rfl rfl
theorem dksL_law_35 : cL_law.data.toList.drop 864 = dktL_law_35 := dk_seg dksL_law_34 23 rfl rfl
theorem dksL_law_36 : cL_law.data.toList.drop 888 = dktL_law_36 := dk_seg dksL_law_35 24 rfl rfl
theorem dksL_law_37 : cL_law.data.toList.drop 912 = dktL_law_37 := dk_seg dksL_law_36 24 rfl rfl
theorem dksL_law_38 : cL_law.data.toList.drop 936 = dktL_law_38 := dk_seg dksL_law_37 24 rfl rfl
theorem dksL_law_39 : cL_law.data.toList.drop 960 = dktL_law_39 := dk_seg dksL_law_38 24 rfl rfl
theorem dksL_law_40 : cL_law.data.toList.drop 984 = dktL_law_40 := dk_seg dksL_law_39 24 rfl rfl
theorem dL_law_0 : decode cL_law 0 = .ok (.new 8, 3) := dk_187 0 8 (dk_at dksL_law_0 0 rfl rfl)
theorem dL_law_3 : decode cL_law 3 = .ok (.dup, 1) := dk_89 (dk_at dksL_law_0 3 rfl rfl)
theorem dL_law_4 : decode cL_law 4 = .ok (.invokespecial 58, 3) := dk_183 0 58 (dk_at dksL_law_0 4 rfl rfl)
theorem dL_law_7 : decode cL_law 7 = .ok (.astore_n 1, 1) := dk_76 (dk_at dksL_law_0 7 rfl rfl)
theorem dL_law_8 : decode cL_law 8 = .ok (.new 59, 3) := dk_187 0 59 (dk_at dksL_law_0 8 rfl rfl)
theorem dL_law_11 : decode cL_law 11 = .ok (.dup, 1) := dk_89 (dk_at dksL_law_0 11 rfl rfl)
theorem dL_law_12 : decode cL_law 12 = .ok (.invokespecial 61, 3) := dk_183 0 61 (dk_at dksL_law_0 12 rfl rfl)
theorem dL_law_15 : decode cL_law 15 = .ok (.astore_n 2, 1) := dk_77 (dk_at dksL_law_0 15 rfl rfl)
theorem dL_law_16 : decode cL_law 16 = .ok (.iconst 1, 1) := dk_4 (dk_at dksL_law_0 16 rfl rfl)
theorem dL_law_17 : decode cL_law 17 = .ok (.newarray .long, 2) := dk_188_11 (dk_at dksL_law_0 17 rfl rfl)
theorem dL_law_19 : decode cL_law 19 = .ok (.astore_n 3, 1) := dk_78 (dk_at dksL_law_0 19 rfl rfl)
theorem dL_law_20 : decode cL_law 20 = .ok (.iconst 0, 1) := dk_3 (dk_at dksL_law_0 20 rfl rfl)
theorem dL_law_21 : decode cL_law 21 = .ok (.istore 4, 2) := dk_54 4 (dk_at dksL_law_0 21 rfl rfl)
theorem dL_law_23 : decode cL_law 23 = .ok (.iload 4, 2) := dk_21 4 (dk_at dksL_law_1 0 rfl rfl)
theorem dL_law_25 : decode cL_law 25 = .ok (.aload_n 0, 1) := dk_42 (dk_at dksL_law_1 2 rfl rfl)
theorem dL_law_26 : decode cL_law 26 = .ok (.arraylength, 1) := dk_190 (dk_at dksL_law_1 3 rfl rfl)
theorem dL_law_27 : decode cL_law 27 = .ok (.iconst 5, 1) := dk_8 (dk_at dksL_law_1 4 rfl rfl)
theorem dL_law_28 : decode cL_law 28 = .ok (.isub, 1) := dk_100 (dk_at dksL_law_1 5 rfl rfl)
theorem dL_law_29 : decode cL_law 29 = .ok (.if_icmp .gt 970, 3) := dk_163 3 202 (dk_at dksL_law_1 6 rfl rfl)
theorem dL_law_32 : decode cL_law 32 = .ok (.aload_n 0, 1) := dk_42 (dk_at dksL_law_1 9 rfl rfl)
theorem dL_law_33 : decode cL_law 33 = .ok (.iload 4, 2) := dk_21 4 (dk_at dksL_law_1 10 rfl rfl)
theorem dL_law_35 : decode cL_law 35 = .ok (.iaload, 1) := dk_46 (dk_at dksL_law_1 12 rfl rfl)
theorem dL_law_36 : decode cL_law 36 = .ok (.bipush 15, 2) := dk_16 15 (dk_at dksL_law_1 13 rfl rfl)
theorem dL_law_38 : decode cL_law 38 = .ok (.iand, 1) := dk_126 (dk_at dksL_law_1 15 rfl rfl)
theorem dL_law_39 : decode cL_law 39 = .ok (.tableswitch 954 0 14 #[73, 141, 233, 325, 417, 430, 486, 499, 555, 623, 698, 754, 767, 823, 886], 73) := by decide +kernel
theorem dL_law_112 : decode cL_law 112 = .ok (.aload_n 1, 1) := dk_43 (dk_at dksL_law_3 0 rfl rfl)
theorem dL_law_113 : decode cL_law 113 = .ok (.aload_n 0, 1) := dk_42 (dk_at dksL_law_3 1 rfl rfl)
theorem dL_law_114 : decode cL_law 114 = .ok (.iload 4, 2) := dk_21 4 (dk_at dksL_law_3 2 rfl rfl)
theorem dL_law_116 : decode cL_law 116 = .ok (.iconst 1, 1) := dk_4 (dk_at dksL_law_3 4 rfl rfl)
theorem dL_law_117 : decode cL_law 117 = .ok (.iadd, 1) := dk_96 (dk_at dksL_law_3 5 rfl rfl)
theorem dL_law_118 : decode cL_law 118 = .ok (.iaload, 1) := dk_46 (dk_at dksL_law_3 6 rfl rfl)
theorem dL_law_119 : decode cL_law 119 = .ok (.aload_n 0, 1) := dk_42 (dk_at dksL_law_3 7 rfl rfl)
theorem dL_law_120 : decode cL_law 120 = .ok (.iload 4, 2) := dk_21 4 (dk_at dksL_law_3 8 rfl rfl)
theorem dL_law_122 : decode cL_law 122 = .ok (.iconst 2, 1) := dk_5 (dk_at dksL_law_3 10 rfl rfl)
theorem dL_law_123 : decode cL_law 123 = .ok (.iadd, 1) := dk_96 (dk_at dksL_law_3 11 rfl rfl)
theorem dL_law_124 : decode cL_law 124 = .ok (.iaload, 1) := dk_46 (dk_at dksL_law_3 12 rfl rfl)
theorem dL_law_125 : decode cL_law 125 = .ok (.aload_n 3, 1) := dk_45 (dk_at dksL_law_3 13 rfl rfl)
theorem dL_law_126 : decode cL_law 126 = .ok (.invokestatic 62, 3) := dk_184 0 62 (dk_at dksL_law_3 14 rfl rfl)
theorem dL_law_129 : decode cL_law 129 = .ok (.istore 5, 2) := dk_54 5 (dk_at dksL_law_3 17 rfl rfl)
theorem dL_law_131 : decode cL_law 131 = .ok (.aload_n 2, 1) := dk_44 (dk_at dksL_law_3 19 rfl rfl)
theorem dL_law_132 : decode cL_law 132 = .ok (.aload_n 0, 1) := dk_42 (dk_at dksL_law_3 20 rfl rfl)
theorem dL_law_133 : decode cL_law 133 = .ok (.iload 4, 2) := dk_21 4 (dk_at dksL_law_3 21 rfl rfl)
theorem dL_law_135 : decode cL_law 135 = .ok (.iconst 1, 1) := dk_4 (dk_at dksL_law_3 23 rfl rfl)
theorem dL_law_136 : decode cL_law 136 = .ok (.iadd, 1) := dk_96 (dk_at dksL_law_4 0 rfl rfl)
theorem dL_law_137 : decode cL_law 137 = .ok (.iaload, 1) := dk_46 (dk_at dksL_law_4 1 rfl rfl)
theorem dL_law_138 : decode cL_law 138 = .ok (.aload_n 0, 1) := dk_42 (dk_at dksL_law_4 2 rfl rfl)
theorem dL_law_139 : decode cL_law 139 = .ok (.iload 4, 2) := dk_21 4 (dk_at dksL_law_4 3 rfl rfl)
theorem dL_law_141 : decode cL_law 141 = .ok (.iconst 2, 1) := dk_5 (dk_at dksL_law_4 5 rfl rfl)
theorem dL_law_142 : decode cL_law 142 = .ok (.iadd, 1) := dk_96 (dk_at dksL_law_4 6 rfl rfl)
theorem dL_law_143 : decode cL_law 143 = .ok (.iaload, 1) := dk_46 (dk_at dksL_law_4 7 rfl rfl)
theorem dL_law_144 : decode cL_law 144 = .ok (.invokevirtual 67, 3) := dk_182 0 67 (dk_at dksL_law_4 8 rfl rfl)
theorem dL_law_147 : decode cL_law 147 = .ok (.istore 6, 2) := dk_54 6 (dk_at dksL_law_4 11 rfl rfl)
theorem dL_law_149 : decode cL_law 149 = .ok (.aload_n 2, 1) := dk_44 (dk_at dksL_law_4 13 rfl rfl)
theorem dL_law_150 : decode cL_law 150 = .ok (.invokevirtual 68, 3) := dk_182 0 68 (dk_at dksL_law_4 14 rfl rfl)
theorem dL_law_153 : decode cL_law 153 = .ok (.iload 5, 2) := dk_21 5 (dk_at dksL_law_4 17 rfl rfl)
theorem dL_law_155 : decode cL_law 155 = .ok (.if_icmp .eq 5, 3) := dk_159 0 5 (dk_at dksL_law_4 19 rfl rfl)
theorem dL_law_158 : decode cL_law 158 = .ok (.iconst 0, 1) := dk_3 (dk_at dksL_law_4 22 rfl rfl)
theorem dL_law_159 : decode cL_law 159 = .ok (.ireturn, 1) := dk_172 (dk_at dksL_law_4 23 rfl rfl)
theorem dL_law_160 : decode cL_law 160 = .ok (.iload 5, 2) := dk_21 5 (dk_at dksL_law_5 0 rfl rfl)
theorem dL_law_162 : decode cL_law 162 = .ok (.ifCond .ne 15, 3) := dk_154 0 15 (dk_at dksL_law_5 2 rfl rfl)
theorem dL_law_165 : decode cL_law 165 = .ok (.aload_n 3, 1) := dk_45 (dk_at dksL_law_5 5 rfl rfl)
theorem dL_law_166 : decode cL_law 166 = .ok (.iconst 0, 1) := dk_3 (dk_at dksL_law_5 6 rfl rfl)
theorem dL_law_167 : decode cL_law 167 = .ok (.laload, 1) := dk_47 (dk_at dksL_law_5 7 rfl rfl)
theorem dL_law_168 : decode cL_law 168 = .ok (.iload 6, 2) := dk_21 6 (dk_at dksL_law_5 8 rfl rfl)
theorem dL_law_170 : decode cL_law 170 = .ok (.i2l, 1) := dk_133 (dk_at dksL_law_5 10 rfl rfl)
theorem dL_law_171 : decode cL_law 171 = .ok (.lcmp, 1) := dk_148 (dk_at dksL_law_5 11 rfl rfl)
theorem dL_law_172 : decode cL_law 172 = .ok (.ifCond .eq 5, 3) := dk_153 0 5 (dk_at dksL_law_5 12 rfl rfl)
theorem dL_law_175 : decode cL_law 175 = .ok (.iconst 0, 1) := dk_3 (dk_at dksL_law_5 15 rfl rfl)
theorem dL_law_176 : decode cL_law 176 = .ok (.ireturn, 1) := dk_172 (dk_at dksL_law_5 16 rfl rfl)
theorem dL_law_177 : decode cL_law 177 = .ok (.goto 816, 3) := dk_167 3 48 (dk_at dksL_law_5 17 rfl rfl)
theorem dL_law_180 : decode cL_law 180 = .ok (.aload_n 1, 1) := dk_43 (dk_at dksL_law_5 20 rfl rfl)
theorem dL_law_181 : decode cL_law 181 = .ok (.aload_n 0, 1) := dk_42 (dk_at dksL_law_5 21 rfl rfl)
theorem dL_law_182 : decode cL_law 182 = .ok (.iload 4, 2) := dk_21 4 (dk_at dksL_law_5 22 rfl rfl)
theorem dL_law_184 : decode cL_law 184 = .ok (.iconst 1, 1) := dk_4 (dk_at dksL_law_6 0 rfl rfl)
theorem dL_law_185 : decode cL_law 185 = .ok (.iadd, 1) := dk_96 (dk_at dksL_law_6 1 rfl rfl)
theorem dL_law_186 : decode cL_law 186 = .ok (.iaload, 1) := dk_46 (dk_at dksL_law_6 2 rfl rfl)
theorem dL_law_187 : decode cL_law 187 = .ok (.aload_n 0, 1) := dk_42 (dk_at dksL_law_6 3 rfl rfl)
theorem dL_law_188 : decode cL_law 188 = .ok (.iload 4, 2) := dk_21 4 (dk_at dksL_law_6 4 rfl rfl)
theorem dL_law_190 : decode cL_law 190 = .ok (.iconst 2, 1) := dk_5 (dk_at dksL_law_6 6 rfl rfl)
theorem dL_law_191 : decode cL_law 191 = .ok (.iadd, 1) := dk_96 (dk_at dksL_law_6 7 rfl rfl)
theorem dL_law_192 : decode cL_law 192 = .ok (.iaload, 1) := dk_46 (dk_at dksL_law_6 8 rfl rfl)
theorem dL_law_193 : decode cL_law 193 = .ok (.aload_n 0, 1) := dk_42 (dk_at dksL_law_6 9 rfl rfl)
theorem dL_law_194 : decode cL_law 194 = .ok (.iload 4, 2) := dk_21 4 (dk_at dksL_law_6 10 rfl rfl)
theorem dL_law_196 : decode cL_law 196 = .ok (.iconst 3, 1) := dk_6 (dk_at dksL_law_6 12 rfl rfl)
theorem dL_law_197 : decode cL_law 197 = .ok (.iadd, 1) := dk_96 (dk_at dksL_law_6 13 rfl rfl)
theorem dL_law_198 : decode cL_law 198 = .ok (.iaload, 1) := dk_46 (dk_at dksL_law_6 14 rfl rfl)
theorem dL_law_199 : decode cL_law 199 = .ok (.aload_n 0, 1) := dk_42 (dk_at dksL_law_6 15 rfl rfl)
theorem dL_law_200 : decode cL_law 200 = .ok (.iload 4, 2) := dk_21 4 (dk_at dksL_law_6 16 rfl rfl)
theorem dL_law_202 : decode cL_law 202 = .ok (.iconst 4, 1) := dk_7 (dk_at dksL_law_6 18 rfl rfl)
theorem dL_law_203 : decode cL_law 203 = .ok (.iadd, 1) := dk_96 (dk_at dksL_law_6 19 rfl rfl)
theorem dL_law_204 : decode cL_law 204 = .ok (.iaload, 1) := dk_46 (dk_at dksL_law_6 20 rfl rfl)
theorem dL_law_205 : decode cL_law 205 = .ok (.aload_n 3, 1) := dk_45 (dk_at dksL_law_6 21 rfl rfl)
theorem dL_law_206 : decode cL_law 206 = .ok (.invokestatic 72, 3) := dk_184 0 72 (dk_at dksL_law_7 0 rfl rfl)
theorem dL_law_209 : decode cL_law 209 = .ok (.istore 5, 2) := dk_54 5 (dk_at dksL_law_7 3 rfl rfl)
theorem dL_law_211 : decode cL_law 211 = .ok (.aload_n 2, 1) := dk_44 (dk_at dksL_law_7 5 rfl rfl)
theorem dL_law_212 : decode cL_law 212 = .ok (.aload_n 0, 1) := dk_42 (dk_at dksL_law_7 6 rfl rfl)
theorem dL_law_213 : decode cL_law 213 = .ok (.iload 4, 2) := dk_21 4 (dk_at dksL_law_7 7 rfl rfl)
theorem dL_law_215 : decode cL_law 215 = .ok (.iconst 1, 1) := dk_4 (dk_at dksL_law_7 9 rfl rfl)
theorem dL_law_216 : decode cL_law 216 = .ok (.iadd, 1) := dk_96 (dk_at dksL_law_7 10 rfl rfl)
theorem dL_law_217 : decode cL_law 217 = .ok (.iaload, 1) := dk_46 (dk_at dksL_law_7 11 rfl rfl)
theorem dL_law_218 : decode cL_law 218 = .ok (.aload_n 0, 1) := dk_42 (dk_at dksL_law_7 12 rfl rfl)
theorem dL_law_219 : decode cL_law 219 = .ok (.iload 4, 2) := dk_21 4 (dk_at dksL_law_7 13 rfl rfl)
theorem dL_law_221 : decode cL_law 221 = .ok (.iconst 2, 1) := dk_5 (dk_at dksL_law_7 15 rfl rfl)
theorem dL_law_222 : decode cL_law 222 = .ok (.iadd, 1) := dk_96 (dk_at dksL_law_7 16 rfl rfl)
theorem dL_law_223 : decode cL_law 223 = .ok (.iaload, 1) := dk_46 (dk_at dksL_law_7 17 rfl rfl)
theorem dL_law_224 : decode cL_law 224 = .ok (.aload_n 0, 1) := dk_42 (dk_at dksL_law_7 18 rfl rfl)
theorem dL_law_225 : decode cL_law 225 = .ok (.iload 4, 2) := dk_21 4 (dk_at dksL_law_7 19 rfl rfl)
theorem dL_law_227 : decode cL_law 227 = .ok (.iconst 3, 1) := dk_6 (dk_at dksL_law_7 21 rfl rfl)
theorem dL_law_228 : decode cL_law 228 = .ok (.iadd, 1) := dk_96 (dk_at dksL_law_7 22 rfl rfl)
theorem dL_law_229 : decode cL_law 229 = .ok (.iaload, 1) := dk_46 (dk_at dksL_law_7 23 rfl rfl)
theorem dL_law_230 : decode cL_law 230 = .ok (.aload_n 0, 1) := dk_42 (dk_at dksL_law_8 0 rfl rfl)
theorem dL_law_231 : decode cL_law 231 = .ok (.iload 4, 2) := dk_21 4 (dk_at dksL_law_8 1 rfl rfl)
theorem dL_law_233 : decode cL_law 233 = .ok (.iconst 4, 1) := dk_7 (dk_at dksL_law_8 3 rfl rfl)
theorem dL_law_234 : decode cL_law 234 = .ok (.iadd, 1) := dk_96 (dk_at dksL_law_8 4 rfl rfl)
theorem dL_law_235 : decode cL_law 235 = .ok (.iaload, 1) := dk_46 (dk_at dksL_law_8 5 rfl rfl)
theorem dL_law_236 : decode cL_law 236 = .ok (.invokevirtual 75, 3) := dk_182 0 75 (dk_at dksL_law_8 6 rfl rfl)
theorem dL_law_239 : decode cL_law 239 = .ok (.istore 6, 2) := dk_54 6 (dk_at dksL_law_8 9 rfl rfl)
theorem dL_law_241 : decode cL_law 241 = .ok (.aload_n 2, 1) := dk_44 (dk_at dksL_law_8 11 rfl rfl)
theorem dL_law_242 : decode cL_law 242 = .ok (.invokevirtual 68, 3) := dk_182 0 68 (dk_at dksL_law_8 12 rfl rfl)
theorem dL_law_245 : decode cL_law 245 = .ok (.iload 5, 2) := dk_21 5 (dk_at dksL_law_8 15 rfl rfl)
theorem dL_law_247 : decode cL_law 247 = .ok (.if_icmp .eq 5, 3) := dk_159 0 5 (dk_at dksL_law_8 17 rfl rfl)
theorem dL_law_250 : decode cL_law 250 = .ok (.iconst 0, 1) := dk_3 (dk_at dksL_law_8 20 rfl rfl)
theorem dL_law_251 : decode cL_law 251 = .ok (.ireturn, 1) := dk_172 (dk_at dksL_law_8 21 rfl rfl)
theorem dL_law_252 : decode cL_law 252 = .ok (.iload 5, 2) := dk_21 5 (dk_at dksL_law_8 22 rfl rfl)
theorem dL_law_254 : decode cL_law 254 = .ok (.ifCond .ne 15, 3) := dk_154 0 15 (dk_at dksL_law_9 0 rfl rfl)
theorem dL_law_257 : decode cL_law 257 = .ok (.aload_n 3, 1) := dk_45 (dk_at dksL_law_9 3 rfl rfl)
theorem dL_law_258 : decode cL_law 258 = .ok (.iconst 0, 1) := dk_3 (dk_at dksL_law_9 4 rfl rfl)
theorem dL_law_259 : decode cL_law 259 = .ok (.laload, 1) := dk_47 (dk_at dksL_law_9 5 rfl rfl)
theorem dL_law_260 : decode cL_law 260 = .ok (.iload 6, 2) := dk_21 6 (dk_at dksL_law_9 6 rfl rfl)
theorem dL_law_262 : decode cL_law 262 = .ok (.i2l, 1) := dk_133 (dk_at dksL_law_9 8 rfl rfl)
theorem dL_law_263 : decode cL_law 263 = .ok (.lcmp, 1) := dk_148 (dk_at dksL_law_9 9 rfl rfl)
theorem dL_law_264 : decode cL_law 264 = .ok (.ifCond .eq 5, 3) := dk_153 0 5 (dk_at dksL_law_9 10 rfl rfl)
theorem dL_law_267 : decode cL_law 267 = .ok (.iconst 0, 1) := dk_3 (dk_at dksL_law_9 13 rfl rfl)
theorem dL_law_268 : decode cL_law 268 = .ok (.ireturn, 1) := dk_172 (dk_at dksL_law_9 14 rfl rfl)
theorem dL_law_269 : decode cL_law 269 = .ok (.goto 724, 3) := dk_167 2 212 (dk_at dksL_law_9 15 rfl rfl)
theorem dL_law_272 : decode cL_law 272 = .ok (.aload_n 1, 1) := dk_43 (dk_at dksL_law_9 18 rfl rfl)
theorem dL_law_273 : decode cL_law 273 = .ok (.aload_n 0, 1) := dk_42 (dk_at dksL_law_9 19 rfl rfl)
theorem dL_law_274 : decode cL_law 274 = .ok (.iload 4, 2) := dk_21 4 (dk_at dksL_law_9 20 rfl rfl)
theorem dL_law_276 : decode cL_law 276 = .ok (.iconst 1, 1) := dk_4 (dk_at dksL_law_9 22 rfl rfl)
theorem dL_law_277 : decode cL_law 277 = .ok (.iadd, 1) := dk_96 (dk_at dksL_law_9 23 rfl rfl)
theorem dL_law_278 : decode cL_law 278 = .ok (.iaload, 1) := dk_46 (dk_at dksL_law_10 0 rfl rfl)
theorem dL_law_279 : decode cL_law 279 = .ok (.aload_n 0, 1) := dk_42 (dk_at dksL_law_10 1 rfl rfl)
theorem dL_law_280 : decode cL_law 280 = .ok (.iload 4, 2) := dk_21 4 (dk_at dksL_law_10 2 rfl rfl)
theorem dL_law_282 : decode cL_law 282 = .ok (.iconst 2, 1) := dk_5 (dk_at dksL_law_10 4 rfl rfl)
theorem dL_law_283 : decode cL_law 283 = .ok (.iadd, 1) := dk_96 (dk_at dksL_law_10 5 rfl rfl)
theorem dL_law_284 : decode cL_law 284 = .ok (.iaload, 1) := dk_46 (dk_at dksL_law_10 6 rfl rfl)
theorem dL_law_285 : decode cL_law 285 = .ok (.aload_n 0, 1) := dk_42 (dk_at dksL_law_10 7 rfl rfl)
theorem dL_law_286 : decode cL_law 286 = .ok (.iload 4, 2) := dk_21 4 (dk_at dksL_law_10 8 rfl rfl)
theorem dL_law_288 : decode cL_law 288 = .ok (.iconst 3, 1) := dk_6 (dk_at dksL_law_10 10 rfl rfl)
theorem dL_law_289 : decode cL_law 289 = .ok (.iadd, 1) := dk_96 (dk_at dksL_law_10 11 rfl rfl)
theorem dL_law_290 : decode cL_law 290 = .ok (.iaload, 1) := dk_46 (dk_at dksL_law_10 12 rfl rfl)
theorem dL_law_291 : decode cL_law 291 = .ok (.aload_n 0, 1) := dk_42 (dk_at dksL_law_10 13 rfl rfl)
theorem dL_law_292 : decode cL_law 292 = .ok (.iload 4, 2) := dk_21 4 (dk_at dksL_law_10 14 rfl rfl)
theorem dL_law_294 : decode cL_law 294 = .ok (.iconst 4, 1) := dk_7 (dk_at dksL_law_10 16 rfl rfl)
theorem dL_law_295 : decode cL_law 295 = .ok (.iadd, 1) := dk_96 (dk_at dksL_law_10 17 rfl rfl)
theorem dL_law_296 : decode cL_law 296 = .ok (.iaload, 1) := dk_46 (dk_at dksL_law_10 18 rfl rfl)
theorem dL_law_297 : decode cL_law 297 = .ok (.aload_n 3, 1) := dk_45 (dk_at dksL_law_10 19 rfl rfl)
theorem dL_law_298 : decode cL_law 298 = .ok (.invokestatic 76, 3) := dk_184 0 76 (dk_at dksL_law_10 20 rfl rfl)
theorem dL_law_301 : decode cL_law 301 = .ok (.istore 5, 2) := dk_54 5 (dk_at dksL_law_11 0 rfl rfl)
theorem dL_law_303 : decode cL_law 303 = .ok (.aload_n 2, 1) := dk_44 (dk_at dksL_law_11 2 rfl rfl)
theorem dL_law_304 : decode cL_law 304 = .ok (.aload_n 0, 1) := dk_42 (dk_at dksL_law_11 3 rfl rfl)
theorem dL_law_305 : decode cL_law 305 = .ok (.iload 4, 2) := dk_21 4 (dk_at dksL_law_11 4 rfl rfl)
theorem dL_law_307 : decode cL_law 307 = .ok (.iconst 1, 1) := dk_4 (dk_at dksL_law_11 6 rfl rfl)
theorem dL_law_308 : decode cL_law 308 = .ok (.iadd, 1) := dk_96 (dk_at dksL_law_11 7 rfl rfl)
theorem dL_law_309 : decode cL_law 309 = .ok (.iaload, 1) := dk_46 (dk_at dksL_law_11 8 rfl rfl)
theorem dL_law_310 : decode cL_law 310 = .ok (.aload_n 0, 1) := dk_42 (dk_at dksL_law_11 9 rfl rfl)
theorem dL_law_311 : decode cL_law 311 = .ok (.iload 4, 2) := dk_21 4 (dk_at dksL_law_11 10 rfl rfl)
theorem dL_law_313 : decode cL_law 313 = .ok (.iconst 2, 1) := dk_5 (dk_at dksL_law_11 12 rfl rfl)
theorem dL_law_314 : decode cL_law 314 = .ok (.iadd, 1) := dk_96 (dk_at dksL_law_11 13 rfl rfl)
theorem dL_law_315 : decode cL_law 315 = .ok (.iaload, 1) := dk_46 (dk_at dksL_law_11 14 rfl rfl)
theorem dL_law_316 : decode cL_law 316 = .ok (.aload_n 0, 1) := dk_42 (dk_at dksL_law_11 15 rfl rfl)
theorem dL_law_317 : decode cL_law 317 = .ok (.iload 4, 2) := dk_21 4 (dk_at dksL_law_11 16 rfl rfl)
theorem dL_law_319 : decode cL_law 319 = .ok (.iconst 3, 1) := dk_6 (dk_at dksL_law_11 18 rfl rfl)
theorem dL_law_320 : decode cL_law 320 = .ok (.iadd, 1) := dk_96 (dk_at dksL_law_11 19 rfl rfl)
theorem dL_law_321 : decode cL_law 321 = .ok (.iaload, 1) := dk_46 (dk_at dksL_law_11 20 rfl rfl)
theorem dL_law_322 : decode cL_law 322 = .ok (.aload_n 0, 1) := dk_42 (dk_at dksL_law_11 21 rfl rfl)
theorem dL_law_323 : decode cL_law 323 = .ok (.iload 4, 2) := dk_21 4 (dk_at dksL_law_11 22 rfl rfl)
theorem dL_law_325 : decode cL_law 325 = .ok (.iconst 4, 1) := dk_7 (dk_at dksL_law_12 0 rfl rfl)
theorem dL_law_326 : decode cL_law 326 = .ok (.iadd, 1) := dk_96 (dk_at dksL_law_12 1 rfl rfl)
theorem dL_law_327 : decode cL_law 327 = .ok (.iaload, 1) := dk_46 (dk_at dksL_law_12 2 rfl rfl)
theorem dL_law_328 : decode cL_law 328 = .ok (.invokevirtual 78, 3) := dk_182 0 78 (dk_at dksL_law_12 3 rfl rfl)
theorem dL_law_331 : decode cL_law 331 = .ok (.istore 6, 2) := dk_54 6 (dk_at dksL_law_12 6 rfl rfl)
theorem dL_law_333 : decode cL_law 333 = .ok (.aload_n 2, 1) := dk_44 (dk_at dksL_law_12 8 rfl rfl)
theorem dL_law_334 : decode cL_law 334 = .ok (.invokevirtual 68, 3) := dk_182 0 68 (dk_at dksL_law_12 9 rfl rfl)
theorem dL_law_337 : decode cL_law 337 = .ok (.iload 5, 2) := dk_21 5 (dk_at dksL_law_12 12 rfl rfl)
theorem dL_law_339 : decode cL_law 339 = .ok (.if_icmp .eq 5, 3) := dk_159 0 5 (dk_at dksL_law_12 14 rfl rfl)
theorem dL_law_342 : decode cL_law 342 = .ok (.iconst 0, 1) := dk_3 (dk_at dksL_law_12 17 rfl rfl)
theorem dL_law_343 : decode cL_law 343 = .ok (.ireturn, 1) := dk_172 (dk_at dksL_law_12 18 rfl rfl)
theorem dL_law_344 : decode cL_law 344 = .ok (.iload 5, 2) := dk_21 5 (dk_at dksL_law_12 19 rfl rfl)
theorem dL_law_346 : decode cL_law 346 = .ok (.ifCond .ne 15, 3) := dk_154 0 15 (dk_at dksL_law_12 21 rfl rfl)
theorem dL_law_349 : decode cL_law 349 = .ok (.aload_n 3, 1) := dk_45 (dk_at dksL_law_13 0 rfl rfl)
theorem dL_law_350 : decode cL_law 350 = .ok (.iconst 0, 1) := dk_3 (dk_at dksL_law_13 1 rfl rfl)
theorem dL_law_351 : decode cL_law 351 = .ok (.laload, 1) := dk_47 (dk_at dksL_law_13 2 rfl rfl)
theorem dL_law_352 : decode cL_law 352 = .ok (.iload 6, 2) := dk_21 6 (dk_at dksL_law_13 3 rfl rfl)
theorem dL_law_354 : decode cL_law 354 = .ok (.i2l, 1) := dk_133 (dk_at dksL_law_13 5 rfl rfl)
theorem dL_law_355 : decode cL_law 355 = .ok (.lcmp, 1) := dk_148 (dk_at dksL_law_13 6 rfl rfl)
theorem dL_law_356 : decode cL_law 356 = .ok (.ifCond .eq 5, 3) := dk_153 0 5 (dk_at dksL_law_13 7 rfl rfl)
theorem dL_law_359 : decode cL_law 359 = .ok (.iconst 0, 1) := dk_3 (dk_at dksL_law_13 10 rfl rfl)
theorem dL_law_360 : decode cL_law 360 = .ok (.ireturn, 1) := dk_172 (dk_at dksL_law_13 11 rfl rfl)
theorem dL_law_361 : decode cL_law 361 = .ok (.goto 632, 3) := dk_167 2 120 (dk_at dksL_law_13 12 rfl rfl)
theorem dL_law_364 : decode cL_law 364 = .ok (.aload_n 1, 1) := dk_43 (dk_at dksL_law_13 15 rfl rfl)
theorem dL_law_365 : decode cL_law 365 = .ok (.aload_n 0, 1) := dk_42 (dk_at dksL_law_13 16 rfl rfl)
theorem dL_law_366 : decode cL_law 366 = .ok (.iload 4, 2) := dk_21 4 (dk_at dksL_law_13 17 rfl rfl)
theorem dL_law_368 : decode cL_law 368 = .ok (.iconst 1, 1) := dk_4 (dk_at dksL_law_13 19 rfl rfl)
theorem dL_law_369 : decode cL_law 369 = .ok (.iadd, 1) := dk_96 (dk_at dksL_law_13 20 rfl rfl)
theorem dL_law_370 : decode cL_law 370 = .ok (.iaload, 1) := dk_46 (dk_at dksL_law_13 21 rfl rfl)
theorem dL_law_371 : decode cL_law 371 = .ok (.aload_n 0, 1) := dk_42 (dk_at dksL_law_13 22 rfl rfl)
theorem dL_law_372 : decode cL_law 372 = .ok (.iload 4, 2) := dk_21 4 (dk_at dksL_law_14 0 rfl rfl)
theorem dL_law_374 : decode cL_law 374 = .ok (.iconst 2, 1) := dk_5 (dk_at dksL_law_14 2 rfl rfl)
theorem dL_law_375 : decode cL_law 375 = .ok (.iadd, 1) := dk_96 (dk_at dksL_law_14 3 rfl rfl)
theorem dL_law_376 : decode cL_law 376 = .ok (.iaload, 1) := dk_46 (dk_at dksL_law_14 4 rfl rfl)
theorem dL_law_377 : decode cL_law 377 = .ok (.aload_n 0, 1) := dk_42 (dk_at dksL_law_14 5 rfl rfl)
theorem dL_law_378 : decode cL_law 378 = .ok (.iload 4, 2) := dk_21 4 (dk_at dksL_law_14 6 rfl rfl)
theorem dL_law_380 : decode cL_law 380 = .ok (.iconst 3, 1) := dk_6 (dk_at dksL_law_14 8 rfl rfl)
theorem dL_law_381 : decode cL_law 381 = .ok (.iadd, 1) := dk_96 (dk_at dksL_law_14 9 rfl rfl)
theorem dL_law_382 : decode cL_law 382 = .ok (.iaload, 1) := dk_46 (dk_at dksL_law_14 10 rfl rfl)
theorem dL_law_383 : decode cL_law 383 = .ok (.aload_n 0, 1) := dk_42 (dk_at dksL_law_14 11 rfl rfl)
theorem dL_law_384 : decode cL_law 384 = .ok (.iload 4, 2) := dk_21 4 (dk_at dksL_law_14 12 rfl rfl)
theorem dL_law_386 : decode cL_law 386 = .ok (.iconst 4, 1) := dk_7 (dk_at dksL_law_14 14 rfl rfl)
theorem dL_law_387 : decode cL_law 387 = .ok (.iadd, 1) := dk_96 (dk_at dksL_law_14 15 rfl rfl)
theorem dL_law_388 : decode cL_law 388 = .ok (.iaload, 1) := dk_46 (dk_at dksL_law_14 16 rfl rfl)
theorem dL_law_389 : decode cL_law 389 = .ok (.aload_n 3, 1) := dk_45 (dk_at dksL_law_14 17 rfl rfl)
theorem dL_law_390 : decode cL_law 390 = .ok (.invokestatic 79, 3) := dk_184 0 79 (dk_at dksL_law_14 18 rfl rfl)
theorem dL_law_393 : decode cL_law 393 = .ok (.istore 5, 2) := dk_54 5 (dk_at dksL_law_14 21 rfl rfl)
theorem dL_law_395 : decode cL_law 395 = .ok (.aload_n 2, 1) := dk_44 (dk_at dksL_law_14 23 rfl rfl)
theorem dL_law_396 : decode cL_law 396 = .ok (.aload_n 0, 1) := dk_42 (dk_at dksL_law_15 0 rfl rfl)
theorem dL_law_397 : decode cL_law 397 = .ok (.iload 4, 2) := dk_21 4 (dk_at dksL_law_15 1 rfl rfl)
theorem dL_law_399 : decode cL_law 399 = .ok (.iconst 1, 1) := dk_4 (dk_at dksL_law_15 3 rfl rfl)
theorem dL_law_400 : decode cL_law 400 = .ok (.iadd, 1) := dk_96 (dk_at dksL_law_15 4 rfl rfl)
theorem dL_law_401 : decode cL_law 401 = .ok (.iaload, 1) := dk_46 (dk_at dksL_law_15 5 rfl rfl)
theorem dL_law_402 : decode cL_law 402 = .ok (.aload_n 0, 1) := dk_42 (dk_at dksL_law_15 6 rfl rfl)
theorem dL_law_403 : decode cL_law 403 = .ok (.iload 4, 2) := dk_21 4 (dk_at dksL_law_15 7 rfl rfl)
theorem dL_law_405 : decode cL_law 405 = .ok (.iconst 2, 1) := dk_5 (dk_at dksL_law_15 9 rfl rfl)
theorem dL_law_406 : decode cL_law 406 = .ok (.iadd, 1) := dk_96 (dk_at dksL_law_15 10 rfl rfl)
theorem dL_law_407 : decode cL_law 407 = .ok (.iaload, 1) := dk_46 (dk_at dksL_law_15 11 rfl rfl)
theorem dL_law_408 : decode cL_law 408 = .ok (.aload_n 0, 1) := dk_42 (dk_at dksL_law_15 12 rfl rfl)
theorem dL_law_409 : decode cL_law 409 = .ok (.iload 4, 2) := dk_21 4 (dk_at dksL_law_15 13 rfl rfl)
theorem dL_law_411 : decode cL_law 411 = .ok (.iconst 3, 1) := dk_6 (dk_at dksL_law_15 15 rfl rfl)
theorem dL_law_412 : decode cL_law 412 = .ok (.iadd, 1) := dk_96 (dk_at dksL_law_15 16 rfl rfl)
theorem dL_law_413 : decode cL_law 413 = .ok (.iaload, 1) := dk_46 (dk_at dksL_law_15 17 rfl rfl)
theorem dL_law_414 : decode cL_law 414 = .ok (.aload_n 0, 1) := dk_42 (dk_at dksL_law_15 18 rfl rfl)
theorem dL_law_415 : decode cL_law 415 = .ok (.iload 4, 2) := dk_21 4 (dk_at dksL_law_15 19 rfl rfl)
theorem dL_law_417 : decode cL_law 417 = .ok (.iconst 4, 1) := dk_7 (dk_at dksL_law_15 21 rfl rfl)
theorem dL_law_418 : decode cL_law 418 = .ok (.iadd, 1) := dk_96 (dk_at dksL_law_15 22 rfl rfl)
theorem dL_law_419 : decode cL_law 419 = .ok (.iaload, 1) := dk_46 (dk_at dksL_law_15 23 rfl rfl)
theorem dL_law_420 : decode cL_law 420 = .ok (.invokevirtual 81, 3) := dk_182 0 81 (dk_at dksL_law_16 0 rfl rfl)
theorem dL_law_423 : decode cL_law 423 = .ok (.istore 6, 2) := dk_54 6 (dk_at dksL_law_16 3 rfl rfl)
theorem dL_law_425 : decode cL_law 425 = .ok (.aload_n 2, 1) := dk_44 (dk_at dksL_law_16 5 rfl rfl)
theorem dL_law_426 : decode cL_law 426 = .ok (.invokevirtual 68, 3) := dk_182 0 68 (dk_at dksL_law_16 6 rfl rfl)
theorem dL_law_429 : decode cL_law 429 = .ok (.iload 5, 2) := dk_21 5 (dk_at dksL_law_16 9 rfl rfl)
theorem dL_law_431 : decode cL_law 431 = .ok (.if_icmp .eq 5, 3) := dk_159 0 5 (dk_at dksL_law_16 11 rfl rfl)
theorem dL_law_434 : decode cL_law 434 = .ok (.iconst 0, 1) := dk_3 (dk_at dksL_law_16 14 rfl rfl)
theorem dL_law_435 : decode cL_law 435 = .ok (.ireturn, 1) := dk_172 (dk_at dksL_law_16 15 rfl rfl)
theorem dL_law_436 : decode cL_law 436 = .ok (.iload 5, 2) := dk_21 5 (dk_at dksL_law_16 16 rfl rfl)
theorem dL_law_438 : decode cL_law 438 = .ok (.ifCond .ne 15, 3) := dk_154 0 15 (dk_at dksL_law_16 18 rfl rfl)
theorem dL_law_441 : decode cL_law 441 = .ok (.aload_n 3, 1) := dk_45 (dk_at dksL_law_16 21 rfl rfl)
theorem dL_law_442 : decode cL_law 442 = .ok (.iconst 0, 1) := dk_3 (dk_at dksL_law_16 22 rfl rfl)
theorem dL_law_443 : decode cL_law 443 = .ok (.laload, 1) := dk_47 (dk_at dksL_law_16 23 rfl rfl)
theorem dL_law_444 : decode cL_law 444 = .ok (.iload 6, 2) := dk_21 6 (dk_at dksL_law_17 0 rfl rfl)
theorem dL_law_446 : decode cL_law 446 = .ok (.i2l, 1) := dk_133 (dk_at dksL_law_17 2 rfl rfl)
theorem dL_law_447 : decode cL_law 447 = .ok (.lcmp, 1) := dk_148 (dk_at dksL_law_17 3 rfl rfl)
theorem dL_law_448 : decode cL_law 448 = .ok (.ifCond .eq 5, 3) := dk_153 0 5 (dk_at dksL_law_17 4 rfl rfl)
theorem dL_law_451 : decode cL_law 451 = .ok (.iconst 0, 1) := dk_3 (dk_at dksL_law_17 7 rfl rfl)
theorem dL_law_452 : decode cL_law 452 = .ok (.ireturn, 1) := dk_172 (dk_at dksL_law_17 8 rfl rfl)
theorem dL_law_453 : decode cL_law 453 = .ok (.goto 540, 3) := dk_167 2 28 (dk_at dksL_law_17 9 rfl rfl)
theorem dL_law_456 : decode cL_law 456 = .ok (.aload_n 1, 1) := dk_43 (dk_at dksL_law_17 12 rfl rfl)
theorem dL_law_457 : decode cL_law 457 = .ok (.invokevirtual 82, 3) := dk_182 0 82 (dk_at dksL_law_17 13 rfl rfl)
theorem dL_law_460 : decode cL_law 460 = .ok (.aload_n 2, 1) := dk_44 (dk_at dksL_law_17 16 rfl rfl)
theorem dL_law_461 : decode cL_law 461 = .ok (.invokevirtual 85, 3) := dk_182 0 85 (dk_at dksL_law_17 17 rfl rfl)
theorem dL_law_464 : decode cL_law 464 = .ok (.if_icmp .eq 529, 3) := dk_159 2 17 (dk_at dksL_law_17 20 rfl rfl)
theorem dL_law_467 : decode cL_law 467 = .ok (.iconst 0, 1) := dk_3 (dk_at dksL_law_17 23 rfl rfl)
theorem dL_law_468 : decode cL_law 468 = .ok (.ireturn, 1) := dk_172 (dk_at dksL_law_18 0 rfl rfl)
theorem dL_law_469 : decode cL_law 469 = .ok (.aload_n 1, 1) := dk_43 (dk_at dksL_law_18 1 rfl rfl)
theorem dL_law_470 : decode cL_law 470 = .ok (.aload_n 0, 1) := dk_42 (dk_at dksL_law_18 2 rfl rfl)
theorem dL_law_471 : decode cL_law 471 = .ok (.iload 4, 2) := dk_21 4 (dk_at dksL_law_18 3 rfl rfl)
theorem dL_law_473 : decode cL_law 473 = .ok (.iconst 1, 1) := dk_4 (dk_at dksL_law_18 5 rfl rfl)
theorem dL_law_474 : decode cL_law 474 = .ok (.iadd, 1) := dk_96 (dk_at dksL_law_18 6 rfl rfl)
theorem dL_law_475 : decode cL_law 475 = .ok (.iaload, 1) := dk_46 (dk_at dksL_law_18 7 rfl rfl)
theorem dL_law_476 : decode cL_law 476 = .ok (.aload_n 3, 1) := dk_45 (dk_at dksL_law_18 8 rfl rfl)
theorem dL_law_477 : decode cL_law 477 = .ok (.invokestatic 86, 3) := dk_184 0 86 (dk_at dksL_law_18 9 rfl rfl)
theorem dL_law_480 : decode cL_law 480 = .ok (.istore 5, 2) := dk_54 5 (dk_at dksL_law_18 12 rfl rfl)
theorem dL_law_482 : decode cL_law 482 = .ok (.aload_n 2, 1) := dk_44 (dk_at dksL_law_18 14 rfl rfl)
theorem dL_law_483 : decode cL_law 483 = .ok (.aload_n 0, 1) := dk_42 (dk_at dksL_law_18 15 rfl rfl)
theorem dL_law_484 : decode cL_law 484 = .ok (.iload 4, 2) := dk_21 4 (dk_at dksL_law_18 16 rfl rfl)
theorem dL_law_486 : decode cL_law 486 = .ok (.iconst 1, 1) := dk_4 (dk_at dksL_law_18 18 rfl rfl)
theorem dL_law_487 : decode cL_law 487 = .ok (.iadd, 1) := dk_96 (dk_at dksL_law_18 19 rfl rfl)
theorem dL_law_488 : decode cL_law 488 = .ok (.iaload, 1) := dk_46 (dk_at dksL_law_18 20 rfl rfl)
theorem dL_law_489 : decode cL_law 489 = .ok (.invokevirtual 89, 3) := dk_182 0 89 (dk_at dksL_law_18 21 rfl rfl)
theorem dL_law_492 : decode cL_law 492 = .ok (.istore 6, 2) := dk_54 6 (dk_at dksL_law_19 0 rfl rfl)
theorem dL_law_494 : decode cL_law 494 = .ok (.aload_n 2, 1) := dk_44 (dk_at dksL_law_19 2 rfl rfl)
theorem dL_law_495 : decode cL_law 495 = .ok (.invokevirtual 68, 3) := dk_182 0 68 (dk_at dksL_law_19 3 rfl rfl)
theorem dL_law_498 : decode cL_law 498 = .ok (.iload 5, 2) := dk_21 5 (dk_at dksL_law_19 6 rfl rfl)
theorem dL_law_500 : decode cL_law 500 = .ok (.if_icmp .eq 5, 3) := dk_159 0 5 (dk_at dksL_law_19 8 rfl rfl)
theorem dL_law_503 : decode cL_law 503 = .ok (.iconst 0, 1) := dk_3 (dk_at dksL_law_19 11 rfl rfl)
theorem dL_law_504 : decode cL_law 504 = .ok (.ireturn, 1) := dk_172 (dk_at dksL_law_19 12 rfl rfl)
theorem dL_law_505 : decode cL_law 505 = .ok (.iload 5, 2) := dk_21 5 (dk_at dksL_law_19 13 rfl rfl)
theorem dL_law_507 : decode cL_law 507 = .ok (.ifCond .ne 15, 3) := dk_154 0 15 (dk_at dksL_law_19 15 rfl rfl)
theorem dL_law_510 : decode cL_law 510 = .ok (.aload_n 3, 1) := dk_45 (dk_at dksL_law_19 18 rfl rfl)
theorem dL_law_511 : decode cL_law 511 = .ok (.iconst 0, 1) := dk_3 (dk_at dksL_law_19 19 rfl rfl)
theorem dL_law_512 : decode cL_law 512 = .ok (.laload, 1) := dk_47 (dk_at dksL_law_19 20 rfl rfl)
theorem dL_law_513 : decode cL_law 513 = .ok (.iload 6, 2) := dk_21 6 (dk_at dksL_law_19 21 rfl rfl)
theorem dL_law_515 : decode cL_law 515 = .ok (.i2l, 1) := dk_133 (dk_at dksL_law_19 23 rfl rfl)
theorem dL_law_516 : decode cL_law 516 = .ok (.lcmp, 1) := dk_148 (dk_at dksL_law_20 0 rfl rfl)
theorem dL_law_517 : decode cL_law 517 = .ok (.ifCond .eq 5, 3) := dk_153 0 5 (dk_at dksL_law_20 1 rfl rfl)
theorem dL_law_520 : decode cL_law 520 = .ok (.iconst 0, 1) := dk_3 (dk_at dksL_law_20 4 rfl rfl)
theorem dL_law_521 : decode cL_law 521 = .ok (.ireturn, 1) := dk_172 (dk_at dksL_law_20 5 rfl rfl)
theorem dL_law_522 : decode cL_law 522 = .ok (.goto 471, 3) := dk_167 1 215 (dk_at dksL_law_20 6 rfl rfl)
theorem dL_law_525 : decode cL_law 525 = .ok (.aload_n 1, 1) := dk_43 (dk_at dksL_law_20 9 rfl rfl)
theorem dL_law_526 : decode cL_law 526 = .ok (.invokevirtual 90, 3) := dk_182 0 90 (dk_at dksL_law_20 10 rfl rfl)
theorem dL_law_529 : decode cL_law 529 = .ok (.aload_n 2, 1) := dk_44 (dk_at dksL_law_20 13 rfl rfl)
theorem dL_law_530 : decode cL_law 530 = .ok (.invokevirtual 93, 3) := dk_182 0 93 (dk_at dksL_law_20 14 rfl rfl)
theorem dL_law_533 : decode cL_law 533 = .ok (.if_icmp .eq 460, 3) := dk_159 1 204 (dk_at dksL_law_20 17 rfl rfl)
theorem dL_law_536 : decode cL_law 536 = .ok (.iconst 0, 1) := dk_3 (dk_at dksL_law_20 20 rfl rfl)
theorem dL_law_537 : decode cL_law 537 = .ok (.ireturn, 1) := dk_172 (dk_at dksL_law_20 21 rfl rfl)
theorem dL_law_538 : decode cL_law 538 = .ok (.aload_n 1, 1) := dk_43 (dk_at dksL_law_20 22 rfl rfl)
theorem dL_law_539 : decode cL_law 539 = .ok (.aload_n 0, 1) := dk_42 (dk_at dksL_law_20 23 rfl rfl)
theorem dL_law_540 : decode cL_law 540 = .ok (.iload 4, 2) := dk_21 4 (dk_at dksL_law_21 0 rfl rfl)
theorem dL_law_542 : decode cL_law 542 = .ok (.iconst 1, 1) := dk_4 (dk_at dksL_law_21 2 rfl rfl)
theorem dL_law_543 : decode cL_law 543 = .ok (.iadd, 1) := dk_96 (dk_at dksL_law_21 3 rfl rfl)
theorem dL_law_544 : decode cL_law 544 = .ok (.iaload, 1) := dk_46 (dk_at dksL_law_21 4 rfl rfl)
theorem dL_law_545 : decode cL_law 545 = .ok (.aload_n 3, 1) := dk_45 (dk_at dksL_law_21 5 rfl rfl)
theorem dL_law_546 : decode cL_law 546 = .ok (.invokestatic 94, 3) := dk_184 0 94 (dk_at dksL_law_21 6 rfl rfl)
theorem dL_law_549 : decode cL_law 549 = .ok (.istore 5, 2) := dk_54 5 (dk_at dksL_law_21 9 rfl rfl)
theorem dL_law_551 : decode cL_law 551 = .ok (.aload_n 2, 1) := dk_44 (dk_at dksL_law_21 11 rfl rfl)
theorem dL_law_552 : decode cL_law 552 = .ok (.aload_n 0, 1) := dk_42 (dk_at dksL_law_21 12 rfl rfl)
theorem dL_law_553 : decode cL_law 553 = .ok (.iload 4, 2) := dk_21 4 (dk_at dksL_law_21 13 rfl rfl)
theorem dL_law_555 : decode cL_law 555 = .ok (.iconst 1, 1) := dk_4 (dk_at dksL_law_21 15 rfl rfl)
theorem dL_law_556 : decode cL_law 556 = .ok (.iadd, 1) := dk_96 (dk_at dksL_law_21 16 rfl rfl)
theorem dL_law_557 : decode cL_law 557 = .ok (.iaload, 1) := dk_46 (dk_at dksL_law_21 17 rfl rfl)
theorem dL_law_558 : decode cL_law 558 = .ok (.invokevirtual 96, 3) := dk_182 0 96 (dk_at dksL_law_21 18 rfl rfl)
theorem dL_law_561 : decode cL_law 561 = .ok (.istore 6, 2) := dk_54 6 (dk_at dksL_law_21 21 rfl rfl)
theorem dL_law_563 : decode cL_law 563 = .ok (.aload_n 2, 1) := dk_44 (dk_at dksL_law_21 23 rfl rfl)
theorem dL_law_564 : decode cL_law 564 = .ok (.invokevirtual 68, 3) := dk_182 0 68 (dk_at dksL_law_22 0 rfl rfl)
theorem dL_law_567 : decode cL_law 567 = .ok (.iload 5, 2) := dk_21 5 (dk_at dksL_law_22 3 rfl rfl)
theorem dL_law_569 : decode cL_law 569 = .ok (.if_icmp .eq 5, 3) := dk_159 0 5 (dk_at dksL_law_22 5 rfl rfl)
theorem dL_law_572 : decode cL_law 572 = .ok (.iconst 0, 1) := dk_3 (dk_at dksL_law_22 8 rfl rfl)
theorem dL_law_573 : decode cL_law 573 = .ok (.ireturn, 1) := dk_172 (dk_at dksL_law_22 9 rfl rfl)
theorem dL_law_574 : decode cL_law 574 = .ok (.iload 5, 2) := dk_21 5 (dk_at dksL_law_22 10 rfl rfl)
theorem dL_law_576 : decode cL_law 576 = .ok (.ifCond .ne 15, 3) := dk_154 0 15 (dk_at dksL_law_22 12 rfl rfl)
theorem dL_law_579 : decode cL_law 579 = .ok (.aload_n 3, 1) := dk_45 (dk_at dksL_law_22 15 rfl rfl)
theorem dL_law_580 : decode cL_law 580 = .ok (.iconst 0, 1) := dk_3 (dk_at dksL_law_22 16 rfl rfl)
theorem dL_law_581 : decode cL_law 581 = .ok (.laload, 1) := dk_47 (dk_at dksL_law_22 17 rfl rfl)
theorem dL_law_582 : decode cL_law 582 = .ok (.iload 6, 2) := dk_21 6 (dk_at dksL_law_22 18 rfl rfl)
theorem dL_law_584 : decode cL_law 584 = .ok (.i2l, 1) := dk_133 (dk_at dksL_law_22 20 rfl rfl)
theorem dL_law_585 : decode cL_law 585 = .ok (.lcmp, 1) := dk_148 (dk_at dksL_law_22 21 rfl rfl)
theorem dL_law_586 : decode cL_law 586 = .ok (.ifCond .eq 5, 3) := dk_153 0 5 (dk_at dksL_law_23 0 rfl rfl)
theorem dL_law_589 : decode cL_law 589 = .ok (.iconst 0, 1) := dk_3 (dk_at dksL_law_23 3 rfl rfl)
theorem dL_law_590 : decode cL_law 590 = .ok (.ireturn, 1) := dk_172 (dk_at dksL_law_23 4 rfl rfl)
theorem dL_law_591 : decode cL_law 591 = .ok (.goto 402, 3) := dk_167 1 146 (dk_at dksL_law_23 5 rfl rfl)
theorem dL_law_594 : decode cL_law 594 = .ok (.aload_n 1, 1) := dk_43 (dk_at dksL_law_23 8 rfl rfl)
theorem dL_law_595 : decode cL_law 595 = .ok (.aload_n 0, 1) := dk_42 (dk_at dksL_law_23 9 rfl rfl)
theorem dL_law_596 : decode cL_law 596 = .ok (.iload 4, 2) := dk_21 4 (dk_at dksL_law_23 10 rfl rfl)
theorem dL_law_598 : decode cL_law 598 = .ok (.iconst 1, 1) := dk_4 (dk_at dksL_law_23 12 rfl rfl)
theorem dL_law_599 : decode cL_law 599 = .ok (.iadd, 1) := dk_96 (dk_at dksL_law_23 13 rfl rfl)
theorem dL_law_600 : decode cL_law 600 = .ok (.iaload, 1) := dk_46 (dk_at dksL_law_23 14 rfl rfl)
theorem dL_law_601 : decode cL_law 601 = .ok (.aload_n 0, 1) := dk_42 (dk_at dksL_law_23 15 rfl rfl)
theorem dL_law_602 : decode cL_law 602 = .ok (.iload 4, 2) := dk_21 4 (dk_at dksL_law_23 16 rfl rfl)
theorem dL_law_604 : decode cL_law 604 = .ok (.iconst 2, 1) := dk_5 (dk_at dksL_law_23 18 rfl rfl)
theorem dL_law_605 : decode cL_law 605 = .ok (.iadd, 1) := dk_96 (dk_at dksL_law_23 19 rfl rfl)
theorem dL_law_606 : decode cL_law 606 = .ok (.iaload, 1) := dk_46 (dk_at dksL_law_23 20 rfl rfl)
theorem dL_law_607 : decode cL_law 607 = .ok (.aload_n 3, 1) := dk_45 (dk_at dksL_law_23 21 rfl rfl)
theorem dL_law_608 : decode cL_law 608 = .ok (.invokestatic 97, 3) := dk_184 0 97 (dk_at dksL_law_24 0 rfl rfl)
theorem dL_law_611 : decode cL_law 611 = .ok (.istore 5, 2) := dk_54 5 (dk_at dksL_law_24 3 rfl rfl)
theorem dL_law_613 : decode cL_law 613 = .ok (.aload_n 2, 1) := dk_44 (dk_at dksL_law_24 5 rfl rfl)
theorem dL_law_614 : decode cL_law 614 = .ok (.aload_n 0, 1) := dk_42 (dk_at dksL_law_24 6 rfl rfl)
theorem dL_law_615 : decode cL_law 615 = .ok (.iload 4, 2) := dk_21 4 (dk_at dksL_law_24 7 rfl rfl)
theorem dL_law_617 : decode cL_law 617 = .ok (.iconst 1, 1) := dk_4 (dk_at dksL_law_24 9 rfl rfl)
theorem dL_law_618 : decode cL_law 618 = .ok (.iadd, 1) := dk_96 (dk_at dksL_law_24 10 rfl rfl)
theorem dL_law_619 : decode cL_law 619 = .ok (.iaload, 1) := dk_46 (dk_at dksL_law_24 11 rfl rfl)
theorem dL_law_620 : decode cL_law 620 = .ok (.aload_n 0, 1) := dk_42 (dk_at dksL_law_24 12 rfl rfl)
theorem dL_law_621 : decode cL_law 621 = .ok (.iload 4, 2) := dk_21 4 (dk_at dksL_law_24 13 rfl rfl)
theorem dL_law_623 : decode cL_law 623 = .ok (.iconst 2, 1) := dk_5 (dk_at dksL_law_24 15 rfl rfl)
theorem dL_law_624 : decode cL_law 624 = .ok (.iadd, 1) := dk_96 (dk_at dksL_law_24 16 rfl rfl)
theorem dL_law_625 : decode cL_law 625 = .ok (.iaload, 1) := dk_46 (dk_at dksL_law_24 17 rfl rfl)
theorem dL_law_626 : decode cL_law 626 = .ok (.invokevirtual 99, 3) := dk_182 0 99 (dk_at dksL_law_24 18 rfl rfl)
theorem dL_law_629 : decode cL_law 629 = .ok (.istore 6, 2) := dk_54 6 (dk_at dksL_law_24 21 rfl rfl)
theorem dL_law_631 : decode cL_law 631 = .ok (.aload_n 2, 1) := dk_44 (dk_at dksL_law_24 23 rfl rfl)
theorem dL_law_632 : decode cL_law 632 = .ok (.invokevirtual 68, 3) := dk_182 0 68 (dk_at dksL_law_25 0 rfl rfl)
theorem dL_law_635 : decode cL_law 635 = .ok (.iload 5, 2) := dk_21 5 (dk_at dksL_law_25 3 rfl rfl)
theorem dL_law_637 : decode cL_law 637 = .ok (.if_icmp .eq 5, 3) := dk_159 0 5 (dk_at dksL_law_25 5 rfl rfl)
theorem dL_law_640 : decode cL_law 640 = .ok (.iconst 0, 1) := dk_3 (dk_at dksL_law_25 8 rfl rfl)
theorem dL_law_641 : decode cL_law 641 = .ok (.ireturn, 1) := dk_172 (dk_at dksL_law_25 9 rfl rfl)
theorem dL_law_642 : decode cL_law 642 = .ok (.iload 5, 2) := dk_21 5 (dk_at dksL_law_25 10 rfl rfl)
theorem dL_law_644 : decode cL_law 644 = .ok (.ifCond .ne 15, 3) := dk_154 0 15 (dk_at dksL_law_25 12 rfl rfl)
theorem dL_law_647 : decode cL_law 647 = .ok (.aload_n 3, 1) := dk_45 (dk_at dksL_law_25 15 rfl rfl)
theorem dL_law_648 : decode cL_law 648 = .ok (.iconst 0, 1) := dk_3 (dk_at dksL_law_25 16 rfl rfl)
theorem dL_law_649 : decode cL_law 649 = .ok (.laload, 1) := dk_47 (dk_at dksL_law_25 17 rfl rfl)
theorem dL_law_650 : decode cL_law 650 = .ok (.iload 6, 2) := dk_21 6 (dk_at dksL_law_25 18 rfl rfl)
theorem dL_law_652 : decode cL_law 652 = .ok (.i2l, 1) := dk_133 (dk_at dksL_law_25 20 rfl rfl)
theorem dL_law_653 : decode cL_law 653 = .ok (.lcmp, 1) := dk_148 (dk_at dksL_law_25 21 rfl rfl)
theorem dL_law_654 : decode cL_law 654 = .ok (.ifCond .eq 5, 3) := dk_153 0 5 (dk_at dksL_law_26 0 rfl rfl)
theorem dL_law_657 : decode cL_law 657 = .ok (.iconst 0, 1) := dk_3 (dk_at dksL_law_26 3 rfl rfl)
theorem dL_law_658 : decode cL_law 658 = .ok (.ireturn, 1) := dk_172 (dk_at dksL_law_26 4 rfl rfl)
theorem dL_law_659 : decode cL_law 659 = .ok (.goto 334, 3) := dk_167 1 78 (dk_at dksL_law_26 5 rfl rfl)
theorem dL_law_662 : decode cL_law 662 = .ok (.aload_n 1, 1) := dk_43 (dk_at dksL_law_26 8 rfl rfl)
theorem dL_law_663 : decode cL_law 663 = .ok (.aload_n 0, 1) := dk_42 (dk_at dksL_law_26 9 rfl rfl)
theorem dL_law_664 : decode cL_law 664 = .ok (.iload 4, 2) := dk_21 4 (dk_at dksL_law_26 10 rfl rfl)
theorem dL_law_666 : decode cL_law 666 = .ok (.iconst 1, 1) := dk_4 (dk_at dksL_law_26 12 rfl rfl)
theorem dL_law_667 : decode cL_law 667 = .ok (.iadd, 1) := dk_96 (dk_at dksL_law_26 13 rfl rfl)
theorem dL_law_668 : decode cL_law 668 = .ok (.iaload, 1) := dk_46 (dk_at dksL_law_26 14 rfl rfl)
theorem dL_law_669 : decode cL_law 669 = .ok (.aload_n 0, 1) := dk_42 (dk_at dksL_law_26 15 rfl rfl)
theorem dL_law_670 : decode cL_law 670 = .ok (.iload 4, 2) := dk_21 4 (dk_at dksL_law_26 16 rfl rfl)
theorem dL_law_672 : decode cL_law 672 = .ok (.iconst 2, 1) := dk_5 (dk_at dksL_law_26 18 rfl rfl)
theorem dL_law_673 : decode cL_law 673 = .ok (.iadd, 1) := dk_96 (dk_at dksL_law_26 19 rfl rfl)
theorem dL_law_674 : decode cL_law 674 = .ok (.iaload, 1) := dk_46 (dk_at dksL_law_26 20 rfl rfl)
theorem dL_law_675 : decode cL_law 675 = .ok (.aload_n 3, 1) := dk_45 (dk_at dksL_law_26 21 rfl rfl)
theorem dL_law_676 : decode cL_law 676 = .ok (.invokestatic 100, 3) := dk_184 0 100 (dk_at dksL_law_27 0 rfl rfl)
theorem dL_law_679 : decode cL_law 679 = .ok (.istore 5, 2) := dk_54 5 (dk_at dksL_law_27 3 rfl rfl)
theorem dL_law_681 : decode cL_law 681 = .ok (.aload_n 2, 1) := dk_44 (dk_at dksL_law_27 5 rfl rfl)
theorem dL_law_682 : decode cL_law 682 = .ok (.aload_n 0, 1) := dk_42 (dk_at dksL_law_27 6 rfl rfl)
theorem dL_law_683 : decode cL_law 683 = .ok (.iload 4, 2) := dk_21 4 (dk_at dksL_law_27 7 rfl rfl)
theorem dL_law_685 : decode cL_law 685 = .ok (.iconst 1, 1) := dk_4 (dk_at dksL_law_27 9 rfl rfl)
theorem dL_law_686 : decode cL_law 686 = .ok (.iadd, 1) := dk_96 (dk_at dksL_law_27 10 rfl rfl)
theorem dL_law_687 : decode cL_law 687 = .ok (.iaload, 1) := dk_46 (dk_at dksL_law_27 11 rfl rfl)
theorem dL_law_688 : decode cL_law 688 = .ok (.aload_n 0, 1) := dk_42 (dk_at dksL_law_27 12 rfl rfl)
theorem dL_law_689 : decode cL_law 689 = .ok (.iload 4, 2) := dk_21 4 (dk_at dksL_law_27 13 rfl rfl)
theorem dL_law_691 : decode cL_law 691 = .ok (.iconst 2, 1) := dk_5 (dk_at dksL_law_27 15 rfl rfl)
theorem dL_law_692 : decode cL_law 692 = .ok (.iadd, 1) := dk_96 (dk_at dksL_law_27 16 rfl rfl)
theorem dL_law_693 : decode cL_law 693 = .ok (.iaload, 1) := dk_46 (dk_at dksL_law_27 17 rfl rfl)
theorem dL_law_694 : decode cL_law 694 = .ok (.invokevirtual 102, 3) := dk_182 0 102 (dk_at dksL_law_27 18 rfl rfl)
theorem dL_law_697 : decode cL_law 697 = .ok (.istore 6, 2) := dk_54 6 (dk_at dksL_law_27 21 rfl rfl)
theorem dL_law_699 : decode cL_law 699 = .ok (.aload_n 2, 1) := dk_44 (dk_at dksL_law_27 23 rfl rfl)
theorem dL_law_700 : decode cL_law 700 = .ok (.invokevirtual 68, 3) := dk_182 0 68 (dk_at dksL_law_28 0 rfl rfl)
theorem dL_law_703 : decode cL_law 703 = .ok (.iload 5, 2) := dk_21 5 (dk_at dksL_law_28 3 rfl rfl)
theorem dL_law_705 : decode cL_law 705 = .ok (.if_icmp .eq 5, 3) := dk_159 0 5 (dk_at dksL_law_28 5 rfl rfl)
theorem dL_law_708 : decode cL_law 708 = .ok (.iconst 0, 1) := dk_3 (dk_at dksL_law_28 8 rfl rfl)
theorem dL_law_709 : decode cL_law 709 = .ok (.ireturn, 1) := dk_172 (dk_at dksL_law_28 9 rfl rfl)
theorem dL_law_710 : decode cL_law 710 = .ok (.iload 5, 2) := dk_21 5 (dk_at dksL_law_28 10 rfl rfl)
theorem dL_law_712 : decode cL_law 712 = .ok (.ifCond .ne 22, 3) := dk_154 0 22 (dk_at dksL_law_28 12 rfl rfl)
theorem dL_law_715 : decode cL_law 715 = .ok (.aload_n 3, 1) := dk_45 (dk_at dksL_law_28 15 rfl rfl)
theorem dL_law_716 : decode cL_law 716 = .ok (.iconst 0, 1) := dk_3 (dk_at dksL_law_28 16 rfl rfl)
theorem dL_law_717 : decode cL_law 717 = .ok (.laload, 1) := dk_47 (dk_at dksL_law_28 17 rfl rfl)
theorem dL_law_718 : decode cL_law 718 = .ok (.iload 6, 2) := dk_21 6 (dk_at dksL_law_28 18 rfl rfl)
theorem dL_law_720 : decode cL_law 720 = .ok (.ifCond .eq 7, 3) := dk_153 0 7 (dk_at dksL_law_28 20 rfl rfl)
theorem dL_law_723 : decode cL_law 723 = .ok (.lconst 1, 1) := dk_10 (dk_at dksL_law_28 23 rfl rfl)
theorem dL_law_724 : decode cL_law 724 = .ok (.goto 4, 3) := dk_167 0 4 (dk_at dksL_law_29 0 rfl rfl)
theorem dL_law_727 : decode cL_law 727 = .ok (.lconst 0, 1) := dk_9 (dk_at dksL_law_29 3 rfl rfl)
theorem dL_law_728 : decode cL_law 728 = .ok (.lcmp, 1) := dk_148 (dk_at dksL_law_29 4 rfl rfl)
theorem dL_law_729 : decode cL_law 729 = .ok (.ifCond .eq 5, 3) := dk_153 0 5 (dk_at dksL_law_29 5 rfl rfl)
theorem dL_law_732 : decode cL_law 732 = .ok (.iconst 0, 1) := dk_3 (dk_at dksL_law_29 8 rfl rfl)
theorem dL_law_733 : decode cL_law 733 = .ok (.ireturn, 1) := dk_172 (dk_at dksL_law_29 9 rfl rfl)
theorem dL_law_734 : decode cL_law 734 = .ok (.goto 259, 3) := dk_167 1 3 (dk_at dksL_law_29 10 rfl rfl)
theorem dL_law_737 : decode cL_law 737 = .ok (.aload_n 1, 1) := dk_43 (dk_at dksL_law_29 13 rfl rfl)
theorem dL_law_738 : decode cL_law 738 = .ok (.aload_n 0, 1) := dk_42 (dk_at dksL_law_29 14 rfl rfl)
theorem dL_law_739 : decode cL_law 739 = .ok (.iload 4, 2) := dk_21 4 (dk_at dksL_law_29 15 rfl rfl)
theorem dL_law_741 : decode cL_law 741 = .ok (.iconst 1, 1) := dk_4 (dk_at dksL_law_29 17 rfl rfl)
theorem dL_law_742 : decode cL_law 742 = .ok (.iadd, 1) := dk_96 (dk_at dksL_law_29 18 rfl rfl)
theorem dL_law_743 : decode cL_law 743 = .ok (.iaload, 1) := dk_46 (dk_at dksL_law_29 19 rfl rfl)
theorem dL_law_744 : decode cL_law 744 = .ok (.aload_n 3, 1) := dk_45 (dk_at dksL_law_29 20 rfl rfl)
theorem dL_law_745 : decode cL_law 745 = .ok (.invokestatic 103, 3) := dk_184 0 103 (dk_at dksL_law_29 21 rfl rfl)
theorem dL_law_748 : decode cL_law 748 = .ok (.istore 5, 2) := dk_54 5 (dk_at dksL_law_30 0 rfl rfl)
theorem dL_law_750 : decode cL_law 750 = .ok (.aload_n 2, 1) := dk_44 (dk_at dksL_law_30 2 rfl rfl)
theorem dL_law_751 : decode cL_law 751 = .ok (.aload_n 0, 1) := dk_42 (dk_at dksL_law_30 3 rfl rfl)
theorem dL_law_752 : decode cL_law 752 = .ok (.iload 4, 2) := dk_21 4 (dk_at dksL_law_30 4 rfl rfl)
theorem dL_law_754 : decode cL_law 754 = .ok (.iconst 1, 1) := dk_4 (dk_at dksL_law_30 6 rfl rfl)
theorem dL_law_755 : decode cL_law 755 = .ok (.iadd, 1) := dk_96 (dk_at dksL_law_30 7 rfl rfl)
theorem dL_law_756 : decode cL_law 756 = .ok (.iaload, 1) := dk_46 (dk_at dksL_law_30 8 rfl rfl)
theorem dL_law_757 : decode cL_law 757 = .ok (.invokevirtual 105, 3) := dk_182 0 105 (dk_at dksL_law_30 9 rfl rfl)
theorem dL_law_760 : decode cL_law 760 = .ok (.istore 6, 2) := dk_54 6 (dk_at dksL_law_30 12 rfl rfl)
theorem dL_law_762 : decode cL_law 762 = .ok (.aload_n 2, 1) := dk_44 (dk_at dksL_law_30 14 rfl rfl)
theorem dL_law_763 : decode cL_law 763 = .ok (.invokevirtual 68, 3) := dk_182 0 68 (dk_at dksL_law_30 15 rfl rfl)
theorem dL_law_766 : decode cL_law 766 = .ok (.iload 5, 2) := dk_21 5 (dk_at dksL_law_30 18 rfl rfl)
theorem dL_law_768 : decode cL_law 768 = .ok (.if_icmp .eq 5, 3) := dk_159 0 5 (dk_at dksL_law_30 20 rfl rfl)
theorem dL_law_771 : decode cL_law 771 = .ok (.iconst 0, 1) := dk_3 (dk_at dksL_law_30 23 rfl rfl)
theorem dL_law_772 : decode cL_law 772 = .ok (.ireturn, 1) := dk_172 (dk_at dksL_law_31 0 rfl rfl)
theorem dL_law_773 : decode cL_law 773 = .ok (.iload 5, 2) := dk_21 5 (dk_at dksL_law_31 1 rfl rfl)
theorem dL_law_775 : decode cL_law 775 = .ok (.ifCond .ne 15, 3) := dk_154 0 15 (dk_at dksL_law_31 3 rfl rfl)
theorem dL_law_778 : decode cL_law 778 = .ok (.aload_n 3, 1) := dk_45 (dk_at dksL_law_31 6 rfl rfl)
theorem dL_law_779 : decode cL_law 779 = .ok (.iconst 0, 1) := dk_3 (dk_at dksL_law_31 7 rfl rfl)
theorem dL_law_780 : decode cL_law 780 = .ok (.laload, 1) := dk_47 (dk_at dksL_law_31 8 rfl rfl)
theorem dL_law_781 : decode cL_law 781 = .ok (.iload 6, 2) := dk_21 6 (dk_at dksL_law_31 9 rfl rfl)
theorem dL_law_783 : decode cL_law 783 = .ok (.i2l, 1) := dk_133 (dk_at dksL_law_31 11 rfl rfl)
theorem dL_law_784 : decode cL_law 784 = .ok (.lcmp, 1) := dk_148 (dk_at dksL_law_31 12 rfl rfl)
theorem dL_law_785 : decode cL_law 785 = .ok (.ifCond .eq 5, 3) := dk_153 0 5 (dk_at dksL_law_31 13 rfl rfl)
theorem dL_law_788 : decode cL_law 788 = .ok (.iconst 0, 1) := dk_3 (dk_at dksL_law_31 16 rfl rfl)
theorem dL_law_789 : decode cL_law 789 = .ok (.ireturn, 1) := dk_172 (dk_at dksL_law_31 17 rfl rfl)
theorem dL_law_790 : decode cL_law 790 = .ok (.goto 203, 3) := dk_167 0 203 (dk_at dksL_law_31 18 rfl rfl)
theorem dL_law_793 : decode cL_law 793 = .ok (.aload_n 1, 1) := dk_43 (dk_at dksL_law_31 21 rfl rfl)
theorem dL_law_794 : decode cL_law 794 = .ok (.invokevirtual 106, 3) := dk_182 0 106 (dk_at dksL_law_32 0 rfl rfl)
theorem dL_law_797 : decode cL_law 797 = .ok (.aload_n 2, 1) := dk_44 (dk_at dksL_law_32 3 rfl rfl)
theorem dL_law_798 : decode cL_law 798 = .ok (.invokevirtual 109, 3) := dk_182 0 109 (dk_at dksL_law_32 4 rfl rfl)
theorem dL_law_801 : decode cL_law 801 = .ok (.if_icmp .eq 192, 3) := dk_159 0 192 (dk_at dksL_law_32 7 rfl rfl)
theorem dL_law_804 : decode cL_law 804 = .ok (.iconst 0, 1) := dk_3 (dk_at dksL_law_32 10 rfl rfl)
theorem dL_law_805 : decode cL_law 805 = .ok (.ireturn, 1) := dk_172 (dk_at dksL_law_32 11 rfl rfl)
theorem dL_law_806 : decode cL_law 806 = .ok (.aload_n 1, 1) := dk_43 (dk_at dksL_law_32 12 rfl rfl)
theorem dL_law_807 : decode cL_law 807 = .ok (.aload_n 0, 1) := dk_42 (dk_at dksL_law_32 13 rfl rfl)
theorem dL_law_808 : decode cL_law 808 = .ok (.iload 4, 2) := dk_21 4 (dk_at dksL_law_32 14 rfl rfl)
theorem dL_law_810 : decode cL_law 810 = .ok (.iconst 1, 1) := dk_4 (dk_at dksL_law_32 16 rfl rfl)
theorem dL_law_811 : decode cL_law 811 = .ok (.iadd, 1) := dk_96 (dk_at dksL_law_32 17 rfl rfl)
theorem dL_law_812 : decode cL_law 812 = .ok (.iaload, 1) := dk_46 (dk_at dksL_law_32 18 rfl rfl)
theorem dL_law_813 : decode cL_law 813 = .ok (.aload_n 3, 1) := dk_45 (dk_at dksL_law_32 19 rfl rfl)
theorem dL_law_814 : decode cL_law 814 = .ok (.invokestatic 110, 3) := dk_184 0 110 (dk_at dksL_law_32 20 rfl rfl)
theorem dL_law_817 : decode cL_law 817 = .ok (.istore 5, 2) := dk_54 5 (dk_at dksL_law_33 0 rfl rfl)
theorem dL_law_819 : decode cL_law 819 = .ok (.aload_n 2, 1) := dk_44 (dk_at dksL_law_33 2 rfl rfl)
theorem dL_law_820 : decode cL_law 820 = .ok (.aload_n 0, 1) := dk_42 (dk_at dksL_law_33 3 rfl rfl)
theorem dL_law_821 : decode cL_law 821 = .ok (.iload 4, 2) := dk_21 4 (dk_at dksL_law_33 4 rfl rfl)
theorem dL_law_823 : decode cL_law 823 = .ok (.iconst 1, 1) := dk_4 (dk_at dksL_law_33 6 rfl rfl)
theorem dL_law_824 : decode cL_law 824 = .ok (.iadd, 1) := dk_96 (dk_at dksL_law_33 7 rfl rfl)
theorem dL_law_825 : decode cL_law 825 = .ok (.iaload, 1) := dk_46 (dk_at dksL_law_33 8 rfl rfl)
theorem dL_law_826 : decode cL_law 826 = .ok (.invokevirtual 112, 3) := dk_182 0 112 (dk_at dksL_law_33 9 rfl rfl)
theorem dL_law_829 : decode cL_law 829 = .ok (.istore 6, 2) := dk_54 6 (dk_at dksL_law_33 12 rfl rfl)
theorem dL_law_831 : decode cL_law 831 = .ok (.aload_n 2, 1) := dk_44 (dk_at dksL_law_33 14 rfl rfl)
theorem dL_law_832 : decode cL_law 832 = .ok (.invokevirtual 68, 3) := dk_182 0 68 (dk_at dksL_law_33 15 rfl rfl)
theorem dL_law_835 : decode cL_law 835 = .ok (.iload 5, 2) := dk_21 5 (dk_at dksL_law_33 18 rfl rfl)
theorem dL_law_837 : decode cL_law 837 = .ok (.if_icmp .eq 5, 3) := dk_159 0 5 (dk_at dksL_law_33 20 rfl rfl)
theorem dL_law_840 : decode cL_law 840 = .ok (.iconst 0, 1) := dk_3 (dk_at dksL_law_33 23 rfl rfl)
theorem dL_law_841 : decode cL_law 841 = .ok (.ireturn, 1) := dk_172 (dk_at dksL_law_34 0 rfl rfl)
theorem dL_law_842 : decode cL_law 842 = .ok (.iload 5, 2) := dk_21 5 (dk_at dksL_law_34 1 rfl rfl)
theorem dL_law_844 : decode cL_law 844 = .ok (.ifCond .ne 15, 3) := dk_154 0 15 (dk_at dksL_law_34 3 rfl rfl)
theorem dL_law_847 : decode cL_law 847 = .ok (.aload_n 3, 1) := dk_45 (dk_at dksL_law_34 6 rfl rfl)
theorem dL_law_848 : decode cL_law 848 = .ok (.iconst 0, 1) := dk_3 (dk_at dksL_law_34 7 rfl rfl)
theorem dL_law_849 : decode cL_law 849 = .ok (.laload, 1) := dk_47 (dk_at dksL_law_34 8 rfl rfl)
theorem dL_law_850 : decode cL_law 850 = .ok (.iload 6, 2) := dk_21 6 (dk_at dksL_law_34 9 rfl rfl)
theorem dL_law_852 : decode cL_law 852 = .ok (.i2l, 1) := dk_133 (dk_at dksL_law_34 11 rfl rfl)
theorem dL_law_853 : decode cL_law 853 = .ok (.lcmp, 1) := dk_148 (dk_at dksL_law_34 12 rfl rfl)
theorem dL_law_854 : decode cL_law 854 = .ok (.ifCond .eq 5, 3) := dk_153 0 5 (dk_at dksL_law_34 13 rfl rfl)
theorem dL_law_857 : decode cL_law 857 = .ok (.iconst 0, 1) := dk_3 (dk_at dksL_law_34 16 rfl rfl)
theorem dL_law_858 : decode cL_law 858 = .ok (.ireturn, 1) := dk_172 (dk_at dksL_law_34 17 rfl rfl)
theorem dL_law_859 : decode cL_law 859 = .ok (.goto 134, 3) := dk_167 0 134 (dk_at dksL_law_34 18 rfl rfl)
theorem dL_law_862 : decode cL_law 862 = .ok (.aload_n 1, 1) := dk_43 (dk_at dksL_law_34 21 rfl rfl)
theorem dL_law_863 : decode cL_law 863 = .ok (.aload_n 0, 1) := dk_42 (dk_at dksL_law_34 22 rfl rfl)
theorem dL_law_864 : decode cL_law 864 = .ok (.iload 4, 2) := dk_21 4 (dk_at dksL_law_35 0 rfl rfl)
theorem dL_law_866 : decode cL_law 866 = .ok (.iconst 1, 1) := dk_4 (dk_at dksL_law_35 2 rfl rfl)
theorem dL_law_867 : decode cL_law 867 = .ok (.iadd, 1) := dk_96 (dk_at dksL_law_35 3 rfl rfl)
theorem dL_law_868 : decode cL_law 868 = .ok (.iaload, 1) := dk_46 (dk_at dksL_law_35 4 rfl rfl)
theorem dL_law_869 : decode cL_law 869 = .ok (.aload_n 3, 1) := dk_45 (dk_at dksL_law_35 5 rfl rfl)
theorem dL_law_870 : decode cL_law 870 = .ok (.invokestatic 113, 3) := dk_184 0 113 (dk_at dksL_law_35 6 rfl rfl)
theorem dL_law_873 : decode cL_law 873 = .ok (.istore 5, 2) := dk_54 5 (dk_at dksL_law_35 9 rfl rfl)
theorem dL_law_875 : decode cL_law 875 = .ok (.aload_n 2, 1) := dk_44 (dk_at dksL_law_35 11 rfl rfl)
theorem dL_law_876 : decode cL_law 876 = .ok (.aload_n 0, 1) := dk_42 (dk_at dksL_law_35 12 rfl rfl)
theorem dL_law_877 : decode cL_law 877 = .ok (.iload 4, 2) := dk_21 4 (dk_at dksL_law_35 13 rfl rfl)
theorem dL_law_879 : decode cL_law 879 = .ok (.iconst 1, 1) := dk_4 (dk_at dksL_law_35 15 rfl rfl)
theorem dL_law_880 : decode cL_law 880 = .ok (.iadd, 1) := dk_96 (dk_at dksL_law_35 16 rfl rfl)
theorem dL_law_881 : decode cL_law 881 = .ok (.iaload, 1) := dk_46 (dk_at dksL_law_35 17 rfl rfl)
theorem dL_law_882 : decode cL_law 882 = .ok (.invokevirtual 115, 3) := dk_182 0 115 (dk_at dksL_law_35 18 rfl rfl)
theorem dL_law_885 : decode cL_law 885 = .ok (.istore 6, 2) := dk_54 6 (dk_at dksL_law_35 21 rfl rfl)
theorem dL_law_887 : decode cL_law 887 = .ok (.aload_n 2, 1) := dk_44 (dk_at dksL_law_35 23 rfl rfl)
theorem dL_law_888 : decode cL_law 888 = .ok (.invokevirtual 68, 3) := dk_182 0 68 (dk_at dksL_law_36 0 rfl rfl)
theorem dL_law_891 : decode cL_law 891 = .ok (.iload 5, 2) := dk_21 5 (dk_at dksL_law_36 3 rfl rfl)
theorem dL_law_893 : decode cL_law 893 = .ok (.if_icmp .eq 5, 3) := dk_159 0 5 (dk_at dksL_law_36 5 rfl rfl)
theorem dL_law_896 : decode cL_law 896 = .ok (.iconst 0, 1) := dk_3 (dk_at dksL_law_36 8 rfl rfl)
theorem dL_law_897 : decode cL_law 897 = .ok (.ireturn, 1) := dk_172 (dk_at dksL_law_36 9 rfl rfl)
theorem dL_law_898 : decode cL_law 898 = .ok (.iload 5, 2) := dk_21 5 (dk_at dksL_law_36 10 rfl rfl)
theorem dL_law_900 : decode cL_law 900 = .ok (.ifCond .ne 22, 3) := dk_154 0 22 (dk_at dksL_law_36 12 rfl rfl)
theorem dL_law_903 : decode cL_law 903 = .ok (.aload_n 3, 1) := dk_45 (dk_at dksL_law_36 15 rfl rfl)
theorem dL_law_904 : decode cL_law 904 = .ok (.iconst 0, 1) := dk_3 (dk_at dksL_law_36 16 rfl rfl)
theorem dL_law_905 : decode cL_law 905 = .ok (.laload, 1) := dk_47 (dk_at dksL_law_36 17 rfl rfl)
theorem dL_law_906 : decode cL_law 906 = .ok (.iload 6, 2) := dk_21 6 (dk_at dksL_law_36 18 rfl rfl)
theorem dL_law_908 : decode cL_law 908 = .ok (.ifCond .eq 7, 3) := dk_153 0 7 (dk_at dksL_law_36 20 rfl rfl)
theorem dL_law_911 : decode cL_law 911 = .ok (.lconst 1, 1) := dk_10 (dk_at dksL_law_36 23 rfl rfl)
theorem dL_law_912 : decode cL_law 912 = .ok (.goto 4, 3) := dk_167 0 4 (dk_at dksL_law_37 0 rfl rfl)
theorem dL_law_915 : decode cL_law 915 = .ok (.lconst 0, 1) := dk_9 (dk_at dksL_law_37 3 rfl rfl)
theorem dL_law_916 : decode cL_law 916 = .ok (.lcmp, 1) := dk_148 (dk_at dksL_law_37 4 rfl rfl)
theorem dL_law_917 : decode cL_law 917 = .ok (.ifCond .eq 5, 3) := dk_153 0 5 (dk_at dksL_law_37 5 rfl rfl)
theorem dL_law_920 : decode cL_law 920 = .ok (.iconst 0, 1) := dk_3 (dk_at dksL_law_37 8 rfl rfl)
theorem dL_law_921 : decode cL_law 921 = .ok (.ireturn, 1) := dk_172 (dk_at dksL_law_37 9 rfl rfl)
theorem dL_law_922 : decode cL_law 922 = .ok (.goto 71, 3) := dk_167 0 71 (dk_at dksL_law_37 10 rfl rfl)
theorem dL_law_925 : decode cL_law 925 = .ok (.aload_n 1, 1) := dk_43 (dk_at dksL_law_37 13 rfl rfl)
theorem dL_law_926 : decode cL_law 926 = .ok (.aload_n 0, 1) := dk_42 (dk_at dksL_law_37 14 rfl rfl)
theorem dL_law_927 : decode cL_law 927 = .ok (.iload 4, 2) := dk_21 4 (dk_at dksL_law_37 15 rfl rfl)
theorem dL_law_929 : decode cL_law 929 = .ok (.iconst 1, 1) := dk_4 (dk_at dksL_law_37 17 rfl rfl)
theorem dL_law_930 : decode cL_law 930 = .ok (.iadd, 1) := dk_96 (dk_at dksL_law_37 18 rfl rfl)
theorem dL_law_931 : decode cL_law 931 = .ok (.iaload, 1) := dk_46 (dk_at dksL_law_37 19 rfl rfl)
theorem dL_law_932 : decode cL_law 932 = .ok (.aload_n 0, 1) := dk_42 (dk_at dksL_law_37 20 rfl rfl)
theorem dL_law_933 : decode cL_law 933 = .ok (.iload 4, 2) := dk_21 4 (dk_at dksL_law_37 21 rfl rfl)
theorem dL_law_935 : decode cL_law 935 = .ok (.iconst 2, 1) := dk_5 (dk_at dksL_law_37 23 rfl rfl)
theorem dL_law_936 : decode cL_law 936 = .ok (.iadd, 1) := dk_96 (dk_at dksL_law_38 0 rfl rfl)
theorem dL_law_937 : decode cL_law 937 = .ok (.iaload, 1) := dk_46 (dk_at dksL_law_38 1 rfl rfl)
theorem dL_law_938 : decode cL_law 938 = .ok (.aload_n 3, 1) := dk_45 (dk_at dksL_law_38 2 rfl rfl)
theorem dL_law_939 : decode cL_law 939 = .ok (.invokestatic 116, 3) := dk_184 0 116 (dk_at dksL_law_38 3 rfl rfl)
theorem dL_law_942 : decode cL_law 942 = .ok (.istore 5, 2) := dk_54 5 (dk_at dksL_law_38 6 rfl rfl)
theorem dL_law_944 : decode cL_law 944 = .ok (.aload_n 2, 1) := dk_44 (dk_at dksL_law_38 8 rfl rfl)
theorem dL_law_945 : decode cL_law 945 = .ok (.aload_n 0, 1) := dk_42 (dk_at dksL_law_38 9 rfl rfl)
theorem dL_law_946 : decode cL_law 946 = .ok (.iload 4, 2) := dk_21 4 (dk_at dksL_law_38 10 rfl rfl)
theorem dL_law_948 : decode cL_law 948 = .ok (.iconst 1, 1) := dk_4 (dk_at dksL_law_38 12 rfl rfl)
theorem dL_law_949 : decode cL_law 949 = .ok (.iadd, 1) := dk_96 (dk_at dksL_law_38 13 rfl rfl)
theorem dL_law_950 : decode cL_law 950 = .ok (.iaload, 1) := dk_46 (dk_at dksL_law_38 14 rfl rfl)
theorem dL_law_951 : decode cL_law 951 = .ok (.aload_n 0, 1) := dk_42 (dk_at dksL_law_38 15 rfl rfl)
theorem dL_law_952 : decode cL_law 952 = .ok (.iload 4, 2) := dk_21 4 (dk_at dksL_law_38 16 rfl rfl)
theorem dL_law_954 : decode cL_law 954 = .ok (.iconst 2, 1) := dk_5 (dk_at dksL_law_38 18 rfl rfl)
theorem dL_law_955 : decode cL_law 955 = .ok (.iadd, 1) := dk_96 (dk_at dksL_law_38 19 rfl rfl)
theorem dL_law_956 : decode cL_law 956 = .ok (.iaload, 1) := dk_46 (dk_at dksL_law_38 20 rfl rfl)
theorem dL_law_957 : decode cL_law 957 = .ok (.invokevirtual 118, 3) := dk_182 0 118 (dk_at dksL_law_38 21 rfl rfl)
theorem dL_law_960 : decode cL_law 960 = .ok (.istore 6, 2) := dk_54 6 (dk_at dksL_law_39 0 rfl rfl)
theorem dL_law_962 : decode cL_law 962 = .ok (.aload_n 2, 1) := dk_44 (dk_at dksL_law_39 2 rfl rfl)
theorem dL_law_963 : decode cL_law 963 = .ok (.invokevirtual 68, 3) := dk_182 0 68 (dk_at dksL_law_39 3 rfl rfl)
theorem dL_law_966 : decode cL_law 966 = .ok (.iload 5, 2) := dk_21 5 (dk_at dksL_law_39 6 rfl rfl)
theorem dL_law_968 : decode cL_law 968 = .ok (.if_icmp .eq 5, 3) := dk_159 0 5 (dk_at dksL_law_39 8 rfl rfl)
theorem dL_law_971 : decode cL_law 971 = .ok (.iconst 0, 1) := dk_3 (dk_at dksL_law_39 11 rfl rfl)
theorem dL_law_972 : decode cL_law 972 = .ok (.ireturn, 1) := dk_172 (dk_at dksL_law_39 12 rfl rfl)
theorem dL_law_973 : decode cL_law 973 = .ok (.iload 5, 2) := dk_21 5 (dk_at dksL_law_39 13 rfl rfl)
theorem dL_law_975 : decode cL_law 975 = .ok (.ifCond .ne 15, 3) := dk_154 0 15 (dk_at dksL_law_39 15 rfl rfl)
theorem dL_law_978 : decode cL_law 978 = .ok (.aload_n 3, 1) := dk_45 (dk_at dksL_law_39 18 rfl rfl)
theorem dL_law_979 : decode cL_law 979 = .ok (.iconst 0, 1) := dk_3 (dk_at dksL_law_39 19 rfl rfl)
theorem dL_law_980 : decode cL_law 980 = .ok (.laload, 1) := dk_47 (dk_at dksL_law_39 20 rfl rfl)
theorem dL_law_981 : decode cL_law 981 = .ok (.iload 6, 2) := dk_21 6 (dk_at dksL_law_39 21 rfl rfl)
theorem dL_law_983 : decode cL_law 983 = .ok (.i2l, 1) := dk_133 (dk_at dksL_law_39 23 rfl rfl)
theorem dL_law_984 : decode cL_law 984 = .ok (.lcmp, 1) := dk_148 (dk_at dksL_law_40 0 rfl rfl)
theorem dL_law_985 : decode cL_law 985 = .ok (.ifCond .eq 5, 3) := dk_153 0 5 (dk_at dksL_law_40 1 rfl rfl)
theorem dL_law_988 : decode cL_law 988 = .ok (.iconst 0, 1) := dk_3 (dk_at dksL_law_40 4 rfl rfl)
theorem dL_law_989 : decode cL_law 989 = .ok (.ireturn, 1) := dk_172 (dk_at dksL_law_40 5 rfl rfl)
theorem dL_law_990 : decode cL_law 990 = .ok (.goto 3, 3) := dk_167 0 3 (dk_at dksL_law_40 6 rfl rfl)
theorem dL_law_993 : decode cL_law 993 = .ok (.iinc 4 5, 3) := dk_132 4 5 (dk_at dksL_law_40 9 rfl rfl)
theorem dL_law_996 : decode cL_law 996 = .ok (.goto (-973), 3) := dk_167 252 51 (dk_at dksL_law_40 12 rfl rfl)
theorem dL_law_999 : decode cL_law 999 = .ok (.iconst 1, 1) := dk_4 (dk_at dksL_law_40 15 rfl rfl)
theorem dL_law_1000 : decode cL_law 1000 = .ok (.ireturn, 1) := dk_172 (dk_at dksL_law_40 16 rfl rfl)
theorem q387 : (Jvm.Cond.selects "RowenTongue$Nothing" ({ cls := "java/lang/Object", name := "getClass", desc := "()Ljava/lang/Class;" } : Jvm.MethodName) ({ cls := "java/lang/Object", name := "getClass", desc := "()Ljava/lang/Class;" } : Jvm.MethodName)) ∈ lw_all := lw_g (lw_at lw_m2 98 rfl) rfl
set_option maxRecDepth 100000
theorem q761 : (Jvm.Cond.selects "RowenTongue$Nothing" ({ cls := "java/lang/Object", name := "equals", desc := "(Ljava/lang/Object;)Z" } : Jvm.MethodName) ({ cls := "java/lang/Object", name := "equals", desc := "(Ljava/lang/Object;)Z" } : Jvm.MethodName)) ∈ lw_all := lw_g (lw_at lw_m3 232 rfl) rfl
theorem q875 : (Jvm.Cond.selects "RowenTongue$Nothing" ({ cls := "RowenTongue$Row", name := "now", desc := "()LRowenTongue$Row;" } : Jvm.MethodName) ({ cls := "RowenTongue$Row", name := "now", desc := "()LRowenTongue$Row;" } : Jvm.MethodName)) ∈ lw_all := lw_g (lw_at lw_m4 106 rfl) rfl
theorem q2871 : (Jvm.Cond.castable "RowenTongue$Nothing" "RowenTongue$Row") ∈ lw_tbl := lw_at lw_m12 182 rfl
theorem q2898 : (Jvm.Cond.castable "RowenTongue$Nothing" "java/lang/Object") ∈ lw_tbl := lw_at lw_m12 209 rfl
theorem q388 : (Jvm.Cond.selects "RowenTongue$Numbers" ({ cls := "java/lang/Object", name := "getClass", desc := "()Ljava/lang/Class;" } : Jvm.MethodName) ({ cls := "java/lang/Object", name := "getClass", desc := "()Ljava/lang/Class;" } : Jvm.MethodName)) ∈ lw_all := lw_g (lw_at lw_m2 99 rfl) rfl
set_option maxRecDepth 100000
theorem q719 : (Jvm.Cond.selects "RowenTongue$Numbers" ({ cls := "RowenTongue$Type", name := "now", desc := "()LRowenTongue$Type;" } : Jvm.MethodName) ({ cls := "RowenTongue$Type", name := "now", desc := "()LRowenTongue$Type;" } : Jvm.MethodName)) ∈ lw_all := lw_g (lw_at lw_m3 190 rfl) rfl
theorem q762 : (Jvm.Cond.selects "RowenTongue$Numbers" ({ cls := "java/lang/Object", name := "equals", desc := "(Ljava/lang/Object;)Z" } : Jvm.MethodName) ({ cls := "java/lang/Object", name := "equals", desc := "(Ljava/lang/Object;)Z" } : Jvm.MethodName)) ∈ lw_all := lw_g (lw_at lw_m3 233 rfl) rfl
theorem q2868 : (Jvm.Cond.castable "RowenTongue$Numbers" "RowenTongue$Type") ∈ lw_tbl := lw_at lw_m12 179 rfl
theorem q2896 : (Jvm.Cond.castable "RowenTongue$Numbers" "java/lang/Object") ∈ lw_tbl := lw_at lw_m12 207 rfl
theorem q1674 : (Jvm.Cond.interfaceMethod "RowenTongue$Variable" "RowenTongue$Variable" "isLike" "()Z") ∈ lw_tbl := lw_at lw_m7 185 rfl
set_option maxRecDepth 100000
theorem q1675 : (Jvm.Cond.declares ({ cls := "RowenTongue$Variable", name := "isLike", desc := "()Z" } : Jvm.MethodName)) ∈ lw_tbl := lw_at lw_m7 186 rfl
theorem q1690 : (Jvm.Cond.interfaceMethod "RowenTongue$Variable" "RowenTongue$Variable" "lacking" "()I") ∈ lw_tbl := lw_at lw_m7 201 rfl
theorem q1691 : (Jvm.Cond.declares ({ cls := "RowenTongue$Variable", name := "lacking", desc := "()I" } : Jvm.MethodName)) ∈ lw_tbl := lw_at lw_m7 202 rfl
theorem q1357 : (Jvm.Cond.sameMethod "[B" "java/lang/Object" "clone" "()Ljava/lang/Object;") ∈ lw_all := lw_g (lw_at lw_m6 108 rfl) rfl
set_option maxRecDepth 100000
theorem q1360 : (Jvm.Cond.selects "[B" ({ cls := "[B", name := "clone", desc := "()Ljava/lang/Object;" } : Jvm.MethodName) ({ cls := "java/lang/Object", name := "clone", desc := "()Ljava/lang/Object;" } : Jvm.MethodName)) ∈ lw_all := lw_g (lw_at lw_m6 111 rfl) rfl
theorem q1361 : (Jvm.Cond.castable "[B" "java/lang/Cloneable") ∈ lw_tbl := lw_at lw_m6 112 rfl
theorem q2939 : (Jvm.Cond.castable "[B" "java/lang/Object") ∈ lw_tbl := lw_at lw_m13 10 rfl
theorem q2942 : (Jvm.Cond.castable "[I" "java/lang/Object") ∈ lw_tbl := lw_at lw_m13 13 rfl
set_option maxRecDepth 100000
theorem q2948 : (Jvm.Cond.castable "[J" "java/lang/Object") ∈ lw_tbl := lw_at lw_m13 19 rfl
set_option maxRecDepth 100000
theorem q2945 : (Jvm.Cond.castable "[LRowenTongueModel$Row;" "java/lang/Object") ∈ lw_tbl := lw_at lw_m13 16 rfl
set_option maxRecDepth 100000
theorem q2946 : (Jvm.Cond.castable "[LRowenTongueModel$Type;" "java/lang/Object") ∈ lw_tbl := lw_at lw_m13 17 rfl
set_option maxRecDepth 100000
theorem q2947 : (Jvm.Cond.castable "[LRowenTongueModel$Value;" "java/lang/Object") ∈ lw_tbl := lw_at lw_m13 18 rfl
set_option maxRecDepth 100000
theorem q2943 : (Jvm.Cond.castable "[LRowenTongue$Code;" "java/lang/Object") ∈ lw_tbl := lw_at lw_m13 14 rfl
set_option maxRecDepth 100000
theorem q2940 : (Jvm.Cond.castable "[LRowenTongue$Term;" "java/lang/Object") ∈ lw_tbl := lw_at lw_m13 11 rfl
set_option maxRecDepth 100000
theorem q2944 : (Jvm.Cond.castable "[LRowenTongue$Value;" "java/lang/Object") ∈ lw_tbl := lw_at lw_m13 15 rfl
set_option maxRecDepth 100000
theorem q2936 : (Jvm.Cond.sameMethod "[Ljava/lang/Object;" "java/lang/Object" "getClass" "()Ljava/lang/Class;") ∈ lw_all := lw_g (lw_at lw_m13 7 rfl) rfl
set_option maxRecDepth 100000
theorem q2937 : (Jvm.Cond.selects "[Ljava/lang/Object;" ({ cls := "java/lang/Object", name := "getClass", desc := "()Ljava/lang/Class;" } : Jvm.MethodName) ({ cls := "java/lang/Object", name := "getClass", desc := "()Ljava/lang/Class;" } : Jvm.MethodName)) ∈ lw_all := lw_g (lw_at lw_m13 8 rfl) rfl
theorem q2941 : (Jvm.Cond.castable "[Ljava/lang/Object;" "java/lang/Object") ∈ lw_tbl := lw_at lw_m13 12 rfl
theorem q95 : (Jvm.Cond.initialized "java/lang/Number") ∈ lw_all := lw_g (lw_at lw_m1 46 rfl) rfl
set_option maxRecDepth 100000
theorem q64 : (Jvm.Cond.initialized "java/lang/System") ∈ lw_all := lw_g (lw_at lw_m1 15 rfl) rfl
set_option maxRecDepth 100000
theorem q430 : (Jvm.Cond.static ({ cls := "java/lang/System", name := "arraycopy", desc := "(Ljava/lang/Object;ILjava/lang/Object;II)V" } : Jvm.MethodName)) ∈ lw_all := lw_g (lw_at lw_m2 141 rfl) rfl
theorem q431 : (Jvm.Cond.native ({ cls := "java/lang/System", name := "arraycopy", desc := "(Ljava/lang/Object;ILjava/lang/Object;II)V" } : Jvm.MethodName)) ∈ lw_all := lw_g (lw_at lw_m2 142 rfl) rfl
theorem q2298 : (Jvm.Cond.interfaceMethod "java/util/Collection" "java/util/Collection" "toArray" "()[Ljava/lang/Object;") ∈ lw_tbl := lw_at lw_m10 89 rfl
set_option maxRecDepth 100000
theorem q2299 : (Jvm.Cond.declares ({ cls := "java/util/Collection", name := "toArray", desc := "()[Ljava/lang/Object;" } : Jvm.MethodName)) ∈ lw_tbl := lw_at lw_m10 90 rfl
theorem q972 : (Jvm.Cond.interfaceMethod "java/util/Iterator" "java/util/Iterator" "hasNext" "()Z") ∈ lw_tbl := lw_at lw_m4 203 rfl
set_option maxRecDepth 100000
theorem q973 : (Jvm.Cond.declares ({ cls := "java/util/Iterator", name := "hasNext", desc := "()Z" } : Jvm.MethodName)) ∈ lw_tbl := lw_at lw_m4 204 rfl
theorem q982 : (Jvm.Cond.interfaceMethod "java/util/Iterator" "java/util/Iterator" "next" "()Ljava/lang/Object;") ∈ lw_tbl := lw_at lw_m4 213 rfl
theorem q983 : (Jvm.Cond.declares ({ cls := "java/util/Iterator", name := "next", desc := "()Ljava/lang/Object;" } : Jvm.MethodName)) ∈ lw_tbl := lw_at lw_m4 214 rfl
theorem q2036 : (Jvm.Cond.interfaceMethod "jdk/internal/access/JavaLangAccess" "jdk/internal/access/JavaLangAccess" "getUTF16Char" "([BI)C") ∈ lw_tbl := lw_at lw_m9 67 rfl
set_option maxRecDepth 100000
theorem q2037 : (Jvm.Cond.declares ({ cls := "jdk/internal/access/JavaLangAccess", name := "getUTF16Char", desc := "([BI)C" } : Jvm.MethodName)) ∈ lw_tbl := lw_at lw_m9 68 rfl
theorem q172 : (Jvm.Cond.arrayClass Jvm.ClassFile.FieldType.byte) ∈ lw_all := lw_g (lw_at lw_m1 123 rfl) rfl
set_option maxRecDepth 100000
theorem q271 : (Jvm.Cond.arrayOver (Jvm.ClassFile.FieldType.object "RowenTongue$Term")) ∈ lw_tbl := lw_at lw_m1 222 rfl
theorem q424 : (Jvm.Cond.arrayOver (Jvm.ClassFile.FieldType.object "java/lang/Object")) ∈ lw_tbl := lw_at lw_m2 135 rfl
theorem q553 : (Jvm.Cond.arrayClass Jvm.ClassFile.FieldType.int) ∈ lw_all := lw_g (lw_at lw_m3 24 rfl) rfl
theorem q565 : (Jvm.Cond.arrayOver (Jvm.ClassFile.FieldType.object "RowenTongue$Code")) ∈ lw_tbl := lw_at lw_m3 36 rfl
theorem q1927 : (Jvm.Cond.arrayOver (Jvm.ClassFile.FieldType.object "RowenTongue$Value")) ∈ lw_tbl := lw_at lw_m8 198 rfl
theorem q2562 : (Jvm.Cond.arrayOver (Jvm.ClassFile.FieldType.object "RowenTongueModel$Row")) ∈ lw_tbl := lw_at lw_m11 113 rfl
theorem q2675 : (Jvm.Cond.arrayOver (Jvm.ClassFile.FieldType.object "RowenTongueModel$Type")) ∈ lw_tbl := lw_at lw_m11 226 rfl
theorem q2824 : (Jvm.Cond.arrayOver (Jvm.ClassFile.FieldType.object "RowenTongueModel$Value")) ∈ lw_tbl := lw_at lw_m12 135 rfl
theorem q2850 : (Jvm.Cond.arrayClass Jvm.ClassFile.FieldType.long) ∈ lw_all := lw_g (lw_at lw_m12 161 rfl) rfl
theorem q2949 : (Jvm.Cond.arrayClass Jvm.ClassFile.FieldType.char) ∈ lw_all := lw_g (lw_at lw_m13 20 rfl) rfl
theorem q2950 : (Jvm.Cond.arrayClass Jvm.ClassFile.FieldType.short) ∈ lw_all := lw_g (lw_at lw_m13 21 rfl) rfl
