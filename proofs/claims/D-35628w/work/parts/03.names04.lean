/-! RowenTongueModel$Type -/
set_option maxRecDepth 100000
def RX25 : String := "RowenTongueModel$Type"
def TX25 : u_T := fun k => match k with
  | 0 => ("RowenTongueModel$Type", "kind", "I", true)
  | 1 => ("RowenTongueModel$Type", "is", "LRowenTongueModel$Type;", false)
  | 2 => ("RowenTongueModel$Type", "from", "LRowenTongueModel$Type;", false)
  | 3 => ("RowenTongueModel$Type", "to", "LRowenTongueModel$Type;", false)
  | 4 => ("RowenTongueModel$Type", "row", "LRowenTongueModel$Row;", false)
  | 5 => ("RowenTongueModel$Type", "isComparable", "Z", false)
  | 6 => ("RowenTongueModel$Type", "seen", "J", false)
  | _ => ("RowenTongueModel$Type", "copy", "LRowenTongueModel$Type;", false)
def tyX25 : Nat → FieldType := fun k => match k with
  | 0 => .int
  | 1 => .object "RowenTongueModel$Type"
  | 2 => .object "RowenTongueModel$Type"
  | 3 => .object "RowenTongueModel$Type"
  | 4 => .object "RowenTongueModel$Row"
  | 5 => .boolean
  | 6 => .long
  | _ => .object "RowenTongueModel$Type"
abbrev wsX250 : List Cond := u_ws RX25 TX25 8
theorem nmX25 : ∀ a, a < 8 → ∀ b, b < 8 → a ≠ b → (TX25 a).2.1 ≠ (TX25 b).2.1 := by decide +kernel
theorem tyX25_ok : ∀ k, k < 8 → parseFieldDescriptor (TX25 k).2.2.1 = some (tyX25 k) := by decide +kernel
abbrev cX25_init : ByteArray := prog_49_method_1_code
def yX25_init : MethodName := ⟨RX25, "<init>", "(I)V"⟩
def dkwX25_init_0 : List UInt8 := [42, 183, 0, 1, 42, 27, 181, 0, 7, 177]
abbrev dktX25_init_0 : List UInt8 := dkwX25_init_0 ++ []
theorem dksX25_init_0 : cX25_init.data.toList.drop 0 = dktX25_init_0 := by decide +kernel
theorem dX25_init_0 : decode cX25_init 0 = .ok (.aload_n 0, 1) := dk_42 (dk_at dksX25_init_0 0 rfl rfl)
theorem dX25_init_1 : decode cX25_init 1 = .ok (.invokespecial 1, 3) := dk_183 0 1 (dk_at dksX25_init_0 1 rfl rfl)
theorem dX25_init_4 : decode cX25_init 4 = .ok (.aload_n 0, 1) := dk_42 (dk_at dksX25_init_0 4 rfl rfl)
theorem dX25_init_5 : decode cX25_init 5 = .ok (.iload_n 1, 1) := dk_27 (dk_at dksX25_init_0 5 rfl rfl)
theorem dX25_init_6 : decode cX25_init 6 = .ok (.putfield 7, 3) := dk_181 0 7 (dk_at dksX25_init_0 6 rfl rfl)
theorem dX25_init_9 : decode cX25_init 9 = .ok (.return_, 1) := dk_177 (dk_at dksX25_init_0 9 rfl rfl)
abbrev cX25_now : ByteArray := prog_49_method_2_code
def yX25_now : MethodName := ⟨RX25, "now", "()LRowenTongueModel$Type;"⟩
def dkwX25_now_0 : List UInt8 := [42, 76, 43, 180, 0, 13, 198, 0, 11, 43, 180, 0, 13, 76, 167, 255, 244, 43, 176]
abbrev dktX25_now_0 : List UInt8 := dkwX25_now_0 ++ []
theorem dksX25_now_0 : cX25_now.data.toList.drop 0 = dktX25_now_0 := by decide +kernel
theorem dX25_now_0 : decode cX25_now 0 = .ok (.aload_n 0, 1) := dk_42 (dk_at dksX25_now_0 0 rfl rfl)
theorem dX25_now_1 : decode cX25_now 1 = .ok (.astore_n 1, 1) := dk_76 (dk_at dksX25_now_0 1 rfl rfl)
theorem dX25_now_2 : decode cX25_now 2 = .ok (.aload_n 1, 1) := dk_43 (dk_at dksX25_now_0 2 rfl rfl)
theorem dX25_now_3 : decode cX25_now 3 = .ok (.getfield 13, 3) := dk_180 0 13 (dk_at dksX25_now_0 3 rfl rfl)
theorem dX25_now_6 : decode cX25_now 6 = .ok (.ifnull 11, 3) := dk_198 0 11 (dk_at dksX25_now_0 6 rfl rfl)
theorem dX25_now_9 : decode cX25_now 9 = .ok (.aload_n 1, 1) := dk_43 (dk_at dksX25_now_0 9 rfl rfl)
theorem dX25_now_10 : decode cX25_now 10 = .ok (.getfield 13, 3) := dk_180 0 13 (dk_at dksX25_now_0 10 rfl rfl)
theorem dX25_now_13 : decode cX25_now 13 = .ok (.astore_n 1, 1) := dk_76 (dk_at dksX25_now_0 13 rfl rfl)
theorem dX25_now_14 : decode cX25_now 14 = .ok (.goto (-12), 3) := dk_167 255 244 (dk_at dksX25_now_0 14 rfl rfl)
theorem dX25_now_17 : decode cX25_now 17 = .ok (.aload_n 1, 1) := dk_43 (dk_at dksX25_now_0 17 rfl rfl)
theorem dX25_now_18 : decode cX25_now 18 = .ok (.areturn, 1) := dk_176 (dk_at dksX25_now_0 18 rfl rfl)
theorem q98 : (Jvm.Cond.initialized "RowenTongueModel$Type") ∈ lw_all := lw_g (lw_at lw_m1 49 rfl) rfl
theorem q407 : (Jvm.Cond.selects "RowenTongueModel$Type" ({ cls := "java/lang/Object", name := "getClass", desc := "()Ljava/lang/Class;" } : Jvm.MethodName) ({ cls := "java/lang/Object", name := "getClass", desc := "()Ljava/lang/Class;" } : Jvm.MethodName)) ∈ lw_all := lw_g (lw_at lw_m2 118 rfl) rfl
theorem q781 : (Jvm.Cond.selects "RowenTongueModel$Type" ({ cls := "java/lang/Object", name := "equals", desc := "(Ljava/lang/Object;)Z" } : Jvm.MethodName) ({ cls := "java/lang/Object", name := "equals", desc := "(Ljava/lang/Object;)Z" } : Jvm.MethodName)) ∈ lw_all := lw_g (lw_at lw_m4 12 rfl) rfl
theorem q2498 : (Jvm.Cond.instantiable "RowenTongueModel$Type" (8 : Nat)) ∈ lw_all := lw_g (lw_at lw_m11 49 rfl) rfl
theorem q2500 : (Jvm.Cond.instanceMethod ({ cls := "RowenTongueModel$Type", name := "<init>", desc := "(I)V" } : Jvm.MethodName)) ∈ lw_all := lw_g (lw_at lw_m11 51 rfl) rfl
theorem q2501 : (Jvm.Cond.code ({ cls := "RowenTongueModel$Type", name := "<init>", desc := "(I)V" } : Jvm.MethodName) prog_49_method_1_code (2 : Nat) (Option.none : Option Jvm.ClassFile.FieldType)) ∈ lw_all := lw_g (lw_at lw_m11 52 rfl) rfl
theorem q2502 : (Jvm.Cond.methodLink "RowenTongueModel$Type" (1 : Nat) ({ cls := "java/lang/Object", name := "<init>", desc := "()V" } : Jvm.MethodName)) ∈ lw_all := lw_g (lw_at lw_m11 53 rfl) rfl
theorem q2503 : (Jvm.Cond.fieldLink "RowenTongueModel$Type" (7 : Nat) "RowenTongueModel$Type" "kind" "I") ∈ lw_all := lw_g (lw_at lw_m11 54 rfl) rfl
theorem q2505 : (Jvm.Cond.fieldLink "RowenTongueModel$Type" (13 : Nat) "RowenTongueModel$Type" "is" "LRowenTongueModel$Type;") ∈ lw_all := lw_g (lw_at lw_m11 56 rfl) rfl
theorem q2513 : (Jvm.Cond.laysFinal "RowenTongueModel$Type" "RowenTongueModel$Type" "kind" "I") ∈ lw_all := lw_g (lw_at lw_m11 64 rfl) rfl
theorem q2514 : (Jvm.Cond.soleField "RowenTongueModel$Type" "kind") ∈ lw_all := lw_g (lw_at lw_m11 65 rfl) rfl
theorem q2515 : (Jvm.Cond.lays "RowenTongueModel$Type" "RowenTongueModel$Type" "is" "LRowenTongueModel$Type;") ∈ lw_all := lw_g (lw_at lw_m11 66 rfl) rfl
theorem q2516 : (Jvm.Cond.soleField "RowenTongueModel$Type" "is") ∈ lw_all := lw_g (lw_at lw_m11 67 rfl) rfl
theorem q2517 : (Jvm.Cond.lays "RowenTongueModel$Type" "RowenTongueModel$Type" "from" "LRowenTongueModel$Type;") ∈ lw_all := lw_g (lw_at lw_m11 68 rfl) rfl
theorem q2518 : (Jvm.Cond.soleField "RowenTongueModel$Type" "from") ∈ lw_all := lw_g (lw_at lw_m11 69 rfl) rfl
theorem q2519 : (Jvm.Cond.lays "RowenTongueModel$Type" "RowenTongueModel$Type" "to" "LRowenTongueModel$Type;") ∈ lw_all := lw_g (lw_at lw_m11 70 rfl) rfl
theorem q2520 : (Jvm.Cond.soleField "RowenTongueModel$Type" "to") ∈ lw_all := lw_g (lw_at lw_m11 71 rfl) rfl
theorem q2521 : (Jvm.Cond.lays "RowenTongueModel$Type" "RowenTongueModel$Type" "row" "LRowenTongueModel$Row;") ∈ lw_all := lw_g (lw_at lw_m11 72 rfl) rfl
theorem q2522 : (Jvm.Cond.soleField "RowenTongueModel$Type" "row") ∈ lw_all := lw_g (lw_at lw_m11 73 rfl) rfl
theorem q2523 : (Jvm.Cond.lays "RowenTongueModel$Type" "RowenTongueModel$Type" "isComparable" "Z") ∈ lw_all := lw_g (lw_at lw_m11 74 rfl) rfl
theorem q2524 : (Jvm.Cond.soleField "RowenTongueModel$Type" "isComparable") ∈ lw_all := lw_g (lw_at lw_m11 75 rfl) rfl
theorem q2525 : (Jvm.Cond.lays "RowenTongueModel$Type" "RowenTongueModel$Type" "seen" "J") ∈ lw_all := lw_g (lw_at lw_m11 76 rfl) rfl
theorem q2526 : (Jvm.Cond.soleField "RowenTongueModel$Type" "seen") ∈ lw_all := lw_g (lw_at lw_m11 77 rfl) rfl
theorem q2527 : (Jvm.Cond.lays "RowenTongueModel$Type" "RowenTongueModel$Type" "copy" "LRowenTongueModel$Type;") ∈ lw_all := lw_g (lw_at lw_m11 78 rfl) rfl
theorem q2528 : (Jvm.Cond.soleField "RowenTongueModel$Type" "copy") ∈ lw_all := lw_g (lw_at lw_m11 79 rfl) rfl
theorem q2529 : (Jvm.Cond.superclass "RowenTongueModel$Type" "java/lang/Object") ∈ lw_all := lw_g (lw_at lw_m11 80 rfl) rfl
theorem q2605 : (Jvm.Cond.instanceMethod ({ cls := "RowenTongueModel$Type", name := "now", desc := "()LRowenTongueModel$Type;" } : Jvm.MethodName)) ∈ lw_all := lw_g (lw_at lw_m11 156 rfl) rfl
theorem q2606 : (Jvm.Cond.selects "RowenTongueModel$Type" ({ cls := "RowenTongueModel$Type", name := "now", desc := "()LRowenTongueModel$Type;" } : Jvm.MethodName) ({ cls := "RowenTongueModel$Type", name := "now", desc := "()LRowenTongueModel$Type;" } : Jvm.MethodName)) ∈ lw_all := lw_g (lw_at lw_m11 157 rfl) rfl
theorem q2607 : (Jvm.Cond.code ({ cls := "RowenTongueModel$Type", name := "now", desc := "()LRowenTongueModel$Type;" } : Jvm.MethodName) prog_49_method_2_code (2 : Nat) (Option.some (Jvm.ClassFile.FieldType.object "RowenTongueModel$Type"))) ∈ lw_all := lw_g (lw_at lw_m11 158 rfl) rfl
theorem q2885 : (Jvm.Cond.castable "RowenTongueModel$Type" "java/lang/Object") ∈ lw_tbl := lw_at lw_m12 196 rfl
theorem in_X25 : ∀ w ∈ wsX250, w ∈ lw_all := lw_in wsX250 [2513, 2515, 2517, 2519, 2521, 2523, 2525, 2527] (by decide +kernel) (by decide +kernel)
/-! RowenTongueModel$Wrong -/
set_option maxRecDepth 100000
def RX26 : String := "RowenTongueModel$Wrong"
def TX26 : u_T := fun k => match k with
  | 0 => ("java/lang/Throwable", "cause", "Ljava/lang/Throwable;", false)
  | 1 => ("java/lang/Throwable", "stackTrace", "[Ljava/lang/StackTraceElement;", false)
  | 2 => ("java/lang/Throwable", "suppressedExceptions", "Ljava/util/List;", false)
  | 3 => ("java/lang/Throwable", "detailMessage", "Ljava/lang/String;", false)
  | 4 => ("java/lang/Throwable", "backtrace", "Ljava/lang/Object;", false)
  | 5 => ("java/lang/Throwable", "depth", "I", false)
  | _ => ("RowenTongueModel$Wrong", "error", "I", true)
def tyX26 : Nat → FieldType := fun k => match k with
  | 0 => .object "java/lang/Throwable"
  | 1 => .array (.object "java/lang/StackTraceElement")
  | 2 => .object "java/util/List"
  | 3 => .object "java/lang/String"
  | 4 => .object "java/lang/Object"
  | 5 => .int
  | _ => .int
abbrev wsX260 : List Cond := u_ws RX26 TX26 7
theorem nmX26 : ∀ a, a < 7 → ∀ b, b < 7 → a ≠ b → (TX26 a).2.1 ≠ (TX26 b).2.1 := by decide +kernel
theorem tyX26_ok : ∀ k, k < 7 → parseFieldDescriptor (TX26 k).2.2.1 = some (tyX26 k) := by decide +kernel
abbrev cX26_init : ByteArray := prog_51_method_1_code
def yX26_init : MethodName := ⟨RX26, "<init>", "(I)V"⟩
def dkwX26_init_0 : List UInt8 := [42, 1, 1, 3, 3, 183, 0, 1, 42, 27, 181, 0, 7, 177]
abbrev dktX26_init_0 : List UInt8 := dkwX26_init_0 ++ []
theorem dksX26_init_0 : cX26_init.data.toList.drop 0 = dktX26_init_0 := by decide +kernel
theorem dX26_init_0 : decode cX26_init 0 = .ok (.aload_n 0, 1) := dk_42 (dk_at dksX26_init_0 0 rfl rfl)
theorem dX26_init_1 : decode cX26_init 1 = .ok (.aconst_null, 1) := dk_1 (dk_at dksX26_init_0 1 rfl rfl)
theorem dX26_init_2 : decode cX26_init 2 = .ok (.aconst_null, 1) := dk_1 (dk_at dksX26_init_0 2 rfl rfl)
theorem dX26_init_3 : decode cX26_init 3 = .ok (.iconst 0, 1) := dk_3 (dk_at dksX26_init_0 3 rfl rfl)
theorem dX26_init_4 : decode cX26_init 4 = .ok (.iconst 0, 1) := dk_3 (dk_at dksX26_init_0 4 rfl rfl)
theorem dX26_init_5 : decode cX26_init 5 = .ok (.invokespecial 1, 3) := dk_183 0 1 (dk_at dksX26_init_0 5 rfl rfl)
theorem dX26_init_8 : decode cX26_init 8 = .ok (.aload_n 0, 1) := dk_42 (dk_at dksX26_init_0 8 rfl rfl)
theorem dX26_init_9 : decode cX26_init 9 = .ok (.iload_n 1, 1) := dk_27 (dk_at dksX26_init_0 9 rfl rfl)
theorem dX26_init_10 : decode cX26_init 10 = .ok (.putfield 7, 3) := dk_181 0 7 (dk_at dksX26_init_0 10 rfl rfl)
theorem dX26_init_13 : decode cX26_init 13 = .ok (.return_, 1) := dk_177 (dk_at dksX26_init_0 13 rfl rfl)
theorem q99 : (Jvm.Cond.initialized "RowenTongueModel$Wrong") ∈ lw_all := lw_g (lw_at lw_m1 50 rfl) rfl
theorem q237 : (Jvm.Cond.selects "RowenTongueModel$Wrong" ({ cls := "java/lang/Throwable", name := "fillInStackTrace", desc := "()Ljava/lang/Throwable;" } : Jvm.MethodName) ({ cls := "java/lang/Throwable", name := "fillInStackTrace", desc := "()Ljava/lang/Throwable;" } : Jvm.MethodName)) ∈ lw_all := lw_g (lw_at lw_m1 188 rfl) rfl
theorem q409 : (Jvm.Cond.selects "RowenTongueModel$Wrong" ({ cls := "java/lang/Object", name := "getClass", desc := "()Ljava/lang/Class;" } : Jvm.MethodName) ({ cls := "java/lang/Object", name := "getClass", desc := "()Ljava/lang/Class;" } : Jvm.MethodName)) ∈ lw_all := lw_g (lw_at lw_m2 120 rfl) rfl
theorem q783 : (Jvm.Cond.selects "RowenTongueModel$Wrong" ({ cls := "java/lang/Object", name := "equals", desc := "(Ljava/lang/Object;)Z" } : Jvm.MethodName) ({ cls := "java/lang/Object", name := "equals", desc := "(Ljava/lang/Object;)Z" } : Jvm.MethodName)) ∈ lw_all := lw_g (lw_at lw_m4 14 rfl) rfl
theorem q2530 : (Jvm.Cond.instantiable "RowenTongueModel$Wrong" (7 : Nat)) ∈ lw_all := lw_g (lw_at lw_m11 81 rfl) rfl
theorem q2531 : (Jvm.Cond.castable "RowenTongueModel$Wrong" "RowenTongueModel$Wrong") ∈ lw_tbl := lw_at lw_m11 82 rfl
theorem q2532 : (Jvm.Cond.selects "RowenTongueModel$Wrong" ({ cls := "java/lang/Throwable", name := "fillInStackTrace", desc := "(I)Ljava/lang/Throwable;" } : Jvm.MethodName) ({ cls := "java/lang/Throwable", name := "fillInStackTrace", desc := "(I)Ljava/lang/Throwable;" } : Jvm.MethodName)) ∈ lw_all := lw_g (lw_at lw_m11 83 rfl) rfl
theorem q2533 : (Jvm.Cond.lays "RowenTongueModel$Wrong" "java/lang/Throwable" "cause" "Ljava/lang/Throwable;") ∈ lw_all := lw_g (lw_at lw_m11 84 rfl) rfl
theorem q2534 : (Jvm.Cond.lays "RowenTongueModel$Wrong" "java/lang/Throwable" "stackTrace" "[Ljava/lang/StackTraceElement;") ∈ lw_all := lw_g (lw_at lw_m11 85 rfl) rfl
theorem q2535 : (Jvm.Cond.lays "RowenTongueModel$Wrong" "java/lang/Throwable" "suppressedExceptions" "Ljava/util/List;") ∈ lw_all := lw_g (lw_at lw_m11 86 rfl) rfl
theorem q2536 : (Jvm.Cond.lays "RowenTongueModel$Wrong" "java/lang/Throwable" "detailMessage" "Ljava/lang/String;") ∈ lw_all := lw_g (lw_at lw_m11 87 rfl) rfl
theorem q2537 : (Jvm.Cond.lays "RowenTongueModel$Wrong" "java/lang/Throwable" "backtrace" "Ljava/lang/Object;") ∈ lw_all := lw_g (lw_at lw_m11 88 rfl) rfl
theorem q2539 : (Jvm.Cond.instanceMethod ({ cls := "RowenTongueModel$Wrong", name := "<init>", desc := "(I)V" } : Jvm.MethodName)) ∈ lw_all := lw_g (lw_at lw_m11 90 rfl) rfl
theorem q2540 : (Jvm.Cond.code ({ cls := "RowenTongueModel$Wrong", name := "<init>", desc := "(I)V" } : Jvm.MethodName) prog_51_method_1_code (2 : Nat) (Option.none : Option Jvm.ClassFile.FieldType)) ∈ lw_all := lw_g (lw_at lw_m11 91 rfl) rfl
theorem q2541 : (Jvm.Cond.methodLink "RowenTongueModel$Wrong" (1 : Nat) ({ cls := "java/lang/RuntimeException", name := "<init>", desc := "(Ljava/lang/String;Ljava/lang/Throwable;ZZ)V" } : Jvm.MethodName)) ∈ lw_all := lw_g (lw_at lw_m11 92 rfl) rfl
theorem q2550 : (Jvm.Cond.fieldLink "RowenTongueModel$Wrong" (7 : Nat) "RowenTongueModel$Wrong" "error" "I") ∈ lw_all := lw_g (lw_at lw_m11 101 rfl) rfl
theorem q2552 : (Jvm.Cond.laysFinal "RowenTongueModel$Wrong" "RowenTongueModel$Wrong" "error" "I") ∈ lw_all := lw_g (lw_at lw_m11 103 rfl) rfl
theorem q2553 : (Jvm.Cond.soleField "RowenTongueModel$Wrong" "error") ∈ lw_all := lw_g (lw_at lw_m11 104 rfl) rfl
theorem q2554 : (Jvm.Cond.lays "RowenTongueModel$Wrong" "java/lang/Throwable" "depth" "I") ∈ lw_all := lw_g (lw_at lw_m11 105 rfl) rfl
theorem q2555 : (Jvm.Cond.superclass "RowenTongueModel$Wrong" "java/lang/RuntimeException") ∈ lw_all := lw_g (lw_at lw_m11 106 rfl) rfl
theorem q2916 : (Jvm.Cond.castable "RowenTongueModel$Wrong" "java/lang/Object") ∈ lw_tbl := lw_at lw_m12 227 rfl
theorem in_X26 : ∀ w ∈ wsX260, w ∈ lw_all := lw_in wsX260 [2533, 2534, 2535, 2536, 2537, 2554, 2552] (by decide +kernel) (by decide +kernel)
/-! RowenTongueModel$Row -/
set_option maxRecDepth 100000
def RX27 : String := "RowenTongueModel$Row"
def TX27 : u_T := fun k => match k with
  | 0 => ("RowenTongueModel$Row", "kind", "I", true)
  | 1 => ("RowenTongueModel$Row", "is", "LRowenTongueModel$Row;", false)
  | 2 => ("RowenTongueModel$Row", "label", "I", false)
  | 3 => ("RowenTongueModel$Row", "type", "LRowenTongueModel$Type;", false)
  | 4 => ("RowenTongueModel$Row", "rest", "LRowenTongueModel$Row;", false)
  | 5 => ("RowenTongueModel$Row", "lacks", "I", false)
  | _ => ("RowenTongueModel$Row", "isComparable", "Z", false)
def tyX27 : Nat → FieldType := fun k => match k with
  | 0 => .int
  | 1 => .object "RowenTongueModel$Row"
  | 2 => .int
  | 3 => .object "RowenTongueModel$Type"
  | 4 => .object "RowenTongueModel$Row"
  | 5 => .int
  | _ => .boolean
abbrev wsX270 : List Cond := u_ws RX27 TX27 7
theorem nmX27 : ∀ a, a < 7 → ∀ b, b < 7 → a ≠ b → (TX27 a).2.1 ≠ (TX27 b).2.1 := by decide +kernel
theorem tyX27_ok : ∀ k, k < 7 → parseFieldDescriptor (TX27 k).2.2.1 = some (tyX27 k) := by decide +kernel
abbrev cX27_init : ByteArray := prog_48_method_1_code
def yX27_init : MethodName := ⟨RX27, "<init>", "(I)V"⟩
def dkwX27_init_0 : List UInt8 := [42, 183, 0, 1, 42, 27, 181, 0, 7, 177]
abbrev dktX27_init_0 : List UInt8 := dkwX27_init_0 ++ []
theorem dksX27_init_0 : cX27_init.data.toList.drop 0 = dktX27_init_0 := by decide +kernel
theorem dX27_init_0 : decode cX27_init 0 = .ok (.aload_n 0, 1) := dk_42 (dk_at dksX27_init_0 0 rfl rfl)
theorem dX27_init_1 : decode cX27_init 1 = .ok (.invokespecial 1, 3) := dk_183 0 1 (dk_at dksX27_init_0 1 rfl rfl)
theorem dX27_init_4 : decode cX27_init 4 = .ok (.aload_n 0, 1) := dk_42 (dk_at dksX27_init_0 4 rfl rfl)
theorem dX27_init_5 : decode cX27_init 5 = .ok (.iload_n 1, 1) := dk_27 (dk_at dksX27_init_0 5 rfl rfl)
theorem dX27_init_6 : decode cX27_init 6 = .ok (.putfield 7, 3) := dk_181 0 7 (dk_at dksX27_init_0 6 rfl rfl)
theorem dX27_init_9 : decode cX27_init 9 = .ok (.return_, 1) := dk_177 (dk_at dksX27_init_0 9 rfl rfl)
abbrev cX27_now : ByteArray := prog_48_method_2_code
def yX27_now : MethodName := ⟨RX27, "now", "()LRowenTongueModel$Row;"⟩
def dkwX27_now_0 : List UInt8 := [42, 76, 43, 180, 0, 13, 198, 0, 11, 43, 180, 0, 13, 76, 167, 255, 244, 43, 176]
abbrev dktX27_now_0 : List UInt8 := dkwX27_now_0 ++ []
theorem dksX27_now_0 : cX27_now.data.toList.drop 0 = dktX27_now_0 := by decide +kernel
theorem dX27_now_0 : decode cX27_now 0 = .ok (.aload_n 0, 1) := dk_42 (dk_at dksX27_now_0 0 rfl rfl)
theorem dX27_now_1 : decode cX27_now 1 = .ok (.astore_n 1, 1) := dk_76 (dk_at dksX27_now_0 1 rfl rfl)
theorem dX27_now_2 : decode cX27_now 2 = .ok (.aload_n 1, 1) := dk_43 (dk_at dksX27_now_0 2 rfl rfl)
theorem dX27_now_3 : decode cX27_now 3 = .ok (.getfield 13, 3) := dk_180 0 13 (dk_at dksX27_now_0 3 rfl rfl)
theorem dX27_now_6 : decode cX27_now 6 = .ok (.ifnull 11, 3) := dk_198 0 11 (dk_at dksX27_now_0 6 rfl rfl)
theorem dX27_now_9 : decode cX27_now 9 = .ok (.aload_n 1, 1) := dk_43 (dk_at dksX27_now_0 9 rfl rfl)
theorem dX27_now_10 : decode cX27_now 10 = .ok (.getfield 13, 3) := dk_180 0 13 (dk_at dksX27_now_0 10 rfl rfl)
theorem dX27_now_13 : decode cX27_now 13 = .ok (.astore_n 1, 1) := dk_76 (dk_at dksX27_now_0 13 rfl rfl)
theorem dX27_now_14 : decode cX27_now 14 = .ok (.goto (-12), 3) := dk_167 255 244 (dk_at dksX27_now_0 14 rfl rfl)
theorem dX27_now_17 : decode cX27_now 17 = .ok (.aload_n 1, 1) := dk_43 (dk_at dksX27_now_0 17 rfl rfl)
theorem dX27_now_18 : decode cX27_now 18 = .ok (.areturn, 1) := dk_176 (dk_at dksX27_now_0 18 rfl rfl)
theorem q100 : (Jvm.Cond.initialized "RowenTongueModel$Row") ∈ lw_all := lw_g (lw_at lw_m1 51 rfl) rfl
theorem q406 : (Jvm.Cond.selects "RowenTongueModel$Row" ({ cls := "java/lang/Object", name := "getClass", desc := "()Ljava/lang/Class;" } : Jvm.MethodName) ({ cls := "java/lang/Object", name := "getClass", desc := "()Ljava/lang/Class;" } : Jvm.MethodName)) ∈ lw_all := lw_g (lw_at lw_m2 117 rfl) rfl
theorem q780 : (Jvm.Cond.selects "RowenTongueModel$Row" ({ cls := "java/lang/Object", name := "equals", desc := "(Ljava/lang/Object;)Z" } : Jvm.MethodName) ({ cls := "java/lang/Object", name := "equals", desc := "(Ljava/lang/Object;)Z" } : Jvm.MethodName)) ∈ lw_all := lw_g (lw_at lw_m4 11 rfl) rfl
theorem q2571 : (Jvm.Cond.instantiable "RowenTongueModel$Row" (7 : Nat)) ∈ lw_all := lw_g (lw_at lw_m11 122 rfl) rfl
theorem q2573 : (Jvm.Cond.instanceMethod ({ cls := "RowenTongueModel$Row", name := "<init>", desc := "(I)V" } : Jvm.MethodName)) ∈ lw_all := lw_g (lw_at lw_m11 124 rfl) rfl
theorem q2574 : (Jvm.Cond.code ({ cls := "RowenTongueModel$Row", name := "<init>", desc := "(I)V" } : Jvm.MethodName) prog_48_method_1_code (2 : Nat) (Option.none : Option Jvm.ClassFile.FieldType)) ∈ lw_all := lw_g (lw_at lw_m11 125 rfl) rfl
theorem q2575 : (Jvm.Cond.methodLink "RowenTongueModel$Row" (1 : Nat) ({ cls := "java/lang/Object", name := "<init>", desc := "()V" } : Jvm.MethodName)) ∈ lw_all := lw_g (lw_at lw_m11 126 rfl) rfl
theorem q2576 : (Jvm.Cond.fieldLink "RowenTongueModel$Row" (7 : Nat) "RowenTongueModel$Row" "kind" "I") ∈ lw_all := lw_g (lw_at lw_m11 127 rfl) rfl
theorem q2578 : (Jvm.Cond.fieldLink "RowenTongueModel$Row" (13 : Nat) "RowenTongueModel$Row" "is" "LRowenTongueModel$Row;") ∈ lw_all := lw_g (lw_at lw_m11 129 rfl) rfl
theorem q2585 : (Jvm.Cond.laysFinal "RowenTongueModel$Row" "RowenTongueModel$Row" "kind" "I") ∈ lw_all := lw_g (lw_at lw_m11 136 rfl) rfl
theorem q2586 : (Jvm.Cond.soleField "RowenTongueModel$Row" "kind") ∈ lw_all := lw_g (lw_at lw_m11 137 rfl) rfl
theorem q2587 : (Jvm.Cond.lays "RowenTongueModel$Row" "RowenTongueModel$Row" "is" "LRowenTongueModel$Row;") ∈ lw_all := lw_g (lw_at lw_m11 138 rfl) rfl
theorem q2588 : (Jvm.Cond.soleField "RowenTongueModel$Row" "is") ∈ lw_all := lw_g (lw_at lw_m11 139 rfl) rfl
theorem q2589 : (Jvm.Cond.lays "RowenTongueModel$Row" "RowenTongueModel$Row" "label" "I") ∈ lw_all := lw_g (lw_at lw_m11 140 rfl) rfl
theorem q2590 : (Jvm.Cond.soleField "RowenTongueModel$Row" "label") ∈ lw_all := lw_g (lw_at lw_m11 141 rfl) rfl
theorem q2591 : (Jvm.Cond.lays "RowenTongueModel$Row" "RowenTongueModel$Row" "type" "LRowenTongueModel$Type;") ∈ lw_all := lw_g (lw_at lw_m11 142 rfl) rfl
theorem q2592 : (Jvm.Cond.soleField "RowenTongueModel$Row" "type") ∈ lw_all := lw_g (lw_at lw_m11 143 rfl) rfl
theorem q2593 : (Jvm.Cond.lays "RowenTongueModel$Row" "RowenTongueModel$Row" "rest" "LRowenTongueModel$Row;") ∈ lw_all := lw_g (lw_at lw_m11 144 rfl) rfl
theorem q2594 : (Jvm.Cond.soleField "RowenTongueModel$Row" "rest") ∈ lw_all := lw_g (lw_at lw_m11 145 rfl) rfl
theorem q2595 : (Jvm.Cond.lays "RowenTongueModel$Row" "RowenTongueModel$Row" "lacks" "I") ∈ lw_all := lw_g (lw_at lw_m11 146 rfl) rfl
theorem q2596 : (Jvm.Cond.soleField "RowenTongueModel$Row" "lacks") ∈ lw_all := lw_g (lw_at lw_m11 147 rfl) rfl
theorem q2597 : (Jvm.Cond.lays "RowenTongueModel$Row" "RowenTongueModel$Row" "isComparable" "Z") ∈ lw_all := lw_g (lw_at lw_m11 148 rfl) rfl
theorem q2598 : (Jvm.Cond.soleField "RowenTongueModel$Row" "isComparable") ∈ lw_all := lw_g (lw_at lw_m11 149 rfl) rfl
theorem q2599 : (Jvm.Cond.superclass "RowenTongueModel$Row" "java/lang/Object") ∈ lw_all := lw_g (lw_at lw_m11 150 rfl) rfl
theorem q2615 : (Jvm.Cond.instanceMethod ({ cls := "RowenTongueModel$Row", name := "now", desc := "()LRowenTongueModel$Row;" } : Jvm.MethodName)) ∈ lw_all := lw_g (lw_at lw_m11 166 rfl) rfl
theorem q2616 : (Jvm.Cond.selects "RowenTongueModel$Row" ({ cls := "RowenTongueModel$Row", name := "now", desc := "()LRowenTongueModel$Row;" } : Jvm.MethodName) ({ cls := "RowenTongueModel$Row", name := "now", desc := "()LRowenTongueModel$Row;" } : Jvm.MethodName)) ∈ lw_all := lw_g (lw_at lw_m11 167 rfl) rfl
theorem q2617 : (Jvm.Cond.code ({ cls := "RowenTongueModel$Row", name := "now", desc := "()LRowenTongueModel$Row;" } : Jvm.MethodName) prog_48_method_2_code (2 : Nat) (Option.some (Jvm.ClassFile.FieldType.object "RowenTongueModel$Row"))) ∈ lw_all := lw_g (lw_at lw_m11 168 rfl) rfl
theorem q2884 : (Jvm.Cond.castable "RowenTongueModel$Row" "java/lang/Object") ∈ lw_tbl := lw_at lw_m12 195 rfl
theorem in_X27 : ∀ w ∈ wsX270, w ∈ lw_all := lw_in wsX270 [2585, 2587, 2589, 2591, 2593, 2595, 2597] (by decide +kernel) (by decide +kernel)
/-! RowenTongueModel$Known -/
set_option maxRecDepth 100000
def RX28 : String := "RowenTongueModel$Known"
def TX28 : u_T := fun k => match k with
  | 0 => ("RowenTongueModel$Known", "name", "I", true)
  | 1 => ("RowenTongueModel$Known", "type", "LRowenTongueModel$Type;", true)
  | 2 => ("RowenTongueModel$Known", "types", "Ljava/util/ArrayList;", true)
  | 3 => ("RowenTongueModel$Known", "rows", "Ljava/util/ArrayList;", true)
  | _ => ("RowenTongueModel$Known", "around", "LRowenTongueModel$Known;", true)
def tyX28 : Nat → FieldType := fun k => match k with
  | 0 => .int
  | 1 => .object "RowenTongueModel$Type"
  | 2 => .object "java/util/ArrayList"
  | 3 => .object "java/util/ArrayList"
  | _ => .object "RowenTongueModel$Known"
abbrev wsX280 : List Cond := u_ws RX28 TX28 5
theorem nmX28 : ∀ a, a < 5 → ∀ b, b < 5 → a ≠ b → (TX28 a).2.1 ≠ (TX28 b).2.1 := by decide +kernel
theorem tyX28_ok : ∀ k, k < 5 → parseFieldDescriptor (TX28 k).2.2.1 = some (tyX28 k) := by decide +kernel
abbrev cX28_init : ByteArray := prog_47_method_1_code
def yX28_init : MethodName := ⟨RX28, "<init>", "(ILRowenTongueModel$Type;LRowenTongueModel$Known;)V"⟩
def dkwX28_init_1 : List UInt8 := [181, 0, 16, 42, 27, 181, 0, 19, 42, 44, 181, 0, 23, 42, 45, 181, 0, 27, 177]
abbrev dktX28_init_1 : List UInt8 := dkwX28_init_1 ++ []
def dkwX28_init_0 : List UInt8 := [42, 183, 0, 1, 42, 187, 0, 7, 89, 183, 0, 9, 181, 0, 10, 42, 187, 0, 7, 89, 183, 0, 9]
abbrev dktX28_init_0 : List UInt8 := dkwX28_init_0 ++ dktX28_init_1
theorem dksX28_init_0 : cX28_init.data.toList.drop 0 = dktX28_init_0 := by decide +kernel
theorem dksX28_init_1 : cX28_init.data.toList.drop 23 = dktX28_init_1 := dk_seg dksX28_init_0 23 rfl rfl
theorem dX28_init_0 : decode cX28_init 0 = .ok (.aload_n 0, 1) := dk_42 (dk_at dksX28_init_0 0 rfl rfl)
theorem dX28_init_1 : decode cX28_init 1 = .ok (.invokespecial 1, 3) := dk_183 0 1 (dk_at dksX28_init_0 1 rfl rfl)
theorem dX28_init_4 : decode cX28_init 4 = .ok (.aload_n 0, 1) := dk_42 (dk_at dksX28_init_0 4 rfl rfl)
theorem dX28_init_5 : decode cX28_init 5 = .ok (.new 7, 3) := dk_187 0 7 (dk_at dksX28_init_0 5 rfl rfl)
theorem dX28_init_8 : decode cX28_init 8 = .ok (.dup, 1) := dk_89 (dk_at dksX28_init_0 8 rfl rfl)
theorem dX28_init_9 : decode cX28_init 9 = .ok (.invokespecial 9, 3) := dk_183 0 9 (dk_at dksX28_init_0 9 rfl rfl)
theorem dX28_init_12 : decode cX28_init 12 = .ok (.putfield 10, 3) := dk_181 0 10 (dk_at dksX28_init_0 12 rfl rfl)
theorem dX28_init_15 : decode cX28_init 15 = .ok (.aload_n 0, 1) := dk_42 (dk_at dksX28_init_0 15 rfl rfl)
theorem dX28_init_16 : decode cX28_init 16 = .ok (.new 7, 3) := dk_187 0 7 (dk_at dksX28_init_0 16 rfl rfl)
theorem dX28_init_19 : decode cX28_init 19 = .ok (.dup, 1) := dk_89 (dk_at dksX28_init_0 19 rfl rfl)
theorem dX28_init_20 : decode cX28_init 20 = .ok (.invokespecial 9, 3) := dk_183 0 9 (dk_at dksX28_init_0 20 rfl rfl)
theorem dX28_init_23 : decode cX28_init 23 = .ok (.putfield 16, 3) := dk_181 0 16 (dk_at dksX28_init_1 0 rfl rfl)
theorem dX28_init_26 : decode cX28_init 26 = .ok (.aload_n 0, 1) := dk_42 (dk_at dksX28_init_1 3 rfl rfl)
theorem dX28_init_27 : decode cX28_init 27 = .ok (.iload_n 1, 1) := dk_27 (dk_at dksX28_init_1 4 rfl rfl)
theorem dX28_init_28 : decode cX28_init 28 = .ok (.putfield 19, 3) := dk_181 0 19 (dk_at dksX28_init_1 5 rfl rfl)
theorem dX28_init_31 : decode cX28_init 31 = .ok (.aload_n 0, 1) := dk_42 (dk_at dksX28_init_1 8 rfl rfl)
theorem dX28_init_32 : decode cX28_init 32 = .ok (.aload_n 2, 1) := dk_44 (dk_at dksX28_init_1 9 rfl rfl)
theorem dX28_init_33 : decode cX28_init 33 = .ok (.putfield 23, 3) := dk_181 0 23 (dk_at dksX28_init_1 10 rfl rfl)
theorem dX28_init_36 : decode cX28_init 36 = .ok (.aload_n 0, 1) := dk_42 (dk_at dksX28_init_1 13 rfl rfl)
theorem dX28_init_37 : decode cX28_init 37 = .ok (.aload_n 3, 1) := dk_45 (dk_at dksX28_init_1 14 rfl rfl)
theorem dX28_init_38 : decode cX28_init 38 = .ok (.putfield 27, 3) := dk_181 0 27 (dk_at dksX28_init_1 15 rfl rfl)
theorem dX28_init_41 : decode cX28_init 41 = .ok (.return_, 1) := dk_177 (dk_at dksX28_init_1 18 rfl rfl)
theorem q101 : (Jvm.Cond.initialized "RowenTongueModel$Known") ∈ lw_all := lw_g (lw_at lw_m1 52 rfl) rfl
theorem q405 : (Jvm.Cond.selects "RowenTongueModel$Known" ({ cls := "java/lang/Object", name := "getClass", desc := "()Ljava/lang/Class;" } : Jvm.MethodName) ({ cls := "java/lang/Object", name := "getClass", desc := "()Ljava/lang/Class;" } : Jvm.MethodName)) ∈ lw_all := lw_g (lw_at lw_m2 116 rfl) rfl
theorem q779 : (Jvm.Cond.selects "RowenTongueModel$Known" ({ cls := "java/lang/Object", name := "equals", desc := "(Ljava/lang/Object;)Z" } : Jvm.MethodName) ({ cls := "java/lang/Object", name := "equals", desc := "(Ljava/lang/Object;)Z" } : Jvm.MethodName)) ∈ lw_all := lw_g (lw_at lw_m4 10 rfl) rfl
theorem q2626 : (Jvm.Cond.instantiable "RowenTongueModel$Known" (5 : Nat)) ∈ lw_all := lw_g (lw_at lw_m11 177 rfl) rfl
theorem q2628 : (Jvm.Cond.instanceMethod ({ cls := "RowenTongueModel$Known", name := "<init>", desc := "(ILRowenTongueModel$Type;LRowenTongueModel$Known;)V" } : Jvm.MethodName)) ∈ lw_all := lw_g (lw_at lw_m11 179 rfl) rfl
theorem q2629 : (Jvm.Cond.code ({ cls := "RowenTongueModel$Known", name := "<init>", desc := "(ILRowenTongueModel$Type;LRowenTongueModel$Known;)V" } : Jvm.MethodName) prog_47_method_1_code (4 : Nat) (Option.none : Option Jvm.ClassFile.FieldType)) ∈ lw_all := lw_g (lw_at lw_m11 180 rfl) rfl
theorem q2630 : (Jvm.Cond.methodLink "RowenTongueModel$Known" (1 : Nat) ({ cls := "java/lang/Object", name := "<init>", desc := "()V" } : Jvm.MethodName)) ∈ lw_all := lw_g (lw_at lw_m11 181 rfl) rfl
theorem q2631 : (Jvm.Cond.classLink "RowenTongueModel$Known" (7 : Nat) "java/util/ArrayList") ∈ lw_all := lw_g (lw_at lw_m11 182 rfl) rfl
theorem q2632 : (Jvm.Cond.methodLink "RowenTongueModel$Known" (9 : Nat) ({ cls := "java/util/ArrayList", name := "<init>", desc := "()V" } : Jvm.MethodName)) ∈ lw_all := lw_g (lw_at lw_m11 183 rfl) rfl
theorem q2633 : (Jvm.Cond.fieldLink "RowenTongueModel$Known" (19 : Nat) "RowenTongueModel$Known" "name" "I") ∈ lw_all := lw_g (lw_at lw_m11 184 rfl) rfl
theorem q2635 : (Jvm.Cond.fieldLink "RowenTongueModel$Known" (23 : Nat) "RowenTongueModel$Known" "type" "LRowenTongueModel$Type;") ∈ lw_all := lw_g (lw_at lw_m11 186 rfl) rfl
theorem q2637 : (Jvm.Cond.fieldLink "RowenTongueModel$Known" (10 : Nat) "RowenTongueModel$Known" "types" "Ljava/util/ArrayList;") ∈ lw_all := lw_g (lw_at lw_m11 188 rfl) rfl
theorem q2639 : (Jvm.Cond.fieldLink "RowenTongueModel$Known" (16 : Nat) "RowenTongueModel$Known" "rows" "Ljava/util/ArrayList;") ∈ lw_all := lw_g (lw_at lw_m11 190 rfl) rfl
theorem q2641 : (Jvm.Cond.fieldLink "RowenTongueModel$Known" (27 : Nat) "RowenTongueModel$Known" "around" "LRowenTongueModel$Known;") ∈ lw_all := lw_g (lw_at lw_m11 192 rfl) rfl
theorem q2643 : (Jvm.Cond.laysFinal "RowenTongueModel$Known" "RowenTongueModel$Known" "name" "I") ∈ lw_all := lw_g (lw_at lw_m11 194 rfl) rfl
theorem q2644 : (Jvm.Cond.soleField "RowenTongueModel$Known" "name") ∈ lw_all := lw_g (lw_at lw_m11 195 rfl) rfl
theorem q2645 : (Jvm.Cond.laysFinal "RowenTongueModel$Known" "RowenTongueModel$Known" "type" "LRowenTongueModel$Type;") ∈ lw_all := lw_g (lw_at lw_m11 196 rfl) rfl
theorem q2646 : (Jvm.Cond.soleField "RowenTongueModel$Known" "type") ∈ lw_all := lw_g (lw_at lw_m11 197 rfl) rfl
theorem q2647 : (Jvm.Cond.laysFinal "RowenTongueModel$Known" "RowenTongueModel$Known" "types" "Ljava/util/ArrayList;") ∈ lw_all := lw_g (lw_at lw_m11 198 rfl) rfl
theorem q2648 : (Jvm.Cond.soleField "RowenTongueModel$Known" "types") ∈ lw_all := lw_g (lw_at lw_m11 199 rfl) rfl
theorem q2649 : (Jvm.Cond.laysFinal "RowenTongueModel$Known" "RowenTongueModel$Known" "rows" "Ljava/util/ArrayList;") ∈ lw_all := lw_g (lw_at lw_m11 200 rfl) rfl
theorem q2650 : (Jvm.Cond.soleField "RowenTongueModel$Known" "rows") ∈ lw_all := lw_g (lw_at lw_m11 201 rfl) rfl
theorem q2651 : (Jvm.Cond.laysFinal "RowenTongueModel$Known" "RowenTongueModel$Known" "around" "LRowenTongueModel$Known;") ∈ lw_all := lw_g (lw_at lw_m11 202 rfl) rfl
theorem q2652 : (Jvm.Cond.soleField "RowenTongueModel$Known" "around") ∈ lw_all := lw_g (lw_at lw_m11 203 rfl) rfl
theorem q2653 : (Jvm.Cond.superclass "RowenTongueModel$Known" "java/lang/Object") ∈ lw_all := lw_g (lw_at lw_m11 204 rfl) rfl
theorem q2917 : (Jvm.Cond.castable "RowenTongueModel$Known" "java/lang/Object") ∈ lw_tbl := lw_at lw_m12 228 rfl
theorem in_X28 : ∀ w ∈ wsX280, w ∈ lw_all := lw_in wsX280 [2643, 2645, 2647, 2649, 2651] (by decide +kernel) (by decide +kernel)
/-! RowenTongue$Teller -/
set_option maxRecDepth 100000
def RX29 : String := "RowenTongue$Teller"
def TX29 : u_T := fun k => match k with
  | 0 => ("RowenTongue$Teller", "text", "Ljava/lang/StringBuilder;", true)
  | _ => ("RowenTongue$Teller", "variables", "Ljava/util/ArrayList;", true)
def tyX29 : Nat → FieldType := fun k => match k with
  | 0 => .object "java/lang/StringBuilder"
  | _ => .object "java/util/ArrayList"
abbrev wsX290 : List Cond := u_ws RX29 TX29 2
theorem nmX29 : ∀ a, a < 2 → ∀ b, b < 2 → a ≠ b → (TX29 a).2.1 ≠ (TX29 b).2.1 := by decide +kernel
theorem tyX29_ok : ∀ k, k < 2 → parseFieldDescriptor (TX29 k).2.2.1 = some (tyX29 k) := by decide +kernel
abbrev cX29_init : ByteArray := prog_34_method_1_code
def yX29_init : MethodName := ⟨RX29, "<init>", "()V"⟩
def dkwX29_init_1 : List UInt8 := [181, 0, 21, 177]
abbrev dktX29_init_1 : List UInt8 := dkwX29_init_1 ++ []
def dkwX29_init_0 : List UInt8 := [42, 183, 0, 3, 42, 187, 0, 9, 89, 183, 0, 11, 181, 0, 12, 42, 187, 0, 18, 89, 183, 0, 20]
abbrev dktX29_init_0 : List UInt8 := dkwX29_init_0 ++ dktX29_init_1
theorem dksX29_init_0 : cX29_init.data.toList.drop 0 = dktX29_init_0 := by decide +kernel
theorem dksX29_init_1 : cX29_init.data.toList.drop 23 = dktX29_init_1 := dk_seg dksX29_init_0 23 rfl rfl
theorem dX29_init_0 : decode cX29_init 0 = .ok (.aload_n 0, 1) := dk_42 (dk_at dksX29_init_0 0 rfl rfl)
theorem dX29_init_1 : decode cX29_init 1 = .ok (.invokespecial 3, 3) := dk_183 0 3 (dk_at dksX29_init_0 1 rfl rfl)
theorem dX29_init_4 : decode cX29_init 4 = .ok (.aload_n 0, 1) := dk_42 (dk_at dksX29_init_0 4 rfl rfl)
theorem dX29_init_5 : decode cX29_init 5 = .ok (.new 9, 3) := dk_187 0 9 (dk_at dksX29_init_0 5 rfl rfl)
theorem dX29_init_8 : decode cX29_init 8 = .ok (.dup, 1) := dk_89 (dk_at dksX29_init_0 8 rfl rfl)
theorem dX29_init_9 : decode cX29_init 9 = .ok (.invokespecial 11, 3) := dk_183 0 11 (dk_at dksX29_init_0 9 rfl rfl)
theorem dX29_init_12 : decode cX29_init 12 = .ok (.putfield 12, 3) := dk_181 0 12 (dk_at dksX29_init_0 12 rfl rfl)
theorem dX29_init_15 : decode cX29_init 15 = .ok (.aload_n 0, 1) := dk_42 (dk_at dksX29_init_0 15 rfl rfl)
theorem dX29_init_16 : decode cX29_init 16 = .ok (.new 18, 3) := dk_187 0 18 (dk_at dksX29_init_0 16 rfl rfl)
theorem dX29_init_19 : decode cX29_init 19 = .ok (.dup, 1) := dk_89 (dk_at dksX29_init_0 19 rfl rfl)
theorem dX29_init_20 : decode cX29_init 20 = .ok (.invokespecial 20, 3) := dk_183 0 20 (dk_at dksX29_init_0 20 rfl rfl)
theorem dX29_init_23 : decode cX29_init 23 = .ok (.putfield 21, 3) := dk_181 0 21 (dk_at dksX29_init_1 0 rfl rfl)
theorem dX29_init_26 : decode cX29_init 26 = .ok (.return_, 1) := dk_177 (dk_at dksX29_init_1 3 rfl rfl)
abbrev cX29_whole : ByteArray := prog_34_method_6_code
def yX29_whole : MethodName := ⟨RX29, "whole", "(LRowenTongue$Type;)Ljava/lang/String;"⟩
def dkwX29_whole_7 : List UInt8 := [180, 0, 12, 184, 0, 139, 176]
abbrev dktX29_whole_7 : List UInt8 := dkwX29_whole_7 ++ []
def dkwX29_whole_6 : List UInt8 := [167, 0, 5, 18, 99, 182, 0, 103, 87, 132, 4, 1, 167, 255, 214, 132, 2, 1, 167, 255, 109, 42]
abbrev dktX29_whole_6 : List UInt8 := dkwX29_whole_6 ++ dktX29_whole_7
def dkwX29_whole_5 : List UInt8 := [42, 180, 0, 12, 45, 185, 0, 126, 1, 0, 21, 4, 184, 0, 95, 153, 0, 11, 21, 4, 184, 0, 133]
abbrev dktX29_whole_5 : List UInt8 := dkwX29_whole_5 ++ dktX29_whole_6
def dkwX29_whole_4 : List UInt8 := [153, 0, 8, 18, 131, 167, 0, 5, 18, 99, 182, 0, 103, 87, 3, 54, 4, 21, 4, 16, 10, 162, 0, 41]
abbrev dktX29_whole_4 : List UInt8 := dkwX29_whole_4 ++ dktX29_whole_5
def dkwX29_whole_3 : List UInt8 := [185, 0, 122, 1, 0, 153, 0, 8, 18, 129, 167, 0, 5, 18, 99, 182, 0, 103, 45, 185, 0, 126, 1, 0]
abbrev dktX29_whole_3 : List UInt8 := dkwX29_whole_3 ++ dktX29_whole_4
def dkwX29_whole_2 : List UInt8 := [153, 0, 106, 42, 180, 0, 12, 16, 32, 182, 0, 41, 28, 184, 0, 37, 182, 0, 41, 45]
abbrev dktX29_whole_2 : List UInt8 := dkwX29_whole_2 ++ dktX29_whole_3
def dkwX29_whole_1 : List UInt8 := [182, 0, 112, 192, 0, 120, 78, 45, 185, 0, 122, 1, 0, 154, 0, 12, 45, 185, 0, 126, 1, 0]
abbrev dktX29_whole_1 : List UInt8 := dkwX29_whole_1 ++ dktX29_whole_2
def dkwX29_whole_0 : List UInt8 := [42, 43, 182, 0, 60, 3, 61, 28, 42, 180, 0, 21, 182, 0, 29, 162, 0, 142, 42, 180, 0, 21, 28]
abbrev dktX29_whole_0 : List UInt8 := dkwX29_whole_0 ++ dktX29_whole_1
theorem dksX29_whole_0 : cX29_whole.data.toList.drop 0 = dktX29_whole_0 := by decide +kernel
theorem dksX29_whole_1 : cX29_whole.data.toList.drop 23 = dktX29_whole_1 := dk_seg dksX29_whole_0 23 rfl rfl
theorem dksX29_whole_2 : cX29_whole.data.toList.drop 45 = dktX29_whole_2 := dk_seg dksX29_whole_1 22 rfl rfl
theorem dksX29_whole_3 : cX29_whole.data.toList.drop 65 = dktX29_whole_3 := dk_seg dksX29_whole_2 20 rfl rfl
theorem dksX29_whole_4 : cX29_whole.data.toList.drop 89 = dktX29_whole_4 := dk_seg dksX29_whole_3 24 rfl rfl
theorem dksX29_whole_5 : cX29_whole.data.toList.drop 113 = dktX29_whole_5 := dk_seg dksX29_whole_4 24 rfl rfl
theorem dksX29_whole_6 : cX29_whole.data.toList.drop 136 = dktX29_whole_6 := dk_seg dksX29_whole_5 23 rfl rfl
theorem dksX29_whole_7 : cX29_whole.data.toList.drop 158 = dktX29_whole_7 := dk_seg dksX29_whole_6 22 rfl rfl
theorem dX29_whole_0 : decode cX29_whole 0 = .ok (.aload_n 0, 1) := dk_42 (dk_at dksX29_whole_0 0 rfl rfl)
theorem dX29_whole_1 : decode cX29_whole 1 = .ok (.aload_n 1, 1) := dk_43 (dk_at dksX29_whole_0 1 rfl rfl)
theorem dX29_whole_2 : decode cX29_whole 2 = .ok (.invokevirtual 60, 3) := dk_182 0 60 (dk_at dksX29_whole_0 2 rfl rfl)
theorem dX29_whole_5 : decode cX29_whole 5 = .ok (.iconst 0, 1) := dk_3 (dk_at dksX29_whole_0 5 rfl rfl)
theorem dX29_whole_6 : decode cX29_whole 6 = .ok (.istore_n 2, 1) := dk_61 (dk_at dksX29_whole_0 6 rfl rfl)
theorem dX29_whole_7 : decode cX29_whole 7 = .ok (.iload_n 2, 1) := dk_28 (dk_at dksX29_whole_0 7 rfl rfl)
theorem dX29_whole_8 : decode cX29_whole 8 = .ok (.aload_n 0, 1) := dk_42 (dk_at dksX29_whole_0 8 rfl rfl)
theorem dX29_whole_9 : decode cX29_whole 9 = .ok (.getfield 21, 3) := dk_180 0 21 (dk_at dksX29_whole_0 9 rfl rfl)
theorem dX29_whole_12 : decode cX29_whole 12 = .ok (.invokevirtual 29, 3) := dk_182 0 29 (dk_at dksX29_whole_0 12 rfl rfl)
theorem dX29_whole_15 : decode cX29_whole 15 = .ok (.if_icmp .ge 142, 3) := dk_162 0 142 (dk_at dksX29_whole_0 15 rfl rfl)
theorem dX29_whole_18 : decode cX29_whole 18 = .ok (.aload_n 0, 1) := dk_42 (dk_at dksX29_whole_0 18 rfl rfl)
theorem dX29_whole_19 : decode cX29_whole 19 = .ok (.getfield 21, 3) := dk_180 0 21 (dk_at dksX29_whole_0 19 rfl rfl)
theorem dX29_whole_22 : decode cX29_whole 22 = .ok (.iload_n 2, 1) := dk_28 (dk_at dksX29_whole_0 22 rfl rfl)
theorem dX29_whole_23 : decode cX29_whole 23 = .ok (.invokevirtual 112, 3) := dk_182 0 112 (dk_at dksX29_whole_1 0 rfl rfl)
theorem dX29_whole_26 : decode cX29_whole 26 = .ok (.checkcast 120, 3) := dk_192 0 120 (dk_at dksX29_whole_1 3 rfl rfl)
theorem dX29_whole_29 : decode cX29_whole 29 = .ok (.astore_n 3, 1) := dk_78 (dk_at dksX29_whole_1 6 rfl rfl)
theorem dX29_whole_30 : decode cX29_whole 30 = .ok (.aload_n 3, 1) := dk_45 (dk_at dksX29_whole_1 7 rfl rfl)
theorem dX29_whole_31 : decode cX29_whole 31 = .ok (.invokeinterface 122 1, 5) := by decide +kernel
theorem dX29_whole_36 : decode cX29_whole 36 = .ok (.ifCond .ne 12, 3) := dk_154 0 12 (dk_at dksX29_whole_1 13 rfl rfl)
theorem dX29_whole_39 : decode cX29_whole 39 = .ok (.aload_n 3, 1) := dk_45 (dk_at dksX29_whole_1 16 rfl rfl)
theorem dX29_whole_40 : decode cX29_whole 40 = .ok (.invokeinterface 126 1, 5) := by decide +kernel
theorem dX29_whole_45 : decode cX29_whole 45 = .ok (.ifCond .eq 106, 3) := dk_153 0 106 (dk_at dksX29_whole_2 0 rfl rfl)
theorem dX29_whole_48 : decode cX29_whole 48 = .ok (.aload_n 0, 1) := dk_42 (dk_at dksX29_whole_2 3 rfl rfl)
theorem dX29_whole_49 : decode cX29_whole 49 = .ok (.getfield 12, 3) := dk_180 0 12 (dk_at dksX29_whole_2 4 rfl rfl)
theorem dX29_whole_52 : decode cX29_whole 52 = .ok (.bipush 32, 2) := dk_16 32 (dk_at dksX29_whole_2 7 rfl rfl)
theorem dX29_whole_54 : decode cX29_whole 54 = .ok (.invokevirtual 41, 3) := dk_182 0 41 (dk_at dksX29_whole_2 9 rfl rfl)
theorem dX29_whole_57 : decode cX29_whole 57 = .ok (.iload_n 2, 1) := dk_28 (dk_at dksX29_whole_2 12 rfl rfl)
theorem dX29_whole_58 : decode cX29_whole 58 = .ok (.invokestatic 37, 3) := dk_184 0 37 (dk_at dksX29_whole_2 13 rfl rfl)
theorem dX29_whole_61 : decode cX29_whole 61 = .ok (.invokevirtual 41, 3) := dk_182 0 41 (dk_at dksX29_whole_2 16 rfl rfl)
theorem dX29_whole_64 : decode cX29_whole 64 = .ok (.aload_n 3, 1) := dk_45 (dk_at dksX29_whole_2 19 rfl rfl)
theorem dX29_whole_65 : decode cX29_whole 65 = .ok (.invokeinterface 122 1, 5) := by decide +kernel
theorem dX29_whole_70 : decode cX29_whole 70 = .ok (.ifCond .eq 8, 3) := dk_153 0 8 (dk_at dksX29_whole_3 5 rfl rfl)
theorem dX29_whole_73 : decode cX29_whole 73 = .ok (.ldc 129, 2) := dk_18 129 (dk_at dksX29_whole_3 8 rfl rfl)
theorem dX29_whole_75 : decode cX29_whole 75 = .ok (.goto 5, 3) := dk_167 0 5 (dk_at dksX29_whole_3 10 rfl rfl)
theorem dX29_whole_78 : decode cX29_whole 78 = .ok (.ldc 99, 2) := dk_18 99 (dk_at dksX29_whole_3 13 rfl rfl)
theorem dX29_whole_80 : decode cX29_whole 80 = .ok (.invokevirtual 103, 3) := dk_182 0 103 (dk_at dksX29_whole_3 15 rfl rfl)
theorem dX29_whole_83 : decode cX29_whole 83 = .ok (.aload_n 3, 1) := dk_45 (dk_at dksX29_whole_3 18 rfl rfl)
theorem dX29_whole_84 : decode cX29_whole 84 = .ok (.invokeinterface 126 1, 5) := by decide +kernel
theorem dX29_whole_89 : decode cX29_whole 89 = .ok (.ifCond .eq 8, 3) := dk_153 0 8 (dk_at dksX29_whole_4 0 rfl rfl)
theorem dX29_whole_92 : decode cX29_whole 92 = .ok (.ldc 131, 2) := dk_18 131 (dk_at dksX29_whole_4 3 rfl rfl)
theorem dX29_whole_94 : decode cX29_whole 94 = .ok (.goto 5, 3) := dk_167 0 5 (dk_at dksX29_whole_4 5 rfl rfl)
theorem dX29_whole_97 : decode cX29_whole 97 = .ok (.ldc 99, 2) := dk_18 99 (dk_at dksX29_whole_4 8 rfl rfl)
theorem dX29_whole_99 : decode cX29_whole 99 = .ok (.invokevirtual 103, 3) := dk_182 0 103 (dk_at dksX29_whole_4 10 rfl rfl)
theorem dX29_whole_102 : decode cX29_whole 102 = .ok (.pop, 1) := dk_87 (dk_at dksX29_whole_4 13 rfl rfl)
theorem dX29_whole_103 : decode cX29_whole 103 = .ok (.iconst 0, 1) := dk_3 (dk_at dksX29_whole_4 14 rfl rfl)
theorem dX29_whole_104 : decode cX29_whole 104 = .ok (.istore 4, 2) := dk_54 4 (dk_at dksX29_whole_4 15 rfl rfl)
theorem dX29_whole_106 : decode cX29_whole 106 = .ok (.iload 4, 2) := dk_21 4 (dk_at dksX29_whole_4 17 rfl rfl)
theorem dX29_whole_108 : decode cX29_whole 108 = .ok (.bipush 10, 2) := dk_16 10 (dk_at dksX29_whole_4 19 rfl rfl)
theorem dX29_whole_110 : decode cX29_whole 110 = .ok (.if_icmp .ge 41, 3) := dk_162 0 41 (dk_at dksX29_whole_4 21 rfl rfl)
theorem dX29_whole_113 : decode cX29_whole 113 = .ok (.aload_n 0, 1) := dk_42 (dk_at dksX29_whole_5 0 rfl rfl)
theorem dX29_whole_114 : decode cX29_whole 114 = .ok (.getfield 12, 3) := dk_180 0 12 (dk_at dksX29_whole_5 1 rfl rfl)
theorem dX29_whole_117 : decode cX29_whole 117 = .ok (.aload_n 3, 1) := dk_45 (dk_at dksX29_whole_5 4 rfl rfl)
theorem dX29_whole_118 : decode cX29_whole 118 = .ok (.invokeinterface 126 1, 5) := by decide +kernel
theorem dX29_whole_123 : decode cX29_whole 123 = .ok (.iload 4, 2) := dk_21 4 (dk_at dksX29_whole_5 10 rfl rfl)
theorem dX29_whole_125 : decode cX29_whole 125 = .ok (.invokestatic 95, 3) := dk_184 0 95 (dk_at dksX29_whole_5 12 rfl rfl)
theorem dX29_whole_128 : decode cX29_whole 128 = .ok (.ifCond .eq 11, 3) := dk_153 0 11 (dk_at dksX29_whole_5 15 rfl rfl)
theorem dX29_whole_131 : decode cX29_whole 131 = .ok (.iload 4, 2) := dk_21 4 (dk_at dksX29_whole_5 18 rfl rfl)
theorem dX29_whole_133 : decode cX29_whole 133 = .ok (.invokestatic 133, 3) := dk_184 0 133 (dk_at dksX29_whole_5 20 rfl rfl)
theorem dX29_whole_136 : decode cX29_whole 136 = .ok (.goto 5, 3) := dk_167 0 5 (dk_at dksX29_whole_6 0 rfl rfl)
theorem dX29_whole_139 : decode cX29_whole 139 = .ok (.ldc 99, 2) := dk_18 99 (dk_at dksX29_whole_6 3 rfl rfl)
theorem dX29_whole_141 : decode cX29_whole 141 = .ok (.invokevirtual 103, 3) := dk_182 0 103 (dk_at dksX29_whole_6 5 rfl rfl)
theorem dX29_whole_144 : decode cX29_whole 144 = .ok (.pop, 1) := dk_87 (dk_at dksX29_whole_6 8 rfl rfl)
theorem dX29_whole_145 : decode cX29_whole 145 = .ok (.iinc 4 1, 3) := dk_132 4 1 (dk_at dksX29_whole_6 9 rfl rfl)
theorem dX29_whole_148 : decode cX29_whole 148 = .ok (.goto (-42), 3) := dk_167 255 214 (dk_at dksX29_whole_6 12 rfl rfl)
theorem dX29_whole_151 : decode cX29_whole 151 = .ok (.iinc 2 1, 3) := dk_132 2 1 (dk_at dksX29_whole_6 15 rfl rfl)
theorem dX29_whole_154 : decode cX29_whole 154 = .ok (.goto (-147), 3) := dk_167 255 109 (dk_at dksX29_whole_6 18 rfl rfl)
theorem dX29_whole_157 : decode cX29_whole 157 = .ok (.aload_n 0, 1) := dk_42 (dk_at dksX29_whole_6 21 rfl rfl)
theorem dX29_whole_158 : decode cX29_whole 158 = .ok (.getfield 12, 3) := dk_180 0 12 (dk_at dksX29_whole_7 0 rfl rfl)
theorem dX29_whole_161 : decode cX29_whole 161 = .ok (.invokestatic 139, 3) := dk_184 0 139 (dk_at dksX29_whole_7 3 rfl rfl)
theorem dX29_whole_164 : decode cX29_whole 164 = .ok (.areturn, 1) := dk_176 (dk_at dksX29_whole_7 6 rfl rfl)
abbrev cX29_tell : ByteArray := prog_34_method_4_code
def yX29_tell : MethodName := ⟨RX29, "tell", "(LRowenTongue$Type;)V"⟩
def dkwX29_tell_8 : List UInt8 := [182, 0, 41, 87, 177]
abbrev dktX29_tell_8 : List UInt8 := dkwX29_tell_8 ++ []
def dkwX29_tell_7 : List UInt8 := [153, 0, 18, 44, 192, 0, 85, 58, 5, 42, 25, 5, 182, 0, 87, 167, 0, 13, 42, 180, 0, 12, 16, 78]
abbrev dktX29_tell_7 : List UInt8 := dkwX29_tell_7 ++ dktX29_tell_8
def dkwX29_tell_6 : List UInt8 := [180, 0, 69, 153, 0, 8, 16, 93, 167, 0, 5, 16, 125, 182, 0, 41, 87, 167, 0, 35, 44, 193, 0, 85]
abbrev dktX29_tell_6 : List UInt8 := dkwX29_tell_6 ++ dktX29_tell_7
def dkwX29_tell_5 : List UInt8 := [87, 42, 187, 0, 73, 89, 25, 4, 180, 0, 75, 183, 0, 79, 182, 0, 82, 42, 180, 0, 12, 25, 4]
abbrev dktX29_tell_5 : List UInt8 := dkwX29_tell_5 ++ dktX29_tell_6
def dkwX29_tell_4 : List UInt8 := [58, 4, 42, 180, 0, 12, 25, 4, 180, 0, 69, 153, 0, 8, 16, 91, 167, 0, 5, 16, 123, 182, 0, 41]
abbrev dktX29_tell_4 : List UInt8 := dkwX29_tell_4 ++ dktX29_tell_5
def dkwX29_tell_3 : List UInt8 := [180, 0, 12, 16, 41, 182, 0, 41, 87, 167, 0, 113, 44, 193, 0, 67, 153, 0, 74, 44, 192, 0, 67]
abbrev dktX29_tell_3 : List UInt8 := dkwX29_tell_3 ++ dktX29_tell_4
def dkwX29_tell_2 : List UInt8 := [182, 0, 60, 42, 180, 0, 12, 16, 62, 182, 0, 41, 87, 42, 45, 180, 0, 64, 182, 0, 60, 42]
abbrev dktX29_tell_2 : List UInt8 := dkwX29_tell_2 ++ dktX29_tell_3
def dkwX29_tell_1 : List UInt8 := [153, 0, 57, 44, 192, 0, 54, 78, 42, 180, 0, 12, 16, 40, 182, 0, 41, 87, 42, 45, 180, 0, 56]
abbrev dktX29_tell_1 : List UInt8 := dkwX29_tell_1 ++ dktX29_tell_2
def dkwX29_tell_0 : List UInt8 := [43, 182, 0, 45, 77, 42, 180, 0, 12, 182, 0, 51, 17, 1, 44, 164, 0, 4, 177, 44, 193, 0, 54]
abbrev dktX29_tell_0 : List UInt8 := dkwX29_tell_0 ++ dktX29_tell_1
theorem dksX29_tell_0 : cX29_tell.data.toList.drop 0 = dktX29_tell_0 := by decide +kernel
theorem dksX29_tell_1 : cX29_tell.data.toList.drop 23 = dktX29_tell_1 := dk_seg dksX29_tell_0 23 rfl rfl
theorem dksX29_tell_2 : cX29_tell.data.toList.drop 46 = dktX29_tell_2 := dk_seg dksX29_tell_1 23 rfl rfl
theorem dksX29_tell_3 : cX29_tell.data.toList.drop 68 = dktX29_tell_3 := dk_seg dksX29_tell_2 22 rfl rfl
theorem dksX29_tell_4 : cX29_tell.data.toList.drop 91 = dktX29_tell_4 := dk_seg dksX29_tell_3 23 rfl rfl
theorem dksX29_tell_5 : cX29_tell.data.toList.drop 115 = dktX29_tell_5 := dk_seg dksX29_tell_4 24 rfl rfl
theorem dksX29_tell_6 : cX29_tell.data.toList.drop 138 = dktX29_tell_6 := dk_seg dksX29_tell_5 23 rfl rfl
theorem dksX29_tell_7 : cX29_tell.data.toList.drop 162 = dktX29_tell_7 := dk_seg dksX29_tell_6 24 rfl rfl
theorem dksX29_tell_8 : cX29_tell.data.toList.drop 186 = dktX29_tell_8 := dk_seg dksX29_tell_7 24 rfl rfl
theorem dX29_tell_0 : decode cX29_tell 0 = .ok (.aload_n 1, 1) := dk_43 (dk_at dksX29_tell_0 0 rfl rfl)
theorem dX29_tell_1 : decode cX29_tell 1 = .ok (.invokevirtual 45, 3) := dk_182 0 45 (dk_at dksX29_tell_0 1 rfl rfl)
theorem dX29_tell_4 : decode cX29_tell 4 = .ok (.astore_n 2, 1) := dk_77 (dk_at dksX29_tell_0 4 rfl rfl)
theorem dX29_tell_5 : decode cX29_tell 5 = .ok (.aload_n 0, 1) := dk_42 (dk_at dksX29_tell_0 5 rfl rfl)
theorem dX29_tell_6 : decode cX29_tell 6 = .ok (.getfield 12, 3) := dk_180 0 12 (dk_at dksX29_tell_0 6 rfl rfl)
theorem dX29_tell_9 : decode cX29_tell 9 = .ok (.invokevirtual 51, 3) := dk_182 0 51 (dk_at dksX29_tell_0 9 rfl rfl)
theorem dX29_tell_12 : decode cX29_tell 12 = .ok (.sipush 300, 3) := dk_17 1 44 (dk_at dksX29_tell_0 12 rfl rfl)
theorem dX29_tell_15 : decode cX29_tell 15 = .ok (.if_icmp .le 4, 3) := dk_164 0 4 (dk_at dksX29_tell_0 15 rfl rfl)
theorem dX29_tell_18 : decode cX29_tell 18 = .ok (.return_, 1) := dk_177 (dk_at dksX29_tell_0 18 rfl rfl)
theorem dX29_tell_19 : decode cX29_tell 19 = .ok (.aload_n 2, 1) := dk_44 (dk_at dksX29_tell_0 19 rfl rfl)
theorem dX29_tell_20 : decode cX29_tell 20 = .ok (.instanceof 54, 3) := dk_193 0 54 (dk_at dksX29_tell_0 20 rfl rfl)
theorem dX29_tell_23 : decode cX29_tell 23 = .ok (.ifCond .eq 57, 3) := dk_153 0 57 (dk_at dksX29_tell_1 0 rfl rfl)
theorem dX29_tell_26 : decode cX29_tell 26 = .ok (.aload_n 2, 1) := dk_44 (dk_at dksX29_tell_1 3 rfl rfl)
theorem dX29_tell_27 : decode cX29_tell 27 = .ok (.checkcast 54, 3) := dk_192 0 54 (dk_at dksX29_tell_1 4 rfl rfl)
theorem dX29_tell_30 : decode cX29_tell 30 = .ok (.astore_n 3, 1) := dk_78 (dk_at dksX29_tell_1 7 rfl rfl)
theorem dX29_tell_31 : decode cX29_tell 31 = .ok (.aload_n 0, 1) := dk_42 (dk_at dksX29_tell_1 8 rfl rfl)
theorem dX29_tell_32 : decode cX29_tell 32 = .ok (.getfield 12, 3) := dk_180 0 12 (dk_at dksX29_tell_1 9 rfl rfl)
theorem dX29_tell_35 : decode cX29_tell 35 = .ok (.bipush 40, 2) := dk_16 40 (dk_at dksX29_tell_1 12 rfl rfl)
theorem dX29_tell_37 : decode cX29_tell 37 = .ok (.invokevirtual 41, 3) := dk_182 0 41 (dk_at dksX29_tell_1 14 rfl rfl)
theorem dX29_tell_40 : decode cX29_tell 40 = .ok (.pop, 1) := dk_87 (dk_at dksX29_tell_1 17 rfl rfl)
theorem dX29_tell_41 : decode cX29_tell 41 = .ok (.aload_n 0, 1) := dk_42 (dk_at dksX29_tell_1 18 rfl rfl)
theorem dX29_tell_42 : decode cX29_tell 42 = .ok (.aload_n 3, 1) := dk_45 (dk_at dksX29_tell_1 19 rfl rfl)
theorem dX29_tell_43 : decode cX29_tell 43 = .ok (.getfield 56, 3) := dk_180 0 56 (dk_at dksX29_tell_1 20 rfl rfl)
theorem dX29_tell_46 : decode cX29_tell 46 = .ok (.invokevirtual 60, 3) := dk_182 0 60 (dk_at dksX29_tell_2 0 rfl rfl)
theorem dX29_tell_49 : decode cX29_tell 49 = .ok (.aload_n 0, 1) := dk_42 (dk_at dksX29_tell_2 3 rfl rfl)
theorem dX29_tell_50 : decode cX29_tell 50 = .ok (.getfield 12, 3) := dk_180 0 12 (dk_at dksX29_tell_2 4 rfl rfl)
theorem dX29_tell_53 : decode cX29_tell 53 = .ok (.bipush 62, 2) := dk_16 62 (dk_at dksX29_tell_2 7 rfl rfl)
theorem dX29_tell_55 : decode cX29_tell 55 = .ok (.invokevirtual 41, 3) := dk_182 0 41 (dk_at dksX29_tell_2 9 rfl rfl)
theorem dX29_tell_58 : decode cX29_tell 58 = .ok (.pop, 1) := dk_87 (dk_at dksX29_tell_2 12 rfl rfl)
theorem dX29_tell_59 : decode cX29_tell 59 = .ok (.aload_n 0, 1) := dk_42 (dk_at dksX29_tell_2 13 rfl rfl)
theorem dX29_tell_60 : decode cX29_tell 60 = .ok (.aload_n 3, 1) := dk_45 (dk_at dksX29_tell_2 14 rfl rfl)
theorem dX29_tell_61 : decode cX29_tell 61 = .ok (.getfield 64, 3) := dk_180 0 64 (dk_at dksX29_tell_2 15 rfl rfl)
theorem dX29_tell_64 : decode cX29_tell 64 = .ok (.invokevirtual 60, 3) := dk_182 0 60 (dk_at dksX29_tell_2 18 rfl rfl)
theorem dX29_tell_67 : decode cX29_tell 67 = .ok (.aload_n 0, 1) := dk_42 (dk_at dksX29_tell_2 21 rfl rfl)
theorem dX29_tell_68 : decode cX29_tell 68 = .ok (.getfield 12, 3) := dk_180 0 12 (dk_at dksX29_tell_3 0 rfl rfl)
theorem dX29_tell_71 : decode cX29_tell 71 = .ok (.bipush 41, 2) := dk_16 41 (dk_at dksX29_tell_3 3 rfl rfl)
theorem dX29_tell_73 : decode cX29_tell 73 = .ok (.invokevirtual 41, 3) := dk_182 0 41 (dk_at dksX29_tell_3 5 rfl rfl)
theorem dX29_tell_76 : decode cX29_tell 76 = .ok (.pop, 1) := dk_87 (dk_at dksX29_tell_3 8 rfl rfl)
theorem dX29_tell_77 : decode cX29_tell 77 = .ok (.goto 113, 3) := dk_167 0 113 (dk_at dksX29_tell_3 9 rfl rfl)
theorem dX29_tell_80 : decode cX29_tell 80 = .ok (.aload_n 2, 1) := dk_44 (dk_at dksX29_tell_3 12 rfl rfl)
theorem dX29_tell_81 : decode cX29_tell 81 = .ok (.instanceof 67, 3) := dk_193 0 67 (dk_at dksX29_tell_3 13 rfl rfl)
theorem dX29_tell_84 : decode cX29_tell 84 = .ok (.ifCond .eq 74, 3) := dk_153 0 74 (dk_at dksX29_tell_3 16 rfl rfl)
theorem dX29_tell_87 : decode cX29_tell 87 = .ok (.aload_n 2, 1) := dk_44 (dk_at dksX29_tell_3 19 rfl rfl)
theorem dX29_tell_88 : decode cX29_tell 88 = .ok (.checkcast 67, 3) := dk_192 0 67 (dk_at dksX29_tell_3 20 rfl rfl)
theorem dX29_tell_91 : decode cX29_tell 91 = .ok (.astore 4, 2) := dk_58 4 (dk_at dksX29_tell_4 0 rfl rfl)
theorem dX29_tell_93 : decode cX29_tell 93 = .ok (.aload_n 0, 1) := dk_42 (dk_at dksX29_tell_4 2 rfl rfl)
theorem dX29_tell_94 : decode cX29_tell 94 = .ok (.getfield 12, 3) := dk_180 0 12 (dk_at dksX29_tell_4 3 rfl rfl)
theorem dX29_tell_97 : decode cX29_tell 97 = .ok (.aload 4, 2) := dk_25 4 (dk_at dksX29_tell_4 6 rfl rfl)
theorem dX29_tell_99 : decode cX29_tell 99 = .ok (.getfield 69, 3) := dk_180 0 69 (dk_at dksX29_tell_4 8 rfl rfl)
theorem dX29_tell_102 : decode cX29_tell 102 = .ok (.ifCond .eq 8, 3) := dk_153 0 8 (dk_at dksX29_tell_4 11 rfl rfl)
theorem dX29_tell_105 : decode cX29_tell 105 = .ok (.bipush 91, 2) := dk_16 91 (dk_at dksX29_tell_4 14 rfl rfl)
theorem dX29_tell_107 : decode cX29_tell 107 = .ok (.goto 5, 3) := dk_167 0 5 (dk_at dksX29_tell_4 16 rfl rfl)
theorem dX29_tell_110 : decode cX29_tell 110 = .ok (.bipush 123, 2) := dk_16 123 (dk_at dksX29_tell_4 19 rfl rfl)
theorem dX29_tell_112 : decode cX29_tell 112 = .ok (.invokevirtual 41, 3) := dk_182 0 41 (dk_at dksX29_tell_4 21 rfl rfl)
theorem dX29_tell_115 : decode cX29_tell 115 = .ok (.pop, 1) := dk_87 (dk_at dksX29_tell_5 0 rfl rfl)
theorem dX29_tell_116 : decode cX29_tell 116 = .ok (.aload_n 0, 1) := dk_42 (dk_at dksX29_tell_5 1 rfl rfl)
theorem dX29_tell_117 : decode cX29_tell 117 = .ok (.new 73, 3) := dk_187 0 73 (dk_at dksX29_tell_5 2 rfl rfl)
theorem dX29_tell_120 : decode cX29_tell 120 = .ok (.dup, 1) := dk_89 (dk_at dksX29_tell_5 5 rfl rfl)
theorem dX29_tell_121 : decode cX29_tell 121 = .ok (.aload 4, 2) := dk_25 4 (dk_at dksX29_tell_5 6 rfl rfl)
theorem dX29_tell_123 : decode cX29_tell 123 = .ok (.getfield 75, 3) := dk_180 0 75 (dk_at dksX29_tell_5 8 rfl rfl)
theorem dX29_tell_126 : decode cX29_tell 126 = .ok (.invokespecial 79, 3) := dk_183 0 79 (dk_at dksX29_tell_5 11 rfl rfl)
theorem dX29_tell_129 : decode cX29_tell 129 = .ok (.invokevirtual 82, 3) := dk_182 0 82 (dk_at dksX29_tell_5 14 rfl rfl)
theorem dX29_tell_132 : decode cX29_tell 132 = .ok (.aload_n 0, 1) := dk_42 (dk_at dksX29_tell_5 17 rfl rfl)
theorem dX29_tell_133 : decode cX29_tell 133 = .ok (.getfield 12, 3) := dk_180 0 12 (dk_at dksX29_tell_5 18 rfl rfl)
theorem dX29_tell_136 : decode cX29_tell 136 = .ok (.aload 4, 2) := dk_25 4 (dk_at dksX29_tell_5 21 rfl rfl)
theorem dX29_tell_138 : decode cX29_tell 138 = .ok (.getfield 69, 3) := dk_180 0 69 (dk_at dksX29_tell_6 0 rfl rfl)
theorem dX29_tell_141 : decode cX29_tell 141 = .ok (.ifCond .eq 8, 3) := dk_153 0 8 (dk_at dksX29_tell_6 3 rfl rfl)
theorem dX29_tell_144 : decode cX29_tell 144 = .ok (.bipush 93, 2) := dk_16 93 (dk_at dksX29_tell_6 6 rfl rfl)
theorem dX29_tell_146 : decode cX29_tell 146 = .ok (.goto 5, 3) := dk_167 0 5 (dk_at dksX29_tell_6 8 rfl rfl)
theorem dX29_tell_149 : decode cX29_tell 149 = .ok (.bipush 125, 2) := dk_16 125 (dk_at dksX29_tell_6 11 rfl rfl)
theorem dX29_tell_151 : decode cX29_tell 151 = .ok (.invokevirtual 41, 3) := dk_182 0 41 (dk_at dksX29_tell_6 13 rfl rfl)
theorem dX29_tell_154 : decode cX29_tell 154 = .ok (.pop, 1) := dk_87 (dk_at dksX29_tell_6 16 rfl rfl)
theorem dX29_tell_155 : decode cX29_tell 155 = .ok (.goto 35, 3) := dk_167 0 35 (dk_at dksX29_tell_6 17 rfl rfl)
theorem dX29_tell_158 : decode cX29_tell 158 = .ok (.aload_n 2, 1) := dk_44 (dk_at dksX29_tell_6 20 rfl rfl)
theorem dX29_tell_159 : decode cX29_tell 159 = .ok (.instanceof 85, 3) := dk_193 0 85 (dk_at dksX29_tell_6 21 rfl rfl)
theorem dX29_tell_162 : decode cX29_tell 162 = .ok (.ifCond .eq 18, 3) := dk_153 0 18 (dk_at dksX29_tell_7 0 rfl rfl)
theorem dX29_tell_165 : decode cX29_tell 165 = .ok (.aload_n 2, 1) := dk_44 (dk_at dksX29_tell_7 3 rfl rfl)
theorem dX29_tell_166 : decode cX29_tell 166 = .ok (.checkcast 85, 3) := dk_192 0 85 (dk_at dksX29_tell_7 4 rfl rfl)
theorem dX29_tell_169 : decode cX29_tell 169 = .ok (.astore 5, 2) := dk_58 5 (dk_at dksX29_tell_7 7 rfl rfl)
theorem dX29_tell_171 : decode cX29_tell 171 = .ok (.aload_n 0, 1) := dk_42 (dk_at dksX29_tell_7 9 rfl rfl)
theorem dX29_tell_172 : decode cX29_tell 172 = .ok (.aload 5, 2) := dk_25 5 (dk_at dksX29_tell_7 10 rfl rfl)
theorem dX29_tell_174 : decode cX29_tell 174 = .ok (.invokevirtual 87, 3) := dk_182 0 87 (dk_at dksX29_tell_7 12 rfl rfl)
theorem dX29_tell_177 : decode cX29_tell 177 = .ok (.goto 13, 3) := dk_167 0 13 (dk_at dksX29_tell_7 15 rfl rfl)
theorem dX29_tell_180 : decode cX29_tell 180 = .ok (.aload_n 0, 1) := dk_42 (dk_at dksX29_tell_7 18 rfl rfl)
theorem dX29_tell_181 : decode cX29_tell 181 = .ok (.getfield 12, 3) := dk_180 0 12 (dk_at dksX29_tell_7 19 rfl rfl)
theorem dX29_tell_184 : decode cX29_tell 184 = .ok (.bipush 78, 2) := dk_16 78 (dk_at dksX29_tell_7 22 rfl rfl)
theorem dX29_tell_186 : decode cX29_tell 186 = .ok (.invokevirtual 41, 3) := dk_182 0 41 (dk_at dksX29_tell_8 0 rfl rfl)
theorem dX29_tell_189 : decode cX29_tell 189 = .ok (.pop, 1) := dk_87 (dk_at dksX29_tell_8 3 rfl rfl)
theorem dX29_tell_190 : decode cX29_tell 190 = .ok (.return_, 1) := dk_177 (dk_at dksX29_tell_8 4 rfl rfl)
abbrev cX29_tell_2 : ByteArray := prog_34_method_5_code
def yX29_tell_2 : MethodName := ⟨RX29, "tell", "(LRowenTongue$Flat;)V"⟩
def dkwX29_tell_2_4 : List UInt8 := [180, 0, 116, 182, 0, 87, 177]
abbrev dktX29_tell_2_4 : List UInt8 := dkwX29_tell_2_4 ++ []
def dkwX29_tell_2_3 : List UInt8 := [167, 255, 191, 43, 180, 0, 116, 198, 0, 21, 42, 180, 0, 12, 16, 124, 182, 0, 41, 87, 42, 43]
abbrev dktX29_tell_2_3 : List UInt8 := dkwX29_tell_2_3 ++ dktX29_tell_2_4
def dkwX29_tell_2_2 : List UInt8 := [182, 0, 41, 87, 42, 43, 180, 0, 109, 29, 182, 0, 112, 192, 0, 46, 182, 0, 60, 3, 61, 132, 3, 1]
abbrev dktX29_tell_2_2 : List UInt8 := dkwX29_tell_2_2 ++ dktX29_tell_2_3
def dkwX29_tell_2_1 : List UInt8 := [180, 0, 12, 28, 153, 0, 8, 18, 99, 167, 0, 5, 18, 101, 182, 0, 103, 29, 182, 0, 106, 16, 58]
abbrev dktX29_tell_2_1 : List UInt8 := dkwX29_tell_2_1 ++ dktX29_tell_2_2
def dkwX29_tell_2_0 : List UInt8 := [4, 61, 3, 62, 29, 16, 10, 162, 0, 65, 43, 180, 0, 91, 29, 184, 0, 95, 153, 0, 48, 42]
abbrev dktX29_tell_2_0 : List UInt8 := dkwX29_tell_2_0 ++ dktX29_tell_2_1
theorem dksX29_tell_2_0 : cX29_tell_2.data.toList.drop 0 = dktX29_tell_2_0 := by decide +kernel
theorem dksX29_tell_2_1 : cX29_tell_2.data.toList.drop 22 = dktX29_tell_2_1 := dk_seg dksX29_tell_2_0 22 rfl rfl
theorem dksX29_tell_2_2 : cX29_tell_2.data.toList.drop 45 = dktX29_tell_2_2 := dk_seg dksX29_tell_2_1 23 rfl rfl
theorem dksX29_tell_2_3 : cX29_tell_2.data.toList.drop 69 = dktX29_tell_2_3 := dk_seg dksX29_tell_2_2 24 rfl rfl
theorem dksX29_tell_2_4 : cX29_tell_2.data.toList.drop 91 = dktX29_tell_2_4 := dk_seg dksX29_tell_2_3 22 rfl rfl
theorem dX29_tell_2_0 : decode cX29_tell_2 0 = .ok (.iconst 1, 1) := dk_4 (dk_at dksX29_tell_2_0 0 rfl rfl)
theorem dX29_tell_2_1 : decode cX29_tell_2 1 = .ok (.istore_n 2, 1) := dk_61 (dk_at dksX29_tell_2_0 1 rfl rfl)
theorem dX29_tell_2_2 : decode cX29_tell_2 2 = .ok (.iconst 0, 1) := dk_3 (dk_at dksX29_tell_2_0 2 rfl rfl)
theorem dX29_tell_2_3 : decode cX29_tell_2 3 = .ok (.istore_n 3, 1) := dk_62 (dk_at dksX29_tell_2_0 3 rfl rfl)
theorem dX29_tell_2_4 : decode cX29_tell_2 4 = .ok (.iload_n 3, 1) := dk_29 (dk_at dksX29_tell_2_0 4 rfl rfl)
theorem dX29_tell_2_5 : decode cX29_tell_2 5 = .ok (.bipush 10, 2) := dk_16 10 (dk_at dksX29_tell_2_0 5 rfl rfl)
theorem dX29_tell_2_7 : decode cX29_tell_2 7 = .ok (.if_icmp .ge 65, 3) := dk_162 0 65 (dk_at dksX29_tell_2_0 7 rfl rfl)
theorem dX29_tell_2_10 : decode cX29_tell_2 10 = .ok (.aload_n 1, 1) := dk_43 (dk_at dksX29_tell_2_0 10 rfl rfl)
theorem dX29_tell_2_11 : decode cX29_tell_2 11 = .ok (.getfield 91, 3) := dk_180 0 91 (dk_at dksX29_tell_2_0 11 rfl rfl)
theorem dX29_tell_2_14 : decode cX29_tell_2 14 = .ok (.iload_n 3, 1) := dk_29 (dk_at dksX29_tell_2_0 14 rfl rfl)
theorem dX29_tell_2_15 : decode cX29_tell_2 15 = .ok (.invokestatic 95, 3) := dk_184 0 95 (dk_at dksX29_tell_2_0 15 rfl rfl)
theorem dX29_tell_2_18 : decode cX29_tell_2 18 = .ok (.ifCond .eq 48, 3) := dk_153 0 48 (dk_at dksX29_tell_2_0 18 rfl rfl)
theorem dX29_tell_2_21 : decode cX29_tell_2 21 = .ok (.aload_n 0, 1) := dk_42 (dk_at dksX29_tell_2_0 21 rfl rfl)
theorem dX29_tell_2_22 : decode cX29_tell_2 22 = .ok (.getfield 12, 3) := dk_180 0 12 (dk_at dksX29_tell_2_1 0 rfl rfl)
theorem dX29_tell_2_25 : decode cX29_tell_2 25 = .ok (.iload_n 2, 1) := dk_28 (dk_at dksX29_tell_2_1 3 rfl rfl)
theorem dX29_tell_2_26 : decode cX29_tell_2 26 = .ok (.ifCond .eq 8, 3) := dk_153 0 8 (dk_at dksX29_tell_2_1 4 rfl rfl)
theorem dX29_tell_2_29 : decode cX29_tell_2 29 = .ok (.ldc 99, 2) := dk_18 99 (dk_at dksX29_tell_2_1 7 rfl rfl)
theorem dX29_tell_2_31 : decode cX29_tell_2 31 = .ok (.goto 5, 3) := dk_167 0 5 (dk_at dksX29_tell_2_1 9 rfl rfl)
theorem dX29_tell_2_34 : decode cX29_tell_2 34 = .ok (.ldc 101, 2) := dk_18 101 (dk_at dksX29_tell_2_1 12 rfl rfl)
theorem dX29_tell_2_36 : decode cX29_tell_2 36 = .ok (.invokevirtual 103, 3) := dk_182 0 103 (dk_at dksX29_tell_2_1 14 rfl rfl)
theorem dX29_tell_2_39 : decode cX29_tell_2 39 = .ok (.iload_n 3, 1) := dk_29 (dk_at dksX29_tell_2_1 17 rfl rfl)
theorem dX29_tell_2_40 : decode cX29_tell_2 40 = .ok (.invokevirtual 106, 3) := dk_182 0 106 (dk_at dksX29_tell_2_1 18 rfl rfl)
theorem dX29_tell_2_43 : decode cX29_tell_2 43 = .ok (.bipush 58, 2) := dk_16 58 (dk_at dksX29_tell_2_1 21 rfl rfl)
theorem dX29_tell_2_45 : decode cX29_tell_2 45 = .ok (.invokevirtual 41, 3) := dk_182 0 41 (dk_at dksX29_tell_2_2 0 rfl rfl)
theorem dX29_tell_2_48 : decode cX29_tell_2 48 = .ok (.pop, 1) := dk_87 (dk_at dksX29_tell_2_2 3 rfl rfl)
theorem dX29_tell_2_49 : decode cX29_tell_2 49 = .ok (.aload_n 0, 1) := dk_42 (dk_at dksX29_tell_2_2 4 rfl rfl)
theorem dX29_tell_2_50 : decode cX29_tell_2 50 = .ok (.aload_n 1, 1) := dk_43 (dk_at dksX29_tell_2_2 5 rfl rfl)
theorem dX29_tell_2_51 : decode cX29_tell_2 51 = .ok (.getfield 109, 3) := dk_180 0 109 (dk_at dksX29_tell_2_2 6 rfl rfl)
theorem dX29_tell_2_54 : decode cX29_tell_2 54 = .ok (.iload_n 3, 1) := dk_29 (dk_at dksX29_tell_2_2 9 rfl rfl)
theorem dX29_tell_2_55 : decode cX29_tell_2 55 = .ok (.invokevirtual 112, 3) := dk_182 0 112 (dk_at dksX29_tell_2_2 10 rfl rfl)
theorem dX29_tell_2_58 : decode cX29_tell_2 58 = .ok (.checkcast 46, 3) := dk_192 0 46 (dk_at dksX29_tell_2_2 13 rfl rfl)
theorem dX29_tell_2_61 : decode cX29_tell_2 61 = .ok (.invokevirtual 60, 3) := dk_182 0 60 (dk_at dksX29_tell_2_2 16 rfl rfl)
theorem dX29_tell_2_64 : decode cX29_tell_2 64 = .ok (.iconst 0, 1) := dk_3 (dk_at dksX29_tell_2_2 19 rfl rfl)
theorem dX29_tell_2_65 : decode cX29_tell_2 65 = .ok (.istore_n 2, 1) := dk_61 (dk_at dksX29_tell_2_2 20 rfl rfl)
theorem dX29_tell_2_66 : decode cX29_tell_2 66 = .ok (.iinc 3 1, 3) := dk_132 3 1 (dk_at dksX29_tell_2_2 21 rfl rfl)
theorem dX29_tell_2_69 : decode cX29_tell_2 69 = .ok (.goto (-65), 3) := dk_167 255 191 (dk_at dksX29_tell_2_3 0 rfl rfl)
theorem dX29_tell_2_72 : decode cX29_tell_2 72 = .ok (.aload_n 1, 1) := dk_43 (dk_at dksX29_tell_2_3 3 rfl rfl)
theorem dX29_tell_2_73 : decode cX29_tell_2 73 = .ok (.getfield 116, 3) := dk_180 0 116 (dk_at dksX29_tell_2_3 4 rfl rfl)
theorem dX29_tell_2_76 : decode cX29_tell_2 76 = .ok (.ifnull 21, 3) := dk_198 0 21 (dk_at dksX29_tell_2_3 7 rfl rfl)
theorem dX29_tell_2_79 : decode cX29_tell_2 79 = .ok (.aload_n 0, 1) := dk_42 (dk_at dksX29_tell_2_3 10 rfl rfl)
theorem dX29_tell_2_80 : decode cX29_tell_2 80 = .ok (.getfield 12, 3) := dk_180 0 12 (dk_at dksX29_tell_2_3 11 rfl rfl)
theorem dX29_tell_2_83 : decode cX29_tell_2 83 = .ok (.bipush 124, 2) := dk_16 124 (dk_at dksX29_tell_2_3 14 rfl rfl)
theorem dX29_tell_2_85 : decode cX29_tell_2 85 = .ok (.invokevirtual 41, 3) := dk_182 0 41 (dk_at dksX29_tell_2_3 16 rfl rfl)
theorem dX29_tell_2_88 : decode cX29_tell_2 88 = .ok (.pop, 1) := dk_87 (dk_at dksX29_tell_2_3 19 rfl rfl)
theorem dX29_tell_2_89 : decode cX29_tell_2 89 = .ok (.aload_n 0, 1) := dk_42 (dk_at dksX29_tell_2_3 20 rfl rfl)
theorem dX29_tell_2_90 : decode cX29_tell_2 90 = .ok (.aload_n 1, 1) := dk_43 (dk_at dksX29_tell_2_3 21 rfl rfl)
theorem dX29_tell_2_91 : decode cX29_tell_2 91 = .ok (.getfield 116, 3) := dk_180 0 116 (dk_at dksX29_tell_2_4 0 rfl rfl)
theorem dX29_tell_2_94 : decode cX29_tell_2 94 = .ok (.invokevirtual 87, 3) := dk_182 0 87 (dk_at dksX29_tell_2_4 3 rfl rfl)
theorem dX29_tell_2_97 : decode cX29_tell_2 97 = .ok (.return_, 1) := dk_177 (dk_at dksX29_tell_2_4 6 rfl rfl)
abbrev cX29_tellVariable : ByteArray := prog_34_method_3_code
def yX29_tellVariable : MethodName := ⟨RX29, "tellVariable", "(LRowenTongue$Variable;)V"⟩
def dkwX29_tellVariable_1 : List UInt8 := [180, 0, 21, 43, 182, 0, 33, 87, 42, 180, 0, 12, 28, 184, 0, 37, 182, 0, 41, 87, 177]
abbrev dktX29_tellVariable_1 : List UInt8 := dkwX29_tellVariable_1 ++ []
def dkwX29_tellVariable_0 : List UInt8 := [42, 180, 0, 21, 43, 182, 0, 25, 61, 28, 2, 160, 0, 20, 42, 180, 0, 21, 182, 0, 29, 61, 42]
abbrev dktX29_tellVariable_0 : List UInt8 := dkwX29_tellVariable_0 ++ dktX29_tellVariable_1
theorem dksX29_tellVariable_0 : cX29_tellVariable.data.toList.drop 0 = dktX29_tellVariable_0 := by decide +kernel
theorem dksX29_tellVariable_1 : cX29_tellVariable.data.toList.drop 23 = dktX29_tellVariable_1 := dk_seg dksX29_tellVariable_0 23 rfl rfl
theorem dX29_tellVariable_0 : decode cX29_tellVariable 0 = .ok (.aload_n 0, 1) := dk_42 (dk_at dksX29_tellVariable_0 0 rfl rfl)
theorem dX29_tellVariable_1 : decode cX29_tellVariable 1 = .ok (.getfield 21, 3) := dk_180 0 21 (dk_at dksX29_tellVariable_0 1 rfl rfl)
theorem dX29_tellVariable_4 : decode cX29_tellVariable 4 = .ok (.aload_n 1, 1) := dk_43 (dk_at dksX29_tellVariable_0 4 rfl rfl)
theorem dX29_tellVariable_5 : decode cX29_tellVariable 5 = .ok (.invokevirtual 25, 3) := dk_182 0 25 (dk_at dksX29_tellVariable_0 5 rfl rfl)
theorem dX29_tellVariable_8 : decode cX29_tellVariable 8 = .ok (.istore_n 2, 1) := dk_61 (dk_at dksX29_tellVariable_0 8 rfl rfl)
theorem dX29_tellVariable_9 : decode cX29_tellVariable 9 = .ok (.iload_n 2, 1) := dk_28 (dk_at dksX29_tellVariable_0 9 rfl rfl)
theorem dX29_tellVariable_10 : decode cX29_tellVariable 10 = .ok (.iconst (-1), 1) := dk_2 (dk_at dksX29_tellVariable_0 10 rfl rfl)
theorem dX29_tellVariable_11 : decode cX29_tellVariable 11 = .ok (.if_icmp .ne 20, 3) := dk_160 0 20 (dk_at dksX29_tellVariable_0 11 rfl rfl)
theorem dX29_tellVariable_14 : decode cX29_tellVariable 14 = .ok (.aload_n 0, 1) := dk_42 (dk_at dksX29_tellVariable_0 14 rfl rfl)
theorem dX29_tellVariable_15 : decode cX29_tellVariable 15 = .ok (.getfield 21, 3) := dk_180 0 21 (dk_at dksX29_tellVariable_0 15 rfl rfl)
theorem dX29_tellVariable_18 : decode cX29_tellVariable 18 = .ok (.invokevirtual 29, 3) := dk_182 0 29 (dk_at dksX29_tellVariable_0 18 rfl rfl)
theorem dX29_tellVariable_21 : decode cX29_tellVariable 21 = .ok (.istore_n 2, 1) := dk_61 (dk_at dksX29_tellVariable_0 21 rfl rfl)
theorem dX29_tellVariable_22 : decode cX29_tellVariable 22 = .ok (.aload_n 0, 1) := dk_42 (dk_at dksX29_tellVariable_0 22 rfl rfl)
theorem dX29_tellVariable_23 : decode cX29_tellVariable 23 = .ok (.getfield 21, 3) := dk_180 0 21 (dk_at dksX29_tellVariable_1 0 rfl rfl)
theorem dX29_tellVariable_26 : decode cX29_tellVariable 26 = .ok (.aload_n 1, 1) := dk_43 (dk_at dksX29_tellVariable_1 3 rfl rfl)
theorem dX29_tellVariable_27 : decode cX29_tellVariable 27 = .ok (.invokevirtual 33, 3) := dk_182 0 33 (dk_at dksX29_tellVariable_1 4 rfl rfl)
theorem dX29_tellVariable_30 : decode cX29_tellVariable 30 = .ok (.pop, 1) := dk_87 (dk_at dksX29_tellVariable_1 7 rfl rfl)
theorem dX29_tellVariable_31 : decode cX29_tellVariable 31 = .ok (.aload_n 0, 1) := dk_42 (dk_at dksX29_tellVariable_1 8 rfl rfl)
theorem dX29_tellVariable_32 : decode cX29_tellVariable 32 = .ok (.getfield 12, 3) := dk_180 0 12 (dk_at dksX29_tellVariable_1 9 rfl rfl)
theorem dX29_tellVariable_35 : decode cX29_tellVariable 35 = .ok (.iload_n 2, 1) := dk_28 (dk_at dksX29_tellVariable_1 12 rfl rfl)
theorem dX29_tellVariable_36 : decode cX29_tellVariable 36 = .ok (.invokestatic 37, 3) := dk_184 0 37 (dk_at dksX29_tellVariable_1 13 rfl rfl)
theorem dX29_tellVariable_39 : decode cX29_tellVariable 39 = .ok (.invokevirtual 41, 3) := dk_182 0 41 (dk_at dksX29_tellVariable_1 16 rfl rfl)
theorem dX29_tellVariable_42 : decode cX29_tellVariable 42 = .ok (.pop, 1) := dk_87 (dk_at dksX29_tellVariable_1 19 rfl rfl)
theorem dX29_tellVariable_43 : decode cX29_tellVariable 43 = .ok (.return_, 1) := dk_177 (dk_at dksX29_tellVariable_1 20 rfl rfl)
abbrev cX29_letter : ByteArray := prog_34_method_2_code
def yX29_letter : MethodName := ⟨RX29, "letter", "(I)C"⟩
def dkwX29_letter_1 : List UInt8 := [16, 26, 100, 167, 0, 5, 16, 63, 146, 172]
abbrev dktX29_letter_1 : List UInt8 := dkwX29_letter_1 ++ []
def dkwX29_letter_0 : List UInt8 := [26, 16, 26, 162, 0, 10, 16, 97, 26, 96, 167, 0, 21, 26, 16, 52, 162, 0, 13, 16, 65, 26, 96]
abbrev dktX29_letter_0 : List UInt8 := dkwX29_letter_0 ++ dktX29_letter_1
theorem dksX29_letter_0 : cX29_letter.data.toList.drop 0 = dktX29_letter_0 := by decide +kernel
theorem dksX29_letter_1 : cX29_letter.data.toList.drop 23 = dktX29_letter_1 := dk_seg dksX29_letter_0 23 rfl rfl
theorem dX29_letter_0 : decode cX29_letter 0 = .ok (.iload_n 0, 1) := dk_26 (dk_at dksX29_letter_0 0 rfl rfl)
theorem dX29_letter_1 : decode cX29_letter 1 = .ok (.bipush 26, 2) := dk_16 26 (dk_at dksX29_letter_0 1 rfl rfl)
theorem dX29_letter_3 : decode cX29_letter 3 = .ok (.if_icmp .ge 10, 3) := dk_162 0 10 (dk_at dksX29_letter_0 3 rfl rfl)
theorem dX29_letter_6 : decode cX29_letter 6 = .ok (.bipush 97, 2) := dk_16 97 (dk_at dksX29_letter_0 6 rfl rfl)
theorem dX29_letter_8 : decode cX29_letter 8 = .ok (.iload_n 0, 1) := dk_26 (dk_at dksX29_letter_0 8 rfl rfl)
theorem dX29_letter_9 : decode cX29_letter 9 = .ok (.iadd, 1) := dk_96 (dk_at dksX29_letter_0 9 rfl rfl)
theorem dX29_letter_10 : decode cX29_letter 10 = .ok (.goto 21, 3) := dk_167 0 21 (dk_at dksX29_letter_0 10 rfl rfl)
theorem dX29_letter_13 : decode cX29_letter 13 = .ok (.iload_n 0, 1) := dk_26 (dk_at dksX29_letter_0 13 rfl rfl)
theorem dX29_letter_14 : decode cX29_letter 14 = .ok (.bipush 52, 2) := dk_16 52 (dk_at dksX29_letter_0 14 rfl rfl)
theorem dX29_letter_16 : decode cX29_letter 16 = .ok (.if_icmp .ge 13, 3) := dk_162 0 13 (dk_at dksX29_letter_0 16 rfl rfl)
theorem dX29_letter_19 : decode cX29_letter 19 = .ok (.bipush 65, 2) := dk_16 65 (dk_at dksX29_letter_0 19 rfl rfl)
theorem dX29_letter_21 : decode cX29_letter 21 = .ok (.iload_n 0, 1) := dk_26 (dk_at dksX29_letter_0 21 rfl rfl)
theorem dX29_letter_22 : decode cX29_letter 22 = .ok (.iadd, 1) := dk_96 (dk_at dksX29_letter_0 22 rfl rfl)
theorem dX29_letter_23 : decode cX29_letter 23 = .ok (.bipush 26, 2) := dk_16 26 (dk_at dksX29_letter_1 0 rfl rfl)
theorem dX29_letter_25 : decode cX29_letter 25 = .ok (.isub, 1) := dk_100 (dk_at dksX29_letter_1 2 rfl rfl)
theorem dX29_letter_26 : decode cX29_letter 26 = .ok (.goto 5, 3) := dk_167 0 5 (dk_at dksX29_letter_1 3 rfl rfl)
theorem dX29_letter_29 : decode cX29_letter 29 = .ok (.bipush 63, 2) := dk_16 63 (dk_at dksX29_letter_1 6 rfl rfl)
theorem dX29_letter_31 : decode cX29_letter 31 = .ok (.i2c, 1) := dk_146 (dk_at dksX29_letter_1 8 rfl rfl)
theorem dX29_letter_32 : decode cX29_letter 32 = .ok (.ireturn, 1) := dk_172 (dk_at dksX29_letter_1 9 rfl rfl)
theorem q102 : (Jvm.Cond.initialized "RowenTongue$Teller") ∈ lw_all := lw_g (lw_at lw_m1 53 rfl) rfl
theorem q398 : (Jvm.Cond.selects "RowenTongue$Teller" ({ cls := "java/lang/Object", name := "getClass", desc := "()Ljava/lang/Class;" } : Jvm.MethodName) ({ cls := "java/lang/Object", name := "getClass", desc := "()Ljava/lang/Class;" } : Jvm.MethodName)) ∈ lw_all := lw_g (lw_at lw_m2 109 rfl) rfl
theorem q619 : (Jvm.Cond.fieldLinkNest "RowenTongue$Teller" (69 : Nat) "RowenTongue$Bag" "isVariant" "Z" "RowenTongue") ∈ lw_tbl := lw_at lw_m3 90 rfl
theorem q626 : (Jvm.Cond.fieldLinkNest "RowenTongue$Teller" (75 : Nat) "RowenTongue$Bag" "row" "LRowenTongue$Row;" "RowenTongue") ∈ lw_tbl := lw_at lw_m3 97 rfl
theorem q772 : (Jvm.Cond.selects "RowenTongue$Teller" ({ cls := "java/lang/Object", name := "equals", desc := "(Ljava/lang/Object;)Z" } : Jvm.MethodName) ({ cls := "java/lang/Object", name := "equals", desc := "(Ljava/lang/Object;)Z" } : Jvm.MethodName)) ∈ lw_all := lw_g (lw_at lw_m4 3 rfl) rfl
theorem q839 : (Jvm.Cond.fieldLinkNest "RowenTongue$Teller" (56 : Nat) "RowenTongue$Function" "from" "LRowenTongue$Type;" "RowenTongue") ∈ lw_tbl := lw_at lw_m4 70 rfl
theorem q845 : (Jvm.Cond.fieldLinkNest "RowenTongue$Teller" (64 : Nat) "RowenTongue$Function" "to" "LRowenTongue$Type;" "RowenTongue") ∈ lw_tbl := lw_at lw_m4 76 rfl
theorem q1213 : (Jvm.Cond.fieldLinkNest "RowenTongue$Teller" (109 : Nat) "RowenTongue$Flat" "types" "Ljava/util/ArrayList;" "RowenTongue") ∈ lw_tbl := lw_at lw_m5 204 rfl
theorem q1216 : (Jvm.Cond.fieldLinkNest "RowenTongue$Teller" (116 : Nat) "RowenTongue$Flat" "tail" "LRowenTongue$OpenRow;" "RowenTongue") ∈ lw_tbl := lw_at lw_m5 207 rfl
theorem q1221 : (Jvm.Cond.fieldLinkNest "RowenTongue$Teller" (91 : Nat) "RowenTongue$Flat" "labels" "I" "RowenTongue") ∈ lw_tbl := lw_at lw_m5 212 rfl
theorem q1599 : (Jvm.Cond.instantiable "RowenTongue$Teller" (2 : Nat)) ∈ lw_all := lw_g (lw_at lw_m7 110 rfl) rfl
theorem q1601 : (Jvm.Cond.instanceMethod ({ cls := "RowenTongue$Teller", name := "<init>", desc := "()V" } : Jvm.MethodName)) ∈ lw_all := lw_g (lw_at lw_m7 112 rfl) rfl
theorem q1602 : (Jvm.Cond.code ({ cls := "RowenTongue$Teller", name := "<init>", desc := "()V" } : Jvm.MethodName) prog_34_method_1_code (1 : Nat) (Option.none : Option Jvm.ClassFile.FieldType)) ∈ lw_all := lw_g (lw_at lw_m7 113 rfl) rfl
theorem q1603 : (Jvm.Cond.methodLink "RowenTongue$Teller" (3 : Nat) ({ cls := "java/lang/Object", name := "<init>", desc := "()V" } : Jvm.MethodName)) ∈ lw_all := lw_g (lw_at lw_m7 114 rfl) rfl
theorem q1604 : (Jvm.Cond.classLink "RowenTongue$Teller" (9 : Nat) "java/lang/StringBuilder") ∈ lw_all := lw_g (lw_at lw_m7 115 rfl) rfl
theorem q1605 : (Jvm.Cond.methodLink "RowenTongue$Teller" (11 : Nat) ({ cls := "java/lang/StringBuilder", name := "<init>", desc := "()V" } : Jvm.MethodName)) ∈ lw_all := lw_g (lw_at lw_m7 116 rfl) rfl
theorem q1606 : (Jvm.Cond.classLink "RowenTongue$Teller" (18 : Nat) "java/util/ArrayList") ∈ lw_all := lw_g (lw_at lw_m7 117 rfl) rfl
theorem q1607 : (Jvm.Cond.methodLink "RowenTongue$Teller" (20 : Nat) ({ cls := "java/util/ArrayList", name := "<init>", desc := "()V" } : Jvm.MethodName)) ∈ lw_all := lw_g (lw_at lw_m7 118 rfl) rfl
theorem q1608 : (Jvm.Cond.fieldLink "RowenTongue$Teller" (12 : Nat) "RowenTongue$Teller" "text" "Ljava/lang/StringBuilder;") ∈ lw_all := lw_g (lw_at lw_m7 119 rfl) rfl
theorem q1609 : (Jvm.Cond.fieldLink "RowenTongue$Teller" (21 : Nat) "RowenTongue$Teller" "variables" "Ljava/util/ArrayList;") ∈ lw_all := lw_g (lw_at lw_m7 120 rfl) rfl
theorem q1610 : (Jvm.Cond.laysFinal "RowenTongue$Teller" "RowenTongue$Teller" "text" "Ljava/lang/StringBuilder;") ∈ lw_all := lw_g (lw_at lw_m7 121 rfl) rfl
theorem q1611 : (Jvm.Cond.soleField "RowenTongue$Teller" "text") ∈ lw_all := lw_g (lw_at lw_m7 122 rfl) rfl
theorem q1612 : (Jvm.Cond.laysFinal "RowenTongue$Teller" "RowenTongue$Teller" "variables" "Ljava/util/ArrayList;") ∈ lw_all := lw_g (lw_at lw_m7 123 rfl) rfl
theorem q1613 : (Jvm.Cond.soleField "RowenTongue$Teller" "variables") ∈ lw_all := lw_g (lw_at lw_m7 124 rfl) rfl
theorem q1614 : (Jvm.Cond.superclass "RowenTongue$Teller" "java/lang/Object") ∈ lw_all := lw_g (lw_at lw_m7 125 rfl) rfl
theorem q1616 : (Jvm.Cond.instanceMethod ({ cls := "RowenTongue$Teller", name := "whole", desc := "(LRowenTongue$Type;)Ljava/lang/String;" } : Jvm.MethodName)) ∈ lw_all := lw_g (lw_at lw_m7 127 rfl) rfl
theorem q1617 : (Jvm.Cond.selects "RowenTongue$Teller" ({ cls := "RowenTongue$Teller", name := "whole", desc := "(LRowenTongue$Type;)Ljava/lang/String;" } : Jvm.MethodName) ({ cls := "RowenTongue$Teller", name := "whole", desc := "(LRowenTongue$Type;)Ljava/lang/String;" } : Jvm.MethodName)) ∈ lw_all := lw_g (lw_at lw_m7 128 rfl) rfl
theorem q1618 : (Jvm.Cond.code ({ cls := "RowenTongue$Teller", name := "whole", desc := "(LRowenTongue$Type;)Ljava/lang/String;" } : Jvm.MethodName) prog_34_method_6_code (5 : Nat) (Option.some (Jvm.ClassFile.FieldType.object "java/lang/String"))) ∈ lw_all := lw_g (lw_at lw_m7 129 rfl) rfl
theorem q1619 : (Jvm.Cond.methodLink "RowenTongue$Teller" (60 : Nat) ({ cls := "RowenTongue$Teller", name := "tell", desc := "(LRowenTongue$Type;)V" } : Jvm.MethodName)) ∈ lw_all := lw_g (lw_at lw_m7 130 rfl) rfl
theorem q1620 : (Jvm.Cond.privateMethod ({ cls := "RowenTongue$Teller", name := "tell", desc := "(LRowenTongue$Type;)V" } : Jvm.MethodName)) ∈ lw_tbl := lw_at lw_m7 131 rfl
theorem q1621 : (Jvm.Cond.instanceMethod ({ cls := "RowenTongue$Teller", name := "tell", desc := "(LRowenTongue$Type;)V" } : Jvm.MethodName)) ∈ lw_all := lw_g (lw_at lw_m7 132 rfl) rfl
theorem q1622 : (Jvm.Cond.code ({ cls := "RowenTongue$Teller", name := "tell", desc := "(LRowenTongue$Type;)V" } : Jvm.MethodName) prog_34_method_4_code (6 : Nat) (Option.none : Option Jvm.ClassFile.FieldType)) ∈ lw_all := lw_g (lw_at lw_m7 133 rfl) rfl
theorem q1623 : (Jvm.Cond.methodLink "RowenTongue$Teller" (45 : Nat) ({ cls := "RowenTongue$Type", name := "now", desc := "()LRowenTongue$Type;" } : Jvm.MethodName)) ∈ lw_all := lw_g (lw_at lw_m7 134 rfl) rfl
theorem q1624 : (Jvm.Cond.methodLink "RowenTongue$Teller" (51 : Nat) ({ cls := "java/lang/StringBuilder", name := "length", desc := "()I" } : Jvm.MethodName)) ∈ lw_all := lw_g (lw_at lw_m7 135 rfl) rfl
theorem q1625 : (Jvm.Cond.classLink "RowenTongue$Teller" (54 : Nat) "RowenTongue$Function") ∈ lw_all := lw_g (lw_at lw_m7 136 rfl) rfl
theorem q1626 : (Jvm.Cond.methodLink "RowenTongue$Teller" (41 : Nat) ({ cls := "java/lang/StringBuilder", name := "append", desc := "(C)Ljava/lang/StringBuilder;" } : Jvm.MethodName)) ∈ lw_all := lw_g (lw_at lw_m7 137 rfl) rfl
theorem q1646 : (Jvm.Cond.classLink "RowenTongue$Teller" (67 : Nat) "RowenTongue$Bag") ∈ lw_all := lw_g (lw_at lw_m7 157 rfl) rfl
theorem q1647 : (Jvm.Cond.classLink "RowenTongue$Teller" (73 : Nat) "RowenTongue$Flat") ∈ lw_all := lw_g (lw_at lw_m7 158 rfl) rfl
theorem q1648 : (Jvm.Cond.methodLink "RowenTongue$Teller" (79 : Nat) ({ cls := "RowenTongue$Flat", name := "<init>", desc := "(LRowenTongue$Row;)V" } : Jvm.MethodName)) ∈ lw_all := lw_g (lw_at lw_m7 159 rfl) rfl
theorem q1649 : (Jvm.Cond.methodLink "RowenTongue$Teller" (82 : Nat) ({ cls := "RowenTongue$Teller", name := "tell", desc := "(LRowenTongue$Flat;)V" } : Jvm.MethodName)) ∈ lw_all := lw_g (lw_at lw_m7 160 rfl) rfl
theorem q1650 : (Jvm.Cond.privateMethod ({ cls := "RowenTongue$Teller", name := "tell", desc := "(LRowenTongue$Flat;)V" } : Jvm.MethodName)) ∈ lw_tbl := lw_at lw_m7 161 rfl
theorem q1651 : (Jvm.Cond.instanceMethod ({ cls := "RowenTongue$Teller", name := "tell", desc := "(LRowenTongue$Flat;)V" } : Jvm.MethodName)) ∈ lw_all := lw_g (lw_at lw_m7 162 rfl) rfl
theorem q1652 : (Jvm.Cond.code ({ cls := "RowenTongue$Teller", name := "tell", desc := "(LRowenTongue$Flat;)V" } : Jvm.MethodName) prog_34_method_5_code (4 : Nat) (Option.none : Option Jvm.ClassFile.FieldType)) ∈ lw_all := lw_g (lw_at lw_m7 163 rfl) rfl
theorem q1653 : (Jvm.Cond.methodLinkNest "RowenTongue$Teller" (95 : Nat) ({ cls := "RowenTongue", name := "has", desc := "(II)Z" } : Jvm.MethodName) "RowenTongue") ∈ lw_tbl := lw_at lw_m7 164 rfl
theorem q1654 : (Jvm.Cond.stringRef "RowenTongue$Teller" (99 : Nat) "") ∈ lw_tbl := lw_at lw_m7 165 rfl
theorem q1655 : (Jvm.Cond.stringRef "RowenTongue$Teller" (101 : Nat) ",") ∈ lw_tbl := lw_at lw_m7 166 rfl
theorem q1656 : (Jvm.Cond.methodLink "RowenTongue$Teller" (103 : Nat) ({ cls := "java/lang/StringBuilder", name := "append", desc := "(Ljava/lang/String;)Ljava/lang/StringBuilder;" } : Jvm.MethodName)) ∈ lw_all := lw_g (lw_at lw_m7 167 rfl) rfl
theorem q1657 : (Jvm.Cond.methodLink "RowenTongue$Teller" (106 : Nat) ({ cls := "java/lang/StringBuilder", name := "append", desc := "(I)Ljava/lang/StringBuilder;" } : Jvm.MethodName)) ∈ lw_all := lw_g (lw_at lw_m7 168 rfl) rfl
theorem q1658 : (Jvm.Cond.methodLink "RowenTongue$Teller" (112 : Nat) ({ cls := "java/util/ArrayList", name := "get", desc := "(I)Ljava/lang/Object;" } : Jvm.MethodName)) ∈ lw_all := lw_g (lw_at lw_m7 169 rfl) rfl
theorem q1659 : (Jvm.Cond.classLink "RowenTongue$Teller" (46 : Nat) "RowenTongue$Type") ∈ lw_all := lw_g (lw_at lw_m7 170 rfl) rfl
theorem q1660 : (Jvm.Cond.methodLink "RowenTongue$Teller" (87 : Nat) ({ cls := "RowenTongue$Teller", name := "tellVariable", desc := "(LRowenTongue$Variable;)V" } : Jvm.MethodName)) ∈ lw_all := lw_g (lw_at lw_m7 171 rfl) rfl
theorem q1661 : (Jvm.Cond.privateMethod ({ cls := "RowenTongue$Teller", name := "tellVariable", desc := "(LRowenTongue$Variable;)V" } : Jvm.MethodName)) ∈ lw_tbl := lw_at lw_m7 172 rfl
theorem q1662 : (Jvm.Cond.instanceMethod ({ cls := "RowenTongue$Teller", name := "tellVariable", desc := "(LRowenTongue$Variable;)V" } : Jvm.MethodName)) ∈ lw_all := lw_g (lw_at lw_m7 173 rfl) rfl
theorem q1663 : (Jvm.Cond.code ({ cls := "RowenTongue$Teller", name := "tellVariable", desc := "(LRowenTongue$Variable;)V" } : Jvm.MethodName) prog_34_method_3_code (3 : Nat) (Option.none : Option Jvm.ClassFile.FieldType)) ∈ lw_all := lw_g (lw_at lw_m7 174 rfl) rfl
theorem q1664 : (Jvm.Cond.methodLink "RowenTongue$Teller" (25 : Nat) ({ cls := "java/util/ArrayList", name := "indexOf", desc := "(Ljava/lang/Object;)I" } : Jvm.MethodName)) ∈ lw_all := lw_g (lw_at lw_m7 175 rfl) rfl
theorem q1665 : (Jvm.Cond.methodLink "RowenTongue$Teller" (29 : Nat) ({ cls := "java/util/ArrayList", name := "size", desc := "()I" } : Jvm.MethodName)) ∈ lw_all := lw_g (lw_at lw_m7 176 rfl) rfl
theorem q1666 : (Jvm.Cond.methodLink "RowenTongue$Teller" (33 : Nat) ({ cls := "java/util/ArrayList", name := "add", desc := "(Ljava/lang/Object;)Z" } : Jvm.MethodName)) ∈ lw_all := lw_g (lw_at lw_m7 177 rfl) rfl
theorem q1667 : (Jvm.Cond.methodLink "RowenTongue$Teller" (37 : Nat) ({ cls := "RowenTongue$Teller", name := "letter", desc := "(I)C" } : Jvm.MethodName)) ∈ lw_all := lw_g (lw_at lw_m7 178 rfl) rfl
theorem q1668 : (Jvm.Cond.static ({ cls := "RowenTongue$Teller", name := "letter", desc := "(I)C" } : Jvm.MethodName)) ∈ lw_all := lw_g (lw_at lw_m7 179 rfl) rfl
theorem q1669 : (Jvm.Cond.code ({ cls := "RowenTongue$Teller", name := "letter", desc := "(I)C" } : Jvm.MethodName) prog_34_method_2_code (1 : Nat) (Option.some Jvm.ClassFile.FieldType.char)) ∈ lw_all := lw_g (lw_at lw_m7 180 rfl) rfl
theorem q1670 : (Jvm.Cond.classLink "RowenTongue$Teller" (85 : Nat) "RowenTongue$Open") ∈ lw_all := lw_g (lw_at lw_m7 181 rfl) rfl
theorem q1671 : (Jvm.Cond.classLink "RowenTongue$Teller" (120 : Nat) "RowenTongue$Variable") ∈ lw_all := lw_g (lw_at lw_m7 182 rfl) rfl
theorem q1672 : (Jvm.Cond.interfaceEntry "RowenTongue$Teller" (122 : Nat)) ∈ lw_tbl := lw_at lw_m7 183 rfl
theorem q1673 : (Jvm.Cond.methodLink "RowenTongue$Teller" (122 : Nat) ({ cls := "RowenTongue$Variable", name := "isLike", desc := "()Z" } : Jvm.MethodName)) ∈ lw_all := lw_g (lw_at lw_m7 184 rfl) rfl
theorem q1688 : (Jvm.Cond.interfaceEntry "RowenTongue$Teller" (126 : Nat)) ∈ lw_tbl := lw_at lw_m7 199 rfl
theorem q1689 : (Jvm.Cond.methodLink "RowenTongue$Teller" (126 : Nat) ({ cls := "RowenTongue$Variable", name := "lacking", desc := "()I" } : Jvm.MethodName)) ∈ lw_all := lw_g (lw_at lw_m7 200 rfl) rfl
theorem q1702 : (Jvm.Cond.stringRef "RowenTongue$Teller" (129 : Nat) "=") ∈ lw_tbl := lw_at lw_m7 213 rfl
theorem q1703 : (Jvm.Cond.stringRef "RowenTongue$Teller" (131 : Nat) "/") ∈ lw_tbl := lw_at lw_m7 214 rfl
theorem q1704 : (Jvm.Cond.methodLink "RowenTongue$Teller" (133 : Nat) ({ cls := "java/lang/String", name := "valueOf", desc := "(I)Ljava/lang/String;" } : Jvm.MethodName)) ∈ lw_all := lw_g (lw_at lw_m7 215 rfl) rfl
theorem q1718 : (Jvm.Cond.methodLinkNest "RowenTongue$Teller" (139 : Nat) ({ cls := "RowenTongue", name := "cut", desc := "(Ljava/lang/StringBuilder;)Ljava/lang/String;" } : Jvm.MethodName) "RowenTongue") ∈ lw_tbl := lw_at lw_m7 229 rfl
theorem q2918 : (Jvm.Cond.castable "RowenTongue$Teller" "java/lang/Object") ∈ lw_tbl := lw_at lw_m12 229 rfl
theorem in_X29 : ∀ w ∈ wsX290, w ∈ lw_all := lw_in wsX290 [1610, 1612] (by decide +kernel) (by decide +kernel)
/-! RowenTongue$Plain -/
set_option maxRecDepth 100000
def RX30 : String := "RowenTongue$Plain"
def TX30 : u_T := fun k => match k with
  | _ => ("RowenTongue$Plain", "steps", "I", false)
def tyX30 : Nat → FieldType := fun k => match k with
  | _ => .int
abbrev wsX300 : List Cond := u_ws RX30 TX30 1
theorem nmX30 : ∀ a, a < 1 → ∀ b, b < 1 → a ≠ b → (TX30 a).2.1 ≠ (TX30 b).2.1 := by decide +kernel
theorem tyX30_ok : ∀ k, k < 1 → parseFieldDescriptor (TX30 k).2.2.1 = some (tyX30 k) := by decide +kernel
abbrev cX30_init : ByteArray := prog_28_method_1_code
def yX30_init : MethodName := ⟨RX30, "<init>", "()V"⟩
theorem dX30_init_0 : decode cX30_init 0 = .ok (.aload_n 0, 1) := by decide +kernel
theorem dX30_init_1 : decode cX30_init 1 = .ok (.invokespecial 3, 3) := by decide +kernel
theorem dX30_init_4 : decode cX30_init 4 = .ok (.return_, 1) := by decide +kernel
abbrev cX30_act : ByteArray := prog_28_method_3_code
def yX30_act : MethodName := ⟨RX30, "act", "(LRowenTongue$Term;LRowenTongue$Scope;)LRowenTongue$Value;"⟩
def dkwX30_act_24 : List UInt8 := [167, 253, 173]
abbrev dktX30_act_24 : List UInt8 := dkwX30_act_24 ++ []
def dkwX30_act_23 : List UInt8 := [160, 0, 18, 42, 45, 180, 0, 53, 4, 50, 25, 4, 182, 0, 60, 167, 0, 5, 25, 11, 184, 0, 96, 176]
abbrev dktX30_act_23 : List UInt8 := dkwX30_act_23 ++ dktX30_act_24
def dkwX30_act_22 : List UInt8 := [45, 180, 0, 53, 3, 50, 25, 4, 182, 0, 60, 58, 11, 45, 25, 11, 45, 180, 0, 21, 16, 7]
abbrev dktX30_act_22 : List UInt8 := dkwX30_act_22 ++ dktX30_act_23
def dkwX30_act_21 : List UInt8 := [182, 0, 89, 153, 0, 7, 4, 167, 0, 4, 3, 183, 0, 31, 176, 187, 0, 93, 89, 183, 0, 95, 176, 42]
abbrev dktX30_act_21 : List UInt8 := dkwX30_act_21 ++ dktX30_act_22
def dkwX30_act_20 : List UInt8 := [182, 0, 60, 58, 10, 187, 0, 26, 89, 42, 25, 10, 42, 45, 180, 0, 53, 4, 50, 25, 4, 182, 0, 60]
abbrev dktX30_act_20 : List UInt8 := dkwX30_act_20 ++ dktX30_act_21
def dkwX30_act_19 : List UInt8 := [50, 25, 4, 182, 0, 60, 184, 0, 85, 96, 183, 0, 31, 176, 42, 45, 180, 0, 53, 3, 50, 25, 4]
abbrev dktX30_act_19 : List UInt8 := dkwX30_act_19 ++ dktX30_act_20
def dkwX30_act_18 : List UInt8 := [3, 50, 25, 4, 182, 0, 60, 184, 0, 85, 54, 9, 187, 0, 26, 89, 21, 9, 42, 45, 180, 0, 53, 4]
abbrev dktX30_act_18 : List UInt8 := dkwX30_act_18 ++ dktX30_act_19
def dkwX30_act_17 : List UInt8 := [182, 0, 60, 184, 0, 85, 153, 0, 7, 4, 167, 0, 4, 5, 50, 78, 167, 0, 149, 42, 45, 180, 0, 53]
abbrev dktX30_act_17 : List UInt8 := dkwX30_act_17 ++ dktX30_act_18
def dkwX30_act_16 : List UInt8 := [180, 0, 53, 3, 50, 78, 167, 0, 181, 45, 180, 0, 53, 42, 45, 180, 0, 53, 3, 50, 25, 4]
abbrev dktX30_act_16 : List UInt8 := dkwX30_act_16 ++ dktX30_act_17
def dkwX30_act_15 : List UInt8 := [153, 0, 8, 25, 7, 167, 0, 8, 25, 7, 180, 0, 84, 1, 25, 4, 183, 0, 68, 58, 4, 45]
abbrev dktX30_act_15 : List UInt8 := dkwX30_act_15 ++ dktX30_act_16
def dkwX30_act_14 : List UInt8 := [54, 8, 187, 0, 35, 89, 21, 8, 153, 0, 10, 45, 180, 0, 28, 167, 0, 7, 45, 180, 0, 83, 21, 8]
abbrev dktX30_act_14 : List UInt8 := dkwX30_act_14 ++ dktX30_act_15
def dkwX30_act_13 : List UInt8 := [180, 0, 53, 4, 50, 184, 0, 79, 78, 45, 180, 0, 21, 16, 16, 160, 0, 7, 4, 167, 0, 4, 3]
abbrev dktX30_act_13 : List UInt8 := dkwX30_act_13 ++ dktX30_act_14
def dkwX30_act_12 : List UInt8 := [45, 180, 0, 53, 3, 50, 25, 4, 182, 0, 60, 192, 0, 74, 58, 7, 25, 7, 180, 0, 76, 45]
abbrev dktX30_act_12 : List UInt8 := dkwX30_act_12 ++ dktX30_act_13
def dkwX30_act_11 : List UInt8 := [180, 0, 28, 25, 6, 1, 25, 4, 183, 0, 68, 58, 4, 45, 180, 0, 53, 4, 50, 78, 167, 1, 26, 42]
abbrev dktX30_act_11 : List UInt8 := dkwX30_act_11 ++ dktX30_act_12
def dkwX30_act_10 : List UInt8 := [1, 45, 180, 0, 53, 3, 50, 25, 4, 183, 0, 68, 182, 0, 60, 58, 6, 187, 0, 35, 89, 45]
abbrev dktX30_act_10 : List UInt8 := dkwX30_act_10 ++ dktX30_act_11
def dkwX30_act_9 : List UInt8 := [180, 0, 53, 4, 50, 78, 167, 1, 86, 42, 45, 180, 0, 53, 3, 50, 187, 0, 35, 89, 45, 180, 0, 28]
abbrev dktX30_act_9 : List UInt8 := dkwX30_act_9 ++ dktX30_act_10
def dkwX30_act_8 : List UInt8 := [180, 0, 28, 42, 45, 180, 0, 53, 3, 50, 25, 4, 182, 0, 60, 1, 25, 4, 183, 0, 68, 58, 4, 45]
abbrev dktX30_act_8 : List UInt8 := dkwX30_act_8 ++ dktX30_act_9
def dkwX30_act_7 : List UInt8 := [180, 0, 65, 183, 0, 68, 58, 4, 25, 5, 180, 0, 71, 78, 167, 1, 124, 187, 0, 35, 89, 45]
abbrev dktX30_act_7 : List UInt8 := dkwX30_act_7 ++ dktX30_act_8
def dkwX30_act_6 : List UInt8 := [187, 0, 35, 89, 25, 5, 180, 0, 64, 42, 45, 180, 0, 53, 4, 50, 25, 4, 182, 0, 60, 1, 25, 5]
abbrev dktX30_act_6 : List UInt8 := dkwX30_act_6 ++ dktX30_act_7
def dkwX30_act_5 : List UInt8 := [25, 4, 183, 0, 57, 176, 42, 45, 180, 0, 53, 3, 50, 25, 4, 182, 0, 60, 192, 0, 51, 58, 5]
abbrev dktX30_act_5 : List UInt8 := dkwX30_act_5 ++ dktX30_act_6
def dkwX30_act_4 : List UInt8 := [25, 4, 180, 0, 43, 78, 167, 1, 202, 187, 0, 51, 89, 45, 180, 0, 28, 45, 180, 0, 53, 3, 50]
abbrev dktX30_act_4 : List UInt8 := dkwX30_act_4 ++ dktX30_act_5
def dkwX30_act_3 : List UInt8 := [25, 4, 180, 0, 39, 58, 4, 167, 255, 237, 25, 4, 180, 0, 43, 199, 0, 9, 25, 4, 180, 0, 47, 176]
abbrev dktX30_act_3 : List UInt8 := dkwX30_act_3 ++ dktX30_act_4
def dkwX30_act_2 : List UInt8 := [187, 0, 26, 89, 45, 180, 0, 28, 183, 0, 31, 176, 25, 4, 180, 0, 34, 45, 180, 0, 28, 159, 0, 13]
abbrev dktX30_act_2 : List UInt8 := dkwX30_act_2 ++ dktX30_act_3
def dkwX30_act_1 : List UInt8 := [170, 0, 0, 0, 0, 2, 28, 0, 0, 0, 0, 0, 0, 0, 14, 0, 0, 0, 75, 0, 0, 0, 87, 0, 0, 0, 132, 0, 0, 0, 152, 0, 0, 0, 210, 0, 0, 0, 248, 0, 0, 2, 20, 0, 0, 2, 28, 0, 0, 2, 28, 0, 0, 2, 28, 0, 0, 2, 28, 0, 0, 1, 52, 0, 0, 1, 153, 0, 0, 1, 185, 0, 0, 1, 228]
abbrev dktX30_act_1 : List UInt8 := dkwX30_act_1 ++ dktX30_act_2
def dkwX30_act_0 : List UInt8 := [43, 78, 44, 58, 4, 42, 182, 0, 18, 45, 180, 0, 21]
abbrev dktX30_act_0 : List UInt8 := dkwX30_act_0 ++ dktX30_act_1
theorem dksX30_act_0 : cX30_act.data.toList.drop 0 = dktX30_act_0 := by decide +kernel
theorem dksX30_act_1 : cX30_act.data.toList.drop 13 = dktX30_act_1 := dk_seg dksX30_act_0 13 rfl rfl
theorem dksX30_act_2 : cX30_act.data.toList.drop 88 = dktX30_act_2 := dk_seg dksX30_act_1 75 rfl rfl
theorem dksX30_act_3 : cX30_act.data.toList.drop 112 = dktX30_act_3 := dk_seg dksX30_act_2 24 rfl rfl
theorem dksX30_act_4 : cX30_act.data.toList.drop 136 = dktX30_act_4 := dk_seg dksX30_act_3 24 rfl rfl
theorem dksX30_act_5 : cX30_act.data.toList.drop 159 = dktX30_act_5 := dk_seg dksX30_act_4 23 rfl rfl
theorem dksX30_act_6 : cX30_act.data.toList.drop 182 = dktX30_act_6 := dk_seg dksX30_act_5 23 rfl rfl
theorem dksX30_act_7 : cX30_act.data.toList.drop 206 = dktX30_act_7 := dk_seg dksX30_act_6 24 rfl rfl
theorem dksX30_act_8 : cX30_act.data.toList.drop 228 = dktX30_act_8 := dk_seg dksX30_act_7 22 rfl rfl
theorem dksX30_act_9 : cX30_act.data.toList.drop 252 = dktX30_act_9 := dk_seg dksX30_act_8 24 rfl rfl
theorem dksX30_act_10 : cX30_act.data.toList.drop 276 = dktX30_act_10 := dk_seg dksX30_act_9 24 rfl rfl
theorem dksX30_act_11 : cX30_act.data.toList.drop 298 = dktX30_act_11 := dk_seg dksX30_act_10 22 rfl rfl
theorem dksX30_act_12 : cX30_act.data.toList.drop 322 = dktX30_act_12 := dk_seg dksX30_act_11 24 rfl rfl
theorem dksX30_act_13 : cX30_act.data.toList.drop 344 = dktX30_act_13 := dk_seg dksX30_act_12 22 rfl rfl
theorem dksX30_act_14 : cX30_act.data.toList.drop 367 = dktX30_act_14 := dk_seg dksX30_act_13 23 rfl rfl
theorem dksX30_act_15 : cX30_act.data.toList.drop 391 = dktX30_act_15 := dk_seg dksX30_act_14 24 rfl rfl
theorem dksX30_act_16 : cX30_act.data.toList.drop 413 = dktX30_act_16 := dk_seg dksX30_act_15 22 rfl rfl
theorem dksX30_act_17 : cX30_act.data.toList.drop 435 = dktX30_act_17 := dk_seg dksX30_act_16 22 rfl rfl
theorem dksX30_act_18 : cX30_act.data.toList.drop 459 = dktX30_act_18 := dk_seg dksX30_act_17 24 rfl rfl
theorem dksX30_act_19 : cX30_act.data.toList.drop 483 = dktX30_act_19 := dk_seg dksX30_act_18 24 rfl rfl
theorem dksX30_act_20 : cX30_act.data.toList.drop 506 = dktX30_act_20 := dk_seg dksX30_act_19 23 rfl rfl
theorem dksX30_act_21 : cX30_act.data.toList.drop 530 = dktX30_act_21 := dk_seg dksX30_act_20 24 rfl rfl
theorem dksX30_act_22 : cX30_act.data.toList.drop 554 = dktX30_act_22 := dk_seg dksX30_act_21 24 rfl rfl
theorem dksX30_act_23 : cX30_act.data.toList.drop 576 = dktX30_act_23 := dk_seg dksX30_act_22 22 rfl rfl
theorem dksX30_act_24 : cX30_act.data.toList.drop 600 = dktX30_act_24 := dk_seg dksX30_act_23 24 rfl rfl
theorem dX30_act_0 : decode cX30_act 0 = .ok (.aload_n 1, 1) := dk_43 (dk_at dksX30_act_0 0 rfl rfl)
theorem dX30_act_1 : decode cX30_act 1 = .ok (.astore_n 3, 1) := dk_78 (dk_at dksX30_act_0 1 rfl rfl)
theorem dX30_act_2 : decode cX30_act 2 = .ok (.aload_n 2, 1) := dk_44 (dk_at dksX30_act_0 2 rfl rfl)
theorem dX30_act_3 : decode cX30_act 3 = .ok (.astore 4, 2) := dk_58 4 (dk_at dksX30_act_0 3 rfl rfl)
theorem dX30_act_5 : decode cX30_act 5 = .ok (.aload_n 0, 1) := dk_42 (dk_at dksX30_act_0 5 rfl rfl)
theorem dX30_act_6 : decode cX30_act 6 = .ok (.invokevirtual 18, 3) := dk_182 0 18 (dk_at dksX30_act_0 6 rfl rfl)
theorem dX30_act_9 : decode cX30_act 9 = .ok (.aload_n 3, 1) := dk_45 (dk_at dksX30_act_0 9 rfl rfl)
theorem dX30_act_10 : decode cX30_act 10 = .ok (.getfield 21, 3) := dk_180 0 21 (dk_at dksX30_act_0 10 rfl rfl)
theorem dX30_act_13 : decode cX30_act 13 = .ok (.tableswitch 540 0 14 #[75, 87, 132, 152, 210, 248, 532, 540, 540, 540, 540, 308, 409, 441, 484], 75) := by decide +kernel
theorem dX30_act_88 : decode cX30_act 88 = .ok (.new 26, 3) := dk_187 0 26 (dk_at dksX30_act_2 0 rfl rfl)
theorem dX30_act_91 : decode cX30_act 91 = .ok (.dup, 1) := dk_89 (dk_at dksX30_act_2 3 rfl rfl)
theorem dX30_act_92 : decode cX30_act 92 = .ok (.aload_n 3, 1) := dk_45 (dk_at dksX30_act_2 4 rfl rfl)
theorem dX30_act_93 : decode cX30_act 93 = .ok (.getfield 28, 3) := dk_180 0 28 (dk_at dksX30_act_2 5 rfl rfl)
theorem dX30_act_96 : decode cX30_act 96 = .ok (.invokespecial 31, 3) := dk_183 0 31 (dk_at dksX30_act_2 8 rfl rfl)
theorem dX30_act_99 : decode cX30_act 99 = .ok (.areturn, 1) := dk_176 (dk_at dksX30_act_2 11 rfl rfl)
theorem dX30_act_100 : decode cX30_act 100 = .ok (.aload 4, 2) := dk_25 4 (dk_at dksX30_act_2 12 rfl rfl)
theorem dX30_act_102 : decode cX30_act 102 = .ok (.getfield 34, 3) := dk_180 0 34 (dk_at dksX30_act_2 14 rfl rfl)
theorem dX30_act_105 : decode cX30_act 105 = .ok (.aload_n 3, 1) := dk_45 (dk_at dksX30_act_2 17 rfl rfl)
theorem dX30_act_106 : decode cX30_act 106 = .ok (.getfield 28, 3) := dk_180 0 28 (dk_at dksX30_act_2 18 rfl rfl)
theorem dX30_act_109 : decode cX30_act 109 = .ok (.if_icmp .eq 13, 3) := dk_159 0 13 (dk_at dksX30_act_2 21 rfl rfl)
theorem dX30_act_112 : decode cX30_act 112 = .ok (.aload 4, 2) := dk_25 4 (dk_at dksX30_act_3 0 rfl rfl)
theorem dX30_act_114 : decode cX30_act 114 = .ok (.getfield 39, 3) := dk_180 0 39 (dk_at dksX30_act_3 2 rfl rfl)
theorem dX30_act_117 : decode cX30_act 117 = .ok (.astore 4, 2) := dk_58 4 (dk_at dksX30_act_3 5 rfl rfl)
theorem dX30_act_119 : decode cX30_act 119 = .ok (.goto (-19), 3) := dk_167 255 237 (dk_at dksX30_act_3 7 rfl rfl)
theorem dX30_act_122 : decode cX30_act 122 = .ok (.aload 4, 2) := dk_25 4 (dk_at dksX30_act_3 10 rfl rfl)
theorem dX30_act_124 : decode cX30_act 124 = .ok (.getfield 43, 3) := dk_180 0 43 (dk_at dksX30_act_3 12 rfl rfl)
theorem dX30_act_127 : decode cX30_act 127 = .ok (.ifnonnull 9, 3) := dk_199 0 9 (dk_at dksX30_act_3 15 rfl rfl)
theorem dX30_act_130 : decode cX30_act 130 = .ok (.aload 4, 2) := dk_25 4 (dk_at dksX30_act_3 18 rfl rfl)
theorem dX30_act_132 : decode cX30_act 132 = .ok (.getfield 47, 3) := dk_180 0 47 (dk_at dksX30_act_3 20 rfl rfl)
theorem dX30_act_135 : decode cX30_act 135 = .ok (.areturn, 1) := dk_176 (dk_at dksX30_act_3 23 rfl rfl)
theorem dX30_act_136 : decode cX30_act 136 = .ok (.aload 4, 2) := dk_25 4 (dk_at dksX30_act_4 0 rfl rfl)
theorem dX30_act_138 : decode cX30_act 138 = .ok (.getfield 43, 3) := dk_180 0 43 (dk_at dksX30_act_4 2 rfl rfl)
theorem dX30_act_141 : decode cX30_act 141 = .ok (.astore_n 3, 1) := dk_78 (dk_at dksX30_act_4 5 rfl rfl)
theorem dX30_act_142 : decode cX30_act 142 = .ok (.goto 458, 3) := dk_167 1 202 (dk_at dksX30_act_4 6 rfl rfl)
theorem dX30_act_145 : decode cX30_act 145 = .ok (.new 51, 3) := dk_187 0 51 (dk_at dksX30_act_4 9 rfl rfl)
theorem dX30_act_148 : decode cX30_act 148 = .ok (.dup, 1) := dk_89 (dk_at dksX30_act_4 12 rfl rfl)
theorem dX30_act_149 : decode cX30_act 149 = .ok (.aload_n 3, 1) := dk_45 (dk_at dksX30_act_4 13 rfl rfl)
theorem dX30_act_150 : decode cX30_act 150 = .ok (.getfield 28, 3) := dk_180 0 28 (dk_at dksX30_act_4 14 rfl rfl)
theorem dX30_act_153 : decode cX30_act 153 = .ok (.aload_n 3, 1) := dk_45 (dk_at dksX30_act_4 17 rfl rfl)
theorem dX30_act_154 : decode cX30_act 154 = .ok (.getfield 53, 3) := dk_180 0 53 (dk_at dksX30_act_4 18 rfl rfl)
theorem dX30_act_157 : decode cX30_act 157 = .ok (.iconst 0, 1) := dk_3 (dk_at dksX30_act_4 21 rfl rfl)
theorem dX30_act_158 : decode cX30_act 158 = .ok (.aaload, 1) := dk_50 (dk_at dksX30_act_4 22 rfl rfl)
theorem dX30_act_159 : decode cX30_act 159 = .ok (.aload 4, 2) := dk_25 4 (dk_at dksX30_act_5 0 rfl rfl)
theorem dX30_act_161 : decode cX30_act 161 = .ok (.invokespecial 57, 3) := dk_183 0 57 (dk_at dksX30_act_5 2 rfl rfl)
theorem dX30_act_164 : decode cX30_act 164 = .ok (.areturn, 1) := dk_176 (dk_at dksX30_act_5 5 rfl rfl)
theorem dX30_act_165 : decode cX30_act 165 = .ok (.aload_n 0, 1) := dk_42 (dk_at dksX30_act_5 6 rfl rfl)
theorem dX30_act_166 : decode cX30_act 166 = .ok (.aload_n 3, 1) := dk_45 (dk_at dksX30_act_5 7 rfl rfl)
theorem dX30_act_167 : decode cX30_act 167 = .ok (.getfield 53, 3) := dk_180 0 53 (dk_at dksX30_act_5 8 rfl rfl)
theorem dX30_act_170 : decode cX30_act 170 = .ok (.iconst 0, 1) := dk_3 (dk_at dksX30_act_5 11 rfl rfl)
theorem dX30_act_171 : decode cX30_act 171 = .ok (.aaload, 1) := dk_50 (dk_at dksX30_act_5 12 rfl rfl)
theorem dX30_act_172 : decode cX30_act 172 = .ok (.aload 4, 2) := dk_25 4 (dk_at dksX30_act_5 13 rfl rfl)
theorem dX30_act_174 : decode cX30_act 174 = .ok (.invokevirtual 60, 3) := dk_182 0 60 (dk_at dksX30_act_5 15 rfl rfl)
theorem dX30_act_177 : decode cX30_act 177 = .ok (.checkcast 51, 3) := dk_192 0 51 (dk_at dksX30_act_5 18 rfl rfl)
theorem dX30_act_180 : decode cX30_act 180 = .ok (.astore 5, 2) := dk_58 5 (dk_at dksX30_act_5 21 rfl rfl)
theorem dX30_act_182 : decode cX30_act 182 = .ok (.new 35, 3) := dk_187 0 35 (dk_at dksX30_act_6 0 rfl rfl)
theorem dX30_act_185 : decode cX30_act 185 = .ok (.dup, 1) := dk_89 (dk_at dksX30_act_6 3 rfl rfl)
theorem dX30_act_186 : decode cX30_act 186 = .ok (.aload 5, 2) := dk_25 5 (dk_at dksX30_act_6 4 rfl rfl)
theorem dX30_act_188 : decode cX30_act 188 = .ok (.getfield 64, 3) := dk_180 0 64 (dk_at dksX30_act_6 6 rfl rfl)
theorem dX30_act_191 : decode cX30_act 191 = .ok (.aload_n 0, 1) := dk_42 (dk_at dksX30_act_6 9 rfl rfl)
theorem dX30_act_192 : decode cX30_act 192 = .ok (.aload_n 3, 1) := dk_45 (dk_at dksX30_act_6 10 rfl rfl)
theorem dX30_act_193 : decode cX30_act 193 = .ok (.getfield 53, 3) := dk_180 0 53 (dk_at dksX30_act_6 11 rfl rfl)
theorem dX30_act_196 : decode cX30_act 196 = .ok (.iconst 1, 1) := dk_4 (dk_at dksX30_act_6 14 rfl rfl)
theorem dX30_act_197 : decode cX30_act 197 = .ok (.aaload, 1) := dk_50 (dk_at dksX30_act_6 15 rfl rfl)
theorem dX30_act_198 : decode cX30_act 198 = .ok (.aload 4, 2) := dk_25 4 (dk_at dksX30_act_6 16 rfl rfl)
theorem dX30_act_200 : decode cX30_act 200 = .ok (.invokevirtual 60, 3) := dk_182 0 60 (dk_at dksX30_act_6 18 rfl rfl)
theorem dX30_act_203 : decode cX30_act 203 = .ok (.aconst_null, 1) := dk_1 (dk_at dksX30_act_6 21 rfl rfl)
theorem dX30_act_204 : decode cX30_act 204 = .ok (.aload 5, 2) := dk_25 5 (dk_at dksX30_act_6 22 rfl rfl)
theorem dX30_act_206 : decode cX30_act 206 = .ok (.getfield 65, 3) := dk_180 0 65 (dk_at dksX30_act_7 0 rfl rfl)
theorem dX30_act_209 : decode cX30_act 209 = .ok (.invokespecial 68, 3) := dk_183 0 68 (dk_at dksX30_act_7 3 rfl rfl)
theorem dX30_act_212 : decode cX30_act 212 = .ok (.astore 4, 2) := dk_58 4 (dk_at dksX30_act_7 6 rfl rfl)
theorem dX30_act_214 : decode cX30_act 214 = .ok (.aload 5, 2) := dk_25 5 (dk_at dksX30_act_7 8 rfl rfl)
theorem dX30_act_216 : decode cX30_act 216 = .ok (.getfield 71, 3) := dk_180 0 71 (dk_at dksX30_act_7 10 rfl rfl)
theorem dX30_act_219 : decode cX30_act 219 = .ok (.astore_n 3, 1) := dk_78 (dk_at dksX30_act_7 13 rfl rfl)
theorem dX30_act_220 : decode cX30_act 220 = .ok (.goto 380, 3) := dk_167 1 124 (dk_at dksX30_act_7 14 rfl rfl)
theorem dX30_act_223 : decode cX30_act 223 = .ok (.new 35, 3) := dk_187 0 35 (dk_at dksX30_act_7 17 rfl rfl)
theorem dX30_act_226 : decode cX30_act 226 = .ok (.dup, 1) := dk_89 (dk_at dksX30_act_7 20 rfl rfl)
theorem dX30_act_227 : decode cX30_act 227 = .ok (.aload_n 3, 1) := dk_45 (dk_at dksX30_act_7 21 rfl rfl)
theorem dX30_act_228 : decode cX30_act 228 = .ok (.getfield 28, 3) := dk_180 0 28 (dk_at dksX30_act_8 0 rfl rfl)
theorem dX30_act_231 : decode cX30_act 231 = .ok (.aload_n 0, 1) := dk_42 (dk_at dksX30_act_8 3 rfl rfl)
theorem dX30_act_232 : decode cX30_act 232 = .ok (.aload_n 3, 1) := dk_45 (dk_at dksX30_act_8 4 rfl rfl)
theorem dX30_act_233 : decode cX30_act 233 = .ok (.getfield 53, 3) := dk_180 0 53 (dk_at dksX30_act_8 5 rfl rfl)
theorem dX30_act_236 : decode cX30_act 236 = .ok (.iconst 0, 1) := dk_3 (dk_at dksX30_act_8 8 rfl rfl)
theorem dX30_act_237 : decode cX30_act 237 = .ok (.aaload, 1) := dk_50 (dk_at dksX30_act_8 9 rfl rfl)
theorem dX30_act_238 : decode cX30_act 238 = .ok (.aload 4, 2) := dk_25 4 (dk_at dksX30_act_8 10 rfl rfl)
theorem dX30_act_240 : decode cX30_act 240 = .ok (.invokevirtual 60, 3) := dk_182 0 60 (dk_at dksX30_act_8 12 rfl rfl)
theorem dX30_act_243 : decode cX30_act 243 = .ok (.aconst_null, 1) := dk_1 (dk_at dksX30_act_8 15 rfl rfl)
theorem dX30_act_244 : decode cX30_act 244 = .ok (.aload 4, 2) := dk_25 4 (dk_at dksX30_act_8 16 rfl rfl)
theorem dX30_act_246 : decode cX30_act 246 = .ok (.invokespecial 68, 3) := dk_183 0 68 (dk_at dksX30_act_8 18 rfl rfl)
theorem dX30_act_249 : decode cX30_act 249 = .ok (.astore 4, 2) := dk_58 4 (dk_at dksX30_act_8 21 rfl rfl)
theorem dX30_act_251 : decode cX30_act 251 = .ok (.aload_n 3, 1) := dk_45 (dk_at dksX30_act_8 23 rfl rfl)
theorem dX30_act_252 : decode cX30_act 252 = .ok (.getfield 53, 3) := dk_180 0 53 (dk_at dksX30_act_9 0 rfl rfl)
theorem dX30_act_255 : decode cX30_act 255 = .ok (.iconst 1, 1) := dk_4 (dk_at dksX30_act_9 3 rfl rfl)
theorem dX30_act_256 : decode cX30_act 256 = .ok (.aaload, 1) := dk_50 (dk_at dksX30_act_9 4 rfl rfl)
theorem dX30_act_257 : decode cX30_act 257 = .ok (.astore_n 3, 1) := dk_78 (dk_at dksX30_act_9 5 rfl rfl)
theorem dX30_act_258 : decode cX30_act 258 = .ok (.goto 342, 3) := dk_167 1 86 (dk_at dksX30_act_9 6 rfl rfl)
theorem dX30_act_261 : decode cX30_act 261 = .ok (.aload_n 0, 1) := dk_42 (dk_at dksX30_act_9 9 rfl rfl)
theorem dX30_act_262 : decode cX30_act 262 = .ok (.aload_n 3, 1) := dk_45 (dk_at dksX30_act_9 10 rfl rfl)
theorem dX30_act_263 : decode cX30_act 263 = .ok (.getfield 53, 3) := dk_180 0 53 (dk_at dksX30_act_9 11 rfl rfl)
theorem dX30_act_266 : decode cX30_act 266 = .ok (.iconst 0, 1) := dk_3 (dk_at dksX30_act_9 14 rfl rfl)
theorem dX30_act_267 : decode cX30_act 267 = .ok (.aaload, 1) := dk_50 (dk_at dksX30_act_9 15 rfl rfl)
theorem dX30_act_268 : decode cX30_act 268 = .ok (.new 35, 3) := dk_187 0 35 (dk_at dksX30_act_9 16 rfl rfl)
theorem dX30_act_271 : decode cX30_act 271 = .ok (.dup, 1) := dk_89 (dk_at dksX30_act_9 19 rfl rfl)
theorem dX30_act_272 : decode cX30_act 272 = .ok (.aload_n 3, 1) := dk_45 (dk_at dksX30_act_9 20 rfl rfl)
theorem dX30_act_273 : decode cX30_act 273 = .ok (.getfield 28, 3) := dk_180 0 28 (dk_at dksX30_act_9 21 rfl rfl)
theorem dX30_act_276 : decode cX30_act 276 = .ok (.aconst_null, 1) := dk_1 (dk_at dksX30_act_10 0 rfl rfl)
theorem dX30_act_277 : decode cX30_act 277 = .ok (.aload_n 3, 1) := dk_45 (dk_at dksX30_act_10 1 rfl rfl)
theorem dX30_act_278 : decode cX30_act 278 = .ok (.getfield 53, 3) := dk_180 0 53 (dk_at dksX30_act_10 2 rfl rfl)
theorem dX30_act_281 : decode cX30_act 281 = .ok (.iconst 0, 1) := dk_3 (dk_at dksX30_act_10 5 rfl rfl)
theorem dX30_act_282 : decode cX30_act 282 = .ok (.aaload, 1) := dk_50 (dk_at dksX30_act_10 6 rfl rfl)
theorem dX30_act_283 : decode cX30_act 283 = .ok (.aload 4, 2) := dk_25 4 (dk_at dksX30_act_10 7 rfl rfl)
theorem dX30_act_285 : decode cX30_act 285 = .ok (.invokespecial 68, 3) := dk_183 0 68 (dk_at dksX30_act_10 9 rfl rfl)
theorem dX30_act_288 : decode cX30_act 288 = .ok (.invokevirtual 60, 3) := dk_182 0 60 (dk_at dksX30_act_10 12 rfl rfl)
theorem dX30_act_291 : decode cX30_act 291 = .ok (.astore 6, 2) := dk_58 6 (dk_at dksX30_act_10 15 rfl rfl)
theorem dX30_act_293 : decode cX30_act 293 = .ok (.new 35, 3) := dk_187 0 35 (dk_at dksX30_act_10 17 rfl rfl)
theorem dX30_act_296 : decode cX30_act 296 = .ok (.dup, 1) := dk_89 (dk_at dksX30_act_10 20 rfl rfl)
theorem dX30_act_297 : decode cX30_act 297 = .ok (.aload_n 3, 1) := dk_45 (dk_at dksX30_act_10 21 rfl rfl)
theorem dX30_act_298 : decode cX30_act 298 = .ok (.getfield 28, 3) := dk_180 0 28 (dk_at dksX30_act_11 0 rfl rfl)
theorem dX30_act_301 : decode cX30_act 301 = .ok (.aload 6, 2) := dk_25 6 (dk_at dksX30_act_11 3 rfl rfl)
theorem dX30_act_303 : decode cX30_act 303 = .ok (.aconst_null, 1) := dk_1 (dk_at dksX30_act_11 5 rfl rfl)
theorem dX30_act_304 : decode cX30_act 304 = .ok (.aload 4, 2) := dk_25 4 (dk_at dksX30_act_11 6 rfl rfl)
theorem dX30_act_306 : decode cX30_act 306 = .ok (.invokespecial 68, 3) := dk_183 0 68 (dk_at dksX30_act_11 8 rfl rfl)
theorem dX30_act_309 : decode cX30_act 309 = .ok (.astore 4, 2) := dk_58 4 (dk_at dksX30_act_11 11 rfl rfl)
theorem dX30_act_311 : decode cX30_act 311 = .ok (.aload_n 3, 1) := dk_45 (dk_at dksX30_act_11 13 rfl rfl)
theorem dX30_act_312 : decode cX30_act 312 = .ok (.getfield 53, 3) := dk_180 0 53 (dk_at dksX30_act_11 14 rfl rfl)
theorem dX30_act_315 : decode cX30_act 315 = .ok (.iconst 1, 1) := dk_4 (dk_at dksX30_act_11 17 rfl rfl)
theorem dX30_act_316 : decode cX30_act 316 = .ok (.aaload, 1) := dk_50 (dk_at dksX30_act_11 18 rfl rfl)
theorem dX30_act_317 : decode cX30_act 317 = .ok (.astore_n 3, 1) := dk_78 (dk_at dksX30_act_11 19 rfl rfl)
theorem dX30_act_318 : decode cX30_act 318 = .ok (.goto 282, 3) := dk_167 1 26 (dk_at dksX30_act_11 20 rfl rfl)
theorem dX30_act_321 : decode cX30_act 321 = .ok (.aload_n 0, 1) := dk_42 (dk_at dksX30_act_11 23 rfl rfl)
theorem dX30_act_322 : decode cX30_act 322 = .ok (.aload_n 3, 1) := dk_45 (dk_at dksX30_act_12 0 rfl rfl)
theorem dX30_act_323 : decode cX30_act 323 = .ok (.getfield 53, 3) := dk_180 0 53 (dk_at dksX30_act_12 1 rfl rfl)
theorem dX30_act_326 : decode cX30_act 326 = .ok (.iconst 0, 1) := dk_3 (dk_at dksX30_act_12 4 rfl rfl)
theorem dX30_act_327 : decode cX30_act 327 = .ok (.aaload, 1) := dk_50 (dk_at dksX30_act_12 5 rfl rfl)
theorem dX30_act_328 : decode cX30_act 328 = .ok (.aload 4, 2) := dk_25 4 (dk_at dksX30_act_12 6 rfl rfl)
theorem dX30_act_330 : decode cX30_act 330 = .ok (.invokevirtual 60, 3) := dk_182 0 60 (dk_at dksX30_act_12 8 rfl rfl)
theorem dX30_act_333 : decode cX30_act 333 = .ok (.checkcast 74, 3) := dk_192 0 74 (dk_at dksX30_act_12 11 rfl rfl)
theorem dX30_act_336 : decode cX30_act 336 = .ok (.astore 7, 2) := dk_58 7 (dk_at dksX30_act_12 14 rfl rfl)
theorem dX30_act_338 : decode cX30_act 338 = .ok (.aload 7, 2) := dk_25 7 (dk_at dksX30_act_12 16 rfl rfl)
theorem dX30_act_340 : decode cX30_act 340 = .ok (.getfield 76, 3) := dk_180 0 76 (dk_at dksX30_act_12 18 rfl rfl)
theorem dX30_act_343 : decode cX30_act 343 = .ok (.aload_n 3, 1) := dk_45 (dk_at dksX30_act_12 21 rfl rfl)
theorem dX30_act_344 : decode cX30_act 344 = .ok (.getfield 53, 3) := dk_180 0 53 (dk_at dksX30_act_13 0 rfl rfl)
theorem dX30_act_347 : decode cX30_act 347 = .ok (.iconst 1, 1) := dk_4 (dk_at dksX30_act_13 3 rfl rfl)
theorem dX30_act_348 : decode cX30_act 348 = .ok (.aaload, 1) := dk_50 (dk_at dksX30_act_13 4 rfl rfl)
theorem dX30_act_349 : decode cX30_act 349 = .ok (.invokestatic 79, 3) := dk_184 0 79 (dk_at dksX30_act_13 5 rfl rfl)
theorem dX30_act_352 : decode cX30_act 352 = .ok (.astore_n 3, 1) := dk_78 (dk_at dksX30_act_13 8 rfl rfl)
theorem dX30_act_353 : decode cX30_act 353 = .ok (.aload_n 3, 1) := dk_45 (dk_at dksX30_act_13 9 rfl rfl)
theorem dX30_act_354 : decode cX30_act 354 = .ok (.getfield 21, 3) := dk_180 0 21 (dk_at dksX30_act_13 10 rfl rfl)
theorem dX30_act_357 : decode cX30_act 357 = .ok (.bipush 16, 2) := dk_16 16 (dk_at dksX30_act_13 13 rfl rfl)
theorem dX30_act_359 : decode cX30_act 359 = .ok (.if_icmp .ne 7, 3) := dk_160 0 7 (dk_at dksX30_act_13 15 rfl rfl)
theorem dX30_act_362 : decode cX30_act 362 = .ok (.iconst 1, 1) := dk_4 (dk_at dksX30_act_13 18 rfl rfl)
theorem dX30_act_363 : decode cX30_act 363 = .ok (.goto 4, 3) := dk_167 0 4 (dk_at dksX30_act_13 19 rfl rfl)
theorem dX30_act_366 : decode cX30_act 366 = .ok (.iconst 0, 1) := dk_3 (dk_at dksX30_act_13 22 rfl rfl)
theorem dX30_act_367 : decode cX30_act 367 = .ok (.istore 8, 2) := dk_54 8 (dk_at dksX30_act_14 0 rfl rfl)
theorem dX30_act_369 : decode cX30_act 369 = .ok (.new 35, 3) := dk_187 0 35 (dk_at dksX30_act_14 2 rfl rfl)
theorem dX30_act_372 : decode cX30_act 372 = .ok (.dup, 1) := dk_89 (dk_at dksX30_act_14 5 rfl rfl)
theorem dX30_act_373 : decode cX30_act 373 = .ok (.iload 8, 2) := dk_21 8 (dk_at dksX30_act_14 6 rfl rfl)
theorem dX30_act_375 : decode cX30_act 375 = .ok (.ifCond .eq 10, 3) := dk_153 0 10 (dk_at dksX30_act_14 8 rfl rfl)
theorem dX30_act_378 : decode cX30_act 378 = .ok (.aload_n 3, 1) := dk_45 (dk_at dksX30_act_14 11 rfl rfl)
theorem dX30_act_379 : decode cX30_act 379 = .ok (.getfield 28, 3) := dk_180 0 28 (dk_at dksX30_act_14 12 rfl rfl)
theorem dX30_act_382 : decode cX30_act 382 = .ok (.goto 7, 3) := dk_167 0 7 (dk_at dksX30_act_14 15 rfl rfl)
theorem dX30_act_385 : decode cX30_act 385 = .ok (.aload_n 3, 1) := dk_45 (dk_at dksX30_act_14 18 rfl rfl)
theorem dX30_act_386 : decode cX30_act 386 = .ok (.getfield 83, 3) := dk_180 0 83 (dk_at dksX30_act_14 19 rfl rfl)
theorem dX30_act_389 : decode cX30_act 389 = .ok (.iload 8, 2) := dk_21 8 (dk_at dksX30_act_14 22 rfl rfl)
theorem dX30_act_391 : decode cX30_act 391 = .ok (.ifCond .eq 8, 3) := dk_153 0 8 (dk_at dksX30_act_15 0 rfl rfl)
theorem dX30_act_394 : decode cX30_act 394 = .ok (.aload 7, 2) := dk_25 7 (dk_at dksX30_act_15 3 rfl rfl)
theorem dX30_act_396 : decode cX30_act 396 = .ok (.goto 8, 3) := dk_167 0 8 (dk_at dksX30_act_15 5 rfl rfl)
theorem dX30_act_399 : decode cX30_act 399 = .ok (.aload 7, 2) := dk_25 7 (dk_at dksX30_act_15 8 rfl rfl)
theorem dX30_act_401 : decode cX30_act 401 = .ok (.getfield 84, 3) := dk_180 0 84 (dk_at dksX30_act_15 10 rfl rfl)
theorem dX30_act_404 : decode cX30_act 404 = .ok (.aconst_null, 1) := dk_1 (dk_at dksX30_act_15 13 rfl rfl)
theorem dX30_act_405 : decode cX30_act 405 = .ok (.aload 4, 2) := dk_25 4 (dk_at dksX30_act_15 14 rfl rfl)
theorem dX30_act_407 : decode cX30_act 407 = .ok (.invokespecial 68, 3) := dk_183 0 68 (dk_at dksX30_act_15 16 rfl rfl)
theorem dX30_act_410 : decode cX30_act 410 = .ok (.astore 4, 2) := dk_58 4 (dk_at dksX30_act_15 19 rfl rfl)
theorem dX30_act_412 : decode cX30_act 412 = .ok (.aload_n 3, 1) := dk_45 (dk_at dksX30_act_15 21 rfl rfl)
theorem dX30_act_413 : decode cX30_act 413 = .ok (.getfield 53, 3) := dk_180 0 53 (dk_at dksX30_act_16 0 rfl rfl)
theorem dX30_act_416 : decode cX30_act 416 = .ok (.iconst 0, 1) := dk_3 (dk_at dksX30_act_16 3 rfl rfl)
theorem dX30_act_417 : decode cX30_act 417 = .ok (.aaload, 1) := dk_50 (dk_at dksX30_act_16 4 rfl rfl)
theorem dX30_act_418 : decode cX30_act 418 = .ok (.astore_n 3, 1) := dk_78 (dk_at dksX30_act_16 5 rfl rfl)
theorem dX30_act_419 : decode cX30_act 419 = .ok (.goto 181, 3) := dk_167 0 181 (dk_at dksX30_act_16 6 rfl rfl)
theorem dX30_act_422 : decode cX30_act 422 = .ok (.aload_n 3, 1) := dk_45 (dk_at dksX30_act_16 9 rfl rfl)
theorem dX30_act_423 : decode cX30_act 423 = .ok (.getfield 53, 3) := dk_180 0 53 (dk_at dksX30_act_16 10 rfl rfl)
theorem dX30_act_426 : decode cX30_act 426 = .ok (.aload_n 0, 1) := dk_42 (dk_at dksX30_act_16 13 rfl rfl)
theorem dX30_act_427 : decode cX30_act 427 = .ok (.aload_n 3, 1) := dk_45 (dk_at dksX30_act_16 14 rfl rfl)
theorem dX30_act_428 : decode cX30_act 428 = .ok (.getfield 53, 3) := dk_180 0 53 (dk_at dksX30_act_16 15 rfl rfl)
theorem dX30_act_431 : decode cX30_act 431 = .ok (.iconst 0, 1) := dk_3 (dk_at dksX30_act_16 18 rfl rfl)
theorem dX30_act_432 : decode cX30_act 432 = .ok (.aaload, 1) := dk_50 (dk_at dksX30_act_16 19 rfl rfl)
theorem dX30_act_433 : decode cX30_act 433 = .ok (.aload 4, 2) := dk_25 4 (dk_at dksX30_act_16 20 rfl rfl)
theorem dX30_act_435 : decode cX30_act 435 = .ok (.invokevirtual 60, 3) := dk_182 0 60 (dk_at dksX30_act_17 0 rfl rfl)
theorem dX30_act_438 : decode cX30_act 438 = .ok (.invokestatic 85, 3) := dk_184 0 85 (dk_at dksX30_act_17 3 rfl rfl)
theorem dX30_act_441 : decode cX30_act 441 = .ok (.ifCond .eq 7, 3) := dk_153 0 7 (dk_at dksX30_act_17 6 rfl rfl)
theorem dX30_act_444 : decode cX30_act 444 = .ok (.iconst 1, 1) := dk_4 (dk_at dksX30_act_17 9 rfl rfl)
theorem dX30_act_445 : decode cX30_act 445 = .ok (.goto 4, 3) := dk_167 0 4 (dk_at dksX30_act_17 10 rfl rfl)
theorem dX30_act_448 : decode cX30_act 448 = .ok (.iconst 2, 1) := dk_5 (dk_at dksX30_act_17 13 rfl rfl)
theorem dX30_act_449 : decode cX30_act 449 = .ok (.aaload, 1) := dk_50 (dk_at dksX30_act_17 14 rfl rfl)
theorem dX30_act_450 : decode cX30_act 450 = .ok (.astore_n 3, 1) := dk_78 (dk_at dksX30_act_17 15 rfl rfl)
theorem dX30_act_451 : decode cX30_act 451 = .ok (.goto 149, 3) := dk_167 0 149 (dk_at dksX30_act_17 16 rfl rfl)
theorem dX30_act_454 : decode cX30_act 454 = .ok (.aload_n 0, 1) := dk_42 (dk_at dksX30_act_17 19 rfl rfl)
theorem dX30_act_455 : decode cX30_act 455 = .ok (.aload_n 3, 1) := dk_45 (dk_at dksX30_act_17 20 rfl rfl)
theorem dX30_act_456 : decode cX30_act 456 = .ok (.getfield 53, 3) := dk_180 0 53 (dk_at dksX30_act_17 21 rfl rfl)
theorem dX30_act_459 : decode cX30_act 459 = .ok (.iconst 0, 1) := dk_3 (dk_at dksX30_act_18 0 rfl rfl)
theorem dX30_act_460 : decode cX30_act 460 = .ok (.aaload, 1) := dk_50 (dk_at dksX30_act_18 1 rfl rfl)
theorem dX30_act_461 : decode cX30_act 461 = .ok (.aload 4, 2) := dk_25 4 (dk_at dksX30_act_18 2 rfl rfl)
theorem dX30_act_463 : decode cX30_act 463 = .ok (.invokevirtual 60, 3) := dk_182 0 60 (dk_at dksX30_act_18 4 rfl rfl)
theorem dX30_act_466 : decode cX30_act 466 = .ok (.invokestatic 85, 3) := dk_184 0 85 (dk_at dksX30_act_18 7 rfl rfl)
theorem dX30_act_469 : decode cX30_act 469 = .ok (.istore 9, 2) := dk_54 9 (dk_at dksX30_act_18 10 rfl rfl)
theorem dX30_act_471 : decode cX30_act 471 = .ok (.new 26, 3) := dk_187 0 26 (dk_at dksX30_act_18 12 rfl rfl)
theorem dX30_act_474 : decode cX30_act 474 = .ok (.dup, 1) := dk_89 (dk_at dksX30_act_18 15 rfl rfl)
theorem dX30_act_475 : decode cX30_act 475 = .ok (.iload 9, 2) := dk_21 9 (dk_at dksX30_act_18 16 rfl rfl)
theorem dX30_act_477 : decode cX30_act 477 = .ok (.aload_n 0, 1) := dk_42 (dk_at dksX30_act_18 18 rfl rfl)
theorem dX30_act_478 : decode cX30_act 478 = .ok (.aload_n 3, 1) := dk_45 (dk_at dksX30_act_18 19 rfl rfl)
theorem dX30_act_479 : decode cX30_act 479 = .ok (.getfield 53, 3) := dk_180 0 53 (dk_at dksX30_act_18 20 rfl rfl)
theorem dX30_act_482 : decode cX30_act 482 = .ok (.iconst 1, 1) := dk_4 (dk_at dksX30_act_18 23 rfl rfl)
theorem dX30_act_483 : decode cX30_act 483 = .ok (.aaload, 1) := dk_50 (dk_at dksX30_act_19 0 rfl rfl)
theorem dX30_act_484 : decode cX30_act 484 = .ok (.aload 4, 2) := dk_25 4 (dk_at dksX30_act_19 1 rfl rfl)
theorem dX30_act_486 : decode cX30_act 486 = .ok (.invokevirtual 60, 3) := dk_182 0 60 (dk_at dksX30_act_19 3 rfl rfl)
theorem dX30_act_489 : decode cX30_act 489 = .ok (.invokestatic 85, 3) := dk_184 0 85 (dk_at dksX30_act_19 6 rfl rfl)
theorem dX30_act_492 : decode cX30_act 492 = .ok (.iadd, 1) := dk_96 (dk_at dksX30_act_19 9 rfl rfl)
theorem dX30_act_493 : decode cX30_act 493 = .ok (.invokespecial 31, 3) := dk_183 0 31 (dk_at dksX30_act_19 10 rfl rfl)
theorem dX30_act_496 : decode cX30_act 496 = .ok (.areturn, 1) := dk_176 (dk_at dksX30_act_19 13 rfl rfl)
theorem dX30_act_497 : decode cX30_act 497 = .ok (.aload_n 0, 1) := dk_42 (dk_at dksX30_act_19 14 rfl rfl)
theorem dX30_act_498 : decode cX30_act 498 = .ok (.aload_n 3, 1) := dk_45 (dk_at dksX30_act_19 15 rfl rfl)
theorem dX30_act_499 : decode cX30_act 499 = .ok (.getfield 53, 3) := dk_180 0 53 (dk_at dksX30_act_19 16 rfl rfl)
theorem dX30_act_502 : decode cX30_act 502 = .ok (.iconst 0, 1) := dk_3 (dk_at dksX30_act_19 19 rfl rfl)
theorem dX30_act_503 : decode cX30_act 503 = .ok (.aaload, 1) := dk_50 (dk_at dksX30_act_19 20 rfl rfl)
theorem dX30_act_504 : decode cX30_act 504 = .ok (.aload 4, 2) := dk_25 4 (dk_at dksX30_act_19 21 rfl rfl)
theorem dX30_act_506 : decode cX30_act 506 = .ok (.invokevirtual 60, 3) := dk_182 0 60 (dk_at dksX30_act_20 0 rfl rfl)
theorem dX30_act_509 : decode cX30_act 509 = .ok (.astore 10, 2) := dk_58 10 (dk_at dksX30_act_20 3 rfl rfl)
theorem dX30_act_511 : decode cX30_act 511 = .ok (.new 26, 3) := dk_187 0 26 (dk_at dksX30_act_20 5 rfl rfl)
theorem dX30_act_514 : decode cX30_act 514 = .ok (.dup, 1) := dk_89 (dk_at dksX30_act_20 8 rfl rfl)
theorem dX30_act_515 : decode cX30_act 515 = .ok (.aload_n 0, 1) := dk_42 (dk_at dksX30_act_20 9 rfl rfl)
theorem dX30_act_516 : decode cX30_act 516 = .ok (.aload 10, 2) := dk_25 10 (dk_at dksX30_act_20 10 rfl rfl)
theorem dX30_act_518 : decode cX30_act 518 = .ok (.aload_n 0, 1) := dk_42 (dk_at dksX30_act_20 12 rfl rfl)
theorem dX30_act_519 : decode cX30_act 519 = .ok (.aload_n 3, 1) := dk_45 (dk_at dksX30_act_20 13 rfl rfl)
theorem dX30_act_520 : decode cX30_act 520 = .ok (.getfield 53, 3) := dk_180 0 53 (dk_at dksX30_act_20 14 rfl rfl)
theorem dX30_act_523 : decode cX30_act 523 = .ok (.iconst 1, 1) := dk_4 (dk_at dksX30_act_20 17 rfl rfl)
theorem dX30_act_524 : decode cX30_act 524 = .ok (.aaload, 1) := dk_50 (dk_at dksX30_act_20 18 rfl rfl)
theorem dX30_act_525 : decode cX30_act 525 = .ok (.aload 4, 2) := dk_25 4 (dk_at dksX30_act_20 19 rfl rfl)
theorem dX30_act_527 : decode cX30_act 527 = .ok (.invokevirtual 60, 3) := dk_182 0 60 (dk_at dksX30_act_20 21 rfl rfl)
theorem dX30_act_530 : decode cX30_act 530 = .ok (.invokevirtual 89, 3) := dk_182 0 89 (dk_at dksX30_act_21 0 rfl rfl)
theorem dX30_act_533 : decode cX30_act 533 = .ok (.ifCond .eq 7, 3) := dk_153 0 7 (dk_at dksX30_act_21 3 rfl rfl)
theorem dX30_act_536 : decode cX30_act 536 = .ok (.iconst 1, 1) := dk_4 (dk_at dksX30_act_21 6 rfl rfl)
theorem dX30_act_537 : decode cX30_act 537 = .ok (.goto 4, 3) := dk_167 0 4 (dk_at dksX30_act_21 7 rfl rfl)
theorem dX30_act_540 : decode cX30_act 540 = .ok (.iconst 0, 1) := dk_3 (dk_at dksX30_act_21 10 rfl rfl)
theorem dX30_act_541 : decode cX30_act 541 = .ok (.invokespecial 31, 3) := dk_183 0 31 (dk_at dksX30_act_21 11 rfl rfl)
theorem dX30_act_544 : decode cX30_act 544 = .ok (.areturn, 1) := dk_176 (dk_at dksX30_act_21 14 rfl rfl)
theorem dX30_act_545 : decode cX30_act 545 = .ok (.new 93, 3) := dk_187 0 93 (dk_at dksX30_act_21 15 rfl rfl)
theorem dX30_act_548 : decode cX30_act 548 = .ok (.dup, 1) := dk_89 (dk_at dksX30_act_21 18 rfl rfl)
theorem dX30_act_549 : decode cX30_act 549 = .ok (.invokespecial 95, 3) := dk_183 0 95 (dk_at dksX30_act_21 19 rfl rfl)
theorem dX30_act_552 : decode cX30_act 552 = .ok (.areturn, 1) := dk_176 (dk_at dksX30_act_21 22 rfl rfl)
theorem dX30_act_553 : decode cX30_act 553 = .ok (.aload_n 0, 1) := dk_42 (dk_at dksX30_act_21 23 rfl rfl)
theorem dX30_act_554 : decode cX30_act 554 = .ok (.aload_n 3, 1) := dk_45 (dk_at dksX30_act_22 0 rfl rfl)
theorem dX30_act_555 : decode cX30_act 555 = .ok (.getfield 53, 3) := dk_180 0 53 (dk_at dksX30_act_22 1 rfl rfl)
theorem dX30_act_558 : decode cX30_act 558 = .ok (.iconst 0, 1) := dk_3 (dk_at dksX30_act_22 4 rfl rfl)
theorem dX30_act_559 : decode cX30_act 559 = .ok (.aaload, 1) := dk_50 (dk_at dksX30_act_22 5 rfl rfl)
theorem dX30_act_560 : decode cX30_act 560 = .ok (.aload 4, 2) := dk_25 4 (dk_at dksX30_act_22 6 rfl rfl)
theorem dX30_act_562 : decode cX30_act 562 = .ok (.invokevirtual 60, 3) := dk_182 0 60 (dk_at dksX30_act_22 8 rfl rfl)
theorem dX30_act_565 : decode cX30_act 565 = .ok (.astore 11, 2) := dk_58 11 (dk_at dksX30_act_22 11 rfl rfl)
theorem dX30_act_567 : decode cX30_act 567 = .ok (.aload_n 3, 1) := dk_45 (dk_at dksX30_act_22 13 rfl rfl)
theorem dX30_act_568 : decode cX30_act 568 = .ok (.aload 11, 2) := dk_25 11 (dk_at dksX30_act_22 14 rfl rfl)
theorem dX30_act_570 : decode cX30_act 570 = .ok (.aload_n 3, 1) := dk_45 (dk_at dksX30_act_22 16 rfl rfl)
theorem dX30_act_571 : decode cX30_act 571 = .ok (.getfield 21, 3) := dk_180 0 21 (dk_at dksX30_act_22 17 rfl rfl)
theorem dX30_act_574 : decode cX30_act 574 = .ok (.bipush 7, 2) := dk_16 7 (dk_at dksX30_act_22 20 rfl rfl)
theorem dX30_act_576 : decode cX30_act 576 = .ok (.if_icmp .ne 18, 3) := dk_160 0 18 (dk_at dksX30_act_23 0 rfl rfl)
theorem dX30_act_579 : decode cX30_act 579 = .ok (.aload_n 0, 1) := dk_42 (dk_at dksX30_act_23 3 rfl rfl)
theorem dX30_act_580 : decode cX30_act 580 = .ok (.aload_n 3, 1) := dk_45 (dk_at dksX30_act_23 4 rfl rfl)
theorem dX30_act_581 : decode cX30_act 581 = .ok (.getfield 53, 3) := dk_180 0 53 (dk_at dksX30_act_23 5 rfl rfl)
theorem dX30_act_584 : decode cX30_act 584 = .ok (.iconst 1, 1) := dk_4 (dk_at dksX30_act_23 8 rfl rfl)
theorem dX30_act_585 : decode cX30_act 585 = .ok (.aaload, 1) := dk_50 (dk_at dksX30_act_23 9 rfl rfl)
theorem dX30_act_586 : decode cX30_act 586 = .ok (.aload 4, 2) := dk_25 4 (dk_at dksX30_act_23 10 rfl rfl)
theorem dX30_act_588 : decode cX30_act 588 = .ok (.invokevirtual 60, 3) := dk_182 0 60 (dk_at dksX30_act_23 12 rfl rfl)
theorem dX30_act_591 : decode cX30_act 591 = .ok (.goto 5, 3) := dk_167 0 5 (dk_at dksX30_act_23 15 rfl rfl)
theorem dX30_act_594 : decode cX30_act 594 = .ok (.aload 11, 2) := dk_25 11 (dk_at dksX30_act_23 18 rfl rfl)
theorem dX30_act_596 : decode cX30_act 596 = .ok (.invokestatic 96, 3) := dk_184 0 96 (dk_at dksX30_act_23 20 rfl rfl)
theorem dX30_act_599 : decode cX30_act 599 = .ok (.areturn, 1) := dk_176 (dk_at dksX30_act_23 23 rfl rfl)
theorem dX30_act_600 : decode cX30_act 600 = .ok (.goto (-595), 3) := dk_167 253 173 (dk_at dksX30_act_24 0 rfl rfl)
abbrev cX30_count : ByteArray := prog_28_method_2_code
def yX30_count : MethodName := ⟨RX30, "count", "()V"⟩
def dkwX30_count_1 : List UInt8 := [96, 181, 0, 9, 177]
abbrev dktX30_count_1 : List UInt8 := dkwX30_count_1 ++ []
def dkwX30_count_0 : List UInt8 := [42, 180, 0, 9, 17, 3, 232, 160, 0, 11, 187, 0, 15, 89, 183, 0, 17, 191, 42, 89, 180, 0, 9, 4]
abbrev dktX30_count_0 : List UInt8 := dkwX30_count_0 ++ dktX30_count_1
theorem dksX30_count_0 : cX30_count.data.toList.drop 0 = dktX30_count_0 := by decide +kernel
theorem dksX30_count_1 : cX30_count.data.toList.drop 24 = dktX30_count_1 := dk_seg dksX30_count_0 24 rfl rfl
theorem dX30_count_0 : decode cX30_count 0 = .ok (.aload_n 0, 1) := dk_42 (dk_at dksX30_count_0 0 rfl rfl)
theorem dX30_count_1 : decode cX30_count 1 = .ok (.getfield 9, 3) := dk_180 0 9 (dk_at dksX30_count_0 1 rfl rfl)
theorem dX30_count_4 : decode cX30_count 4 = .ok (.sipush 1000, 3) := dk_17 3 232 (dk_at dksX30_count_0 4 rfl rfl)
theorem dX30_count_7 : decode cX30_count 7 = .ok (.if_icmp .ne 11, 3) := dk_160 0 11 (dk_at dksX30_count_0 7 rfl rfl)
theorem dX30_count_10 : decode cX30_count 10 = .ok (.new 15, 3) := dk_187 0 15 (dk_at dksX30_count_0 10 rfl rfl)
theorem dX30_count_13 : decode cX30_count 13 = .ok (.dup, 1) := dk_89 (dk_at dksX30_count_0 13 rfl rfl)
theorem dX30_count_14 : decode cX30_count 14 = .ok (.invokespecial 17, 3) := dk_183 0 17 (dk_at dksX30_count_0 14 rfl rfl)
theorem dX30_count_17 : decode cX30_count 17 = .ok (.athrow, 1) := dk_191 (dk_at dksX30_count_0 17 rfl rfl)
theorem dX30_count_18 : decode cX30_count 18 = .ok (.aload_n 0, 1) := dk_42 (dk_at dksX30_count_0 18 rfl rfl)
theorem dX30_count_19 : decode cX30_count 19 = .ok (.dup, 1) := dk_89 (dk_at dksX30_count_0 19 rfl rfl)
theorem dX30_count_20 : decode cX30_count 20 = .ok (.getfield 9, 3) := dk_180 0 9 (dk_at dksX30_count_0 20 rfl rfl)
theorem dX30_count_23 : decode cX30_count 23 = .ok (.iconst 1, 1) := dk_4 (dk_at dksX30_count_0 23 rfl rfl)
theorem dX30_count_24 : decode cX30_count 24 = .ok (.iadd, 1) := dk_96 (dk_at dksX30_count_1 0 rfl rfl)
theorem dX30_count_25 : decode cX30_count 25 = .ok (.putfield 9, 3) := dk_181 0 9 (dk_at dksX30_count_1 1 rfl rfl)
theorem dX30_count_28 : decode cX30_count 28 = .ok (.return_, 1) := dk_177 (dk_at dksX30_count_1 4 rfl rfl)
abbrev cX30_caseOf : ByteArray := prog_28_method_5_code
def yX30_caseOf : MethodName := ⟨RX30, "caseOf", "(ILRowenTongue$Term;)LRowenTongue$Term;"⟩
def dkwX30_caseOf_1 : List UInt8 := [50, 77, 167, 255, 232, 44, 176]
abbrev dktX30_caseOf_1 : List UInt8 := dkwX30_caseOf_1 ++ []
def dkwX30_caseOf_0 : List UInt8 := [43, 77, 44, 180, 0, 21, 16, 17, 160, 0, 21, 44, 180, 0, 28, 26, 159, 0, 13, 44, 180, 0, 53, 4]
abbrev dktX30_caseOf_0 : List UInt8 := dkwX30_caseOf_0 ++ dktX30_caseOf_1
theorem dksX30_caseOf_0 : cX30_caseOf.data.toList.drop 0 = dktX30_caseOf_0 := by decide +kernel
theorem dksX30_caseOf_1 : cX30_caseOf.data.toList.drop 24 = dktX30_caseOf_1 := dk_seg dksX30_caseOf_0 24 rfl rfl
theorem dX30_caseOf_0 : decode cX30_caseOf 0 = .ok (.aload_n 1, 1) := dk_43 (dk_at dksX30_caseOf_0 0 rfl rfl)
theorem dX30_caseOf_1 : decode cX30_caseOf 1 = .ok (.astore_n 2, 1) := dk_77 (dk_at dksX30_caseOf_0 1 rfl rfl)
theorem dX30_caseOf_2 : decode cX30_caseOf 2 = .ok (.aload_n 2, 1) := dk_44 (dk_at dksX30_caseOf_0 2 rfl rfl)
theorem dX30_caseOf_3 : decode cX30_caseOf 3 = .ok (.getfield 21, 3) := dk_180 0 21 (dk_at dksX30_caseOf_0 3 rfl rfl)
theorem dX30_caseOf_6 : decode cX30_caseOf 6 = .ok (.bipush 17, 2) := dk_16 17 (dk_at dksX30_caseOf_0 6 rfl rfl)
theorem dX30_caseOf_8 : decode cX30_caseOf 8 = .ok (.if_icmp .ne 21, 3) := dk_160 0 21 (dk_at dksX30_caseOf_0 8 rfl rfl)
theorem dX30_caseOf_11 : decode cX30_caseOf 11 = .ok (.aload_n 2, 1) := dk_44 (dk_at dksX30_caseOf_0 11 rfl rfl)
theorem dX30_caseOf_12 : decode cX30_caseOf 12 = .ok (.getfield 28, 3) := dk_180 0 28 (dk_at dksX30_caseOf_0 12 rfl rfl)
theorem dX30_caseOf_15 : decode cX30_caseOf 15 = .ok (.iload_n 0, 1) := dk_26 (dk_at dksX30_caseOf_0 15 rfl rfl)
theorem dX30_caseOf_16 : decode cX30_caseOf 16 = .ok (.if_icmp .eq 13, 3) := dk_159 0 13 (dk_at dksX30_caseOf_0 16 rfl rfl)
theorem dX30_caseOf_19 : decode cX30_caseOf 19 = .ok (.aload_n 2, 1) := dk_44 (dk_at dksX30_caseOf_0 19 rfl rfl)
theorem dX30_caseOf_20 : decode cX30_caseOf 20 = .ok (.getfield 53, 3) := dk_180 0 53 (dk_at dksX30_caseOf_0 20 rfl rfl)
theorem dX30_caseOf_23 : decode cX30_caseOf 23 = .ok (.iconst 1, 1) := dk_4 (dk_at dksX30_caseOf_0 23 rfl rfl)
theorem dX30_caseOf_24 : decode cX30_caseOf 24 = .ok (.aaload, 1) := dk_50 (dk_at dksX30_caseOf_1 0 rfl rfl)
theorem dX30_caseOf_25 : decode cX30_caseOf 25 = .ok (.astore_n 2, 1) := dk_77 (dk_at dksX30_caseOf_1 1 rfl rfl)
theorem dX30_caseOf_26 : decode cX30_caseOf 26 = .ok (.goto (-24), 3) := dk_167 255 232 (dk_at dksX30_caseOf_1 2 rfl rfl)
theorem dX30_caseOf_29 : decode cX30_caseOf 29 = .ok (.aload_n 2, 1) := dk_44 (dk_at dksX30_caseOf_1 5 rfl rfl)
theorem dX30_caseOf_30 : decode cX30_caseOf 30 = .ok (.areturn, 1) := dk_176 (dk_at dksX30_caseOf_1 6 rfl rfl)
abbrev cX30_numberOf : ByteArray := prog_28_method_4_code
def yX30_numberOf : MethodName := ⟨RX30, "numberOf", "(LRowenTongue$Value;)I"⟩
def dkwX30_numberOf_0 : List UInt8 := [42, 192, 0, 26, 180, 0, 100, 172]
abbrev dktX30_numberOf_0 : List UInt8 := dkwX30_numberOf_0 ++ []
theorem dksX30_numberOf_0 : cX30_numberOf.data.toList.drop 0 = dktX30_numberOf_0 := by decide +kernel
theorem dX30_numberOf_0 : decode cX30_numberOf 0 = .ok (.aload_n 0, 1) := dk_42 (dk_at dksX30_numberOf_0 0 rfl rfl)
theorem dX30_numberOf_1 : decode cX30_numberOf 1 = .ok (.checkcast 26, 3) := dk_192 0 26 (dk_at dksX30_numberOf_0 1 rfl rfl)
theorem dX30_numberOf_4 : decode cX30_numberOf 4 = .ok (.getfield 100, 3) := dk_180 0 100 (dk_at dksX30_numberOf_0 4 rfl rfl)
theorem dX30_numberOf_7 : decode cX30_numberOf 7 = .ok (.ireturn, 1) := dk_172 (dk_at dksX30_numberOf_0 7 rfl rfl)
abbrev cX30_areSame : ByteArray := prog_28_method_7_code
def yX30_areSame : MethodName := ⟨RX30, "areSame", "(LRowenTongue$Value;LRowenTongue$Value;)Z"⟩
def dkwX30_areSame_3 : List UInt8 := [172]
abbrev dktX30_areSame_3 : List UInt8 := dkwX30_areSame_3 ++ []
def dkwX30_areSame_2 : List UInt8 := [45, 21, 5, 4, 96, 182, 0, 126, 192, 0, 115, 182, 0, 89, 54, 4, 132, 5, 2, 167, 255, 213, 21, 4]
abbrev dktX30_areSame_2 : List UInt8 := dkwX30_areSame_2 ++ dktX30_areSame_3
def dkwX30_areSame_1 : List UInt8 := [21, 4, 153, 0, 44, 21, 5, 45, 182, 0, 120, 162, 0, 35, 42, 45, 21, 5, 182, 0, 126, 192, 0, 115]
abbrev dktX30_areSame_1 : List UInt8 := dkwX30_areSame_1 ++ dktX30_areSame_2
def dkwX30_areSame_0 : List UInt8 := [42, 182, 0, 18, 43, 44, 182, 0, 114, 78, 45, 198, 0, 7, 4, 167, 0, 4, 3, 54, 4, 3, 54, 5]
abbrev dktX30_areSame_0 : List UInt8 := dkwX30_areSame_0 ++ dktX30_areSame_1
theorem dksX30_areSame_0 : cX30_areSame.data.toList.drop 0 = dktX30_areSame_0 := by decide +kernel
theorem dksX30_areSame_1 : cX30_areSame.data.toList.drop 24 = dktX30_areSame_1 := dk_seg dksX30_areSame_0 24 rfl rfl
theorem dksX30_areSame_2 : cX30_areSame.data.toList.drop 48 = dktX30_areSame_2 := dk_seg dksX30_areSame_1 24 rfl rfl
theorem dksX30_areSame_3 : cX30_areSame.data.toList.drop 72 = dktX30_areSame_3 := dk_seg dksX30_areSame_2 24 rfl rfl
theorem dX30_areSame_0 : decode cX30_areSame 0 = .ok (.aload_n 0, 1) := dk_42 (dk_at dksX30_areSame_0 0 rfl rfl)
theorem dX30_areSame_1 : decode cX30_areSame 1 = .ok (.invokevirtual 18, 3) := dk_182 0 18 (dk_at dksX30_areSame_0 1 rfl rfl)
theorem dX30_areSame_4 : decode cX30_areSame 4 = .ok (.aload_n 1, 1) := dk_43 (dk_at dksX30_areSame_0 4 rfl rfl)
theorem dX30_areSame_5 : decode cX30_areSame 5 = .ok (.aload_n 2, 1) := dk_44 (dk_at dksX30_areSame_0 5 rfl rfl)
theorem dX30_areSame_6 : decode cX30_areSame 6 = .ok (.invokevirtual 114, 3) := dk_182 0 114 (dk_at dksX30_areSame_0 6 rfl rfl)
theorem dX30_areSame_9 : decode cX30_areSame 9 = .ok (.astore_n 3, 1) := dk_78 (dk_at dksX30_areSame_0 9 rfl rfl)
theorem dX30_areSame_10 : decode cX30_areSame 10 = .ok (.aload_n 3, 1) := dk_45 (dk_at dksX30_areSame_0 10 rfl rfl)
theorem dX30_areSame_11 : decode cX30_areSame 11 = .ok (.ifnull 7, 3) := dk_198 0 7 (dk_at dksX30_areSame_0 11 rfl rfl)
theorem dX30_areSame_14 : decode cX30_areSame 14 = .ok (.iconst 1, 1) := dk_4 (dk_at dksX30_areSame_0 14 rfl rfl)
theorem dX30_areSame_15 : decode cX30_areSame 15 = .ok (.goto 4, 3) := dk_167 0 4 (dk_at dksX30_areSame_0 15 rfl rfl)
theorem dX30_areSame_18 : decode cX30_areSame 18 = .ok (.iconst 0, 1) := dk_3 (dk_at dksX30_areSame_0 18 rfl rfl)
theorem dX30_areSame_19 : decode cX30_areSame 19 = .ok (.istore 4, 2) := dk_54 4 (dk_at dksX30_areSame_0 19 rfl rfl)
theorem dX30_areSame_21 : decode cX30_areSame 21 = .ok (.iconst 0, 1) := dk_3 (dk_at dksX30_areSame_0 21 rfl rfl)
theorem dX30_areSame_22 : decode cX30_areSame 22 = .ok (.istore 5, 2) := dk_54 5 (dk_at dksX30_areSame_0 22 rfl rfl)
theorem dX30_areSame_24 : decode cX30_areSame 24 = .ok (.iload 4, 2) := dk_21 4 (dk_at dksX30_areSame_1 0 rfl rfl)
theorem dX30_areSame_26 : decode cX30_areSame 26 = .ok (.ifCond .eq 44, 3) := dk_153 0 44 (dk_at dksX30_areSame_1 2 rfl rfl)
theorem dX30_areSame_29 : decode cX30_areSame 29 = .ok (.iload 5, 2) := dk_21 5 (dk_at dksX30_areSame_1 5 rfl rfl)
theorem dX30_areSame_31 : decode cX30_areSame 31 = .ok (.aload_n 3, 1) := dk_45 (dk_at dksX30_areSame_1 7 rfl rfl)
theorem dX30_areSame_32 : decode cX30_areSame 32 = .ok (.invokevirtual 120, 3) := dk_182 0 120 (dk_at dksX30_areSame_1 8 rfl rfl)
theorem dX30_areSame_35 : decode cX30_areSame 35 = .ok (.if_icmp .ge 35, 3) := dk_162 0 35 (dk_at dksX30_areSame_1 11 rfl rfl)
theorem dX30_areSame_38 : decode cX30_areSame 38 = .ok (.aload_n 0, 1) := dk_42 (dk_at dksX30_areSame_1 14 rfl rfl)
theorem dX30_areSame_39 : decode cX30_areSame 39 = .ok (.aload_n 3, 1) := dk_45 (dk_at dksX30_areSame_1 15 rfl rfl)
theorem dX30_areSame_40 : decode cX30_areSame 40 = .ok (.iload 5, 2) := dk_21 5 (dk_at dksX30_areSame_1 16 rfl rfl)
theorem dX30_areSame_42 : decode cX30_areSame 42 = .ok (.invokevirtual 126, 3) := dk_182 0 126 (dk_at dksX30_areSame_1 18 rfl rfl)
theorem dX30_areSame_45 : decode cX30_areSame 45 = .ok (.checkcast 115, 3) := dk_192 0 115 (dk_at dksX30_areSame_1 21 rfl rfl)
theorem dX30_areSame_48 : decode cX30_areSame 48 = .ok (.aload_n 3, 1) := dk_45 (dk_at dksX30_areSame_2 0 rfl rfl)
theorem dX30_areSame_49 : decode cX30_areSame 49 = .ok (.iload 5, 2) := dk_21 5 (dk_at dksX30_areSame_2 1 rfl rfl)
theorem dX30_areSame_51 : decode cX30_areSame 51 = .ok (.iconst 1, 1) := dk_4 (dk_at dksX30_areSame_2 3 rfl rfl)
theorem dX30_areSame_52 : decode cX30_areSame 52 = .ok (.iadd, 1) := dk_96 (dk_at dksX30_areSame_2 4 rfl rfl)
theorem dX30_areSame_53 : decode cX30_areSame 53 = .ok (.invokevirtual 126, 3) := dk_182 0 126 (dk_at dksX30_areSame_2 5 rfl rfl)
theorem dX30_areSame_56 : decode cX30_areSame 56 = .ok (.checkcast 115, 3) := dk_192 0 115 (dk_at dksX30_areSame_2 8 rfl rfl)
theorem dX30_areSame_59 : decode cX30_areSame 59 = .ok (.invokevirtual 89, 3) := dk_182 0 89 (dk_at dksX30_areSame_2 11 rfl rfl)
theorem dX30_areSame_62 : decode cX30_areSame 62 = .ok (.istore 4, 2) := dk_54 4 (dk_at dksX30_areSame_2 14 rfl rfl)
theorem dX30_areSame_64 : decode cX30_areSame 64 = .ok (.iinc 5 2, 3) := dk_132 5 2 (dk_at dksX30_areSame_2 16 rfl rfl)
theorem dX30_areSame_67 : decode cX30_areSame 67 = .ok (.goto (-43), 3) := dk_167 255 213 (dk_at dksX30_areSame_2 19 rfl rfl)
theorem dX30_areSame_70 : decode cX30_areSame 70 = .ok (.iload 4, 2) := dk_21 4 (dk_at dksX30_areSame_2 22 rfl rfl)
theorem dX30_areSame_72 : decode cX30_areSame 72 = .ok (.ireturn, 1) := dk_172 (dk_at dksX30_areSame_3 0 rfl rfl)
abbrev cX30_rowOf : ByteArray := prog_28_method_6_code
def yX30_rowOf : MethodName := ⟨RX30, "rowOf", "(LRowenTongue$Term;LRowenTongue$Value;LRowenTongue$Value;)LRowenTongue$Value;"⟩
def dkwX30_rowOf_3 : List UInt8 := [167, 0, 4, 1, 83, 25, 4, 176]
abbrev dktX30_rowOf_3 : List UInt8 := dkwX30_rowOf_3 ++ []
def dkwX30_rowOf_2 : List UInt8 := [182, 0, 110, 58, 4, 25, 4, 180, 0, 106, 42, 180, 0, 28, 42, 180, 0, 21, 16, 7, 160, 0, 7, 43]
abbrev dktX30_rowOf_2 : List UInt8 := dkwX30_rowOf_2 ++ dktX30_rowOf_3
def dkwX30_rowOf_1 : List UInt8 := [192, 0, 93, 78, 42, 180, 0, 21, 16, 8, 160, 0, 13, 45, 180, 0, 106, 42, 180, 0, 28, 50, 176, 45]
abbrev dktX30_rowOf_1 : List UInt8 := dkwX30_rowOf_1 ++ dktX30_rowOf_2
def dkwX30_rowOf_0 : List UInt8 := [42, 180, 0, 21, 16, 10, 160, 0, 16, 187, 0, 74, 89, 42, 180, 0, 28, 43, 183, 0, 103, 176, 44]
abbrev dktX30_rowOf_0 : List UInt8 := dkwX30_rowOf_0 ++ dktX30_rowOf_1
theorem dksX30_rowOf_0 : cX30_rowOf.data.toList.drop 0 = dktX30_rowOf_0 := by decide +kernel
theorem dksX30_rowOf_1 : cX30_rowOf.data.toList.drop 23 = dktX30_rowOf_1 := dk_seg dksX30_rowOf_0 23 rfl rfl
theorem dksX30_rowOf_2 : cX30_rowOf.data.toList.drop 47 = dktX30_rowOf_2 := dk_seg dksX30_rowOf_1 24 rfl rfl
theorem dksX30_rowOf_3 : cX30_rowOf.data.toList.drop 71 = dktX30_rowOf_3 := dk_seg dksX30_rowOf_2 24 rfl rfl
theorem dX30_rowOf_0 : decode cX30_rowOf 0 = .ok (.aload_n 0, 1) := dk_42 (dk_at dksX30_rowOf_0 0 rfl rfl)
theorem dX30_rowOf_1 : decode cX30_rowOf 1 = .ok (.getfield 21, 3) := dk_180 0 21 (dk_at dksX30_rowOf_0 1 rfl rfl)
theorem dX30_rowOf_4 : decode cX30_rowOf 4 = .ok (.bipush 10, 2) := dk_16 10 (dk_at dksX30_rowOf_0 4 rfl rfl)
theorem dX30_rowOf_6 : decode cX30_rowOf 6 = .ok (.if_icmp .ne 16, 3) := dk_160 0 16 (dk_at dksX30_rowOf_0 6 rfl rfl)
theorem dX30_rowOf_9 : decode cX30_rowOf 9 = .ok (.new 74, 3) := dk_187 0 74 (dk_at dksX30_rowOf_0 9 rfl rfl)
theorem dX30_rowOf_12 : decode cX30_rowOf 12 = .ok (.dup, 1) := dk_89 (dk_at dksX30_rowOf_0 12 rfl rfl)
theorem dX30_rowOf_13 : decode cX30_rowOf 13 = .ok (.aload_n 0, 1) := dk_42 (dk_at dksX30_rowOf_0 13 rfl rfl)
theorem dX30_rowOf_14 : decode cX30_rowOf 14 = .ok (.getfield 28, 3) := dk_180 0 28 (dk_at dksX30_rowOf_0 14 rfl rfl)
theorem dX30_rowOf_17 : decode cX30_rowOf 17 = .ok (.aload_n 1, 1) := dk_43 (dk_at dksX30_rowOf_0 17 rfl rfl)
theorem dX30_rowOf_18 : decode cX30_rowOf 18 = .ok (.invokespecial 103, 3) := dk_183 0 103 (dk_at dksX30_rowOf_0 18 rfl rfl)
theorem dX30_rowOf_21 : decode cX30_rowOf 21 = .ok (.areturn, 1) := dk_176 (dk_at dksX30_rowOf_0 21 rfl rfl)
theorem dX30_rowOf_22 : decode cX30_rowOf 22 = .ok (.aload_n 2, 1) := dk_44 (dk_at dksX30_rowOf_0 22 rfl rfl)
theorem dX30_rowOf_23 : decode cX30_rowOf 23 = .ok (.checkcast 93, 3) := dk_192 0 93 (dk_at dksX30_rowOf_1 0 rfl rfl)
theorem dX30_rowOf_26 : decode cX30_rowOf 26 = .ok (.astore_n 3, 1) := dk_78 (dk_at dksX30_rowOf_1 3 rfl rfl)
theorem dX30_rowOf_27 : decode cX30_rowOf 27 = .ok (.aload_n 0, 1) := dk_42 (dk_at dksX30_rowOf_1 4 rfl rfl)
theorem dX30_rowOf_28 : decode cX30_rowOf 28 = .ok (.getfield 21, 3) := dk_180 0 21 (dk_at dksX30_rowOf_1 5 rfl rfl)
theorem dX30_rowOf_31 : decode cX30_rowOf 31 = .ok (.bipush 8, 2) := dk_16 8 (dk_at dksX30_rowOf_1 8 rfl rfl)
theorem dX30_rowOf_33 : decode cX30_rowOf 33 = .ok (.if_icmp .ne 13, 3) := dk_160 0 13 (dk_at dksX30_rowOf_1 10 rfl rfl)
theorem dX30_rowOf_36 : decode cX30_rowOf 36 = .ok (.aload_n 3, 1) := dk_45 (dk_at dksX30_rowOf_1 13 rfl rfl)
theorem dX30_rowOf_37 : decode cX30_rowOf 37 = .ok (.getfield 106, 3) := dk_180 0 106 (dk_at dksX30_rowOf_1 14 rfl rfl)
theorem dX30_rowOf_40 : decode cX30_rowOf 40 = .ok (.aload_n 0, 1) := dk_42 (dk_at dksX30_rowOf_1 17 rfl rfl)
theorem dX30_rowOf_41 : decode cX30_rowOf 41 = .ok (.getfield 28, 3) := dk_180 0 28 (dk_at dksX30_rowOf_1 18 rfl rfl)
theorem dX30_rowOf_44 : decode cX30_rowOf 44 = .ok (.aaload, 1) := dk_50 (dk_at dksX30_rowOf_1 21 rfl rfl)
theorem dX30_rowOf_45 : decode cX30_rowOf 45 = .ok (.areturn, 1) := dk_176 (dk_at dksX30_rowOf_1 22 rfl rfl)
theorem dX30_rowOf_46 : decode cX30_rowOf 46 = .ok (.aload_n 3, 1) := dk_45 (dk_at dksX30_rowOf_1 23 rfl rfl)
theorem dX30_rowOf_47 : decode cX30_rowOf 47 = .ok (.invokevirtual 110, 3) := dk_182 0 110 (dk_at dksX30_rowOf_2 0 rfl rfl)
theorem dX30_rowOf_50 : decode cX30_rowOf 50 = .ok (.astore 4, 2) := dk_58 4 (dk_at dksX30_rowOf_2 3 rfl rfl)
theorem dX30_rowOf_52 : decode cX30_rowOf 52 = .ok (.aload 4, 2) := dk_25 4 (dk_at dksX30_rowOf_2 5 rfl rfl)
theorem dX30_rowOf_54 : decode cX30_rowOf 54 = .ok (.getfield 106, 3) := dk_180 0 106 (dk_at dksX30_rowOf_2 7 rfl rfl)
theorem dX30_rowOf_57 : decode cX30_rowOf 57 = .ok (.aload_n 0, 1) := dk_42 (dk_at dksX30_rowOf_2 10 rfl rfl)
theorem dX30_rowOf_58 : decode cX30_rowOf 58 = .ok (.getfield 28, 3) := dk_180 0 28 (dk_at dksX30_rowOf_2 11 rfl rfl)
theorem dX30_rowOf_61 : decode cX30_rowOf 61 = .ok (.aload_n 0, 1) := dk_42 (dk_at dksX30_rowOf_2 14 rfl rfl)
theorem dX30_rowOf_62 : decode cX30_rowOf 62 = .ok (.getfield 21, 3) := dk_180 0 21 (dk_at dksX30_rowOf_2 15 rfl rfl)
theorem dX30_rowOf_65 : decode cX30_rowOf 65 = .ok (.bipush 7, 2) := dk_16 7 (dk_at dksX30_rowOf_2 18 rfl rfl)
theorem dX30_rowOf_67 : decode cX30_rowOf 67 = .ok (.if_icmp .ne 7, 3) := dk_160 0 7 (dk_at dksX30_rowOf_2 20 rfl rfl)
theorem dX30_rowOf_70 : decode cX30_rowOf 70 = .ok (.aload_n 1, 1) := dk_43 (dk_at dksX30_rowOf_2 23 rfl rfl)
theorem dX30_rowOf_71 : decode cX30_rowOf 71 = .ok (.goto 4, 3) := dk_167 0 4 (dk_at dksX30_rowOf_3 0 rfl rfl)
theorem dX30_rowOf_74 : decode cX30_rowOf 74 = .ok (.aconst_null, 1) := dk_1 (dk_at dksX30_rowOf_3 3 rfl rfl)
theorem dX30_rowOf_75 : decode cX30_rowOf 75 = .ok (.aastore, 1) := dk_83 (dk_at dksX30_rowOf_3 4 rfl rfl)
theorem dX30_rowOf_76 : decode cX30_rowOf 76 = .ok (.aload 4, 2) := dk_25 4 (dk_at dksX30_rowOf_3 5 rfl rfl)
theorem dX30_rowOf_78 : decode cX30_rowOf 78 = .ok (.areturn, 1) := dk_176 (dk_at dksX30_rowOf_3 7 rfl rfl)
theorem q103 : (Jvm.Cond.initialized "RowenTongue$Plain") ∈ lw_all := lw_g (lw_at lw_m1 54 rfl) rfl
theorem q286 : (Jvm.Cond.fieldLinkNest "RowenTongue$Plain" (21 : Nat) "RowenTongue$Term" "kind" "I" "RowenTongue") ∈ lw_tbl := lw_at lw_m1 237 rfl
theorem q289 : (Jvm.Cond.fieldLinkNest "RowenTongue$Plain" (28 : Nat) "RowenTongue$Term" "which" "I" "RowenTongue") ∈ lw_tbl := lw_at lw_m2 0 rfl
theorem q292 : (Jvm.Cond.fieldLinkNest "RowenTongue$Plain" (83 : Nat) "RowenTongue$Term" "name" "I" "RowenTongue") ∈ lw_tbl := lw_at lw_m2 3 rfl
theorem q295 : (Jvm.Cond.fieldLinkNest "RowenTongue$Plain" (53 : Nat) "RowenTongue$Term" "of" "[LRowenTongue$Term;" "RowenTongue") ∈ lw_tbl := lw_at lw_m2 6 rfl
theorem q393 : (Jvm.Cond.selects "RowenTongue$Plain" ({ cls := "java/lang/Object", name := "getClass", desc := "()Ljava/lang/Class;" } : Jvm.MethodName) ({ cls := "java/lang/Object", name := "getClass", desc := "()Ljava/lang/Class;" } : Jvm.MethodName)) ∈ lw_all := lw_g (lw_at lw_m2 104 rfl) rfl
theorem q767 : (Jvm.Cond.selects "RowenTongue$Plain" ({ cls := "java/lang/Object", name := "equals", desc := "(Ljava/lang/Object;)Z" } : Jvm.MethodName) ({ cls := "java/lang/Object", name := "equals", desc := "(Ljava/lang/Object;)Z" } : Jvm.MethodName)) ∈ lw_all := lw_g (lw_at lw_m3 238 rfl) rfl
theorem q1788 : (Jvm.Cond.instantiable "RowenTongue$Plain" (1 : Nat)) ∈ lw_all := lw_g (lw_at lw_m8 59 rfl) rfl
theorem q1790 : (Jvm.Cond.instanceMethod ({ cls := "RowenTongue$Plain", name := "<init>", desc := "()V" } : Jvm.MethodName)) ∈ lw_all := lw_g (lw_at lw_m8 61 rfl) rfl
theorem q1791 : (Jvm.Cond.code ({ cls := "RowenTongue$Plain", name := "<init>", desc := "()V" } : Jvm.MethodName) prog_28_method_1_code (1 : Nat) (Option.none : Option Jvm.ClassFile.FieldType)) ∈ lw_all := lw_g (lw_at lw_m8 62 rfl) rfl
theorem q1792 : (Jvm.Cond.methodLink "RowenTongue$Plain" (3 : Nat) ({ cls := "java/lang/Object", name := "<init>", desc := "()V" } : Jvm.MethodName)) ∈ lw_all := lw_g (lw_at lw_m8 63 rfl) rfl
theorem q1793 : (Jvm.Cond.fieldLink "RowenTongue$Plain" (9 : Nat) "RowenTongue$Plain" "steps" "I") ∈ lw_all := lw_g (lw_at lw_m8 64 rfl) rfl
theorem q1795 : (Jvm.Cond.lays "RowenTongue$Plain" "RowenTongue$Plain" "steps" "I") ∈ lw_all := lw_g (lw_at lw_m8 66 rfl) rfl
theorem q1796 : (Jvm.Cond.soleField "RowenTongue$Plain" "steps") ∈ lw_all := lw_g (lw_at lw_m8 67 rfl) rfl
theorem q1797 : (Jvm.Cond.superclass "RowenTongue$Plain" "java/lang/Object") ∈ lw_all := lw_g (lw_at lw_m8 68 rfl) rfl
theorem q1801 : (Jvm.Cond.instanceMethod ({ cls := "RowenTongue$Plain", name := "act", desc := "(LRowenTongue$Term;LRowenTongue$Scope;)LRowenTongue$Value;" } : Jvm.MethodName)) ∈ lw_all := lw_g (lw_at lw_m8 72 rfl) rfl
theorem q1802 : (Jvm.Cond.selects "RowenTongue$Plain" ({ cls := "RowenTongue$Plain", name := "act", desc := "(LRowenTongue$Term;LRowenTongue$Scope;)LRowenTongue$Value;" } : Jvm.MethodName) ({ cls := "RowenTongue$Plain", name := "act", desc := "(LRowenTongue$Term;LRowenTongue$Scope;)LRowenTongue$Value;" } : Jvm.MethodName)) ∈ lw_all := lw_g (lw_at lw_m8 73 rfl) rfl
theorem q1803 : (Jvm.Cond.code ({ cls := "RowenTongue$Plain", name := "act", desc := "(LRowenTongue$Term;LRowenTongue$Scope;)LRowenTongue$Value;" } : Jvm.MethodName) prog_28_method_3_code (12 : Nat) (Option.some (Jvm.ClassFile.FieldType.object "RowenTongue$Value"))) ∈ lw_all := lw_g (lw_at lw_m8 74 rfl) rfl
theorem q1804 : (Jvm.Cond.methodLink "RowenTongue$Plain" (18 : Nat) ({ cls := "RowenTongue$Plain", name := "count", desc := "()V" } : Jvm.MethodName)) ∈ lw_all := lw_g (lw_at lw_m8 75 rfl) rfl
theorem q1805 : (Jvm.Cond.privateMethod ({ cls := "RowenTongue$Plain", name := "count", desc := "()V" } : Jvm.MethodName)) ∈ lw_tbl := lw_at lw_m8 76 rfl
theorem q1806 : (Jvm.Cond.instanceMethod ({ cls := "RowenTongue$Plain", name := "count", desc := "()V" } : Jvm.MethodName)) ∈ lw_all := lw_g (lw_at lw_m8 77 rfl) rfl
theorem q1807 : (Jvm.Cond.code ({ cls := "RowenTongue$Plain", name := "count", desc := "()V" } : Jvm.MethodName) prog_28_method_2_code (1 : Nat) (Option.none : Option Jvm.ClassFile.FieldType)) ∈ lw_all := lw_g (lw_at lw_m8 78 rfl) rfl
theorem q1808 : (Jvm.Cond.classLink "RowenTongue$Plain" (15 : Nat) "RowenTongue$Far") ∈ lw_all := lw_g (lw_at lw_m8 79 rfl) rfl
theorem q1817 : (Jvm.Cond.methodLinkNest "RowenTongue$Plain" (17 : Nat) ({ cls := "RowenTongue$Far", name := "<init>", desc := "()V" } : Jvm.MethodName) "RowenTongue") ∈ lw_tbl := lw_at lw_m8 88 rfl
theorem q1823 : (Jvm.Cond.classLink "RowenTongue$Plain" (26 : Nat) "RowenTongue$Amount") ∈ lw_all := lw_g (lw_at lw_m8 94 rfl) rfl
theorem q1825 : (Jvm.Cond.methodLink "RowenTongue$Plain" (31 : Nat) ({ cls := "RowenTongue$Amount", name := "<init>", desc := "(I)V" } : Jvm.MethodName)) ∈ lw_all := lw_g (lw_at lw_m8 96 rfl) rfl
theorem q1833 : (Jvm.Cond.fieldLinkNest "RowenTongue$Plain" (100 : Nat) "RowenTongue$Amount" "number" "I" "RowenTongue") ∈ lw_tbl := lw_at lw_m8 104 rfl
theorem q1837 : (Jvm.Cond.classLink "RowenTongue$Plain" (51 : Nat) "RowenTongue$Closure") ∈ lw_all := lw_g (lw_at lw_m8 108 rfl) rfl
theorem q1839 : (Jvm.Cond.methodLink "RowenTongue$Plain" (57 : Nat) ({ cls := "RowenTongue$Closure", name := "<init>", desc := "(ILRowenTongue$Term;LRowenTongue$Scope;)V" } : Jvm.MethodName)) ∈ lw_all := lw_g (lw_at lw_m8 110 rfl) rfl
theorem q1844 : (Jvm.Cond.fieldLinkNest "RowenTongue$Plain" (64 : Nat) "RowenTongue$Closure" "name" "I" "RowenTongue") ∈ lw_tbl := lw_at lw_m8 115 rfl
theorem q1846 : (Jvm.Cond.fieldLinkNest "RowenTongue$Plain" (71 : Nat) "RowenTongue$Closure" "body" "LRowenTongue$Term;" "RowenTongue") ∈ lw_tbl := lw_at lw_m8 117 rfl
theorem q1848 : (Jvm.Cond.fieldLinkNest "RowenTongue$Plain" (65 : Nat) "RowenTongue$Closure" "scope" "LRowenTongue$Scope;" "RowenTongue") ∈ lw_tbl := lw_at lw_m8 119 rfl
theorem q1856 : (Jvm.Cond.methodLink "RowenTongue$Plain" (60 : Nat) ({ cls := "RowenTongue$Plain", name := "act", desc := "(LRowenTongue$Term;LRowenTongue$Scope;)LRowenTongue$Value;" } : Jvm.MethodName)) ∈ lw_all := lw_g (lw_at lw_m8 127 rfl) rfl
theorem q1857 : (Jvm.Cond.classLink "RowenTongue$Plain" (35 : Nat) "RowenTongue$Scope") ∈ lw_all := lw_g (lw_at lw_m8 128 rfl) rfl
theorem q1859 : (Jvm.Cond.methodLink "RowenTongue$Plain" (68 : Nat) ({ cls := "RowenTongue$Scope", name := "<init>", desc := "(ILRowenTongue$Value;LRowenTongue$Term;LRowenTongue$Scope;)V" } : Jvm.MethodName)) ∈ lw_all := lw_g (lw_at lw_m8 130 rfl) rfl
theorem q1864 : (Jvm.Cond.fieldLinkNest "RowenTongue$Plain" (34 : Nat) "RowenTongue$Scope" "name" "I" "RowenTongue") ∈ lw_tbl := lw_at lw_m8 135 rfl
theorem q1866 : (Jvm.Cond.fieldLinkNest "RowenTongue$Plain" (47 : Nat) "RowenTongue$Scope" "value" "LRowenTongue$Value;" "RowenTongue") ∈ lw_tbl := lw_at lw_m8 137 rfl
theorem q1868 : (Jvm.Cond.fieldLinkNest "RowenTongue$Plain" (43 : Nat) "RowenTongue$Scope" "again" "LRowenTongue$Term;" "RowenTongue") ∈ lw_tbl := lw_at lw_m8 139 rfl
theorem q1870 : (Jvm.Cond.fieldLinkNest "RowenTongue$Plain" (39 : Nat) "RowenTongue$Scope" "next" "LRowenTongue$Scope;" "RowenTongue") ∈ lw_tbl := lw_at lw_m8 141 rfl
theorem q1880 : (Jvm.Cond.classLink "RowenTongue$Plain" (74 : Nat) "RowenTongue$Choice") ∈ lw_all := lw_g (lw_at lw_m8 151 rfl) rfl
theorem q1881 : (Jvm.Cond.methodLink "RowenTongue$Plain" (79 : Nat) ({ cls := "RowenTongue$Plain", name := "caseOf", desc := "(ILRowenTongue$Term;)LRowenTongue$Term;" } : Jvm.MethodName)) ∈ lw_all := lw_g (lw_at lw_m8 152 rfl) rfl
theorem q1882 : (Jvm.Cond.static ({ cls := "RowenTongue$Plain", name := "caseOf", desc := "(ILRowenTongue$Term;)LRowenTongue$Term;" } : Jvm.MethodName)) ∈ lw_all := lw_g (lw_at lw_m8 153 rfl) rfl
theorem q1883 : (Jvm.Cond.code ({ cls := "RowenTongue$Plain", name := "caseOf", desc := "(ILRowenTongue$Term;)LRowenTongue$Term;" } : Jvm.MethodName) prog_28_method_5_code (3 : Nat) (Option.some (Jvm.ClassFile.FieldType.object "RowenTongue$Term"))) ∈ lw_all := lw_g (lw_at lw_m8 154 rfl) rfl
theorem q1884 : (Jvm.Cond.methodLink "RowenTongue$Plain" (85 : Nat) ({ cls := "RowenTongue$Plain", name := "numberOf", desc := "(LRowenTongue$Value;)I" } : Jvm.MethodName)) ∈ lw_all := lw_g (lw_at lw_m8 155 rfl) rfl
theorem q1885 : (Jvm.Cond.static ({ cls := "RowenTongue$Plain", name := "numberOf", desc := "(LRowenTongue$Value;)I" } : Jvm.MethodName)) ∈ lw_all := lw_g (lw_at lw_m8 156 rfl) rfl
theorem q1886 : (Jvm.Cond.code ({ cls := "RowenTongue$Plain", name := "numberOf", desc := "(LRowenTongue$Value;)I" } : Jvm.MethodName) prog_28_method_4_code (1 : Nat) (Option.some Jvm.ClassFile.FieldType.int)) ∈ lw_all := lw_g (lw_at lw_m8 157 rfl) rfl
theorem q1887 : (Jvm.Cond.methodLink "RowenTongue$Plain" (89 : Nat) ({ cls := "RowenTongue$Plain", name := "areSame", desc := "(LRowenTongue$Value;LRowenTongue$Value;)Z" } : Jvm.MethodName)) ∈ lw_all := lw_g (lw_at lw_m8 158 rfl) rfl
theorem q1888 : (Jvm.Cond.privateMethod ({ cls := "RowenTongue$Plain", name := "areSame", desc := "(LRowenTongue$Value;LRowenTongue$Value;)Z" } : Jvm.MethodName)) ∈ lw_tbl := lw_at lw_m8 159 rfl
theorem q1889 : (Jvm.Cond.instanceMethod ({ cls := "RowenTongue$Plain", name := "areSame", desc := "(LRowenTongue$Value;LRowenTongue$Value;)Z" } : Jvm.MethodName)) ∈ lw_all := lw_g (lw_at lw_m8 160 rfl) rfl
theorem q1890 : (Jvm.Cond.code ({ cls := "RowenTongue$Plain", name := "areSame", desc := "(LRowenTongue$Value;LRowenTongue$Value;)Z" } : Jvm.MethodName) prog_28_method_7_code (6 : Nat) (Option.some Jvm.ClassFile.FieldType.boolean)) ∈ lw_all := lw_g (lw_at lw_m8 161 rfl) rfl
theorem q1891 : (Jvm.Cond.methodLink "RowenTongue$Plain" (114 : Nat) ({ cls := "RowenTongue$Value", name := "parts", desc := "(LRowenTongue$Value;)Ljava/util/ArrayList;" } : Jvm.MethodName)) ∈ lw_all := lw_g (lw_at lw_m8 162 rfl) rfl
theorem q1917 : (Jvm.Cond.methodLink "RowenTongue$Plain" (120 : Nat) ({ cls := "java/util/ArrayList", name := "size", desc := "()I" } : Jvm.MethodName)) ∈ lw_all := lw_g (lw_at lw_m8 188 rfl) rfl
theorem q1918 : (Jvm.Cond.methodLink "RowenTongue$Plain" (126 : Nat) ({ cls := "java/util/ArrayList", name := "get", desc := "(I)Ljava/lang/Object;" } : Jvm.MethodName)) ∈ lw_all := lw_g (lw_at lw_m8 189 rfl) rfl
theorem q1919 : (Jvm.Cond.classLink "RowenTongue$Plain" (115 : Nat) "RowenTongue$Value") ∈ lw_all := lw_g (lw_at lw_m8 190 rfl) rfl
theorem q1920 : (Jvm.Cond.classLink "RowenTongue$Plain" (93 : Nat) "RowenTongue$Bundle") ∈ lw_all := lw_g (lw_at lw_m8 191 rfl) rfl
theorem q1922 : (Jvm.Cond.methodLinkNest "RowenTongue$Plain" (95 : Nat) ({ cls := "RowenTongue$Bundle", name := "<init>", desc := "()V" } : Jvm.MethodName) "RowenTongue") ∈ lw_tbl := lw_at lw_m8 193 rfl
theorem q1929 : (Jvm.Cond.fieldLinkNest "RowenTongue$Plain" (106 : Nat) "RowenTongue$Bundle" "values" "[LRowenTongue$Value;" "RowenTongue") ∈ lw_tbl := lw_at lw_m8 200 rfl
theorem q1933 : (Jvm.Cond.methodLink "RowenTongue$Plain" (96 : Nat) ({ cls := "RowenTongue$Plain", name := "rowOf", desc := "(LRowenTongue$Term;LRowenTongue$Value;LRowenTongue$Value;)LRowenTongue$Value;" } : Jvm.MethodName)) ∈ lw_all := lw_g (lw_at lw_m8 204 rfl) rfl
theorem q1934 : (Jvm.Cond.static ({ cls := "RowenTongue$Plain", name := "rowOf", desc := "(LRowenTongue$Term;LRowenTongue$Value;LRowenTongue$Value;)LRowenTongue$Value;" } : Jvm.MethodName)) ∈ lw_all := lw_g (lw_at lw_m8 205 rfl) rfl
theorem q1935 : (Jvm.Cond.code ({ cls := "RowenTongue$Plain", name := "rowOf", desc := "(LRowenTongue$Term;LRowenTongue$Value;LRowenTongue$Value;)LRowenTongue$Value;" } : Jvm.MethodName) prog_28_method_6_code (5 : Nat) (Option.some (Jvm.ClassFile.FieldType.object "RowenTongue$Value"))) ∈ lw_all := lw_g (lw_at lw_m8 206 rfl) rfl
theorem q1937 : (Jvm.Cond.methodLink "RowenTongue$Plain" (103 : Nat) ({ cls := "RowenTongue$Choice", name := "<init>", desc := "(ILRowenTongue$Value;)V" } : Jvm.MethodName)) ∈ lw_all := lw_g (lw_at lw_m8 208 rfl) rfl
theorem q1942 : (Jvm.Cond.fieldLinkNest "RowenTongue$Plain" (76 : Nat) "RowenTongue$Choice" "label" "I" "RowenTongue") ∈ lw_tbl := lw_at lw_m8 213 rfl
theorem q1944 : (Jvm.Cond.fieldLinkNest "RowenTongue$Plain" (84 : Nat) "RowenTongue$Choice" "value" "LRowenTongue$Value;" "RowenTongue") ∈ lw_tbl := lw_at lw_m8 215 rfl
theorem q1950 : (Jvm.Cond.methodLink "RowenTongue$Plain" (110 : Nat) ({ cls := "RowenTongue$Bundle", name := "copy", desc := "()LRowenTongue$Bundle;" } : Jvm.MethodName)) ∈ lw_all := lw_g (lw_at lw_m8 221 rfl) rfl
theorem q2919 : (Jvm.Cond.castable "RowenTongue$Plain" "java/lang/Object") ∈ lw_tbl := lw_at lw_m12 230 rfl
theorem in_X30 : ∀ w ∈ wsX300, w ∈ lw_all := lw_in wsX300 [1795] (by decide +kernel) (by decide +kernel)
/-! RowenTongue$Far -/
set_option maxRecDepth 100000
def RX31 : String := "RowenTongue$Far"
def TX31 : u_T := fun k => match k with
  | 0 => ("java/lang/Throwable", "cause", "Ljava/lang/Throwable;", false)
  | 1 => ("java/lang/Throwable", "stackTrace", "[Ljava/lang/StackTraceElement;", false)
  | 2 => ("java/lang/Throwable", "suppressedExceptions", "Ljava/util/List;", false)
  | 3 => ("java/lang/Throwable", "detailMessage", "Ljava/lang/String;", false)
  | 4 => ("java/lang/Throwable", "backtrace", "Ljava/lang/Object;", false)
  | _ => ("java/lang/Throwable", "depth", "I", false)
def tyX31 : Nat → FieldType := fun k => match k with
  | 0 => .object "java/lang/Throwable"
  | 1 => .array (.object "java/lang/StackTraceElement")
  | 2 => .object "java/util/List"
  | 3 => .object "java/lang/String"
  | 4 => .object "java/lang/Object"
  | _ => .int
abbrev wsX310 : List Cond := u_ws RX31 TX31 6
theorem nmX31 : ∀ a, a < 6 → ∀ b, b < 6 → a ≠ b → (TX31 a).2.1 ≠ (TX31 b).2.1 := by decide +kernel
theorem tyX31_ok : ∀ k, k < 6 → parseFieldDescriptor (TX31 k).2.2.1 = some (tyX31 k) := by decide +kernel
abbrev cX31_init : ByteArray := prog_12_method_1_code
def yX31_init : MethodName := ⟨RX31, "<init>", "()V"⟩
theorem dX31_init_0 : decode cX31_init 0 = .ok (.aload_n 0, 1) := by decide +kernel
theorem dX31_init_1 : decode cX31_init 1 = .ok (.invokespecial 1, 3) := by decide +kernel
theorem dX31_init_4 : decode cX31_init 4 = .ok (.return_, 1) := by decide +kernel
theorem q104 : (Jvm.Cond.initialized "RowenTongue$Far") ∈ lw_all := lw_g (lw_at lw_m1 55 rfl) rfl
theorem q235 : (Jvm.Cond.selects "RowenTongue$Far" ({ cls := "java/lang/Throwable", name := "fillInStackTrace", desc := "()Ljava/lang/Throwable;" } : Jvm.MethodName) ({ cls := "java/lang/Throwable", name := "fillInStackTrace", desc := "()Ljava/lang/Throwable;" } : Jvm.MethodName)) ∈ lw_all := lw_g (lw_at lw_m1 186 rfl) rfl
theorem q377 : (Jvm.Cond.selects "RowenTongue$Far" ({ cls := "java/lang/Object", name := "getClass", desc := "()Ljava/lang/Class;" } : Jvm.MethodName) ({ cls := "java/lang/Object", name := "getClass", desc := "()Ljava/lang/Class;" } : Jvm.MethodName)) ∈ lw_all := lw_g (lw_at lw_m2 88 rfl) rfl
theorem q751 : (Jvm.Cond.selects "RowenTongue$Far" ({ cls := "java/lang/Object", name := "equals", desc := "(Ljava/lang/Object;)Z" } : Jvm.MethodName) ({ cls := "java/lang/Object", name := "equals", desc := "(Ljava/lang/Object;)Z" } : Jvm.MethodName)) ∈ lw_all := lw_g (lw_at lw_m3 222 rfl) rfl
theorem q1809 : (Jvm.Cond.instantiable "RowenTongue$Far" (6 : Nat)) ∈ lw_all := lw_g (lw_at lw_m8 80 rfl) rfl
theorem q1810 : (Jvm.Cond.castable "RowenTongue$Far" "RowenTongue$Far") ∈ lw_tbl := lw_at lw_m8 81 rfl
theorem q1811 : (Jvm.Cond.selects "RowenTongue$Far" ({ cls := "java/lang/Throwable", name := "fillInStackTrace", desc := "(I)Ljava/lang/Throwable;" } : Jvm.MethodName) ({ cls := "java/lang/Throwable", name := "fillInStackTrace", desc := "(I)Ljava/lang/Throwable;" } : Jvm.MethodName)) ∈ lw_all := lw_g (lw_at lw_m8 82 rfl) rfl
theorem q1812 : (Jvm.Cond.lays "RowenTongue$Far" "java/lang/Throwable" "cause" "Ljava/lang/Throwable;") ∈ lw_all := lw_g (lw_at lw_m8 83 rfl) rfl
theorem q1813 : (Jvm.Cond.lays "RowenTongue$Far" "java/lang/Throwable" "stackTrace" "[Ljava/lang/StackTraceElement;") ∈ lw_all := lw_g (lw_at lw_m8 84 rfl) rfl
theorem q1814 : (Jvm.Cond.lays "RowenTongue$Far" "java/lang/Throwable" "suppressedExceptions" "Ljava/util/List;") ∈ lw_all := lw_g (lw_at lw_m8 85 rfl) rfl
theorem q1815 : (Jvm.Cond.lays "RowenTongue$Far" "java/lang/Throwable" "detailMessage" "Ljava/lang/String;") ∈ lw_all := lw_g (lw_at lw_m8 86 rfl) rfl
theorem q1816 : (Jvm.Cond.lays "RowenTongue$Far" "java/lang/Throwable" "backtrace" "Ljava/lang/Object;") ∈ lw_all := lw_g (lw_at lw_m8 87 rfl) rfl
theorem q1818 : (Jvm.Cond.instanceMethod ({ cls := "RowenTongue$Far", name := "<init>", desc := "()V" } : Jvm.MethodName)) ∈ lw_all := lw_g (lw_at lw_m8 89 rfl) rfl
theorem q1819 : (Jvm.Cond.code ({ cls := "RowenTongue$Far", name := "<init>", desc := "()V" } : Jvm.MethodName) prog_12_method_1_code (1 : Nat) (Option.none : Option Jvm.ClassFile.FieldType)) ∈ lw_all := lw_g (lw_at lw_m8 90 rfl) rfl
theorem q1820 : (Jvm.Cond.methodLink "RowenTongue$Far" (1 : Nat) ({ cls := "java/lang/Exception", name := "<init>", desc := "()V" } : Jvm.MethodName)) ∈ lw_all := lw_g (lw_at lw_m8 91 rfl) rfl
theorem q1821 : (Jvm.Cond.lays "RowenTongue$Far" "java/lang/Throwable" "depth" "I") ∈ lw_all := lw_g (lw_at lw_m8 92 rfl) rfl
theorem q1822 : (Jvm.Cond.superclass "RowenTongue$Far" "java/lang/Exception") ∈ lw_all := lw_g (lw_at lw_m8 93 rfl) rfl
theorem q2920 : (Jvm.Cond.castable "RowenTongue$Far" "java/lang/Object") ∈ lw_tbl := lw_at lw_m12 231 rfl
theorem in_X31 : ∀ w ∈ wsX310, w ∈ lw_all := lw_in wsX310 [1812, 1813, 1814, 1815, 1816, 1821] (by decide +kernel) (by decide +kernel)
/-! RowenTongue$Value -/
set_option maxRecDepth 100000
def RX32 : String := "RowenTongue$Value"
abbrev cX32_init : ByteArray := prog_39_method_1_code
def yX32_init : MethodName := ⟨RX32, "<init>", "()V"⟩
theorem dX32_init_0 : decode cX32_init 0 = .ok (.aload_n 0, 1) := by decide +kernel
theorem dX32_init_1 : decode cX32_init 1 = .ok (.invokespecial 1, 3) := by decide +kernel
theorem dX32_init_4 : decode cX32_init 4 = .ok (.return_, 1) := by decide +kernel
theorem q105 : (Jvm.Cond.initialized "RowenTongue$Value") ∈ lw_all := lw_g (lw_at lw_m1 56 rfl) rfl
theorem q1829 : (Jvm.Cond.instanceMethod ({ cls := "RowenTongue$Value", name := "<init>", desc := "()V" } : Jvm.MethodName)) ∈ lw_all := lw_g (lw_at lw_m8 100 rfl) rfl
theorem q1830 : (Jvm.Cond.code ({ cls := "RowenTongue$Value", name := "<init>", desc := "()V" } : Jvm.MethodName) prog_39_method_1_code (1 : Nat) (Option.none : Option Jvm.ClassFile.FieldType)) ∈ lw_all := lw_g (lw_at lw_m8 101 rfl) rfl
theorem q1831 : (Jvm.Cond.methodLink "RowenTongue$Value" (1 : Nat) ({ cls := "java/lang/Object", name := "<init>", desc := "()V" } : Jvm.MethodName)) ∈ lw_all := lw_g (lw_at lw_m8 102 rfl) rfl
theorem q1892 : (Jvm.Cond.declares ({ cls := "RowenTongue$Value", name := "parts", desc := "(LRowenTongue$Value;)Ljava/util/ArrayList;" } : Jvm.MethodName)) ∈ lw_tbl := lw_at lw_m8 163 rfl
theorem q1893 : (Jvm.Cond.sameMethod "RowenTongue$Value" "RowenTongue$Value" "parts" "(LRowenTongue$Value;)Ljava/util/ArrayList;") ∈ lw_all := lw_g (lw_at lw_m8 164 rfl) rfl
theorem q1957 : (Jvm.Cond.declares ({ cls := "RowenTongue$Value", name := "tell", desc := "(Ljava/lang/StringBuilder;)V" } : Jvm.MethodName)) ∈ lw_tbl := lw_at lw_m8 228 rfl
theorem q1958 : (Jvm.Cond.sameMethod "RowenTongue$Value" "RowenTongue$Value" "tell" "(Ljava/lang/StringBuilder;)V") ∈ lw_all := lw_g (lw_at lw_m8 229 rfl) rfl
theorem q2883 : (Jvm.Cond.castable "RowenTongue$Value" "java/lang/Object") ∈ lw_tbl := lw_at lw_m12 194 rfl
/-! RowenTongue$Amount -/
set_option maxRecDepth 100000
def RX33 : String := "RowenTongue$Amount"
def TX33 : u_T := fun k => match k with
  | _ => ("RowenTongue$Amount", "number", "I", true)
def tyX33 : Nat → FieldType := fun k => match k with
  | _ => .int
abbrev wsX330 : List Cond := u_ws RX33 TX33 1
theorem nmX33 : ∀ a, a < 1 → ∀ b, b < 1 → a ≠ b → (TX33 a).2.1 ≠ (TX33 b).2.1 := by decide +kernel
theorem tyX33_ok : ∀ k, k < 1 → parseFieldDescriptor (TX33 k).2.2.1 = some (tyX33 k) := by decide +kernel
abbrev cX33_init : ByteArray := prog_3_method_1_code
def yX33_init : MethodName := ⟨RX33, "<init>", "(I)V"⟩
def dkwX33_init_0 : List UInt8 := [42, 183, 0, 1, 42, 27, 181, 0, 7, 177]
abbrev dktX33_init_0 : List UInt8 := dkwX33_init_0 ++ []
theorem dksX33_init_0 : cX33_init.data.toList.drop 0 = dktX33_init_0 := by decide +kernel
theorem dX33_init_0 : decode cX33_init 0 = .ok (.aload_n 0, 1) := dk_42 (dk_at dksX33_init_0 0 rfl rfl)
theorem dX33_init_1 : decode cX33_init 1 = .ok (.invokespecial 1, 3) := dk_183 0 1 (dk_at dksX33_init_0 1 rfl rfl)
theorem dX33_init_4 : decode cX33_init 4 = .ok (.aload_n 0, 1) := dk_42 (dk_at dksX33_init_0 4 rfl rfl)
theorem dX33_init_5 : decode cX33_init 5 = .ok (.iload_n 1, 1) := dk_27 (dk_at dksX33_init_0 5 rfl rfl)
theorem dX33_init_6 : decode cX33_init 6 = .ok (.putfield 7, 3) := dk_181 0 7 (dk_at dksX33_init_0 6 rfl rfl)
theorem dX33_init_9 : decode cX33_init 9 = .ok (.return_, 1) := dk_177 (dk_at dksX33_init_0 9 rfl rfl)
abbrev cX33_parts : ByteArray := prog_3_method_3_code
def yX33_parts : MethodName := ⟨RX33, "parts", "(LRowenTongue$Value;)Ljava/util/ArrayList;"⟩
def dkwX33_parts_1 : List UInt8 := [187, 0, 19, 89, 183, 0, 21, 167, 0, 4, 1, 176]
abbrev dktX33_parts_1 : List UInt8 := dkwX33_parts_1 ++ []
def dkwX33_parts_0 : List UInt8 := [43, 193, 0, 8, 153, 0, 29, 43, 192, 0, 8, 77, 44, 180, 0, 7, 42, 180, 0, 7, 160, 0, 13]
abbrev dktX33_parts_0 : List UInt8 := dkwX33_parts_0 ++ dktX33_parts_1
theorem dksX33_parts_0 : cX33_parts.data.toList.drop 0 = dktX33_parts_0 := by decide +kernel
theorem dksX33_parts_1 : cX33_parts.data.toList.drop 23 = dktX33_parts_1 := dk_seg dksX33_parts_0 23 rfl rfl
theorem dX33_parts_0 : decode cX33_parts 0 = .ok (.aload_n 1, 1) := dk_43 (dk_at dksX33_parts_0 0 rfl rfl)
theorem dX33_parts_1 : decode cX33_parts 1 = .ok (.instanceof 8, 3) := dk_193 0 8 (dk_at dksX33_parts_0 1 rfl rfl)
theorem dX33_parts_4 : decode cX33_parts 4 = .ok (.ifCond .eq 29, 3) := dk_153 0 29 (dk_at dksX33_parts_0 4 rfl rfl)
theorem dX33_parts_7 : decode cX33_parts 7 = .ok (.aload_n 1, 1) := dk_43 (dk_at dksX33_parts_0 7 rfl rfl)
theorem dX33_parts_8 : decode cX33_parts 8 = .ok (.checkcast 8, 3) := dk_192 0 8 (dk_at dksX33_parts_0 8 rfl rfl)
theorem dX33_parts_11 : decode cX33_parts 11 = .ok (.astore_n 2, 1) := dk_77 (dk_at dksX33_parts_0 11 rfl rfl)
theorem dX33_parts_12 : decode cX33_parts 12 = .ok (.aload_n 2, 1) := dk_44 (dk_at dksX33_parts_0 12 rfl rfl)
theorem dX33_parts_13 : decode cX33_parts 13 = .ok (.getfield 7, 3) := dk_180 0 7 (dk_at dksX33_parts_0 13 rfl rfl)
theorem dX33_parts_16 : decode cX33_parts 16 = .ok (.aload_n 0, 1) := dk_42 (dk_at dksX33_parts_0 16 rfl rfl)
theorem dX33_parts_17 : decode cX33_parts 17 = .ok (.getfield 7, 3) := dk_180 0 7 (dk_at dksX33_parts_0 17 rfl rfl)
theorem dX33_parts_20 : decode cX33_parts 20 = .ok (.if_icmp .ne 13, 3) := dk_160 0 13 (dk_at dksX33_parts_0 20 rfl rfl)
theorem dX33_parts_23 : decode cX33_parts 23 = .ok (.new 19, 3) := dk_187 0 19 (dk_at dksX33_parts_1 0 rfl rfl)
theorem dX33_parts_26 : decode cX33_parts 26 = .ok (.dup, 1) := dk_89 (dk_at dksX33_parts_1 3 rfl rfl)
theorem dX33_parts_27 : decode cX33_parts 27 = .ok (.invokespecial 21, 3) := dk_183 0 21 (dk_at dksX33_parts_1 4 rfl rfl)
theorem dX33_parts_30 : decode cX33_parts 30 = .ok (.goto 4, 3) := dk_167 0 4 (dk_at dksX33_parts_1 7 rfl rfl)
theorem dX33_parts_33 : decode cX33_parts 33 = .ok (.aconst_null, 1) := dk_1 (dk_at dksX33_parts_1 10 rfl rfl)
theorem dX33_parts_34 : decode cX33_parts 34 = .ok (.areturn, 1) := dk_176 (dk_at dksX33_parts_1 11 rfl rfl)
abbrev cX33_tell : ByteArray := prog_3_method_2_code
def yX33_tell : MethodName := ⟨RX33, "tell", "(Ljava/lang/StringBuilder;)V"⟩
def dkwX33_tell_0 : List UInt8 := [43, 42, 180, 0, 7, 182, 0, 13, 87, 177]
abbrev dktX33_tell_0 : List UInt8 := dkwX33_tell_0 ++ []
theorem dksX33_tell_0 : cX33_tell.data.toList.drop 0 = dktX33_tell_0 := by decide +kernel
theorem dX33_tell_0 : decode cX33_tell 0 = .ok (.aload_n 1, 1) := dk_43 (dk_at dksX33_tell_0 0 rfl rfl)
theorem dX33_tell_1 : decode cX33_tell 1 = .ok (.aload_n 0, 1) := dk_42 (dk_at dksX33_tell_0 1 rfl rfl)
theorem dX33_tell_2 : decode cX33_tell 2 = .ok (.getfield 7, 3) := dk_180 0 7 (dk_at dksX33_tell_0 2 rfl rfl)
theorem dX33_tell_5 : decode cX33_tell 5 = .ok (.invokevirtual 13, 3) := dk_182 0 13 (dk_at dksX33_tell_0 5 rfl rfl)
theorem dX33_tell_8 : decode cX33_tell 8 = .ok (.pop, 1) := dk_87 (dk_at dksX33_tell_0 8 rfl rfl)
theorem dX33_tell_9 : decode cX33_tell 9 = .ok (.return_, 1) := dk_177 (dk_at dksX33_tell_0 9 rfl rfl)
theorem q106 : (Jvm.Cond.initialized "RowenTongue$Amount") ∈ lw_all := lw_g (lw_at lw_m1 57 rfl) rfl
theorem q368 : (Jvm.Cond.selects "RowenTongue$Amount" ({ cls := "java/lang/Object", name := "getClass", desc := "()Ljava/lang/Class;" } : Jvm.MethodName) ({ cls := "java/lang/Object", name := "getClass", desc := "()Ljava/lang/Class;" } : Jvm.MethodName)) ∈ lw_all := lw_g (lw_at lw_m2 79 rfl) rfl
theorem q742 : (Jvm.Cond.selects "RowenTongue$Amount" ({ cls := "java/lang/Object", name := "equals", desc := "(Ljava/lang/Object;)Z" } : Jvm.MethodName) ({ cls := "java/lang/Object", name := "equals", desc := "(Ljava/lang/Object;)Z" } : Jvm.MethodName)) ∈ lw_all := lw_g (lw_at lw_m3 213 rfl) rfl
theorem q1824 : (Jvm.Cond.instantiable "RowenTongue$Amount" (1 : Nat)) ∈ lw_all := lw_g (lw_at lw_m8 95 rfl) rfl
theorem q1826 : (Jvm.Cond.instanceMethod ({ cls := "RowenTongue$Amount", name := "<init>", desc := "(I)V" } : Jvm.MethodName)) ∈ lw_all := lw_g (lw_at lw_m8 97 rfl) rfl
theorem q1827 : (Jvm.Cond.code ({ cls := "RowenTongue$Amount", name := "<init>", desc := "(I)V" } : Jvm.MethodName) prog_3_method_1_code (2 : Nat) (Option.none : Option Jvm.ClassFile.FieldType)) ∈ lw_all := lw_g (lw_at lw_m8 98 rfl) rfl
theorem q1828 : (Jvm.Cond.methodLinkNest "RowenTongue$Amount" (1 : Nat) ({ cls := "RowenTongue$Value", name := "<init>", desc := "()V" } : Jvm.MethodName) "RowenTongue") ∈ lw_tbl := lw_at lw_m8 99 rfl
theorem q1832 : (Jvm.Cond.fieldLink "RowenTongue$Amount" (7 : Nat) "RowenTongue$Amount" "number" "I") ∈ lw_all := lw_g (lw_at lw_m8 103 rfl) rfl
theorem q1834 : (Jvm.Cond.laysFinal "RowenTongue$Amount" "RowenTongue$Amount" "number" "I") ∈ lw_all := lw_g (lw_at lw_m8 105 rfl) rfl
theorem q1835 : (Jvm.Cond.soleField "RowenTongue$Amount" "number") ∈ lw_all := lw_g (lw_at lw_m8 106 rfl) rfl
theorem q1836 : (Jvm.Cond.superclass "RowenTongue$Amount" "RowenTongue$Value") ∈ lw_all := lw_g (lw_at lw_m8 107 rfl) rfl
theorem q1894 : (Jvm.Cond.selects "RowenTongue$Amount" ({ cls := "RowenTongue$Value", name := "parts", desc := "(LRowenTongue$Value;)Ljava/util/ArrayList;" } : Jvm.MethodName) ({ cls := "RowenTongue$Amount", name := "parts", desc := "(LRowenTongue$Value;)Ljava/util/ArrayList;" } : Jvm.MethodName)) ∈ lw_all := lw_g (lw_at lw_m8 165 rfl) rfl
theorem q1895 : (Jvm.Cond.instanceMethod ({ cls := "RowenTongue$Amount", name := "parts", desc := "(LRowenTongue$Value;)Ljava/util/ArrayList;" } : Jvm.MethodName)) ∈ lw_all := lw_g (lw_at lw_m8 166 rfl) rfl
theorem q1896 : (Jvm.Cond.code ({ cls := "RowenTongue$Amount", name := "parts", desc := "(LRowenTongue$Value;)Ljava/util/ArrayList;" } : Jvm.MethodName) prog_3_method_3_code (3 : Nat) (Option.some (Jvm.ClassFile.FieldType.object "java/util/ArrayList"))) ∈ lw_all := lw_g (lw_at lw_m8 167 rfl) rfl
theorem q1897 : (Jvm.Cond.classLink "RowenTongue$Amount" (8 : Nat) "RowenTongue$Amount") ∈ lw_all := lw_g (lw_at lw_m8 168 rfl) rfl
theorem q1898 : (Jvm.Cond.classLink "RowenTongue$Amount" (19 : Nat) "java/util/ArrayList") ∈ lw_all := lw_g (lw_at lw_m8 169 rfl) rfl
theorem q1899 : (Jvm.Cond.methodLink "RowenTongue$Amount" (21 : Nat) ({ cls := "java/util/ArrayList", name := "<init>", desc := "()V" } : Jvm.MethodName)) ∈ lw_all := lw_g (lw_at lw_m8 170 rfl) rfl
theorem q1959 : (Jvm.Cond.selects "RowenTongue$Amount" ({ cls := "RowenTongue$Value", name := "tell", desc := "(Ljava/lang/StringBuilder;)V" } : Jvm.MethodName) ({ cls := "RowenTongue$Amount", name := "tell", desc := "(Ljava/lang/StringBuilder;)V" } : Jvm.MethodName)) ∈ lw_all := lw_g (lw_at lw_m8 230 rfl) rfl
theorem q1960 : (Jvm.Cond.instanceMethod ({ cls := "RowenTongue$Amount", name := "tell", desc := "(Ljava/lang/StringBuilder;)V" } : Jvm.MethodName)) ∈ lw_all := lw_g (lw_at lw_m8 231 rfl) rfl
theorem q1961 : (Jvm.Cond.code ({ cls := "RowenTongue$Amount", name := "tell", desc := "(Ljava/lang/StringBuilder;)V" } : Jvm.MethodName) prog_3_method_2_code (2 : Nat) (Option.none : Option Jvm.ClassFile.FieldType)) ∈ lw_all := lw_g (lw_at lw_m8 232 rfl) rfl
theorem q1962 : (Jvm.Cond.methodLink "RowenTongue$Amount" (13 : Nat) ({ cls := "java/lang/StringBuilder", name := "append", desc := "(I)Ljava/lang/StringBuilder;" } : Jvm.MethodName)) ∈ lw_all := lw_g (lw_at lw_m8 233 rfl) rfl
theorem q2873 : (Jvm.Cond.castable "RowenTongue$Amount" "RowenTongue$Value") ∈ lw_tbl := lw_at lw_m12 184 rfl
theorem q2921 : (Jvm.Cond.castable "RowenTongue$Amount" "java/lang/Object") ∈ lw_tbl := lw_at lw_m12 232 rfl
theorem in_X33 : ∀ w ∈ wsX330, w ∈ lw_all := lw_in wsX330 [1834] (by decide +kernel) (by decide +kernel)
/-! RowenTongue$Closure -/
set_option maxRecDepth 100000
def RX34 : String := "RowenTongue$Closure"
def TX34 : u_T := fun k => match k with
  | 0 => ("RowenTongue$Closure", "name", "I", true)
  | 1 => ("RowenTongue$Closure", "body", "LRowenTongue$Term;", true)
  | _ => ("RowenTongue$Closure", "scope", "LRowenTongue$Scope;", true)
def tyX34 : Nat → FieldType := fun k => match k with
  | 0 => .int
  | 1 => .object "RowenTongue$Term"
  | _ => .object "RowenTongue$Scope"
abbrev wsX340 : List Cond := u_ws RX34 TX34 3
theorem nmX34 : ∀ a, a < 3 → ∀ b, b < 3 → a ≠ b → (TX34 a).2.1 ≠ (TX34 b).2.1 := by decide +kernel
theorem tyX34_ok : ∀ k, k < 3 → parseFieldDescriptor (TX34 k).2.2.1 = some (tyX34 k) := by decide +kernel
abbrev cX34_init : ByteArray := prog_10_method_1_code
def yX34_init : MethodName := ⟨RX34, "<init>", "(ILRowenTongue$Term;LRowenTongue$Scope;)V"⟩
def dkwX34_init_0 : List UInt8 := [42, 183, 0, 1, 42, 27, 181, 0, 7, 42, 44, 181, 0, 13, 42, 45, 181, 0, 17, 177]
abbrev dktX34_init_0 : List UInt8 := dkwX34_init_0 ++ []
theorem dksX34_init_0 : cX34_init.data.toList.drop 0 = dktX34_init_0 := by decide +kernel
theorem dX34_init_0 : decode cX34_init 0 = .ok (.aload_n 0, 1) := dk_42 (dk_at dksX34_init_0 0 rfl rfl)
theorem dX34_init_1 : decode cX34_init 1 = .ok (.invokespecial 1, 3) := dk_183 0 1 (dk_at dksX34_init_0 1 rfl rfl)
theorem dX34_init_4 : decode cX34_init 4 = .ok (.aload_n 0, 1) := dk_42 (dk_at dksX34_init_0 4 rfl rfl)
theorem dX34_init_5 : decode cX34_init 5 = .ok (.iload_n 1, 1) := dk_27 (dk_at dksX34_init_0 5 rfl rfl)
theorem dX34_init_6 : decode cX34_init 6 = .ok (.putfield 7, 3) := dk_181 0 7 (dk_at dksX34_init_0 6 rfl rfl)
theorem dX34_init_9 : decode cX34_init 9 = .ok (.aload_n 0, 1) := dk_42 (dk_at dksX34_init_0 9 rfl rfl)
theorem dX34_init_10 : decode cX34_init 10 = .ok (.aload_n 2, 1) := dk_44 (dk_at dksX34_init_0 10 rfl rfl)
theorem dX34_init_11 : decode cX34_init 11 = .ok (.putfield 13, 3) := dk_181 0 13 (dk_at dksX34_init_0 11 rfl rfl)
theorem dX34_init_14 : decode cX34_init 14 = .ok (.aload_n 0, 1) := dk_42 (dk_at dksX34_init_0 14 rfl rfl)
theorem dX34_init_15 : decode cX34_init 15 = .ok (.aload_n 3, 1) := dk_45 (dk_at dksX34_init_0 15 rfl rfl)
theorem dX34_init_16 : decode cX34_init 16 = .ok (.putfield 17, 3) := dk_181 0 17 (dk_at dksX34_init_0 16 rfl rfl)
theorem dX34_init_19 : decode cX34_init 19 = .ok (.return_, 1) := dk_177 (dk_at dksX34_init_0 19 rfl rfl)
abbrev cX34_parts : ByteArray := prog_10_method_3_code
def yX34_parts : MethodName := ⟨RX34, "parts", "(LRowenTongue$Value;)Ljava/util/ArrayList;"⟩
theorem dX34_parts_0 : decode cX34_parts 0 = .ok (.aconst_null, 1) := by decide +kernel
theorem dX34_parts_1 : decode cX34_parts 1 = .ok (.areturn, 1) := by decide +kernel
abbrev cX34_tell : ByteArray := prog_10_method_2_code
def yX34_tell : MethodName := ⟨RX34, "tell", "(Ljava/lang/StringBuilder;)V"⟩
def dkwX34_tell_0 : List UInt8 := [43, 16, 70, 182, 0, 21, 87, 177]
abbrev dktX34_tell_0 : List UInt8 := dkwX34_tell_0 ++ []
theorem dksX34_tell_0 : cX34_tell.data.toList.drop 0 = dktX34_tell_0 := by decide +kernel
theorem dX34_tell_0 : decode cX34_tell 0 = .ok (.aload_n 1, 1) := dk_43 (dk_at dksX34_tell_0 0 rfl rfl)
theorem dX34_tell_1 : decode cX34_tell 1 = .ok (.bipush 70, 2) := dk_16 70 (dk_at dksX34_tell_0 1 rfl rfl)
theorem dX34_tell_3 : decode cX34_tell 3 = .ok (.invokevirtual 21, 3) := dk_182 0 21 (dk_at dksX34_tell_0 3 rfl rfl)
theorem dX34_tell_6 : decode cX34_tell 6 = .ok (.pop, 1) := dk_87 (dk_at dksX34_tell_0 6 rfl rfl)
theorem dX34_tell_7 : decode cX34_tell 7 = .ok (.return_, 1) := dk_177 (dk_at dksX34_tell_0 7 rfl rfl)
theorem q107 : (Jvm.Cond.initialized "RowenTongue$Closure") ∈ lw_all := lw_g (lw_at lw_m1 58 rfl) rfl
theorem q375 : (Jvm.Cond.selects "RowenTongue$Closure" ({ cls := "java/lang/Object", name := "getClass", desc := "()Ljava/lang/Class;" } : Jvm.MethodName) ({ cls := "java/lang/Object", name := "getClass", desc := "()Ljava/lang/Class;" } : Jvm.MethodName)) ∈ lw_all := lw_g (lw_at lw_m2 86 rfl) rfl
theorem q749 : (Jvm.Cond.selects "RowenTongue$Closure" ({ cls := "java/lang/Object", name := "equals", desc := "(Ljava/lang/Object;)Z" } : Jvm.MethodName) ({ cls := "java/lang/Object", name := "equals", desc := "(Ljava/lang/Object;)Z" } : Jvm.MethodName)) ∈ lw_all := lw_g (lw_at lw_m3 220 rfl) rfl
theorem q1838 : (Jvm.Cond.instantiable "RowenTongue$Closure" (3 : Nat)) ∈ lw_all := lw_g (lw_at lw_m8 109 rfl) rfl
theorem q1840 : (Jvm.Cond.instanceMethod ({ cls := "RowenTongue$Closure", name := "<init>", desc := "(ILRowenTongue$Term;LRowenTongue$Scope;)V" } : Jvm.MethodName)) ∈ lw_all := lw_g (lw_at lw_m8 111 rfl) rfl
theorem q1841 : (Jvm.Cond.code ({ cls := "RowenTongue$Closure", name := "<init>", desc := "(ILRowenTongue$Term;LRowenTongue$Scope;)V" } : Jvm.MethodName) prog_10_method_1_code (4 : Nat) (Option.none : Option Jvm.ClassFile.FieldType)) ∈ lw_all := lw_g (lw_at lw_m8 112 rfl) rfl
theorem q1842 : (Jvm.Cond.methodLinkNest "RowenTongue$Closure" (1 : Nat) ({ cls := "RowenTongue$Value", name := "<init>", desc := "()V" } : Jvm.MethodName) "RowenTongue") ∈ lw_tbl := lw_at lw_m8 113 rfl
theorem q1843 : (Jvm.Cond.fieldLink "RowenTongue$Closure" (7 : Nat) "RowenTongue$Closure" "name" "I") ∈ lw_all := lw_g (lw_at lw_m8 114 rfl) rfl
theorem q1845 : (Jvm.Cond.fieldLink "RowenTongue$Closure" (13 : Nat) "RowenTongue$Closure" "body" "LRowenTongue$Term;") ∈ lw_all := lw_g (lw_at lw_m8 116 rfl) rfl
theorem q1847 : (Jvm.Cond.fieldLink "RowenTongue$Closure" (17 : Nat) "RowenTongue$Closure" "scope" "LRowenTongue$Scope;") ∈ lw_all := lw_g (lw_at lw_m8 118 rfl) rfl
theorem q1849 : (Jvm.Cond.laysFinal "RowenTongue$Closure" "RowenTongue$Closure" "name" "I") ∈ lw_all := lw_g (lw_at lw_m8 120 rfl) rfl
theorem q1850 : (Jvm.Cond.soleField "RowenTongue$Closure" "name") ∈ lw_all := lw_g (lw_at lw_m8 121 rfl) rfl
theorem q1851 : (Jvm.Cond.laysFinal "RowenTongue$Closure" "RowenTongue$Closure" "body" "LRowenTongue$Term;") ∈ lw_all := lw_g (lw_at lw_m8 122 rfl) rfl
theorem q1852 : (Jvm.Cond.soleField "RowenTongue$Closure" "body") ∈ lw_all := lw_g (lw_at lw_m8 123 rfl) rfl
theorem q1853 : (Jvm.Cond.laysFinal "RowenTongue$Closure" "RowenTongue$Closure" "scope" "LRowenTongue$Scope;") ∈ lw_all := lw_g (lw_at lw_m8 124 rfl) rfl
theorem q1854 : (Jvm.Cond.soleField "RowenTongue$Closure" "scope") ∈ lw_all := lw_g (lw_at lw_m8 125 rfl) rfl
theorem q1855 : (Jvm.Cond.superclass "RowenTongue$Closure" "RowenTongue$Value") ∈ lw_all := lw_g (lw_at lw_m8 126 rfl) rfl
theorem q1914 : (Jvm.Cond.selects "RowenTongue$Closure" ({ cls := "RowenTongue$Value", name := "parts", desc := "(LRowenTongue$Value;)Ljava/util/ArrayList;" } : Jvm.MethodName) ({ cls := "RowenTongue$Closure", name := "parts", desc := "(LRowenTongue$Value;)Ljava/util/ArrayList;" } : Jvm.MethodName)) ∈ lw_all := lw_g (lw_at lw_m8 185 rfl) rfl
theorem q1915 : (Jvm.Cond.instanceMethod ({ cls := "RowenTongue$Closure", name := "parts", desc := "(LRowenTongue$Value;)Ljava/util/ArrayList;" } : Jvm.MethodName)) ∈ lw_all := lw_g (lw_at lw_m8 186 rfl) rfl
theorem q1916 : (Jvm.Cond.code ({ cls := "RowenTongue$Closure", name := "parts", desc := "(LRowenTongue$Value;)Ljava/util/ArrayList;" } : Jvm.MethodName) prog_10_method_3_code (2 : Nat) (Option.some (Jvm.ClassFile.FieldType.object "java/util/ArrayList"))) ∈ lw_all := lw_g (lw_at lw_m8 187 rfl) rfl
theorem q1979 : (Jvm.Cond.instanceMethod ({ cls := "RowenTongue$Closure", name := "tell", desc := "(Ljava/lang/StringBuilder;)V" } : Jvm.MethodName)) ∈ lw_all := lw_g (lw_at lw_m9 10 rfl) rfl
theorem q1980 : (Jvm.Cond.code ({ cls := "RowenTongue$Closure", name := "tell", desc := "(Ljava/lang/StringBuilder;)V" } : Jvm.MethodName) prog_10_method_2_code (2 : Nat) (Option.none : Option Jvm.ClassFile.FieldType)) ∈ lw_all := lw_g (lw_at lw_m9 11 rfl) rfl
theorem q1981 : (Jvm.Cond.methodLink "RowenTongue$Closure" (21 : Nat) ({ cls := "java/lang/StringBuilder", name := "append", desc := "(C)Ljava/lang/StringBuilder;" } : Jvm.MethodName)) ∈ lw_all := lw_g (lw_at lw_m9 12 rfl) rfl
theorem q1983 : (Jvm.Cond.selects "RowenTongue$Closure" ({ cls := "RowenTongue$Value", name := "tell", desc := "(Ljava/lang/StringBuilder;)V" } : Jvm.MethodName) ({ cls := "RowenTongue$Closure", name := "tell", desc := "(Ljava/lang/StringBuilder;)V" } : Jvm.MethodName)) ∈ lw_all := lw_g (lw_at lw_m9 14 rfl) rfl
theorem q2876 : (Jvm.Cond.castable "RowenTongue$Closure" "RowenTongue$Value") ∈ lw_tbl := lw_at lw_m12 187 rfl
theorem q2922 : (Jvm.Cond.castable "RowenTongue$Closure" "java/lang/Object") ∈ lw_tbl := lw_at lw_m12 233 rfl
theorem in_X34 : ∀ w ∈ wsX340, w ∈ lw_all := lw_in wsX340 [1849, 1851, 1853] (by decide +kernel) (by decide +kernel)
/-! RowenTongue$Scope -/
set_option maxRecDepth 100000
def RX35 : String := "RowenTongue$Scope"
def TX35 : u_T := fun k => match k with
  | 0 => ("RowenTongue$Scope", "name", "I", true)
  | 1 => ("RowenTongue$Scope", "value", "LRowenTongue$Value;", true)
  | 2 => ("RowenTongue$Scope", "again", "LRowenTongue$Term;", true)
  | _ => ("RowenTongue$Scope", "next", "LRowenTongue$Scope;", true)
def tyX35 : Nat → FieldType := fun k => match k with
  | 0 => .int
  | 1 => .object "RowenTongue$Value"
  | 2 => .object "RowenTongue$Term"
  | _ => .object "RowenTongue$Scope"
abbrev wsX350 : List Cond := u_ws RX35 TX35 4
theorem nmX35 : ∀ a, a < 4 → ∀ b, b < 4 → a ≠ b → (TX35 a).2.1 ≠ (TX35 b).2.1 := by decide +kernel
theorem tyX35_ok : ∀ k, k < 4 → parseFieldDescriptor (TX35 k).2.2.1 = some (tyX35 k) := by decide +kernel
abbrev cX35_init : ByteArray := prog_31_method_1_code
def yX35_init : MethodName := ⟨RX35, "<init>", "(ILRowenTongue$Value;LRowenTongue$Term;LRowenTongue$Scope;)V"⟩
def dkwX35_init_1 : List UInt8 := [181, 0, 21, 177]
abbrev dktX35_init_1 : List UInt8 := dkwX35_init_1 ++ []
def dkwX35_init_0 : List UInt8 := [42, 183, 0, 1, 42, 27, 181, 0, 7, 42, 44, 181, 0, 13, 42, 45, 181, 0, 17, 42, 25, 4]
abbrev dktX35_init_0 : List UInt8 := dkwX35_init_0 ++ dktX35_init_1
theorem dksX35_init_0 : cX35_init.data.toList.drop 0 = dktX35_init_0 := by decide +kernel
theorem dksX35_init_1 : cX35_init.data.toList.drop 22 = dktX35_init_1 := dk_seg dksX35_init_0 22 rfl rfl
theorem dX35_init_0 : decode cX35_init 0 = .ok (.aload_n 0, 1) := dk_42 (dk_at dksX35_init_0 0 rfl rfl)
theorem dX35_init_1 : decode cX35_init 1 = .ok (.invokespecial 1, 3) := dk_183 0 1 (dk_at dksX35_init_0 1 rfl rfl)
theorem dX35_init_4 : decode cX35_init 4 = .ok (.aload_n 0, 1) := dk_42 (dk_at dksX35_init_0 4 rfl rfl)
theorem dX35_init_5 : decode cX35_init 5 = .ok (.iload_n 1, 1) := dk_27 (dk_at dksX35_init_0 5 rfl rfl)
theorem dX35_init_6 : decode cX35_init 6 = .ok (.putfield 7, 3) := dk_181 0 7 (dk_at dksX35_init_0 6 rfl rfl)
theorem dX35_init_9 : decode cX35_init 9 = .ok (.aload_n 0, 1) := dk_42 (dk_at dksX35_init_0 9 rfl rfl)
theorem dX35_init_10 : decode cX35_init 10 = .ok (.aload_n 2, 1) := dk_44 (dk_at dksX35_init_0 10 rfl rfl)
theorem dX35_init_11 : decode cX35_init 11 = .ok (.putfield 13, 3) := dk_181 0 13 (dk_at dksX35_init_0 11 rfl rfl)
theorem dX35_init_14 : decode cX35_init 14 = .ok (.aload_n 0, 1) := dk_42 (dk_at dksX35_init_0 14 rfl rfl)
theorem dX35_init_15 : decode cX35_init 15 = .ok (.aload_n 3, 1) := dk_45 (dk_at dksX35_init_0 15 rfl rfl)
theorem dX35_init_16 : decode cX35_init 16 = .ok (.putfield 17, 3) := dk_181 0 17 (dk_at dksX35_init_0 16 rfl rfl)
theorem dX35_init_19 : decode cX35_init 19 = .ok (.aload_n 0, 1) := dk_42 (dk_at dksX35_init_0 19 rfl rfl)
theorem dX35_init_20 : decode cX35_init 20 = .ok (.aload 4, 2) := dk_25 4 (dk_at dksX35_init_0 20 rfl rfl)
theorem dX35_init_22 : decode cX35_init 22 = .ok (.putfield 21, 3) := dk_181 0 21 (dk_at dksX35_init_1 0 rfl rfl)
theorem dX35_init_25 : decode cX35_init 25 = .ok (.return_, 1) := dk_177 (dk_at dksX35_init_1 3 rfl rfl)
theorem q108 : (Jvm.Cond.initialized "RowenTongue$Scope") ∈ lw_all := lw_g (lw_at lw_m1 59 rfl) rfl
theorem q395 : (Jvm.Cond.selects "RowenTongue$Scope" ({ cls := "java/lang/Object", name := "getClass", desc := "()Ljava/lang/Class;" } : Jvm.MethodName) ({ cls := "java/lang/Object", name := "getClass", desc := "()Ljava/lang/Class;" } : Jvm.MethodName)) ∈ lw_all := lw_g (lw_at lw_m2 106 rfl) rfl
theorem q769 : (Jvm.Cond.selects "RowenTongue$Scope" ({ cls := "java/lang/Object", name := "equals", desc := "(Ljava/lang/Object;)Z" } : Jvm.MethodName) ({ cls := "java/lang/Object", name := "equals", desc := "(Ljava/lang/Object;)Z" } : Jvm.MethodName)) ∈ lw_all := lw_g (lw_at lw_m4 0 rfl) rfl
theorem q1858 : (Jvm.Cond.instantiable "RowenTongue$Scope" (4 : Nat)) ∈ lw_all := lw_g (lw_at lw_m8 129 rfl) rfl
theorem q1860 : (Jvm.Cond.instanceMethod ({ cls := "RowenTongue$Scope", name := "<init>", desc := "(ILRowenTongue$Value;LRowenTongue$Term;LRowenTongue$Scope;)V" } : Jvm.MethodName)) ∈ lw_all := lw_g (lw_at lw_m8 131 rfl) rfl
theorem q1861 : (Jvm.Cond.code ({ cls := "RowenTongue$Scope", name := "<init>", desc := "(ILRowenTongue$Value;LRowenTongue$Term;LRowenTongue$Scope;)V" } : Jvm.MethodName) prog_31_method_1_code (5 : Nat) (Option.none : Option Jvm.ClassFile.FieldType)) ∈ lw_all := lw_g (lw_at lw_m8 132 rfl) rfl
theorem q1862 : (Jvm.Cond.methodLink "RowenTongue$Scope" (1 : Nat) ({ cls := "java/lang/Object", name := "<init>", desc := "()V" } : Jvm.MethodName)) ∈ lw_all := lw_g (lw_at lw_m8 133 rfl) rfl
theorem q1863 : (Jvm.Cond.fieldLink "RowenTongue$Scope" (7 : Nat) "RowenTongue$Scope" "name" "I") ∈ lw_all := lw_g (lw_at lw_m8 134 rfl) rfl
theorem q1865 : (Jvm.Cond.fieldLink "RowenTongue$Scope" (13 : Nat) "RowenTongue$Scope" "value" "LRowenTongue$Value;") ∈ lw_all := lw_g (lw_at lw_m8 136 rfl) rfl
theorem q1867 : (Jvm.Cond.fieldLink "RowenTongue$Scope" (17 : Nat) "RowenTongue$Scope" "again" "LRowenTongue$Term;") ∈ lw_all := lw_g (lw_at lw_m8 138 rfl) rfl
theorem q1869 : (Jvm.Cond.fieldLink "RowenTongue$Scope" (21 : Nat) "RowenTongue$Scope" "next" "LRowenTongue$Scope;") ∈ lw_all := lw_g (lw_at lw_m8 140 rfl) rfl
theorem q1871 : (Jvm.Cond.laysFinal "RowenTongue$Scope" "RowenTongue$Scope" "name" "I") ∈ lw_all := lw_g (lw_at lw_m8 142 rfl) rfl
theorem q1872 : (Jvm.Cond.soleField "RowenTongue$Scope" "name") ∈ lw_all := lw_g (lw_at lw_m8 143 rfl) rfl
theorem q1873 : (Jvm.Cond.laysFinal "RowenTongue$Scope" "RowenTongue$Scope" "value" "LRowenTongue$Value;") ∈ lw_all := lw_g (lw_at lw_m8 144 rfl) rfl
theorem q1874 : (Jvm.Cond.soleField "RowenTongue$Scope" "value") ∈ lw_all := lw_g (lw_at lw_m8 145 rfl) rfl
theorem q1875 : (Jvm.Cond.laysFinal "RowenTongue$Scope" "RowenTongue$Scope" "again" "LRowenTongue$Term;") ∈ lw_all := lw_g (lw_at lw_m8 146 rfl) rfl
theorem q1876 : (Jvm.Cond.soleField "RowenTongue$Scope" "again") ∈ lw_all := lw_g (lw_at lw_m8 147 rfl) rfl
theorem q1877 : (Jvm.Cond.laysFinal "RowenTongue$Scope" "RowenTongue$Scope" "next" "LRowenTongue$Scope;") ∈ lw_all := lw_g (lw_at lw_m8 148 rfl) rfl
theorem q1878 : (Jvm.Cond.soleField "RowenTongue$Scope" "next") ∈ lw_all := lw_g (lw_at lw_m8 149 rfl) rfl
theorem q1879 : (Jvm.Cond.superclass "RowenTongue$Scope" "java/lang/Object") ∈ lw_all := lw_g (lw_at lw_m8 150 rfl) rfl
theorem q2923 : (Jvm.Cond.castable "RowenTongue$Scope" "java/lang/Object") ∈ lw_tbl := lw_at lw_m12 234 rfl
theorem in_X35 : ∀ w ∈ wsX350, w ∈ lw_all := lw_in wsX350 [1871, 1873, 1875, 1877] (by decide +kernel) (by decide +kernel)
/-! RowenTongue$Bundle -/
set_option maxRecDepth 100000
def RX36 : String := "RowenTongue$Bundle"
def TX36 : u_T := fun k => match k with
  | _ => ("RowenTongue$Bundle", "values", "[LRowenTongue$Value;", true)
def tyX36 : Nat → FieldType := fun k => match k with
  | _ => .array (.object "RowenTongue$Value")
abbrev wsX360 : List Cond := u_ws RX36 TX36 1
theorem nmX36 : ∀ a, a < 1 → ∀ b, b < 1 → a ≠ b → (TX36 a).2.1 ≠ (TX36 b).2.1 := by decide +kernel
theorem tyX36_ok : ∀ k, k < 1 → parseFieldDescriptor (TX36 k).2.2.1 = some (tyX36 k) := by decide +kernel
abbrev cX36_parts : ByteArray := prog_6_method_4_code
def yX36_parts : MethodName := ⟨RX36, "parts", "(LRowenTongue$Value;)Ljava/util/ArrayList;"⟩
def dkwX36_parts_2 : List UInt8 := [182, 0, 49, 87, 44, 25, 4, 180, 0, 9, 29, 50, 182, 0, 49, 87, 132, 3, 1, 167, 255, 202, 44, 176]
abbrev dktX36_parts_2 : List UInt8 := dkwX36_parts_2 ++ []
def dkwX36_parts_1 : List UInt8 := [198, 0, 39, 43, 193, 0, 10, 153, 0, 32, 43, 192, 0, 10, 58, 4, 44, 42, 180, 0, 9, 29, 50]
abbrev dktX36_parts_1 : List UInt8 := dkwX36_parts_1 ++ dktX36_parts_2
def dkwX36_parts_0 : List UInt8 := [187, 0, 46, 89, 183, 0, 48, 77, 3, 62, 29, 16, 10, 162, 0, 54, 42, 180, 0, 9, 29, 50]
abbrev dktX36_parts_0 : List UInt8 := dkwX36_parts_0 ++ dktX36_parts_1
theorem dksX36_parts_0 : cX36_parts.data.toList.drop 0 = dktX36_parts_0 := by decide +kernel
theorem dksX36_parts_1 : cX36_parts.data.toList.drop 22 = dktX36_parts_1 := dk_seg dksX36_parts_0 22 rfl rfl
theorem dksX36_parts_2 : cX36_parts.data.toList.drop 45 = dktX36_parts_2 := dk_seg dksX36_parts_1 23 rfl rfl
theorem dX36_parts_0 : decode cX36_parts 0 = .ok (.new 46, 3) := dk_187 0 46 (dk_at dksX36_parts_0 0 rfl rfl)
theorem dX36_parts_3 : decode cX36_parts 3 = .ok (.dup, 1) := dk_89 (dk_at dksX36_parts_0 3 rfl rfl)
theorem dX36_parts_4 : decode cX36_parts 4 = .ok (.invokespecial 48, 3) := dk_183 0 48 (dk_at dksX36_parts_0 4 rfl rfl)
theorem dX36_parts_7 : decode cX36_parts 7 = .ok (.astore_n 2, 1) := dk_77 (dk_at dksX36_parts_0 7 rfl rfl)
theorem dX36_parts_8 : decode cX36_parts 8 = .ok (.iconst 0, 1) := dk_3 (dk_at dksX36_parts_0 8 rfl rfl)
theorem dX36_parts_9 : decode cX36_parts 9 = .ok (.istore_n 3, 1) := dk_62 (dk_at dksX36_parts_0 9 rfl rfl)
theorem dX36_parts_10 : decode cX36_parts 10 = .ok (.iload_n 3, 1) := dk_29 (dk_at dksX36_parts_0 10 rfl rfl)
theorem dX36_parts_11 : decode cX36_parts 11 = .ok (.bipush 10, 2) := dk_16 10 (dk_at dksX36_parts_0 11 rfl rfl)
theorem dX36_parts_13 : decode cX36_parts 13 = .ok (.if_icmp .ge 54, 3) := dk_162 0 54 (dk_at dksX36_parts_0 13 rfl rfl)
theorem dX36_parts_16 : decode cX36_parts 16 = .ok (.aload_n 0, 1) := dk_42 (dk_at dksX36_parts_0 16 rfl rfl)
theorem dX36_parts_17 : decode cX36_parts 17 = .ok (.getfield 9, 3) := dk_180 0 9 (dk_at dksX36_parts_0 17 rfl rfl)
theorem dX36_parts_20 : decode cX36_parts 20 = .ok (.iload_n 3, 1) := dk_29 (dk_at dksX36_parts_0 20 rfl rfl)
theorem dX36_parts_21 : decode cX36_parts 21 = .ok (.aaload, 1) := dk_50 (dk_at dksX36_parts_0 21 rfl rfl)
theorem dX36_parts_22 : decode cX36_parts 22 = .ok (.ifnull 39, 3) := dk_198 0 39 (dk_at dksX36_parts_1 0 rfl rfl)
theorem dX36_parts_25 : decode cX36_parts 25 = .ok (.aload_n 1, 1) := dk_43 (dk_at dksX36_parts_1 3 rfl rfl)
theorem dX36_parts_26 : decode cX36_parts 26 = .ok (.instanceof 10, 3) := dk_193 0 10 (dk_at dksX36_parts_1 4 rfl rfl)
theorem dX36_parts_29 : decode cX36_parts 29 = .ok (.ifCond .eq 32, 3) := dk_153 0 32 (dk_at dksX36_parts_1 7 rfl rfl)
theorem dX36_parts_32 : decode cX36_parts 32 = .ok (.aload_n 1, 1) := dk_43 (dk_at dksX36_parts_1 10 rfl rfl)
theorem dX36_parts_33 : decode cX36_parts 33 = .ok (.checkcast 10, 3) := dk_192 0 10 (dk_at dksX36_parts_1 11 rfl rfl)
theorem dX36_parts_36 : decode cX36_parts 36 = .ok (.astore 4, 2) := dk_58 4 (dk_at dksX36_parts_1 14 rfl rfl)
theorem dX36_parts_38 : decode cX36_parts 38 = .ok (.aload_n 2, 1) := dk_44 (dk_at dksX36_parts_1 16 rfl rfl)
theorem dX36_parts_39 : decode cX36_parts 39 = .ok (.aload_n 0, 1) := dk_42 (dk_at dksX36_parts_1 17 rfl rfl)
theorem dX36_parts_40 : decode cX36_parts 40 = .ok (.getfield 9, 3) := dk_180 0 9 (dk_at dksX36_parts_1 18 rfl rfl)
theorem dX36_parts_43 : decode cX36_parts 43 = .ok (.iload_n 3, 1) := dk_29 (dk_at dksX36_parts_1 21 rfl rfl)
theorem dX36_parts_44 : decode cX36_parts 44 = .ok (.aaload, 1) := dk_50 (dk_at dksX36_parts_1 22 rfl rfl)
theorem dX36_parts_45 : decode cX36_parts 45 = .ok (.invokevirtual 49, 3) := dk_182 0 49 (dk_at dksX36_parts_2 0 rfl rfl)
theorem dX36_parts_48 : decode cX36_parts 48 = .ok (.pop, 1) := dk_87 (dk_at dksX36_parts_2 3 rfl rfl)
theorem dX36_parts_49 : decode cX36_parts 49 = .ok (.aload_n 2, 1) := dk_44 (dk_at dksX36_parts_2 4 rfl rfl)
theorem dX36_parts_50 : decode cX36_parts 50 = .ok (.aload 4, 2) := dk_25 4 (dk_at dksX36_parts_2 5 rfl rfl)
theorem dX36_parts_52 : decode cX36_parts 52 = .ok (.getfield 9, 3) := dk_180 0 9 (dk_at dksX36_parts_2 7 rfl rfl)
theorem dX36_parts_55 : decode cX36_parts 55 = .ok (.iload_n 3, 1) := dk_29 (dk_at dksX36_parts_2 10 rfl rfl)
theorem dX36_parts_56 : decode cX36_parts 56 = .ok (.aaload, 1) := dk_50 (dk_at dksX36_parts_2 11 rfl rfl)
theorem dX36_parts_57 : decode cX36_parts 57 = .ok (.invokevirtual 49, 3) := dk_182 0 49 (dk_at dksX36_parts_2 12 rfl rfl)
theorem dX36_parts_60 : decode cX36_parts 60 = .ok (.pop, 1) := dk_87 (dk_at dksX36_parts_2 15 rfl rfl)
theorem dX36_parts_61 : decode cX36_parts 61 = .ok (.iinc 3 1, 3) := dk_132 3 1 (dk_at dksX36_parts_2 16 rfl rfl)
theorem dX36_parts_64 : decode cX36_parts 64 = .ok (.goto (-54), 3) := dk_167 255 202 (dk_at dksX36_parts_2 19 rfl rfl)
theorem dX36_parts_67 : decode cX36_parts 67 = .ok (.aload_n 2, 1) := dk_44 (dk_at dksX36_parts_2 22 rfl rfl)
theorem dX36_parts_68 : decode cX36_parts 68 = .ok (.areturn, 1) := dk_176 (dk_at dksX36_parts_2 23 rfl rfl)
abbrev cX36_init : ByteArray := prog_6_method_1_code
def yX36_init : MethodName := ⟨RX36, "<init>", "()V"⟩
def dkwX36_init_0 : List UInt8 := [42, 183, 0, 3, 42, 16, 10, 189, 0, 4, 181, 0, 9, 177]
abbrev dktX36_init_0 : List UInt8 := dkwX36_init_0 ++ []
theorem dksX36_init_0 : cX36_init.data.toList.drop 0 = dktX36_init_0 := by decide +kernel
theorem dX36_init_0 : decode cX36_init 0 = .ok (.aload_n 0, 1) := dk_42 (dk_at dksX36_init_0 0 rfl rfl)
theorem dX36_init_1 : decode cX36_init 1 = .ok (.invokespecial 3, 3) := dk_183 0 3 (dk_at dksX36_init_0 1 rfl rfl)
theorem dX36_init_4 : decode cX36_init 4 = .ok (.aload_n 0, 1) := dk_42 (dk_at dksX36_init_0 4 rfl rfl)
theorem dX36_init_5 : decode cX36_init 5 = .ok (.bipush 10, 2) := dk_16 10 (dk_at dksX36_init_0 5 rfl rfl)
theorem dX36_init_7 : decode cX36_init 7 = .ok (.anewarray 4, 3) := dk_189 0 4 (dk_at dksX36_init_0 7 rfl rfl)
theorem dX36_init_10 : decode cX36_init 10 = .ok (.putfield 9, 3) := dk_181 0 9 (dk_at dksX36_init_0 10 rfl rfl)
theorem dX36_init_13 : decode cX36_init 13 = .ok (.return_, 1) := dk_177 (dk_at dksX36_init_0 13 rfl rfl)
abbrev cX36_copy : ByteArray := prog_6_method_2_code
def yX36_copy : MethodName := ⟨RX36, "copy", "()LRowenTongue$Bundle;"⟩
def dkwX36_copy_1 : List UInt8 := [176]
abbrev dktX36_copy_1 : List UInt8 := dkwX36_copy_1 ++ []
def dkwX36_copy_0 : List UInt8 := [187, 0, 10, 89, 183, 0, 15, 76, 42, 180, 0, 9, 3, 43, 180, 0, 9, 3, 16, 10, 184, 0, 16, 43]
abbrev dktX36_copy_0 : List UInt8 := dkwX36_copy_0 ++ dktX36_copy_1
theorem dksX36_copy_0 : cX36_copy.data.toList.drop 0 = dktX36_copy_0 := by decide +kernel
theorem dksX36_copy_1 : cX36_copy.data.toList.drop 24 = dktX36_copy_1 := dk_seg dksX36_copy_0 24 rfl rfl
theorem dX36_copy_0 : decode cX36_copy 0 = .ok (.new 10, 3) := dk_187 0 10 (dk_at dksX36_copy_0 0 rfl rfl)
theorem dX36_copy_3 : decode cX36_copy 3 = .ok (.dup, 1) := dk_89 (dk_at dksX36_copy_0 3 rfl rfl)
theorem dX36_copy_4 : decode cX36_copy 4 = .ok (.invokespecial 15, 3) := dk_183 0 15 (dk_at dksX36_copy_0 4 rfl rfl)
theorem dX36_copy_7 : decode cX36_copy 7 = .ok (.astore_n 1, 1) := dk_76 (dk_at dksX36_copy_0 7 rfl rfl)
theorem dX36_copy_8 : decode cX36_copy 8 = .ok (.aload_n 0, 1) := dk_42 (dk_at dksX36_copy_0 8 rfl rfl)
theorem dX36_copy_9 : decode cX36_copy 9 = .ok (.getfield 9, 3) := dk_180 0 9 (dk_at dksX36_copy_0 9 rfl rfl)
theorem dX36_copy_12 : decode cX36_copy 12 = .ok (.iconst 0, 1) := dk_3 (dk_at dksX36_copy_0 12 rfl rfl)
theorem dX36_copy_13 : decode cX36_copy 13 = .ok (.aload_n 1, 1) := dk_43 (dk_at dksX36_copy_0 13 rfl rfl)
theorem dX36_copy_14 : decode cX36_copy 14 = .ok (.getfield 9, 3) := dk_180 0 9 (dk_at dksX36_copy_0 14 rfl rfl)
theorem dX36_copy_17 : decode cX36_copy 17 = .ok (.iconst 0, 1) := dk_3 (dk_at dksX36_copy_0 17 rfl rfl)
theorem dX36_copy_18 : decode cX36_copy 18 = .ok (.bipush 10, 2) := dk_16 10 (dk_at dksX36_copy_0 18 rfl rfl)
theorem dX36_copy_20 : decode cX36_copy 20 = .ok (.invokestatic 16, 3) := dk_184 0 16 (dk_at dksX36_copy_0 20 rfl rfl)
theorem dX36_copy_23 : decode cX36_copy 23 = .ok (.aload_n 1, 1) := dk_43 (dk_at dksX36_copy_0 23 rfl rfl)
theorem dX36_copy_24 : decode cX36_copy 24 = .ok (.areturn, 1) := dk_176 (dk_at dksX36_copy_1 0 rfl rfl)
abbrev cX36_tell : ByteArray := prog_6_method_3_code
def yX36_tell : MethodName := ⟨RX36, "tell", "(Ljava/lang/StringBuilder;)V"⟩
def dkwX36_tell_3 : List UInt8 := [61, 132, 3, 1, 167, 255, 191, 43, 16, 125, 182, 0, 22, 87, 177]
abbrev dktX36_tell_3 : List UInt8 := dkwX36_tell_3 ++ []
def dkwX36_tell_2 : List UInt8 := [182, 0, 36, 29, 182, 0, 39, 16, 58, 182, 0, 22, 87, 42, 180, 0, 9, 29, 50, 43, 182, 0, 42, 3]
abbrev dktX36_tell_2 : List UInt8 := dkwX36_tell_2 ++ dktX36_tell_3
def dkwX36_tell_1 : List UInt8 := [163, 0, 55, 42, 180, 0, 9, 29, 50, 198, 0, 40, 43, 28, 153, 0, 8, 18, 32, 167, 0, 5, 18, 34]
abbrev dktX36_tell_1 : List UInt8 := dkwX36_tell_1 ++ dktX36_tell_2
def dkwX36_tell_0 : List UInt8 := [43, 16, 123, 182, 0, 22, 87, 4, 61, 3, 62, 29, 16, 10, 162, 0, 65, 43, 182, 0, 28, 17, 1, 44]
abbrev dktX36_tell_0 : List UInt8 := dkwX36_tell_0 ++ dktX36_tell_1
theorem dksX36_tell_0 : cX36_tell.data.toList.drop 0 = dktX36_tell_0 := by decide +kernel
theorem dksX36_tell_1 : cX36_tell.data.toList.drop 24 = dktX36_tell_1 := dk_seg dksX36_tell_0 24 rfl rfl
theorem dksX36_tell_2 : cX36_tell.data.toList.drop 48 = dktX36_tell_2 := dk_seg dksX36_tell_1 24 rfl rfl
theorem dksX36_tell_3 : cX36_tell.data.toList.drop 72 = dktX36_tell_3 := dk_seg dksX36_tell_2 24 rfl rfl
theorem dX36_tell_0 : decode cX36_tell 0 = .ok (.aload_n 1, 1) := dk_43 (dk_at dksX36_tell_0 0 rfl rfl)
theorem dX36_tell_1 : decode cX36_tell 1 = .ok (.bipush 123, 2) := dk_16 123 (dk_at dksX36_tell_0 1 rfl rfl)
theorem dX36_tell_3 : decode cX36_tell 3 = .ok (.invokevirtual 22, 3) := dk_182 0 22 (dk_at dksX36_tell_0 3 rfl rfl)
theorem dX36_tell_6 : decode cX36_tell 6 = .ok (.pop, 1) := dk_87 (dk_at dksX36_tell_0 6 rfl rfl)
theorem dX36_tell_7 : decode cX36_tell 7 = .ok (.iconst 1, 1) := dk_4 (dk_at dksX36_tell_0 7 rfl rfl)
theorem dX36_tell_8 : decode cX36_tell 8 = .ok (.istore_n 2, 1) := dk_61 (dk_at dksX36_tell_0 8 rfl rfl)
theorem dX36_tell_9 : decode cX36_tell 9 = .ok (.iconst 0, 1) := dk_3 (dk_at dksX36_tell_0 9 rfl rfl)
theorem dX36_tell_10 : decode cX36_tell 10 = .ok (.istore_n 3, 1) := dk_62 (dk_at dksX36_tell_0 10 rfl rfl)
theorem dX36_tell_11 : decode cX36_tell 11 = .ok (.iload_n 3, 1) := dk_29 (dk_at dksX36_tell_0 11 rfl rfl)
theorem dX36_tell_12 : decode cX36_tell 12 = .ok (.bipush 10, 2) := dk_16 10 (dk_at dksX36_tell_0 12 rfl rfl)
theorem dX36_tell_14 : decode cX36_tell 14 = .ok (.if_icmp .ge 65, 3) := dk_162 0 65 (dk_at dksX36_tell_0 14 rfl rfl)
theorem dX36_tell_17 : decode cX36_tell 17 = .ok (.aload_n 1, 1) := dk_43 (dk_at dksX36_tell_0 17 rfl rfl)
theorem dX36_tell_18 : decode cX36_tell 18 = .ok (.invokevirtual 28, 3) := dk_182 0 28 (dk_at dksX36_tell_0 18 rfl rfl)
theorem dX36_tell_21 : decode cX36_tell 21 = .ok (.sipush 300, 3) := dk_17 1 44 (dk_at dksX36_tell_0 21 rfl rfl)
theorem dX36_tell_24 : decode cX36_tell 24 = .ok (.if_icmp .gt 55, 3) := dk_163 0 55 (dk_at dksX36_tell_1 0 rfl rfl)
theorem dX36_tell_27 : decode cX36_tell 27 = .ok (.aload_n 0, 1) := dk_42 (dk_at dksX36_tell_1 3 rfl rfl)
theorem dX36_tell_28 : decode cX36_tell 28 = .ok (.getfield 9, 3) := dk_180 0 9 (dk_at dksX36_tell_1 4 rfl rfl)
theorem dX36_tell_31 : decode cX36_tell 31 = .ok (.iload_n 3, 1) := dk_29 (dk_at dksX36_tell_1 7 rfl rfl)
theorem dX36_tell_32 : decode cX36_tell 32 = .ok (.aaload, 1) := dk_50 (dk_at dksX36_tell_1 8 rfl rfl)
theorem dX36_tell_33 : decode cX36_tell 33 = .ok (.ifnull 40, 3) := dk_198 0 40 (dk_at dksX36_tell_1 9 rfl rfl)
theorem dX36_tell_36 : decode cX36_tell 36 = .ok (.aload_n 1, 1) := dk_43 (dk_at dksX36_tell_1 12 rfl rfl)
theorem dX36_tell_37 : decode cX36_tell 37 = .ok (.iload_n 2, 1) := dk_28 (dk_at dksX36_tell_1 13 rfl rfl)
theorem dX36_tell_38 : decode cX36_tell 38 = .ok (.ifCond .eq 8, 3) := dk_153 0 8 (dk_at dksX36_tell_1 14 rfl rfl)
theorem dX36_tell_41 : decode cX36_tell 41 = .ok (.ldc 32, 2) := dk_18 32 (dk_at dksX36_tell_1 17 rfl rfl)
theorem dX36_tell_43 : decode cX36_tell 43 = .ok (.goto 5, 3) := dk_167 0 5 (dk_at dksX36_tell_1 19 rfl rfl)
theorem dX36_tell_46 : decode cX36_tell 46 = .ok (.ldc 34, 2) := dk_18 34 (dk_at dksX36_tell_1 22 rfl rfl)
theorem dX36_tell_48 : decode cX36_tell 48 = .ok (.invokevirtual 36, 3) := dk_182 0 36 (dk_at dksX36_tell_2 0 rfl rfl)
theorem dX36_tell_51 : decode cX36_tell 51 = .ok (.iload_n 3, 1) := dk_29 (dk_at dksX36_tell_2 3 rfl rfl)
theorem dX36_tell_52 : decode cX36_tell 52 = .ok (.invokevirtual 39, 3) := dk_182 0 39 (dk_at dksX36_tell_2 4 rfl rfl)
theorem dX36_tell_55 : decode cX36_tell 55 = .ok (.bipush 58, 2) := dk_16 58 (dk_at dksX36_tell_2 7 rfl rfl)
theorem dX36_tell_57 : decode cX36_tell 57 = .ok (.invokevirtual 22, 3) := dk_182 0 22 (dk_at dksX36_tell_2 9 rfl rfl)
theorem dX36_tell_60 : decode cX36_tell 60 = .ok (.pop, 1) := dk_87 (dk_at dksX36_tell_2 12 rfl rfl)
theorem dX36_tell_61 : decode cX36_tell 61 = .ok (.aload_n 0, 1) := dk_42 (dk_at dksX36_tell_2 13 rfl rfl)
theorem dX36_tell_62 : decode cX36_tell 62 = .ok (.getfield 9, 3) := dk_180 0 9 (dk_at dksX36_tell_2 14 rfl rfl)
theorem dX36_tell_65 : decode cX36_tell 65 = .ok (.iload_n 3, 1) := dk_29 (dk_at dksX36_tell_2 17 rfl rfl)
theorem dX36_tell_66 : decode cX36_tell 66 = .ok (.aaload, 1) := dk_50 (dk_at dksX36_tell_2 18 rfl rfl)
theorem dX36_tell_67 : decode cX36_tell 67 = .ok (.aload_n 1, 1) := dk_43 (dk_at dksX36_tell_2 19 rfl rfl)
theorem dX36_tell_68 : decode cX36_tell 68 = .ok (.invokevirtual 42, 3) := dk_182 0 42 (dk_at dksX36_tell_2 20 rfl rfl)
theorem dX36_tell_71 : decode cX36_tell 71 = .ok (.iconst 0, 1) := dk_3 (dk_at dksX36_tell_2 23 rfl rfl)
theorem dX36_tell_72 : decode cX36_tell 72 = .ok (.istore_n 2, 1) := dk_61 (dk_at dksX36_tell_3 0 rfl rfl)
theorem dX36_tell_73 : decode cX36_tell 73 = .ok (.iinc 3 1, 3) := dk_132 3 1 (dk_at dksX36_tell_3 1 rfl rfl)
theorem dX36_tell_76 : decode cX36_tell 76 = .ok (.goto (-65), 3) := dk_167 255 191 (dk_at dksX36_tell_3 4 rfl rfl)
theorem dX36_tell_79 : decode cX36_tell 79 = .ok (.aload_n 1, 1) := dk_43 (dk_at dksX36_tell_3 7 rfl rfl)
theorem dX36_tell_80 : decode cX36_tell 80 = .ok (.bipush 125, 2) := dk_16 125 (dk_at dksX36_tell_3 8 rfl rfl)
theorem dX36_tell_82 : decode cX36_tell 82 = .ok (.invokevirtual 22, 3) := dk_182 0 22 (dk_at dksX36_tell_3 10 rfl rfl)
theorem dX36_tell_85 : decode cX36_tell 85 = .ok (.pop, 1) := dk_87 (dk_at dksX36_tell_3 13 rfl rfl)
theorem dX36_tell_86 : decode cX36_tell 86 = .ok (.return_, 1) := dk_177 (dk_at dksX36_tell_3 14 rfl rfl)
theorem q109 : (Jvm.Cond.initialized "RowenTongue$Bundle") ∈ lw_all := lw_g (lw_at lw_m1 60 rfl) rfl
theorem q371 : (Jvm.Cond.selects "RowenTongue$Bundle" ({ cls := "java/lang/Object", name := "getClass", desc := "()Ljava/lang/Class;" } : Jvm.MethodName) ({ cls := "java/lang/Object", name := "getClass", desc := "()Ljava/lang/Class;" } : Jvm.MethodName)) ∈ lw_all := lw_g (lw_at lw_m2 82 rfl) rfl
theorem q745 : (Jvm.Cond.selects "RowenTongue$Bundle" ({ cls := "java/lang/Object", name := "equals", desc := "(Ljava/lang/Object;)Z" } : Jvm.MethodName) ({ cls := "java/lang/Object", name := "equals", desc := "(Ljava/lang/Object;)Z" } : Jvm.MethodName)) ∈ lw_all := lw_g (lw_at lw_m3 216 rfl) rfl
theorem q1900 : (Jvm.Cond.selects "RowenTongue$Bundle" ({ cls := "RowenTongue$Value", name := "parts", desc := "(LRowenTongue$Value;)Ljava/util/ArrayList;" } : Jvm.MethodName) ({ cls := "RowenTongue$Bundle", name := "parts", desc := "(LRowenTongue$Value;)Ljava/util/ArrayList;" } : Jvm.MethodName)) ∈ lw_all := lw_g (lw_at lw_m8 171 rfl) rfl
theorem q1901 : (Jvm.Cond.instanceMethod ({ cls := "RowenTongue$Bundle", name := "parts", desc := "(LRowenTongue$Value;)Ljava/util/ArrayList;" } : Jvm.MethodName)) ∈ lw_all := lw_g (lw_at lw_m8 172 rfl) rfl
theorem q1902 : (Jvm.Cond.code ({ cls := "RowenTongue$Bundle", name := "parts", desc := "(LRowenTongue$Value;)Ljava/util/ArrayList;" } : Jvm.MethodName) prog_6_method_4_code (5 : Nat) (Option.some (Jvm.ClassFile.FieldType.object "java/util/ArrayList"))) ∈ lw_all := lw_g (lw_at lw_m8 173 rfl) rfl
theorem q1903 : (Jvm.Cond.classLink "RowenTongue$Bundle" (46 : Nat) "java/util/ArrayList") ∈ lw_all := lw_g (lw_at lw_m8 174 rfl) rfl
theorem q1904 : (Jvm.Cond.methodLink "RowenTongue$Bundle" (48 : Nat) ({ cls := "java/util/ArrayList", name := "<init>", desc := "()V" } : Jvm.MethodName)) ∈ lw_all := lw_g (lw_at lw_m8 175 rfl) rfl
theorem q1905 : (Jvm.Cond.classLink "RowenTongue$Bundle" (10 : Nat) "RowenTongue$Bundle") ∈ lw_all := lw_g (lw_at lw_m8 176 rfl) rfl
theorem q1906 : (Jvm.Cond.methodLink "RowenTongue$Bundle" (49 : Nat) ({ cls := "java/util/ArrayList", name := "add", desc := "(Ljava/lang/Object;)Z" } : Jvm.MethodName)) ∈ lw_all := lw_g (lw_at lw_m8 177 rfl) rfl
theorem q1921 : (Jvm.Cond.instantiable "RowenTongue$Bundle" (1 : Nat)) ∈ lw_all := lw_g (lw_at lw_m8 192 rfl) rfl
theorem q1923 : (Jvm.Cond.instanceMethod ({ cls := "RowenTongue$Bundle", name := "<init>", desc := "()V" } : Jvm.MethodName)) ∈ lw_all := lw_g (lw_at lw_m8 194 rfl) rfl
theorem q1924 : (Jvm.Cond.code ({ cls := "RowenTongue$Bundle", name := "<init>", desc := "()V" } : Jvm.MethodName) prog_6_method_1_code (1 : Nat) (Option.none : Option Jvm.ClassFile.FieldType)) ∈ lw_all := lw_g (lw_at lw_m8 195 rfl) rfl
theorem q1925 : (Jvm.Cond.methodLinkNest "RowenTongue$Bundle" (3 : Nat) ({ cls := "RowenTongue$Value", name := "<init>", desc := "()V" } : Jvm.MethodName) "RowenTongue") ∈ lw_tbl := lw_at lw_m8 196 rfl
theorem q1926 : (Jvm.Cond.classLink "RowenTongue$Bundle" (4 : Nat) "RowenTongue$Value") ∈ lw_all := lw_g (lw_at lw_m8 197 rfl) rfl
theorem q1928 : (Jvm.Cond.fieldLink "RowenTongue$Bundle" (9 : Nat) "RowenTongue$Bundle" "values" "[LRowenTongue$Value;") ∈ lw_all := lw_g (lw_at lw_m8 199 rfl) rfl
theorem q1930 : (Jvm.Cond.laysFinal "RowenTongue$Bundle" "RowenTongue$Bundle" "values" "[LRowenTongue$Value;") ∈ lw_all := lw_g (lw_at lw_m8 201 rfl) rfl
theorem q1931 : (Jvm.Cond.soleField "RowenTongue$Bundle" "values") ∈ lw_all := lw_g (lw_at lw_m8 202 rfl) rfl
theorem q1932 : (Jvm.Cond.superclass "RowenTongue$Bundle" "RowenTongue$Value") ∈ lw_all := lw_g (lw_at lw_m8 203 rfl) rfl
theorem q1951 : (Jvm.Cond.instanceMethod ({ cls := "RowenTongue$Bundle", name := "copy", desc := "()LRowenTongue$Bundle;" } : Jvm.MethodName)) ∈ lw_all := lw_g (lw_at lw_m8 222 rfl) rfl
theorem q1952 : (Jvm.Cond.selects "RowenTongue$Bundle" ({ cls := "RowenTongue$Bundle", name := "copy", desc := "()LRowenTongue$Bundle;" } : Jvm.MethodName) ({ cls := "RowenTongue$Bundle", name := "copy", desc := "()LRowenTongue$Bundle;" } : Jvm.MethodName)) ∈ lw_all := lw_g (lw_at lw_m8 223 rfl) rfl
theorem q1953 : (Jvm.Cond.code ({ cls := "RowenTongue$Bundle", name := "copy", desc := "()LRowenTongue$Bundle;" } : Jvm.MethodName) prog_6_method_2_code (2 : Nat) (Option.some (Jvm.ClassFile.FieldType.object "RowenTongue$Bundle"))) ∈ lw_all := lw_g (lw_at lw_m8 224 rfl) rfl
theorem q1954 : (Jvm.Cond.methodLink "RowenTongue$Bundle" (15 : Nat) ({ cls := "RowenTongue$Bundle", name := "<init>", desc := "()V" } : Jvm.MethodName)) ∈ lw_all := lw_g (lw_at lw_m8 225 rfl) rfl
theorem q1955 : (Jvm.Cond.methodLink "RowenTongue$Bundle" (16 : Nat) ({ cls := "java/lang/System", name := "arraycopy", desc := "(Ljava/lang/Object;ILjava/lang/Object;II)V" } : Jvm.MethodName)) ∈ lw_all := lw_g (lw_at lw_m8 226 rfl) rfl
theorem q1963 : (Jvm.Cond.selects "RowenTongue$Bundle" ({ cls := "RowenTongue$Value", name := "tell", desc := "(Ljava/lang/StringBuilder;)V" } : Jvm.MethodName) ({ cls := "RowenTongue$Bundle", name := "tell", desc := "(Ljava/lang/StringBuilder;)V" } : Jvm.MethodName)) ∈ lw_all := lw_g (lw_at lw_m8 234 rfl) rfl
theorem q1964 : (Jvm.Cond.instanceMethod ({ cls := "RowenTongue$Bundle", name := "tell", desc := "(Ljava/lang/StringBuilder;)V" } : Jvm.MethodName)) ∈ lw_all := lw_g (lw_at lw_m8 235 rfl) rfl
theorem q1965 : (Jvm.Cond.code ({ cls := "RowenTongue$Bundle", name := "tell", desc := "(Ljava/lang/StringBuilder;)V" } : Jvm.MethodName) prog_6_method_3_code (4 : Nat) (Option.none : Option Jvm.ClassFile.FieldType)) ∈ lw_all := lw_g (lw_at lw_m8 236 rfl) rfl
theorem q1966 : (Jvm.Cond.methodLink "RowenTongue$Bundle" (22 : Nat) ({ cls := "java/lang/StringBuilder", name := "append", desc := "(C)Ljava/lang/StringBuilder;" } : Jvm.MethodName)) ∈ lw_all := lw_g (lw_at lw_m8 237 rfl) rfl
theorem q1967 : (Jvm.Cond.methodLink "RowenTongue$Bundle" (28 : Nat) ({ cls := "java/lang/StringBuilder", name := "length", desc := "()I" } : Jvm.MethodName)) ∈ lw_all := lw_g (lw_at lw_m8 238 rfl) rfl
theorem q1968 : (Jvm.Cond.stringRef "RowenTongue$Bundle" (32 : Nat) "") ∈ lw_tbl := lw_at lw_m8 239 rfl
theorem q1969 : (Jvm.Cond.stringRef "RowenTongue$Bundle" (34 : Nat) ",") ∈ lw_tbl := lw_at lw_m9 0 rfl
theorem q1970 : (Jvm.Cond.methodLink "RowenTongue$Bundle" (36 : Nat) ({ cls := "java/lang/StringBuilder", name := "append", desc := "(Ljava/lang/String;)Ljava/lang/StringBuilder;" } : Jvm.MethodName)) ∈ lw_all := lw_g (lw_at lw_m9 1 rfl) rfl
theorem q1971 : (Jvm.Cond.methodLink "RowenTongue$Bundle" (39 : Nat) ({ cls := "java/lang/StringBuilder", name := "append", desc := "(I)Ljava/lang/StringBuilder;" } : Jvm.MethodName)) ∈ lw_all := lw_g (lw_at lw_m9 2 rfl) rfl
theorem q1972 : (Jvm.Cond.methodLink "RowenTongue$Bundle" (42 : Nat) ({ cls := "RowenTongue$Value", name := "tell", desc := "(Ljava/lang/StringBuilder;)V" } : Jvm.MethodName)) ∈ lw_all := lw_g (lw_at lw_m9 3 rfl) rfl
theorem q2874 : (Jvm.Cond.castable "RowenTongue$Bundle" "RowenTongue$Value") ∈ lw_tbl := lw_at lw_m12 185 rfl
theorem q2924 : (Jvm.Cond.castable "RowenTongue$Bundle" "java/lang/Object") ∈ lw_tbl := lw_at lw_m12 235 rfl
theorem in_X36 : ∀ w ∈ wsX360, w ∈ lw_all := lw_in wsX360 [1930] (by decide +kernel) (by decide +kernel)
/-! RowenTongue$Choice -/
set_option maxRecDepth 100000
def RX37 : String := "RowenTongue$Choice"
def TX37 : u_T := fun k => match k with
  | 0 => ("RowenTongue$Choice", "label", "I", true)
  | _ => ("RowenTongue$Choice", "value", "LRowenTongue$Value;", true)
def tyX37 : Nat → FieldType := fun k => match k with
  | 0 => .int
  | _ => .object "RowenTongue$Value"
abbrev wsX370 : List Cond := u_ws RX37 TX37 2
theorem nmX37 : ∀ a, a < 2 → ∀ b, b < 2 → a ≠ b → (TX37 a).2.1 ≠ (TX37 b).2.1 := by decide +kernel
theorem tyX37_ok : ∀ k, k < 2 → parseFieldDescriptor (TX37 k).2.2.1 = some (tyX37 k) := by decide +kernel
abbrev cX37_parts : ByteArray := prog_8_method_3_code
def yX37_parts : MethodName := ⟨RX37, "parts", "(LRowenTongue$Value;)Ljava/util/ArrayList;"⟩
def dkwX37_parts_2 : List UInt8 := [182, 0, 39, 87, 45, 176]
abbrev dktX37_parts_2 : List UInt8 := dkwX37_parts_2 ++ []
def dkwX37_parts_1 : List UInt8 := [176, 187, 0, 36, 89, 183, 0, 38, 78, 45, 42, 180, 0, 15, 182, 0, 39, 87, 45, 44, 180, 0, 15]
abbrev dktX37_parts_1 : List UInt8 := dkwX37_parts_1 ++ dktX37_parts_2
def dkwX37_parts_0 : List UInt8 := [43, 193, 0, 10, 153, 0, 19, 43, 192, 0, 10, 77, 44, 180, 0, 9, 42, 180, 0, 9, 159, 0, 5, 1]
abbrev dktX37_parts_0 : List UInt8 := dkwX37_parts_0 ++ dktX37_parts_1
theorem dksX37_parts_0 : cX37_parts.data.toList.drop 0 = dktX37_parts_0 := by decide +kernel
theorem dksX37_parts_1 : cX37_parts.data.toList.drop 24 = dktX37_parts_1 := dk_seg dksX37_parts_0 24 rfl rfl
theorem dksX37_parts_2 : cX37_parts.data.toList.drop 47 = dktX37_parts_2 := dk_seg dksX37_parts_1 23 rfl rfl
theorem dX37_parts_0 : decode cX37_parts 0 = .ok (.aload_n 1, 1) := dk_43 (dk_at dksX37_parts_0 0 rfl rfl)
theorem dX37_parts_1 : decode cX37_parts 1 = .ok (.instanceof 10, 3) := dk_193 0 10 (dk_at dksX37_parts_0 1 rfl rfl)
theorem dX37_parts_4 : decode cX37_parts 4 = .ok (.ifCond .eq 19, 3) := dk_153 0 19 (dk_at dksX37_parts_0 4 rfl rfl)
theorem dX37_parts_7 : decode cX37_parts 7 = .ok (.aload_n 1, 1) := dk_43 (dk_at dksX37_parts_0 7 rfl rfl)
theorem dX37_parts_8 : decode cX37_parts 8 = .ok (.checkcast 10, 3) := dk_192 0 10 (dk_at dksX37_parts_0 8 rfl rfl)
theorem dX37_parts_11 : decode cX37_parts 11 = .ok (.astore_n 2, 1) := dk_77 (dk_at dksX37_parts_0 11 rfl rfl)
theorem dX37_parts_12 : decode cX37_parts 12 = .ok (.aload_n 2, 1) := dk_44 (dk_at dksX37_parts_0 12 rfl rfl)
theorem dX37_parts_13 : decode cX37_parts 13 = .ok (.getfield 9, 3) := dk_180 0 9 (dk_at dksX37_parts_0 13 rfl rfl)
theorem dX37_parts_16 : decode cX37_parts 16 = .ok (.aload_n 0, 1) := dk_42 (dk_at dksX37_parts_0 16 rfl rfl)
theorem dX37_parts_17 : decode cX37_parts 17 = .ok (.getfield 9, 3) := dk_180 0 9 (dk_at dksX37_parts_0 17 rfl rfl)
theorem dX37_parts_20 : decode cX37_parts 20 = .ok (.if_icmp .eq 5, 3) := dk_159 0 5 (dk_at dksX37_parts_0 20 rfl rfl)
theorem dX37_parts_23 : decode cX37_parts 23 = .ok (.aconst_null, 1) := dk_1 (dk_at dksX37_parts_0 23 rfl rfl)
theorem dX37_parts_24 : decode cX37_parts 24 = .ok (.areturn, 1) := dk_176 (dk_at dksX37_parts_1 0 rfl rfl)
theorem dX37_parts_25 : decode cX37_parts 25 = .ok (.new 36, 3) := dk_187 0 36 (dk_at dksX37_parts_1 1 rfl rfl)
theorem dX37_parts_28 : decode cX37_parts 28 = .ok (.dup, 1) := dk_89 (dk_at dksX37_parts_1 4 rfl rfl)
theorem dX37_parts_29 : decode cX37_parts 29 = .ok (.invokespecial 38, 3) := dk_183 0 38 (dk_at dksX37_parts_1 5 rfl rfl)
theorem dX37_parts_32 : decode cX37_parts 32 = .ok (.astore_n 3, 1) := dk_78 (dk_at dksX37_parts_1 8 rfl rfl)
theorem dX37_parts_33 : decode cX37_parts 33 = .ok (.aload_n 3, 1) := dk_45 (dk_at dksX37_parts_1 9 rfl rfl)
theorem dX37_parts_34 : decode cX37_parts 34 = .ok (.aload_n 0, 1) := dk_42 (dk_at dksX37_parts_1 10 rfl rfl)
theorem dX37_parts_35 : decode cX37_parts 35 = .ok (.getfield 15, 3) := dk_180 0 15 (dk_at dksX37_parts_1 11 rfl rfl)
theorem dX37_parts_38 : decode cX37_parts 38 = .ok (.invokevirtual 39, 3) := dk_182 0 39 (dk_at dksX37_parts_1 14 rfl rfl)
theorem dX37_parts_41 : decode cX37_parts 41 = .ok (.pop, 1) := dk_87 (dk_at dksX37_parts_1 17 rfl rfl)
theorem dX37_parts_42 : decode cX37_parts 42 = .ok (.aload_n 3, 1) := dk_45 (dk_at dksX37_parts_1 18 rfl rfl)
theorem dX37_parts_43 : decode cX37_parts 43 = .ok (.aload_n 2, 1) := dk_44 (dk_at dksX37_parts_1 19 rfl rfl)
theorem dX37_parts_44 : decode cX37_parts 44 = .ok (.getfield 15, 3) := dk_180 0 15 (dk_at dksX37_parts_1 20 rfl rfl)
theorem dX37_parts_47 : decode cX37_parts 47 = .ok (.invokevirtual 39, 3) := dk_182 0 39 (dk_at dksX37_parts_2 0 rfl rfl)
theorem dX37_parts_50 : decode cX37_parts 50 = .ok (.pop, 1) := dk_87 (dk_at dksX37_parts_2 3 rfl rfl)
theorem dX37_parts_51 : decode cX37_parts 51 = .ok (.aload_n 3, 1) := dk_45 (dk_at dksX37_parts_2 4 rfl rfl)
theorem dX37_parts_52 : decode cX37_parts 52 = .ok (.areturn, 1) := dk_176 (dk_at dksX37_parts_2 5 rfl rfl)
abbrev cX37_init : ByteArray := prog_8_method_1_code
def yX37_init : MethodName := ⟨RX37, "<init>", "(ILRowenTongue$Value;)V"⟩
def dkwX37_init_0 : List UInt8 := [42, 183, 0, 3, 42, 27, 181, 0, 9, 42, 44, 181, 0, 15, 177]
abbrev dktX37_init_0 : List UInt8 := dkwX37_init_0 ++ []
theorem dksX37_init_0 : cX37_init.data.toList.drop 0 = dktX37_init_0 := by decide +kernel
theorem dX37_init_0 : decode cX37_init 0 = .ok (.aload_n 0, 1) := dk_42 (dk_at dksX37_init_0 0 rfl rfl)
theorem dX37_init_1 : decode cX37_init 1 = .ok (.invokespecial 3, 3) := dk_183 0 3 (dk_at dksX37_init_0 1 rfl rfl)
theorem dX37_init_4 : decode cX37_init 4 = .ok (.aload_n 0, 1) := dk_42 (dk_at dksX37_init_0 4 rfl rfl)
theorem dX37_init_5 : decode cX37_init 5 = .ok (.iload_n 1, 1) := dk_27 (dk_at dksX37_init_0 5 rfl rfl)
theorem dX37_init_6 : decode cX37_init 6 = .ok (.putfield 9, 3) := dk_181 0 9 (dk_at dksX37_init_0 6 rfl rfl)
theorem dX37_init_9 : decode cX37_init 9 = .ok (.aload_n 0, 1) := dk_42 (dk_at dksX37_init_0 9 rfl rfl)
theorem dX37_init_10 : decode cX37_init 10 = .ok (.aload_n 2, 1) := dk_44 (dk_at dksX37_init_0 10 rfl rfl)
theorem dX37_init_11 : decode cX37_init 11 = .ok (.putfield 15, 3) := dk_181 0 15 (dk_at dksX37_init_0 11 rfl rfl)
theorem dX37_init_14 : decode cX37_init 14 = .ok (.return_, 1) := dk_177 (dk_at dksX37_init_0 14 rfl rfl)
abbrev cX37_tell : ByteArray := prog_8_method_2_code
def yX37_tell : MethodName := ⟨RX37, "tell", "(Ljava/lang/StringBuilder;)V"⟩
def dkwX37_tell_1 : List UInt8 := [17, 1, 44, 163, 0, 11, 42, 180, 0, 15, 43, 182, 0, 32, 43, 16, 93, 182, 0, 19, 87, 177]
abbrev dktX37_tell_1 : List UInt8 := dkwX37_tell_1 ++ []
def dkwX37_tell_0 : List UInt8 := [43, 16, 91, 182, 0, 19, 42, 180, 0, 9, 182, 0, 25, 16, 58, 182, 0, 19, 87, 43, 182, 0, 28]
abbrev dktX37_tell_0 : List UInt8 := dkwX37_tell_0 ++ dktX37_tell_1
theorem dksX37_tell_0 : cX37_tell.data.toList.drop 0 = dktX37_tell_0 := by decide +kernel
theorem dksX37_tell_1 : cX37_tell.data.toList.drop 23 = dktX37_tell_1 := dk_seg dksX37_tell_0 23 rfl rfl
theorem dX37_tell_0 : decode cX37_tell 0 = .ok (.aload_n 1, 1) := dk_43 (dk_at dksX37_tell_0 0 rfl rfl)
theorem dX37_tell_1 : decode cX37_tell 1 = .ok (.bipush 91, 2) := dk_16 91 (dk_at dksX37_tell_0 1 rfl rfl)
theorem dX37_tell_3 : decode cX37_tell 3 = .ok (.invokevirtual 19, 3) := dk_182 0 19 (dk_at dksX37_tell_0 3 rfl rfl)
theorem dX37_tell_6 : decode cX37_tell 6 = .ok (.aload_n 0, 1) := dk_42 (dk_at dksX37_tell_0 6 rfl rfl)
theorem dX37_tell_7 : decode cX37_tell 7 = .ok (.getfield 9, 3) := dk_180 0 9 (dk_at dksX37_tell_0 7 rfl rfl)
theorem dX37_tell_10 : decode cX37_tell 10 = .ok (.invokevirtual 25, 3) := dk_182 0 25 (dk_at dksX37_tell_0 10 rfl rfl)
theorem dX37_tell_13 : decode cX37_tell 13 = .ok (.bipush 58, 2) := dk_16 58 (dk_at dksX37_tell_0 13 rfl rfl)
theorem dX37_tell_15 : decode cX37_tell 15 = .ok (.invokevirtual 19, 3) := dk_182 0 19 (dk_at dksX37_tell_0 15 rfl rfl)
theorem dX37_tell_18 : decode cX37_tell 18 = .ok (.pop, 1) := dk_87 (dk_at dksX37_tell_0 18 rfl rfl)
theorem dX37_tell_19 : decode cX37_tell 19 = .ok (.aload_n 1, 1) := dk_43 (dk_at dksX37_tell_0 19 rfl rfl)
theorem dX37_tell_20 : decode cX37_tell 20 = .ok (.invokevirtual 28, 3) := dk_182 0 28 (dk_at dksX37_tell_0 20 rfl rfl)
theorem dX37_tell_23 : decode cX37_tell 23 = .ok (.sipush 300, 3) := dk_17 1 44 (dk_at dksX37_tell_1 0 rfl rfl)
theorem dX37_tell_26 : decode cX37_tell 26 = .ok (.if_icmp .gt 11, 3) := dk_163 0 11 (dk_at dksX37_tell_1 3 rfl rfl)
theorem dX37_tell_29 : decode cX37_tell 29 = .ok (.aload_n 0, 1) := dk_42 (dk_at dksX37_tell_1 6 rfl rfl)
theorem dX37_tell_30 : decode cX37_tell 30 = .ok (.getfield 15, 3) := dk_180 0 15 (dk_at dksX37_tell_1 7 rfl rfl)
theorem dX37_tell_33 : decode cX37_tell 33 = .ok (.aload_n 1, 1) := dk_43 (dk_at dksX37_tell_1 10 rfl rfl)
theorem dX37_tell_34 : decode cX37_tell 34 = .ok (.invokevirtual 32, 3) := dk_182 0 32 (dk_at dksX37_tell_1 11 rfl rfl)
theorem dX37_tell_37 : decode cX37_tell 37 = .ok (.aload_n 1, 1) := dk_43 (dk_at dksX37_tell_1 14 rfl rfl)
theorem dX37_tell_38 : decode cX37_tell 38 = .ok (.bipush 93, 2) := dk_16 93 (dk_at dksX37_tell_1 15 rfl rfl)
theorem dX37_tell_40 : decode cX37_tell 40 = .ok (.invokevirtual 19, 3) := dk_182 0 19 (dk_at dksX37_tell_1 17 rfl rfl)
theorem dX37_tell_43 : decode cX37_tell 43 = .ok (.pop, 1) := dk_87 (dk_at dksX37_tell_1 20 rfl rfl)
theorem dX37_tell_44 : decode cX37_tell 44 = .ok (.return_, 1) := dk_177 (dk_at dksX37_tell_1 21 rfl rfl)
theorem q110 : (Jvm.Cond.initialized "RowenTongue$Choice") ∈ lw_all := lw_g (lw_at lw_m1 61 rfl) rfl
theorem q373 : (Jvm.Cond.selects "RowenTongue$Choice" ({ cls := "java/lang/Object", name := "getClass", desc := "()Ljava/lang/Class;" } : Jvm.MethodName) ({ cls := "java/lang/Object", name := "getClass", desc := "()Ljava/lang/Class;" } : Jvm.MethodName)) ∈ lw_all := lw_g (lw_at lw_m2 84 rfl) rfl
theorem q747 : (Jvm.Cond.selects "RowenTongue$Choice" ({ cls := "java/lang/Object", name := "equals", desc := "(Ljava/lang/Object;)Z" } : Jvm.MethodName) ({ cls := "java/lang/Object", name := "equals", desc := "(Ljava/lang/Object;)Z" } : Jvm.MethodName)) ∈ lw_all := lw_g (lw_at lw_m3 218 rfl) rfl
theorem q1907 : (Jvm.Cond.selects "RowenTongue$Choice" ({ cls := "RowenTongue$Value", name := "parts", desc := "(LRowenTongue$Value;)Ljava/util/ArrayList;" } : Jvm.MethodName) ({ cls := "RowenTongue$Choice", name := "parts", desc := "(LRowenTongue$Value;)Ljava/util/ArrayList;" } : Jvm.MethodName)) ∈ lw_all := lw_g (lw_at lw_m8 178 rfl) rfl
theorem q1908 : (Jvm.Cond.instanceMethod ({ cls := "RowenTongue$Choice", name := "parts", desc := "(LRowenTongue$Value;)Ljava/util/ArrayList;" } : Jvm.MethodName)) ∈ lw_all := lw_g (lw_at lw_m8 179 rfl) rfl
theorem q1909 : (Jvm.Cond.code ({ cls := "RowenTongue$Choice", name := "parts", desc := "(LRowenTongue$Value;)Ljava/util/ArrayList;" } : Jvm.MethodName) prog_8_method_3_code (4 : Nat) (Option.some (Jvm.ClassFile.FieldType.object "java/util/ArrayList"))) ∈ lw_all := lw_g (lw_at lw_m8 180 rfl) rfl
theorem q1910 : (Jvm.Cond.classLink "RowenTongue$Choice" (10 : Nat) "RowenTongue$Choice") ∈ lw_all := lw_g (lw_at lw_m8 181 rfl) rfl
theorem q1911 : (Jvm.Cond.classLink "RowenTongue$Choice" (36 : Nat) "java/util/ArrayList") ∈ lw_all := lw_g (lw_at lw_m8 182 rfl) rfl
theorem q1912 : (Jvm.Cond.methodLink "RowenTongue$Choice" (38 : Nat) ({ cls := "java/util/ArrayList", name := "<init>", desc := "()V" } : Jvm.MethodName)) ∈ lw_all := lw_g (lw_at lw_m8 183 rfl) rfl
theorem q1913 : (Jvm.Cond.methodLink "RowenTongue$Choice" (39 : Nat) ({ cls := "java/util/ArrayList", name := "add", desc := "(Ljava/lang/Object;)Z" } : Jvm.MethodName)) ∈ lw_all := lw_g (lw_at lw_m8 184 rfl) rfl
theorem q1936 : (Jvm.Cond.instantiable "RowenTongue$Choice" (2 : Nat)) ∈ lw_all := lw_g (lw_at lw_m8 207 rfl) rfl
theorem q1938 : (Jvm.Cond.instanceMethod ({ cls := "RowenTongue$Choice", name := "<init>", desc := "(ILRowenTongue$Value;)V" } : Jvm.MethodName)) ∈ lw_all := lw_g (lw_at lw_m8 209 rfl) rfl
theorem q1939 : (Jvm.Cond.code ({ cls := "RowenTongue$Choice", name := "<init>", desc := "(ILRowenTongue$Value;)V" } : Jvm.MethodName) prog_8_method_1_code (3 : Nat) (Option.none : Option Jvm.ClassFile.FieldType)) ∈ lw_all := lw_g (lw_at lw_m8 210 rfl) rfl
theorem q1940 : (Jvm.Cond.methodLinkNest "RowenTongue$Choice" (3 : Nat) ({ cls := "RowenTongue$Value", name := "<init>", desc := "()V" } : Jvm.MethodName) "RowenTongue") ∈ lw_tbl := lw_at lw_m8 211 rfl
theorem q1941 : (Jvm.Cond.fieldLink "RowenTongue$Choice" (9 : Nat) "RowenTongue$Choice" "label" "I") ∈ lw_all := lw_g (lw_at lw_m8 212 rfl) rfl
theorem q1943 : (Jvm.Cond.fieldLink "RowenTongue$Choice" (15 : Nat) "RowenTongue$Choice" "value" "LRowenTongue$Value;") ∈ lw_all := lw_g (lw_at lw_m8 214 rfl) rfl
theorem q1945 : (Jvm.Cond.laysFinal "RowenTongue$Choice" "RowenTongue$Choice" "label" "I") ∈ lw_all := lw_g (lw_at lw_m8 216 rfl) rfl
theorem q1946 : (Jvm.Cond.soleField "RowenTongue$Choice" "label") ∈ lw_all := lw_g (lw_at lw_m8 217 rfl) rfl
theorem q1947 : (Jvm.Cond.laysFinal "RowenTongue$Choice" "RowenTongue$Choice" "value" "LRowenTongue$Value;") ∈ lw_all := lw_g (lw_at lw_m8 218 rfl) rfl
theorem q1948 : (Jvm.Cond.soleField "RowenTongue$Choice" "value") ∈ lw_all := lw_g (lw_at lw_m8 219 rfl) rfl
theorem q1949 : (Jvm.Cond.superclass "RowenTongue$Choice" "RowenTongue$Value") ∈ lw_all := lw_g (lw_at lw_m8 220 rfl) rfl
theorem q1973 : (Jvm.Cond.instanceMethod ({ cls := "RowenTongue$Choice", name := "tell", desc := "(Ljava/lang/StringBuilder;)V" } : Jvm.MethodName)) ∈ lw_all := lw_g (lw_at lw_m9 4 rfl) rfl
theorem q1974 : (Jvm.Cond.code ({ cls := "RowenTongue$Choice", name := "tell", desc := "(Ljava/lang/StringBuilder;)V" } : Jvm.MethodName) prog_8_method_2_code (2 : Nat) (Option.none : Option Jvm.ClassFile.FieldType)) ∈ lw_all := lw_g (lw_at lw_m9 5 rfl) rfl
theorem q1975 : (Jvm.Cond.methodLink "RowenTongue$Choice" (19 : Nat) ({ cls := "java/lang/StringBuilder", name := "append", desc := "(C)Ljava/lang/StringBuilder;" } : Jvm.MethodName)) ∈ lw_all := lw_g (lw_at lw_m9 6 rfl) rfl
theorem q1976 : (Jvm.Cond.methodLink "RowenTongue$Choice" (25 : Nat) ({ cls := "java/lang/StringBuilder", name := "append", desc := "(I)Ljava/lang/StringBuilder;" } : Jvm.MethodName)) ∈ lw_all := lw_g (lw_at lw_m9 7 rfl) rfl
theorem q1977 : (Jvm.Cond.methodLink "RowenTongue$Choice" (28 : Nat) ({ cls := "java/lang/StringBuilder", name := "length", desc := "()I" } : Jvm.MethodName)) ∈ lw_all := lw_g (lw_at lw_m9 8 rfl) rfl
theorem q1978 : (Jvm.Cond.methodLink "RowenTongue$Choice" (32 : Nat) ({ cls := "RowenTongue$Value", name := "tell", desc := "(Ljava/lang/StringBuilder;)V" } : Jvm.MethodName)) ∈ lw_all := lw_g (lw_at lw_m9 9 rfl) rfl
theorem q1982 : (Jvm.Cond.selects "RowenTongue$Choice" ({ cls := "RowenTongue$Value", name := "tell", desc := "(Ljava/lang/StringBuilder;)V" } : Jvm.MethodName) ({ cls := "RowenTongue$Choice", name := "tell", desc := "(Ljava/lang/StringBuilder;)V" } : Jvm.MethodName)) ∈ lw_all := lw_g (lw_at lw_m9 13 rfl) rfl
theorem q2875 : (Jvm.Cond.castable "RowenTongue$Choice" "RowenTongue$Value") ∈ lw_tbl := lw_at lw_m12 186 rfl
theorem q2925 : (Jvm.Cond.castable "RowenTongue$Choice" "java/lang/Object") ∈ lw_tbl := lw_at lw_m12 236 rfl
theorem in_X37 : ∀ w ∈ wsX370, w ∈ lw_all := lw_in wsX370 [1945, 1947] (by decide +kernel) (by decide +kernel)
/-! RowenTongueModel$Value -/
set_option maxRecDepth 100000
def RX38 : String := "RowenTongueModel$Value"
def TX38 : u_T := fun k => match k with
  | 0 => ("RowenTongueModel$Value", "kind", "I", false)
  | 1 => ("RowenTongueModel$Value", "v", "I", false)
  | 2 => ("RowenTongueModel$Value", "parts", "[LRowenTongueModel$Value;", false)
  | 3 => ("RowenTongueModel$Value", "part", "LRowenTongueModel$Value;", false)
  | _ => ("RowenTongueModel$Value", "around", "LRowenTongueModel$Bound;", false)
def tyX38 : Nat → FieldType := fun k => match k with
  | 0 => .int
  | 1 => .int
  | 2 => .array (.object "RowenTongueModel$Value")
  | 3 => .object "RowenTongueModel$Value"
  | _ => .object "RowenTongueModel$Bound"
abbrev wsX380 : List Cond := u_ws RX38 TX38 5
theorem nmX38 : ∀ a, a < 5 → ∀ b, b < 5 → a ≠ b → (TX38 a).2.1 ≠ (TX38 b).2.1 := by decide +kernel
theorem tyX38_ok : ∀ k, k < 5 → parseFieldDescriptor (TX38 k).2.2.1 = some (tyX38 k) := by decide +kernel
abbrev cX38_init : ByteArray := prog_50_method_1_code
def yX38_init : MethodName := ⟨RX38, "<init>", "()V"⟩
theorem dX38_init_0 : decode cX38_init 0 = .ok (.aload_n 0, 1) := by decide +kernel
theorem dX38_init_1 : decode cX38_init 1 = .ok (.invokespecial 1, 3) := by decide +kernel
theorem dX38_init_4 : decode cX38_init 4 = .ok (.return_, 1) := by decide +kernel
theorem q111 : (Jvm.Cond.initialized "RowenTongueModel$Value") ∈ lw_all := lw_g (lw_at lw_m1 62 rfl) rfl
theorem q408 : (Jvm.Cond.selects "RowenTongueModel$Value" ({ cls := "java/lang/Object", name := "getClass", desc := "()Ljava/lang/Class;" } : Jvm.MethodName) ({ cls := "java/lang/Object", name := "getClass", desc := "()Ljava/lang/Class;" } : Jvm.MethodName)) ∈ lw_all := lw_g (lw_at lw_m2 119 rfl) rfl
theorem q782 : (Jvm.Cond.selects "RowenTongueModel$Value" ({ cls := "java/lang/Object", name := "equals", desc := "(Ljava/lang/Object;)Z" } : Jvm.MethodName) ({ cls := "java/lang/Object", name := "equals", desc := "(Ljava/lang/Object;)Z" } : Jvm.MethodName)) ∈ lw_all := lw_g (lw_at lw_m4 13 rfl) rfl
theorem q2777 : (Jvm.Cond.instantiable "RowenTongueModel$Value" (5 : Nat)) ∈ lw_all := lw_g (lw_at lw_m12 88 rfl) rfl
theorem q2779 : (Jvm.Cond.instanceMethod ({ cls := "RowenTongueModel$Value", name := "<init>", desc := "()V" } : Jvm.MethodName)) ∈ lw_all := lw_g (lw_at lw_m12 90 rfl) rfl
theorem q2780 : (Jvm.Cond.code ({ cls := "RowenTongueModel$Value", name := "<init>", desc := "()V" } : Jvm.MethodName) prog_50_method_1_code (1 : Nat) (Option.none : Option Jvm.ClassFile.FieldType)) ∈ lw_all := lw_g (lw_at lw_m12 91 rfl) rfl
theorem q2781 : (Jvm.Cond.methodLink "RowenTongueModel$Value" (1 : Nat) ({ cls := "java/lang/Object", name := "<init>", desc := "()V" } : Jvm.MethodName)) ∈ lw_all := lw_g (lw_at lw_m12 92 rfl) rfl
theorem q2787 : (Jvm.Cond.lays "RowenTongueModel$Value" "RowenTongueModel$Value" "kind" "I") ∈ lw_all := lw_g (lw_at lw_m12 98 rfl) rfl
theorem q2788 : (Jvm.Cond.soleField "RowenTongueModel$Value" "kind") ∈ lw_all := lw_g (lw_at lw_m12 99 rfl) rfl
theorem q2789 : (Jvm.Cond.lays "RowenTongueModel$Value" "RowenTongueModel$Value" "v" "I") ∈ lw_all := lw_g (lw_at lw_m12 100 rfl) rfl
theorem q2790 : (Jvm.Cond.soleField "RowenTongueModel$Value" "v") ∈ lw_all := lw_g (lw_at lw_m12 101 rfl) rfl
theorem q2791 : (Jvm.Cond.lays "RowenTongueModel$Value" "RowenTongueModel$Value" "parts" "[LRowenTongueModel$Value;") ∈ lw_all := lw_g (lw_at lw_m12 102 rfl) rfl
theorem q2792 : (Jvm.Cond.soleField "RowenTongueModel$Value" "parts") ∈ lw_all := lw_g (lw_at lw_m12 103 rfl) rfl
theorem q2793 : (Jvm.Cond.lays "RowenTongueModel$Value" "RowenTongueModel$Value" "part" "LRowenTongueModel$Value;") ∈ lw_all := lw_g (lw_at lw_m12 104 rfl) rfl
theorem q2794 : (Jvm.Cond.soleField "RowenTongueModel$Value" "part") ∈ lw_all := lw_g (lw_at lw_m12 105 rfl) rfl
theorem q2795 : (Jvm.Cond.lays "RowenTongueModel$Value" "RowenTongueModel$Value" "around" "LRowenTongueModel$Bound;") ∈ lw_all := lw_g (lw_at lw_m12 106 rfl) rfl
theorem q2796 : (Jvm.Cond.soleField "RowenTongueModel$Value" "around") ∈ lw_all := lw_g (lw_at lw_m12 107 rfl) rfl
theorem q2797 : (Jvm.Cond.superclass "RowenTongueModel$Value" "java/lang/Object") ∈ lw_all := lw_g (lw_at lw_m12 108 rfl) rfl
theorem q2886 : (Jvm.Cond.castable "RowenTongueModel$Value" "java/lang/Object") ∈ lw_tbl := lw_at lw_m12 197 rfl
theorem in_X38 : ∀ w ∈ wsX380, w ∈ lw_all := lw_in wsX380 [2787, 2789, 2791, 2793, 2795] (by decide +kernel) (by decide +kernel)
/-! RowenTongueModel$Bound -/
set_option maxRecDepth 100000
def RX39 : String := "RowenTongueModel$Bound"
def TX39 : u_T := fun k => match k with
  | 0 => ("RowenTongueModel$Bound", "name", "I", true)
  | 1 => ("RowenTongueModel$Bound", "value", "LRowenTongueModel$Value;", true)
  | 2 => ("RowenTongueModel$Bound", "term", "I", true)
  | _ => ("RowenTongueModel$Bound", "around", "LRowenTongueModel$Bound;", true)
def tyX39 : Nat → FieldType := fun k => match k with
  | 0 => .int
  | 1 => .object "RowenTongueModel$Value"
  | 2 => .int
  | _ => .object "RowenTongueModel$Bound"
abbrev wsX390 : List Cond := u_ws RX39 TX39 4
theorem nmX39 : ∀ a, a < 4 → ∀ b, b < 4 → a ≠ b → (TX39 a).2.1 ≠ (TX39 b).2.1 := by decide +kernel
theorem tyX39_ok : ∀ k, k < 4 → parseFieldDescriptor (TX39 k).2.2.1 = some (tyX39 k) := by decide +kernel
abbrev cX39_init : ByteArray := prog_46_method_1_code
def yX39_init : MethodName := ⟨RX39, "<init>", "(ILRowenTongueModel$Value;ILRowenTongueModel$Bound;)V"⟩
def dkwX39_init_1 : List UInt8 := [181, 0, 20, 177]
abbrev dktX39_init_1 : List UInt8 := dkwX39_init_1 ++ []
def dkwX39_init_0 : List UInt8 := [42, 183, 0, 1, 42, 27, 181, 0, 7, 42, 44, 181, 0, 13, 42, 29, 181, 0, 17, 42, 25, 4]
abbrev dktX39_init_0 : List UInt8 := dkwX39_init_0 ++ dktX39_init_1
theorem dksX39_init_0 : cX39_init.data.toList.drop 0 = dktX39_init_0 := by decide +kernel
theorem dksX39_init_1 : cX39_init.data.toList.drop 22 = dktX39_init_1 := dk_seg dksX39_init_0 22 rfl rfl
theorem dX39_init_0 : decode cX39_init 0 = .ok (.aload_n 0, 1) := dk_42 (dk_at dksX39_init_0 0 rfl rfl)
theorem dX39_init_1 : decode cX39_init 1 = .ok (.invokespecial 1, 3) := dk_183 0 1 (dk_at dksX39_init_0 1 rfl rfl)
theorem dX39_init_4 : decode cX39_init 4 = .ok (.aload_n 0, 1) := dk_42 (dk_at dksX39_init_0 4 rfl rfl)
theorem dX39_init_5 : decode cX39_init 5 = .ok (.iload_n 1, 1) := dk_27 (dk_at dksX39_init_0 5 rfl rfl)
theorem dX39_init_6 : decode cX39_init 6 = .ok (.putfield 7, 3) := dk_181 0 7 (dk_at dksX39_init_0 6 rfl rfl)
theorem dX39_init_9 : decode cX39_init 9 = .ok (.aload_n 0, 1) := dk_42 (dk_at dksX39_init_0 9 rfl rfl)
theorem dX39_init_10 : decode cX39_init 10 = .ok (.aload_n 2, 1) := dk_44 (dk_at dksX39_init_0 10 rfl rfl)
theorem dX39_init_11 : decode cX39_init 11 = .ok (.putfield 13, 3) := dk_181 0 13 (dk_at dksX39_init_0 11 rfl rfl)
theorem dX39_init_14 : decode cX39_init 14 = .ok (.aload_n 0, 1) := dk_42 (dk_at dksX39_init_0 14 rfl rfl)
theorem dX39_init_15 : decode cX39_init 15 = .ok (.iload_n 3, 1) := dk_29 (dk_at dksX39_init_0 15 rfl rfl)
theorem dX39_init_16 : decode cX39_init 16 = .ok (.putfield 17, 3) := dk_181 0 17 (dk_at dksX39_init_0 16 rfl rfl)
theorem dX39_init_19 : decode cX39_init 19 = .ok (.aload_n 0, 1) := dk_42 (dk_at dksX39_init_0 19 rfl rfl)
theorem dX39_init_20 : decode cX39_init 20 = .ok (.aload 4, 2) := dk_25 4 (dk_at dksX39_init_0 20 rfl rfl)
theorem dX39_init_22 : decode cX39_init 22 = .ok (.putfield 20, 3) := dk_181 0 20 (dk_at dksX39_init_1 0 rfl rfl)
theorem dX39_init_25 : decode cX39_init 25 = .ok (.return_, 1) := dk_177 (dk_at dksX39_init_1 3 rfl rfl)
theorem q112 : (Jvm.Cond.initialized "RowenTongueModel$Bound") ∈ lw_all := lw_g (lw_at lw_m1 63 rfl) rfl
theorem q404 : (Jvm.Cond.selects "RowenTongueModel$Bound" ({ cls := "java/lang/Object", name := "getClass", desc := "()Ljava/lang/Class;" } : Jvm.MethodName) ({ cls := "java/lang/Object", name := "getClass", desc := "()Ljava/lang/Class;" } : Jvm.MethodName)) ∈ lw_all := lw_g (lw_at lw_m2 115 rfl) rfl
theorem q778 : (Jvm.Cond.selects "RowenTongueModel$Bound" ({ cls := "java/lang/Object", name := "equals", desc := "(Ljava/lang/Object;)Z" } : Jvm.MethodName) ({ cls := "java/lang/Object", name := "equals", desc := "(Ljava/lang/Object;)Z" } : Jvm.MethodName)) ∈ lw_all := lw_g (lw_at lw_m4 9 rfl) rfl
theorem q2799 : (Jvm.Cond.instantiable "RowenTongueModel$Bound" (4 : Nat)) ∈ lw_all := lw_g (lw_at lw_m12 110 rfl) rfl
theorem q2801 : (Jvm.Cond.instanceMethod ({ cls := "RowenTongueModel$Bound", name := "<init>", desc := "(ILRowenTongueModel$Value;ILRowenTongueModel$Bound;)V" } : Jvm.MethodName)) ∈ lw_all := lw_g (lw_at lw_m12 112 rfl) rfl
theorem q2802 : (Jvm.Cond.code ({ cls := "RowenTongueModel$Bound", name := "<init>", desc := "(ILRowenTongueModel$Value;ILRowenTongueModel$Bound;)V" } : Jvm.MethodName) prog_46_method_1_code (5 : Nat) (Option.none : Option Jvm.ClassFile.FieldType)) ∈ lw_all := lw_g (lw_at lw_m12 113 rfl) rfl
theorem q2803 : (Jvm.Cond.methodLink "RowenTongueModel$Bound" (1 : Nat) ({ cls := "java/lang/Object", name := "<init>", desc := "()V" } : Jvm.MethodName)) ∈ lw_all := lw_g (lw_at lw_m12 114 rfl) rfl
theorem q2804 : (Jvm.Cond.fieldLink "RowenTongueModel$Bound" (7 : Nat) "RowenTongueModel$Bound" "name" "I") ∈ lw_all := lw_g (lw_at lw_m12 115 rfl) rfl
theorem q2806 : (Jvm.Cond.fieldLink "RowenTongueModel$Bound" (13 : Nat) "RowenTongueModel$Bound" "value" "LRowenTongueModel$Value;") ∈ lw_all := lw_g (lw_at lw_m12 117 rfl) rfl
theorem q2808 : (Jvm.Cond.fieldLink "RowenTongueModel$Bound" (17 : Nat) "RowenTongueModel$Bound" "term" "I") ∈ lw_all := lw_g (lw_at lw_m12 119 rfl) rfl
theorem q2810 : (Jvm.Cond.fieldLink "RowenTongueModel$Bound" (20 : Nat) "RowenTongueModel$Bound" "around" "LRowenTongueModel$Bound;") ∈ lw_all := lw_g (lw_at lw_m12 121 rfl) rfl
theorem q2812 : (Jvm.Cond.laysFinal "RowenTongueModel$Bound" "RowenTongueModel$Bound" "name" "I") ∈ lw_all := lw_g (lw_at lw_m12 123 rfl) rfl
theorem q2813 : (Jvm.Cond.soleField "RowenTongueModel$Bound" "name") ∈ lw_all := lw_g (lw_at lw_m12 124 rfl) rfl
theorem q2814 : (Jvm.Cond.laysFinal "RowenTongueModel$Bound" "RowenTongueModel$Bound" "value" "LRowenTongueModel$Value;") ∈ lw_all := lw_g (lw_at lw_m12 125 rfl) rfl
theorem q2815 : (Jvm.Cond.soleField "RowenTongueModel$Bound" "value") ∈ lw_all := lw_g (lw_at lw_m12 126 rfl) rfl
theorem q2816 : (Jvm.Cond.laysFinal "RowenTongueModel$Bound" "RowenTongueModel$Bound" "term" "I") ∈ lw_all := lw_g (lw_at lw_m12 127 rfl) rfl
theorem q2817 : (Jvm.Cond.soleField "RowenTongueModel$Bound" "term") ∈ lw_all := lw_g (lw_at lw_m12 128 rfl) rfl
theorem q2818 : (Jvm.Cond.laysFinal "RowenTongueModel$Bound" "RowenTongueModel$Bound" "around" "LRowenTongueModel$Bound;") ∈ lw_all := lw_g (lw_at lw_m12 129 rfl) rfl
theorem q2819 : (Jvm.Cond.soleField "RowenTongueModel$Bound" "around") ∈ lw_all := lw_g (lw_at lw_m12 130 rfl) rfl
theorem q2820 : (Jvm.Cond.superclass "RowenTongueModel$Bound" "java/lang/Object") ∈ lw_all := lw_g (lw_at lw_m12 131 rfl) rfl
theorem q2926 : (Jvm.Cond.castable "RowenTongueModel$Bound" "java/lang/Object") ∈ lw_tbl := lw_at lw_m12 237 rfl
theorem in_X39 : ∀ w ∈ wsX390, w ∈ lw_all := lw_in wsX390 [2812, 2814, 2816, 2818] (by decide +kernel) (by decide +kernel)
/-! RowenTongue$Machine -/
set_option maxRecDepth 100000
def RX40 : String := "RowenTongue$Machine"
def TX40 : u_T := fun k => match k with
  | _ => ("RowenTongue$Machine", "done", "I", false)
def tyX40 : Nat → FieldType := fun k => match k with
  | _ => .int
abbrev wsX400 : List Cond := u_ws RX40 TX40 1
theorem nmX40 : ∀ a, a < 1 → ∀ b, b < 1 → a ≠ b → (TX40 a).2.1 ≠ (TX40 b).2.1 := by decide +kernel
theorem tyX40_ok : ∀ k, k < 1 → parseFieldDescriptor (TX40 k).2.2.1 = some (tyX40 k) := by decide +kernel
abbrev cX40_init : ByteArray := prog_21_method_1_code
def yX40_init : MethodName := ⟨RX40, "<init>", "()V"⟩
theorem dX40_init_0 : decode cX40_init 0 = .ok (.aload_n 0, 1) := by decide +kernel
theorem dX40_init_1 : decode cX40_init 1 = .ok (.invokespecial 3, 3) := by decide +kernel
theorem dX40_init_4 : decode cX40_init 4 = .ok (.return_, 1) := by decide +kernel
abbrev cX40_go : ByteArray := prog_21_method_2_code
def yX40_go : MethodName := ⟨RX40, "go", "(LRowenTongue$Code;LRowenTongue$Bind;LRowenTongue$Slot;)LRowenTongue$Thing;"⟩
def dkwX40_go_44 : List UInt8 := [167, 0, 5, 25, 14, 25, 6, 184, 0, 176, 176, 167, 251, 168]
abbrev dktX40_go_44 : List UInt8 := dkwX40_go_44 ++ []
def dkwX40_go_43 : List UInt8 := [18, 174, 182, 0, 32, 153, 0, 21, 42, 25, 4, 180, 0, 116, 4, 50, 25, 5, 25, 6, 182, 0, 99]
abbrev dktX40_go_43 : List UInt8 := dkwX40_go_43 ++ dktX40_go_44
def dkwX40_go_42 : List UInt8 := [180, 0, 116, 3, 50, 25, 5, 25, 6, 182, 0, 99, 58, 14, 25, 4, 25, 14, 25, 4, 180, 0, 18]
abbrev dktX40_go_42 : List UInt8 := dkwX40_go_42 ++ dktX40_go_43
def dkwX40_go_41 : List UInt8 := [25, 6, 182, 0, 99, 182, 0, 168, 153, 0, 7, 4, 167, 0, 4, 3, 183, 0, 61, 176, 42, 25, 4]
abbrev dktX40_go_41 : List UInt8 := dkwX40_go_41 ++ dktX40_go_42
def dkwX40_go_40 : List UInt8 := [25, 6, 182, 0, 99, 58, 13, 187, 0, 56, 89, 25, 13, 42, 25, 4, 180, 0, 116, 4, 50, 25, 5]
abbrev dktX40_go_40 : List UInt8 := dkwX40_go_40 ++ dktX40_go_41
def dkwX40_go_39 : List UInt8 := [25, 6, 182, 0, 99, 184, 0, 164, 96, 183, 0, 61, 176, 42, 25, 4, 180, 0, 116, 3, 50, 25, 5]
abbrev dktX40_go_39 : List UInt8 := dkwX40_go_39 ++ dktX40_go_40
def dkwX40_go_38 : List UInt8 := [182, 0, 99, 184, 0, 164, 54, 12, 187, 0, 56, 89, 21, 12, 42, 25, 4, 180, 0, 116, 4, 50, 25, 5]
abbrev dktX40_go_38 : List UInt8 := dkwX40_go_38 ++ dktX40_go_39
def dkwX40_go_37 : List UInt8 := [4, 167, 0, 4, 5, 50, 58, 4, 167, 0, 165, 42, 25, 4, 180, 0, 116, 3, 50, 25, 5, 25, 6]
abbrev dktX40_go_37 : List UInt8 := dkwX40_go_37 ++ dktX40_go_38
def dkwX40_go_36 : List UInt8 := [180, 0, 116, 42, 25, 4, 180, 0, 116, 3, 50, 25, 5, 25, 6, 182, 0, 99, 184, 0, 164, 153, 0, 7]
abbrev dktX40_go_36 : List UInt8 := dkwX40_go_36 ++ dktX40_go_37
def dkwX40_go_35 : List UInt8 := [183, 0, 161, 25, 5, 184, 0, 124, 58, 5, 25, 4, 180, 0, 116, 3, 50, 58, 4, 167, 0, 202, 25, 4]
abbrev dktX40_go_35 : List UInt8 := dkwX40_go_35 ++ dktX40_go_36
def dkwX40_go_34 : List UInt8 := [184, 0, 124, 167, 0, 27, 25, 4, 180, 0, 58, 187, 0, 145, 89, 21, 11, 25, 10, 180, 0, 160]
abbrev dktX40_go_34 : List UInt8 := dkwX40_go_34 ++ dktX40_go_35
def dkwX40_go_33 : List UInt8 := [18, 150, 182, 0, 32, 153, 0, 24, 25, 4, 180, 0, 58, 16, 10, 108, 25, 10, 180, 0, 160, 25, 5]
abbrev dktX40_go_33 : List UInt8 := dkwX40_go_33 ++ dktX40_go_34
def dkwX40_go_32 : List UInt8 := [167, 0, 4, 3, 100, 54, 11, 25, 4, 180, 0, 116, 4, 50, 58, 4, 167, 255, 178, 25, 4, 180, 0, 18]
abbrev dktX40_go_32 : List UInt8 := dkwX40_go_32 ++ dktX40_go_33
def dkwX40_go_31 : List UInt8 := [21, 11, 25, 4, 180, 0, 152, 25, 4, 180, 0, 58, 16, 10, 112, 25, 6, 184, 0, 156, 164, 0, 7, 4]
abbrev dktX40_go_31 : List UInt8 := dkwX40_go_31 ++ dktX40_go_32
def dkwX40_go_30 : List UInt8 := [180, 0, 152, 25, 4, 180, 0, 58, 16, 10, 112, 25, 6, 184, 0, 156, 21, 11, 159, 0, 48, 21, 11]
abbrev dktX40_go_30 : List UInt8 := dkwX40_go_30 ++ dktX40_go_31
def dkwX40_go_29 : List UInt8 := [180, 0, 116, 4, 50, 58, 4, 25, 4, 180, 0, 18, 18, 150, 182, 0, 32, 153, 0, 71, 25, 4]
abbrev dktX40_go_29 : List UInt8 := dkwX40_go_29 ++ dktX40_go_30
def dkwX40_go_28 : List UInt8 := [50, 25, 5, 25, 6, 182, 0, 99, 192, 0, 145, 58, 10, 25, 10, 180, 0, 147, 54, 11, 25, 4]
abbrev dktX40_go_28 : List UInt8 := dkwX40_go_28 ++ dktX40_go_29
def dkwX40_go_27 : List UInt8 := [183, 0, 142, 58, 5, 25, 4, 180, 0, 116, 4, 50, 58, 4, 167, 1, 135, 42, 25, 4, 180, 0, 116, 3]
abbrev dktX40_go_27 : List UInt8 := dkwX40_go_27 ++ dktX40_go_28
def dkwX40_go_26 : List UInt8 := [180, 0, 116, 3, 50, 25, 4, 180, 0, 129, 25, 4, 180, 0, 18, 18, 46, 182, 0, 32, 25, 6, 25, 5]
abbrev dktX40_go_26 : List UInt8 := dkwX40_go_26 ++ dktX40_go_27
def dkwX40_go_25 : List UInt8 := [182, 0, 99, 25, 5, 184, 0, 124, 167, 0, 42, 187, 0, 68, 89, 25, 4, 180, 0, 58, 1, 25, 4]
abbrev dktX40_go_25 : List UInt8 := dkwX40_go_25 ++ dktX40_go_26
def dkwX40_go_24 : List UInt8 := [180, 0, 58, 42, 25, 4, 180, 0, 116, 3, 50, 25, 4, 25, 5, 25, 6, 184, 0, 138, 25, 6]
abbrev dktX40_go_24 : List UInt8 := dkwX40_go_24 ++ dktX40_go_25
def dkwX40_go_23 : List UInt8 := [180, 0, 116, 3, 50, 58, 4, 167, 1, 234, 25, 4, 180, 0, 129, 182, 0, 132, 153, 0, 38, 25, 4]
abbrev dktX40_go_23 : List UInt8 := dkwX40_go_23 ++ dktX40_go_24
def dkwX40_go_22 : List UInt8 := [25, 9, 180, 0, 121, 184, 0, 124, 58, 5, 25, 9, 180, 0, 128, 58, 6, 25, 9, 180, 0, 120]
abbrev dktX40_go_22 : List UInt8 := dkwX40_go_22 ++ dktX40_go_23
def dkwX40_go_21 : List UInt8 := [25, 9, 180, 0, 120, 180, 0, 58, 42, 25, 4, 180, 0, 116, 4, 50, 25, 5, 25, 6, 182, 0, 99]
abbrev dktX40_go_21 : List UInt8 := dkwX40_go_21 ++ dktX40_go_22
def dkwX40_go_20 : List UInt8 := [183, 0, 113, 176, 42, 25, 4, 180, 0, 116, 3, 50, 25, 5, 25, 6, 182, 0, 99, 192, 0, 111, 58, 9]
abbrev dktX40_go_20 : List UInt8 := dkwX40_go_20 ++ dktX40_go_21
def dkwX40_go_19 : List UInt8 := [58, 6, 25, 5, 180, 0, 75, 58, 4, 167, 2, 67, 187, 0, 111, 89, 25, 4, 25, 5, 25, 6]
abbrev dktX40_go_19 : List UInt8 := dkwX40_go_19 ++ dktX40_go_20
def dkwX40_go_18 : List UInt8 := [199, 0, 15, 25, 5, 25, 9, 25, 11, 182, 0, 103, 167, 0, 5, 25, 10, 176, 25, 5, 180, 0, 107]
abbrev dktX40_go_18 : List UInt8 := dkwX40_go_18 ++ dktX40_go_19
def dkwX40_go_17 : List UInt8 := [180, 0, 75, 25, 5, 25, 9, 182, 0, 95, 25, 9, 182, 0, 99, 167, 0, 5, 25, 10, 58, 11, 25, 10]
abbrev dktX40_go_17 : List UInt8 := dkwX40_go_17 ++ dktX40_go_18
def dkwX40_go_16 : List UInt8 := [25, 6, 184, 0, 87, 58, 9, 25, 5, 25, 9, 182, 0, 91, 58, 10, 25, 10, 199, 0, 24, 42, 25, 5]
abbrev dktX40_go_16 : List UInt8 := dkwX40_go_16 ++ dktX40_go_17
def dkwX40_go_15 : List UInt8 := [180, 0, 75, 199, 0, 9, 25, 5, 180, 0, 79, 176, 25, 5, 180, 0, 83, 198, 0, 73, 25, 4, 25, 5]
abbrev dktX40_go_15 : List UInt8 := dkwX40_go_15 ++ dktX40_go_16
def dkwX40_go_14 : List UInt8 := [180, 0, 67, 25, 4, 180, 0, 58, 159, 0, 13, 25, 5, 180, 0, 71, 58, 5, 167, 255, 236, 25, 5]
abbrev dktX40_go_14 : List UInt8 := dkwX40_go_14 ++ dktX40_go_15
def dkwX40_go_13 : List UInt8 := [187, 0, 56, 89, 25, 4, 180, 0, 58, 183, 0, 61, 176, 187, 0, 64, 89, 183, 0, 66, 176, 25, 5]
abbrev dktX40_go_13 : List UInt8 := dkwX40_go_13 ++ dktX40_go_14
def dkwX40_go_12 : List UInt8 := [170, 0, 0, 0, 0, 0, 2, 217, 0, 0, 0, 0, 0, 0, 0, 10, 0, 0, 0, 60, 0, 0, 0, 73, 0, 0, 0, 81, 0, 0, 0, 213, 0, 0, 0, 227, 0, 0, 1, 46, 0, 0, 1, 46, 0, 0, 1, 145, 0, 0, 2, 78, 0, 0, 2, 115, 0, 0, 2, 164]
abbrev dktX40_go_12 : List UInt8 := dkwX40_go_12 ++ dktX40_go_13
def dkwX40_go_11 : List UInt8 := [167, 0, 17, 25, 7, 18, 54, 182, 0, 32, 153, 0, 7, 16, 10, 54, 8, 21, 8]
abbrev dktX40_go_11 : List UInt8 := dkwX40_go_11 ++ dktX40_go_12
def dkwX40_go_10 : List UInt8 := [153, 0, 41, 16, 8, 54, 8, 167, 0, 34, 25, 7, 18, 52, 182, 0, 32, 153, 0, 24, 16, 9, 54, 8]
abbrev dktX40_go_10 : List UInt8 := dkwX40_go_10 ++ dktX40_go_11
def dkwX40_go_9 : List UInt8 := [18, 48, 182, 0, 32, 153, 0, 58, 16, 7, 54, 8, 167, 0, 51, 25, 7, 18, 50, 182, 0, 32]
abbrev dktX40_go_9 : List UInt8 := dkwX40_go_9 ++ dktX40_go_10
def dkwX40_go_8 : List UInt8 := [54, 8, 167, 0, 85, 25, 7, 18, 46, 182, 0, 32, 153, 0, 75, 16, 6, 54, 8, 167, 0, 68, 25, 7]
abbrev dktX40_go_8 : List UInt8 := dkwX40_go_8 ++ dktX40_go_9
def dkwX40_go_7 : List UInt8 := [182, 0, 32, 153, 0, 107, 7, 54, 8, 167, 0, 101, 25, 7, 18, 44, 182, 0, 32, 153, 0, 91, 8]
abbrev dktX40_go_7 : List UInt8 := dkwX40_go_7 ++ dktX40_go_8
def dkwX40_go_6 : List UInt8 := [167, 0, 133, 25, 7, 18, 40, 182, 0, 32, 153, 0, 123, 6, 54, 8, 167, 0, 117, 25, 7, 18, 42]
abbrev dktX40_go_6 : List UInt8 := dkwX40_go_6 ++ dktX40_go_7
def dkwX40_go_5 : List UInt8 := [153, 0, 155, 4, 54, 8, 167, 0, 149, 25, 7, 18, 38, 182, 0, 32, 153, 0, 139, 5, 54, 8]
abbrev dktX40_go_5 : List UInt8 := dkwX40_go_5 ++ dktX40_go_6
def dkwX40_go_4 : List UInt8 := [25, 7, 18, 30, 182, 0, 32, 153, 0, 171, 3, 54, 8, 167, 0, 165, 25, 7, 18, 36, 182, 0, 32]
abbrev dktX40_go_4 : List UInt8 := dkwX40_go_4 ++ dktX40_go_5
def dkwX40_go_3 : List UInt8 := [171, 0, 0, 0, 0, 0, 1, 22, 0, 0, 0, 11, 194, 88, 219, 73, 0, 0, 0, 100, 0, 0, 13, 29, 0, 0, 0, 230, 0, 1, 141, 127, 0, 0, 0, 148, 0, 1, 162, 27, 0, 0, 0, 180, 0, 1, 184, 144, 0, 0, 0, 196, 0, 48, 107, 17, 0, 0, 0, 164, 0, 51, 122, 139, 0, 0, 0, 132, 0, 52, 141, 154, 0, 0, 0, 247, 0, 53, 192, 102, 0, 0, 1, 8, 5, 194, 133, 77, 0, 0, 0, 116, 6, 45, 217, 197, 0, 0, 0, 213]
abbrev dktX40_go_3 : List UInt8 := dkwX40_go_3 ++ dktX40_go_4
def dkwX40_go_2 : List UInt8 := [25, 7, 182, 0, 24]
abbrev dktX40_go_2 : List UInt8 := dkwX40_go_2 ++ dktX40_go_3
def dkwX40_go_1 : List UInt8 := [17, 78, 32, 164, 0, 11, 187, 0, 15, 89, 183, 0, 17, 191, 25, 4, 180, 0, 18, 58, 7, 2, 54, 8]
abbrev dktX40_go_1 : List UInt8 := dkwX40_go_1 ++ dktX40_go_2
def dkwX40_go_0 : List UInt8 := [43, 58, 4, 44, 58, 5, 45, 58, 6, 42, 89, 180, 0, 9, 4, 96, 181, 0, 9, 42, 180, 0, 9]
abbrev dktX40_go_0 : List UInt8 := dkwX40_go_0 ++ dktX40_go_1
theorem dksX40_go_0 : cX40_go.data.toList.drop 0 = dktX40_go_0 := by decide +kernel
theorem dksX40_go_1 : cX40_go.data.toList.drop 23 = dktX40_go_1 := dk_seg dksX40_go_0 23 rfl rfl
theorem dksX40_go_2 : cX40_go.data.toList.drop 47 = dktX40_go_2 := dk_seg dksX40_go_1 24 rfl rfl
theorem dksX40_go_3 : cX40_go.data.toList.drop 52 = dktX40_go_3 := dk_seg dksX40_go_2 5 rfl rfl
theorem dksX40_go_4 : cX40_go.data.toList.drop 152 = dktX40_go_4 := dk_seg dksX40_go_3 100 rfl rfl
theorem dksX40_go_5 : cX40_go.data.toList.drop 175 = dktX40_go_5 := dk_seg dksX40_go_4 23 rfl rfl
theorem dksX40_go_6 : cX40_go.data.toList.drop 197 = dktX40_go_6 := dk_seg dksX40_go_5 22 rfl rfl
theorem dksX40_go_7 : cX40_go.data.toList.drop 220 = dktX40_go_7 := dk_seg dksX40_go_6 23 rfl rfl
theorem dksX40_go_8 : cX40_go.data.toList.drop 243 = dktX40_go_8 := dk_seg dksX40_go_7 23 rfl rfl
theorem dksX40_go_9 : cX40_go.data.toList.drop 267 = dktX40_go_9 := dk_seg dksX40_go_8 24 rfl rfl
theorem dksX40_go_10 : cX40_go.data.toList.drop 289 = dktX40_go_10 := dk_seg dksX40_go_9 22 rfl rfl
theorem dksX40_go_11 : cX40_go.data.toList.drop 313 = dktX40_go_11 := dk_seg dksX40_go_10 24 rfl rfl
theorem dksX40_go_12 : cX40_go.data.toList.drop 332 = dktX40_go_12 := dk_seg dksX40_go_11 19 rfl rfl
theorem dksX40_go_13 : cX40_go.data.toList.drop 392 = dktX40_go_13 := dk_seg dksX40_go_12 60 rfl rfl
theorem dksX40_go_14 : cX40_go.data.toList.drop 415 = dktX40_go_14 := dk_seg dksX40_go_13 23 rfl rfl
theorem dksX40_go_15 : cX40_go.data.toList.drop 438 = dktX40_go_15 := dk_seg dksX40_go_14 23 rfl rfl
theorem dksX40_go_16 : cX40_go.data.toList.drop 462 = dktX40_go_16 := dk_seg dksX40_go_15 24 rfl rfl
theorem dksX40_go_17 : cX40_go.data.toList.drop 486 = dktX40_go_17 := dk_seg dksX40_go_16 24 rfl rfl
theorem dksX40_go_18 : cX40_go.data.toList.drop 510 = dktX40_go_18 := dk_seg dksX40_go_17 24 rfl rfl
theorem dksX40_go_19 : cX40_go.data.toList.drop 533 = dktX40_go_19 := dk_seg dksX40_go_18 23 rfl rfl
theorem dksX40_go_20 : cX40_go.data.toList.drop 555 = dktX40_go_20 := dk_seg dksX40_go_19 22 rfl rfl
theorem dksX40_go_21 : cX40_go.data.toList.drop 579 = dktX40_go_21 := dk_seg dksX40_go_20 24 rfl rfl
theorem dksX40_go_22 : cX40_go.data.toList.drop 602 = dktX40_go_22 := dk_seg dksX40_go_21 23 rfl rfl
theorem dksX40_go_23 : cX40_go.data.toList.drop 624 = dktX40_go_23 := dk_seg dksX40_go_22 22 rfl rfl
theorem dksX40_go_24 : cX40_go.data.toList.drop 647 = dktX40_go_24 := dk_seg dksX40_go_23 23 rfl rfl
theorem dksX40_go_25 : cX40_go.data.toList.drop 669 = dktX40_go_25 := dk_seg dksX40_go_24 22 rfl rfl
theorem dksX40_go_26 : cX40_go.data.toList.drop 692 = dktX40_go_26 := dk_seg dksX40_go_25 23 rfl rfl
theorem dksX40_go_27 : cX40_go.data.toList.drop 716 = dktX40_go_27 := dk_seg dksX40_go_26 24 rfl rfl
theorem dksX40_go_28 : cX40_go.data.toList.drop 740 = dktX40_go_28 := dk_seg dksX40_go_27 24 rfl rfl
theorem dksX40_go_29 : cX40_go.data.toList.drop 762 = dktX40_go_29 := dk_seg dksX40_go_28 22 rfl rfl
theorem dksX40_go_30 : cX40_go.data.toList.drop 784 = dktX40_go_30 := dk_seg dksX40_go_29 22 rfl rfl
theorem dksX40_go_31 : cX40_go.data.toList.drop 807 = dktX40_go_31 := dk_seg dksX40_go_30 23 rfl rfl
theorem dksX40_go_32 : cX40_go.data.toList.drop 831 = dktX40_go_32 := dk_seg dksX40_go_31 24 rfl rfl
theorem dksX40_go_33 : cX40_go.data.toList.drop 855 = dktX40_go_33 := dk_seg dksX40_go_32 24 rfl rfl
theorem dksX40_go_34 : cX40_go.data.toList.drop 878 = dktX40_go_34 := dk_seg dksX40_go_33 23 rfl rfl
theorem dksX40_go_35 : cX40_go.data.toList.drop 900 = dktX40_go_35 := dk_seg dksX40_go_34 22 rfl rfl
theorem dksX40_go_36 : cX40_go.data.toList.drop 924 = dktX40_go_36 := dk_seg dksX40_go_35 24 rfl rfl
theorem dksX40_go_37 : cX40_go.data.toList.drop 948 = dktX40_go_37 := dk_seg dksX40_go_36 24 rfl rfl
theorem dksX40_go_38 : cX40_go.data.toList.drop 971 = dktX40_go_38 := dk_seg dksX40_go_37 23 rfl rfl
theorem dksX40_go_39 : cX40_go.data.toList.drop 995 = dktX40_go_39 := dk_seg dksX40_go_38 24 rfl rfl
theorem dksX40_go_40 : cX40_go.data.toList.drop 1018 = dktX40_go_40 := dk_seg dksX40_go_39 23 rfl rfl
theorem dksX40_go_41 : cX40_go.data.toList.drop 1041 = dktX40_go_41 := dk_seg dksX40_go_40 23 rfl rfl
theorem dksX40_go_42 : cX40_go.data.toList.drop 1064 = dktX40_go_42 := dk_seg dksX40_go_41 23 rfl rfl
theorem dksX40_go_43 : cX40_go.data.toList.drop 1087 = dktX40_go_43 := dk_seg dksX40_go_42 23 rfl rfl
theorem dksX40_go_44 : cX40_go.data.toList.drop 1110 = dktX40_go_44 := dk_seg dksX40_go_43 23 rfl rfl
theorem dX40_go_0 : decode cX40_go 0 = .ok (.aload_n 1, 1) := dk_43 (dk_at dksX40_go_0 0 rfl rfl)
theorem dX40_go_1 : decode cX40_go 1 = .ok (.astore 4, 2) := dk_58 4 (dk_at dksX40_go_0 1 rfl rfl)
theorem dX40_go_3 : decode cX40_go 3 = .ok (.aload_n 2, 1) := dk_44 (dk_at dksX40_go_0 3 rfl rfl)
theorem dX40_go_4 : decode cX40_go 4 = .ok (.astore 5, 2) := dk_58 5 (dk_at dksX40_go_0 4 rfl rfl)
theorem dX40_go_6 : decode cX40_go 6 = .ok (.aload_n 3, 1) := dk_45 (dk_at dksX40_go_0 6 rfl rfl)
theorem dX40_go_7 : decode cX40_go 7 = .ok (.astore 6, 2) := dk_58 6 (dk_at dksX40_go_0 7 rfl rfl)
theorem dX40_go_9 : decode cX40_go 9 = .ok (.aload_n 0, 1) := dk_42 (dk_at dksX40_go_0 9 rfl rfl)
theorem dX40_go_10 : decode cX40_go 10 = .ok (.dup, 1) := dk_89 (dk_at dksX40_go_0 10 rfl rfl)
theorem dX40_go_11 : decode cX40_go 11 = .ok (.getfield 9, 3) := dk_180 0 9 (dk_at dksX40_go_0 11 rfl rfl)
theorem dX40_go_14 : decode cX40_go 14 = .ok (.iconst 1, 1) := dk_4 (dk_at dksX40_go_0 14 rfl rfl)
theorem dX40_go_15 : decode cX40_go 15 = .ok (.iadd, 1) := dk_96 (dk_at dksX40_go_0 15 rfl rfl)
theorem dX40_go_16 : decode cX40_go 16 = .ok (.putfield 9, 3) := dk_181 0 9 (dk_at dksX40_go_0 16 rfl rfl)
theorem dX40_go_19 : decode cX40_go 19 = .ok (.aload_n 0, 1) := dk_42 (dk_at dksX40_go_0 19 rfl rfl)
theorem dX40_go_20 : decode cX40_go 20 = .ok (.getfield 9, 3) := dk_180 0 9 (dk_at dksX40_go_0 20 rfl rfl)
theorem dX40_go_23 : decode cX40_go 23 = .ok (.sipush 20000, 3) := dk_17 78 32 (dk_at dksX40_go_1 0 rfl rfl)
theorem dX40_go_26 : decode cX40_go 26 = .ok (.if_icmp .le 11, 3) := dk_164 0 11 (dk_at dksX40_go_1 3 rfl rfl)
theorem dX40_go_29 : decode cX40_go 29 = .ok (.new 15, 3) := dk_187 0 15 (dk_at dksX40_go_1 6 rfl rfl)
theorem dX40_go_32 : decode cX40_go 32 = .ok (.dup, 1) := dk_89 (dk_at dksX40_go_1 9 rfl rfl)
theorem dX40_go_33 : decode cX40_go 33 = .ok (.invokespecial 17, 3) := dk_183 0 17 (dk_at dksX40_go_1 10 rfl rfl)
theorem dX40_go_36 : decode cX40_go 36 = .ok (.athrow, 1) := dk_191 (dk_at dksX40_go_1 13 rfl rfl)
theorem dX40_go_37 : decode cX40_go 37 = .ok (.aload 4, 2) := dk_25 4 (dk_at dksX40_go_1 14 rfl rfl)
theorem dX40_go_39 : decode cX40_go 39 = .ok (.getfield 18, 3) := dk_180 0 18 (dk_at dksX40_go_1 16 rfl rfl)
theorem dX40_go_42 : decode cX40_go 42 = .ok (.astore 7, 2) := dk_58 7 (dk_at dksX40_go_1 19 rfl rfl)
theorem dX40_go_44 : decode cX40_go 44 = .ok (.iconst (-1), 1) := dk_2 (dk_at dksX40_go_1 21 rfl rfl)
theorem dX40_go_45 : decode cX40_go 45 = .ok (.istore 8, 2) := dk_54 8 (dk_at dksX40_go_1 22 rfl rfl)
theorem dX40_go_47 : decode cX40_go 47 = .ok (.aload 7, 2) := dk_25 7 (dk_at dksX40_go_2 0 rfl rfl)
theorem dX40_go_49 : decode cX40_go 49 = .ok (.invokevirtual 24, 3) := dk_182 0 24 (dk_at dksX40_go_2 2 rfl rfl)
theorem dX40_go_52 : decode cX40_go 52 = .ok (.lookupswitch 278 #[(-1034364087, 100), (3357, 230), (101759, 148), (107035, 180), (112784, 196), (3173137, 164), (3373707, 132), (3444122, 247), (3522662, 264), (96634189, 116), (103668165, 213)], 100) := by decide +kernel
theorem dX40_go_152 : decode cX40_go 152 = .ok (.aload 7, 2) := dk_25 7 (dk_at dksX40_go_4 0 rfl rfl)
theorem dX40_go_154 : decode cX40_go 154 = .ok (.ldc 30, 2) := dk_18 30 (dk_at dksX40_go_4 2 rfl rfl)
theorem dX40_go_156 : decode cX40_go 156 = .ok (.invokevirtual 32, 3) := dk_182 0 32 (dk_at dksX40_go_4 4 rfl rfl)
theorem dX40_go_159 : decode cX40_go 159 = .ok (.ifCond .eq 171, 3) := dk_153 0 171 (dk_at dksX40_go_4 7 rfl rfl)
theorem dX40_go_162 : decode cX40_go 162 = .ok (.iconst 0, 1) := dk_3 (dk_at dksX40_go_4 10 rfl rfl)
theorem dX40_go_163 : decode cX40_go 163 = .ok (.istore 8, 2) := dk_54 8 (dk_at dksX40_go_4 11 rfl rfl)
theorem dX40_go_165 : decode cX40_go 165 = .ok (.goto 165, 3) := dk_167 0 165 (dk_at dksX40_go_4 13 rfl rfl)
theorem dX40_go_168 : decode cX40_go 168 = .ok (.aload 7, 2) := dk_25 7 (dk_at dksX40_go_4 16 rfl rfl)
theorem dX40_go_170 : decode cX40_go 170 = .ok (.ldc 36, 2) := dk_18 36 (dk_at dksX40_go_4 18 rfl rfl)
theorem dX40_go_172 : decode cX40_go 172 = .ok (.invokevirtual 32, 3) := dk_182 0 32 (dk_at dksX40_go_4 20 rfl rfl)
theorem dX40_go_175 : decode cX40_go 175 = .ok (.ifCond .eq 155, 3) := dk_153 0 155 (dk_at dksX40_go_5 0 rfl rfl)
theorem dX40_go_178 : decode cX40_go 178 = .ok (.iconst 1, 1) := dk_4 (dk_at dksX40_go_5 3 rfl rfl)
theorem dX40_go_179 : decode cX40_go 179 = .ok (.istore 8, 2) := dk_54 8 (dk_at dksX40_go_5 4 rfl rfl)
theorem dX40_go_181 : decode cX40_go 181 = .ok (.goto 149, 3) := dk_167 0 149 (dk_at dksX40_go_5 6 rfl rfl)
theorem dX40_go_184 : decode cX40_go 184 = .ok (.aload 7, 2) := dk_25 7 (dk_at dksX40_go_5 9 rfl rfl)
theorem dX40_go_186 : decode cX40_go 186 = .ok (.ldc 38, 2) := dk_18 38 (dk_at dksX40_go_5 11 rfl rfl)
theorem dX40_go_188 : decode cX40_go 188 = .ok (.invokevirtual 32, 3) := dk_182 0 32 (dk_at dksX40_go_5 13 rfl rfl)
theorem dX40_go_191 : decode cX40_go 191 = .ok (.ifCond .eq 139, 3) := dk_153 0 139 (dk_at dksX40_go_5 16 rfl rfl)
theorem dX40_go_194 : decode cX40_go 194 = .ok (.iconst 2, 1) := dk_5 (dk_at dksX40_go_5 19 rfl rfl)
theorem dX40_go_195 : decode cX40_go 195 = .ok (.istore 8, 2) := dk_54 8 (dk_at dksX40_go_5 20 rfl rfl)
theorem dX40_go_197 : decode cX40_go 197 = .ok (.goto 133, 3) := dk_167 0 133 (dk_at dksX40_go_6 0 rfl rfl)
theorem dX40_go_200 : decode cX40_go 200 = .ok (.aload 7, 2) := dk_25 7 (dk_at dksX40_go_6 3 rfl rfl)
theorem dX40_go_202 : decode cX40_go 202 = .ok (.ldc 40, 2) := dk_18 40 (dk_at dksX40_go_6 5 rfl rfl)
theorem dX40_go_204 : decode cX40_go 204 = .ok (.invokevirtual 32, 3) := dk_182 0 32 (dk_at dksX40_go_6 7 rfl rfl)
theorem dX40_go_207 : decode cX40_go 207 = .ok (.ifCond .eq 123, 3) := dk_153 0 123 (dk_at dksX40_go_6 10 rfl rfl)
theorem dX40_go_210 : decode cX40_go 210 = .ok (.iconst 3, 1) := dk_6 (dk_at dksX40_go_6 13 rfl rfl)
theorem dX40_go_211 : decode cX40_go 211 = .ok (.istore 8, 2) := dk_54 8 (dk_at dksX40_go_6 14 rfl rfl)
theorem dX40_go_213 : decode cX40_go 213 = .ok (.goto 117, 3) := dk_167 0 117 (dk_at dksX40_go_6 16 rfl rfl)
theorem dX40_go_216 : decode cX40_go 216 = .ok (.aload 7, 2) := dk_25 7 (dk_at dksX40_go_6 19 rfl rfl)
theorem dX40_go_218 : decode cX40_go 218 = .ok (.ldc 42, 2) := dk_18 42 (dk_at dksX40_go_6 21 rfl rfl)
theorem dX40_go_220 : decode cX40_go 220 = .ok (.invokevirtual 32, 3) := dk_182 0 32 (dk_at dksX40_go_7 0 rfl rfl)
theorem dX40_go_223 : decode cX40_go 223 = .ok (.ifCond .eq 107, 3) := dk_153 0 107 (dk_at dksX40_go_7 3 rfl rfl)
theorem dX40_go_226 : decode cX40_go 226 = .ok (.iconst 4, 1) := dk_7 (dk_at dksX40_go_7 6 rfl rfl)
theorem dX40_go_227 : decode cX40_go 227 = .ok (.istore 8, 2) := dk_54 8 (dk_at dksX40_go_7 7 rfl rfl)
theorem dX40_go_229 : decode cX40_go 229 = .ok (.goto 101, 3) := dk_167 0 101 (dk_at dksX40_go_7 9 rfl rfl)
theorem dX40_go_232 : decode cX40_go 232 = .ok (.aload 7, 2) := dk_25 7 (dk_at dksX40_go_7 12 rfl rfl)
theorem dX40_go_234 : decode cX40_go 234 = .ok (.ldc 44, 2) := dk_18 44 (dk_at dksX40_go_7 14 rfl rfl)
theorem dX40_go_236 : decode cX40_go 236 = .ok (.invokevirtual 32, 3) := dk_182 0 32 (dk_at dksX40_go_7 16 rfl rfl)
theorem dX40_go_239 : decode cX40_go 239 = .ok (.ifCond .eq 91, 3) := dk_153 0 91 (dk_at dksX40_go_7 19 rfl rfl)
theorem dX40_go_242 : decode cX40_go 242 = .ok (.iconst 5, 1) := dk_8 (dk_at dksX40_go_7 22 rfl rfl)
theorem dX40_go_243 : decode cX40_go 243 = .ok (.istore 8, 2) := dk_54 8 (dk_at dksX40_go_8 0 rfl rfl)
theorem dX40_go_245 : decode cX40_go 245 = .ok (.goto 85, 3) := dk_167 0 85 (dk_at dksX40_go_8 2 rfl rfl)
theorem dX40_go_248 : decode cX40_go 248 = .ok (.aload 7, 2) := dk_25 7 (dk_at dksX40_go_8 5 rfl rfl)
theorem dX40_go_250 : decode cX40_go 250 = .ok (.ldc 46, 2) := dk_18 46 (dk_at dksX40_go_8 7 rfl rfl)
theorem dX40_go_252 : decode cX40_go 252 = .ok (.invokevirtual 32, 3) := dk_182 0 32 (dk_at dksX40_go_8 9 rfl rfl)
theorem dX40_go_255 : decode cX40_go 255 = .ok (.ifCond .eq 75, 3) := dk_153 0 75 (dk_at dksX40_go_8 12 rfl rfl)
theorem dX40_go_258 : decode cX40_go 258 = .ok (.bipush 6, 2) := dk_16 6 (dk_at dksX40_go_8 15 rfl rfl)
theorem dX40_go_260 : decode cX40_go 260 = .ok (.istore 8, 2) := dk_54 8 (dk_at dksX40_go_8 17 rfl rfl)
theorem dX40_go_262 : decode cX40_go 262 = .ok (.goto 68, 3) := dk_167 0 68 (dk_at dksX40_go_8 19 rfl rfl)
theorem dX40_go_265 : decode cX40_go 265 = .ok (.aload 7, 2) := dk_25 7 (dk_at dksX40_go_8 22 rfl rfl)
theorem dX40_go_267 : decode cX40_go 267 = .ok (.ldc 48, 2) := dk_18 48 (dk_at dksX40_go_9 0 rfl rfl)
theorem dX40_go_269 : decode cX40_go 269 = .ok (.invokevirtual 32, 3) := dk_182 0 32 (dk_at dksX40_go_9 2 rfl rfl)
theorem dX40_go_272 : decode cX40_go 272 = .ok (.ifCond .eq 58, 3) := dk_153 0 58 (dk_at dksX40_go_9 5 rfl rfl)
theorem dX40_go_275 : decode cX40_go 275 = .ok (.bipush 7, 2) := dk_16 7 (dk_at dksX40_go_9 8 rfl rfl)
theorem dX40_go_277 : decode cX40_go 277 = .ok (.istore 8, 2) := dk_54 8 (dk_at dksX40_go_9 10 rfl rfl)
theorem dX40_go_279 : decode cX40_go 279 = .ok (.goto 51, 3) := dk_167 0 51 (dk_at dksX40_go_9 12 rfl rfl)
theorem dX40_go_282 : decode cX40_go 282 = .ok (.aload 7, 2) := dk_25 7 (dk_at dksX40_go_9 15 rfl rfl)
theorem dX40_go_284 : decode cX40_go 284 = .ok (.ldc 50, 2) := dk_18 50 (dk_at dksX40_go_9 17 rfl rfl)
theorem dX40_go_286 : decode cX40_go 286 = .ok (.invokevirtual 32, 3) := dk_182 0 32 (dk_at dksX40_go_9 19 rfl rfl)
theorem dX40_go_289 : decode cX40_go 289 = .ok (.ifCond .eq 41, 3) := dk_153 0 41 (dk_at dksX40_go_10 0 rfl rfl)
theorem dX40_go_292 : decode cX40_go 292 = .ok (.bipush 8, 2) := dk_16 8 (dk_at dksX40_go_10 3 rfl rfl)
theorem dX40_go_294 : decode cX40_go 294 = .ok (.istore 8, 2) := dk_54 8 (dk_at dksX40_go_10 5 rfl rfl)
theorem dX40_go_296 : decode cX40_go 296 = .ok (.goto 34, 3) := dk_167 0 34 (dk_at dksX40_go_10 7 rfl rfl)
theorem dX40_go_299 : decode cX40_go 299 = .ok (.aload 7, 2) := dk_25 7 (dk_at dksX40_go_10 10 rfl rfl)
theorem dX40_go_301 : decode cX40_go 301 = .ok (.ldc 52, 2) := dk_18 52 (dk_at dksX40_go_10 12 rfl rfl)
theorem dX40_go_303 : decode cX40_go 303 = .ok (.invokevirtual 32, 3) := dk_182 0 32 (dk_at dksX40_go_10 14 rfl rfl)
theorem dX40_go_306 : decode cX40_go 306 = .ok (.ifCond .eq 24, 3) := dk_153 0 24 (dk_at dksX40_go_10 17 rfl rfl)
theorem dX40_go_309 : decode cX40_go 309 = .ok (.bipush 9, 2) := dk_16 9 (dk_at dksX40_go_10 20 rfl rfl)
theorem dX40_go_311 : decode cX40_go 311 = .ok (.istore 8, 2) := dk_54 8 (dk_at dksX40_go_10 22 rfl rfl)
theorem dX40_go_313 : decode cX40_go 313 = .ok (.goto 17, 3) := dk_167 0 17 (dk_at dksX40_go_11 0 rfl rfl)
theorem dX40_go_316 : decode cX40_go 316 = .ok (.aload 7, 2) := dk_25 7 (dk_at dksX40_go_11 3 rfl rfl)
theorem dX40_go_318 : decode cX40_go 318 = .ok (.ldc 54, 2) := dk_18 54 (dk_at dksX40_go_11 5 rfl rfl)
theorem dX40_go_320 : decode cX40_go 320 = .ok (.invokevirtual 32, 3) := dk_182 0 32 (dk_at dksX40_go_11 7 rfl rfl)
theorem dX40_go_323 : decode cX40_go 323 = .ok (.ifCond .eq 7, 3) := dk_153 0 7 (dk_at dksX40_go_11 10 rfl rfl)
theorem dX40_go_326 : decode cX40_go 326 = .ok (.bipush 10, 2) := dk_16 10 (dk_at dksX40_go_11 13 rfl rfl)
theorem dX40_go_328 : decode cX40_go 328 = .ok (.istore 8, 2) := dk_54 8 (dk_at dksX40_go_11 15 rfl rfl)
theorem dX40_go_330 : decode cX40_go 330 = .ok (.iload 8, 2) := dk_21 8 (dk_at dksX40_go_11 17 rfl rfl)
theorem dX40_go_332 : decode cX40_go 332 = .ok (.tableswitch 729 0 10 #[60, 73, 81, 213, 227, 302, 302, 401, 590, 627, 676], 60) := by decide +kernel
theorem dX40_go_392 : decode cX40_go 392 = .ok (.new 56, 3) := dk_187 0 56 (dk_at dksX40_go_13 0 rfl rfl)
theorem dX40_go_395 : decode cX40_go 395 = .ok (.dup, 1) := dk_89 (dk_at dksX40_go_13 3 rfl rfl)
theorem dX40_go_396 : decode cX40_go 396 = .ok (.aload 4, 2) := dk_25 4 (dk_at dksX40_go_13 4 rfl rfl)
theorem dX40_go_398 : decode cX40_go 398 = .ok (.getfield 58, 3) := dk_180 0 58 (dk_at dksX40_go_13 6 rfl rfl)
theorem dX40_go_401 : decode cX40_go 401 = .ok (.invokespecial 61, 3) := dk_183 0 61 (dk_at dksX40_go_13 9 rfl rfl)
theorem dX40_go_404 : decode cX40_go 404 = .ok (.areturn, 1) := dk_176 (dk_at dksX40_go_13 12 rfl rfl)
theorem dX40_go_405 : decode cX40_go 405 = .ok (.new 64, 3) := dk_187 0 64 (dk_at dksX40_go_13 13 rfl rfl)
theorem dX40_go_408 : decode cX40_go 408 = .ok (.dup, 1) := dk_89 (dk_at dksX40_go_13 16 rfl rfl)
theorem dX40_go_409 : decode cX40_go 409 = .ok (.invokespecial 66, 3) := dk_183 0 66 (dk_at dksX40_go_13 17 rfl rfl)
theorem dX40_go_412 : decode cX40_go 412 = .ok (.areturn, 1) := dk_176 (dk_at dksX40_go_13 20 rfl rfl)
theorem dX40_go_413 : decode cX40_go 413 = .ok (.aload 5, 2) := dk_25 5 (dk_at dksX40_go_13 21 rfl rfl)
theorem dX40_go_415 : decode cX40_go 415 = .ok (.getfield 67, 3) := dk_180 0 67 (dk_at dksX40_go_14 0 rfl rfl)
theorem dX40_go_418 : decode cX40_go 418 = .ok (.aload 4, 2) := dk_25 4 (dk_at dksX40_go_14 3 rfl rfl)
theorem dX40_go_420 : decode cX40_go 420 = .ok (.getfield 58, 3) := dk_180 0 58 (dk_at dksX40_go_14 5 rfl rfl)
theorem dX40_go_423 : decode cX40_go 423 = .ok (.if_icmp .eq 13, 3) := dk_159 0 13 (dk_at dksX40_go_14 8 rfl rfl)
theorem dX40_go_426 : decode cX40_go 426 = .ok (.aload 5, 2) := dk_25 5 (dk_at dksX40_go_14 11 rfl rfl)
theorem dX40_go_428 : decode cX40_go 428 = .ok (.getfield 71, 3) := dk_180 0 71 (dk_at dksX40_go_14 13 rfl rfl)
theorem dX40_go_431 : decode cX40_go 431 = .ok (.astore 5, 2) := dk_58 5 (dk_at dksX40_go_14 16 rfl rfl)
theorem dX40_go_433 : decode cX40_go 433 = .ok (.goto (-20), 3) := dk_167 255 236 (dk_at dksX40_go_14 18 rfl rfl)
theorem dX40_go_436 : decode cX40_go 436 = .ok (.aload 5, 2) := dk_25 5 (dk_at dksX40_go_14 21 rfl rfl)
theorem dX40_go_438 : decode cX40_go 438 = .ok (.getfield 75, 3) := dk_180 0 75 (dk_at dksX40_go_15 0 rfl rfl)
theorem dX40_go_441 : decode cX40_go 441 = .ok (.ifnonnull 9, 3) := dk_199 0 9 (dk_at dksX40_go_15 3 rfl rfl)
theorem dX40_go_444 : decode cX40_go 444 = .ok (.aload 5, 2) := dk_25 5 (dk_at dksX40_go_15 6 rfl rfl)
theorem dX40_go_446 : decode cX40_go 446 = .ok (.getfield 79, 3) := dk_180 0 79 (dk_at dksX40_go_15 8 rfl rfl)
theorem dX40_go_449 : decode cX40_go 449 = .ok (.areturn, 1) := dk_176 (dk_at dksX40_go_15 11 rfl rfl)
theorem dX40_go_450 : decode cX40_go 450 = .ok (.aload 5, 2) := dk_25 5 (dk_at dksX40_go_15 12 rfl rfl)
theorem dX40_go_452 : decode cX40_go 452 = .ok (.getfield 83, 3) := dk_180 0 83 (dk_at dksX40_go_15 14 rfl rfl)
theorem dX40_go_455 : decode cX40_go 455 = .ok (.ifnull 73, 3) := dk_198 0 73 (dk_at dksX40_go_15 17 rfl rfl)
theorem dX40_go_458 : decode cX40_go 458 = .ok (.aload 4, 2) := dk_25 4 (dk_at dksX40_go_15 20 rfl rfl)
theorem dX40_go_460 : decode cX40_go 460 = .ok (.aload 5, 2) := dk_25 5 (dk_at dksX40_go_15 22 rfl rfl)
theorem dX40_go_462 : decode cX40_go 462 = .ok (.aload 6, 2) := dk_25 6 (dk_at dksX40_go_16 0 rfl rfl)
theorem dX40_go_464 : decode cX40_go 464 = .ok (.invokestatic 87, 3) := dk_184 0 87 (dk_at dksX40_go_16 2 rfl rfl)
theorem dX40_go_467 : decode cX40_go 467 = .ok (.astore 9, 2) := dk_58 9 (dk_at dksX40_go_16 5 rfl rfl)
theorem dX40_go_469 : decode cX40_go 469 = .ok (.aload 5, 2) := dk_25 5 (dk_at dksX40_go_16 7 rfl rfl)
theorem dX40_go_471 : decode cX40_go 471 = .ok (.aload 9, 2) := dk_25 9 (dk_at dksX40_go_16 9 rfl rfl)
theorem dX40_go_473 : decode cX40_go 473 = .ok (.invokevirtual 91, 3) := dk_182 0 91 (dk_at dksX40_go_16 11 rfl rfl)
theorem dX40_go_476 : decode cX40_go 476 = .ok (.astore 10, 2) := dk_58 10 (dk_at dksX40_go_16 14 rfl rfl)
theorem dX40_go_478 : decode cX40_go 478 = .ok (.aload 10, 2) := dk_25 10 (dk_at dksX40_go_16 16 rfl rfl)
theorem dX40_go_480 : decode cX40_go 480 = .ok (.ifnonnull 24, 3) := dk_199 0 24 (dk_at dksX40_go_16 18 rfl rfl)
theorem dX40_go_483 : decode cX40_go 483 = .ok (.aload_n 0, 1) := dk_42 (dk_at dksX40_go_16 21 rfl rfl)
theorem dX40_go_484 : decode cX40_go 484 = .ok (.aload 5, 2) := dk_25 5 (dk_at dksX40_go_16 22 rfl rfl)
theorem dX40_go_486 : decode cX40_go 486 = .ok (.getfield 75, 3) := dk_180 0 75 (dk_at dksX40_go_17 0 rfl rfl)
theorem dX40_go_489 : decode cX40_go 489 = .ok (.aload 5, 2) := dk_25 5 (dk_at dksX40_go_17 3 rfl rfl)
theorem dX40_go_491 : decode cX40_go 491 = .ok (.aload 9, 2) := dk_25 9 (dk_at dksX40_go_17 5 rfl rfl)
theorem dX40_go_493 : decode cX40_go 493 = .ok (.invokevirtual 95, 3) := dk_182 0 95 (dk_at dksX40_go_17 7 rfl rfl)
theorem dX40_go_496 : decode cX40_go 496 = .ok (.aload 9, 2) := dk_25 9 (dk_at dksX40_go_17 10 rfl rfl)
theorem dX40_go_498 : decode cX40_go 498 = .ok (.invokevirtual 99, 3) := dk_182 0 99 (dk_at dksX40_go_17 12 rfl rfl)
theorem dX40_go_501 : decode cX40_go 501 = .ok (.goto 5, 3) := dk_167 0 5 (dk_at dksX40_go_17 15 rfl rfl)
theorem dX40_go_504 : decode cX40_go 504 = .ok (.aload 10, 2) := dk_25 10 (dk_at dksX40_go_17 18 rfl rfl)
theorem dX40_go_506 : decode cX40_go 506 = .ok (.astore 11, 2) := dk_58 11 (dk_at dksX40_go_17 20 rfl rfl)
theorem dX40_go_508 : decode cX40_go 508 = .ok (.aload 10, 2) := dk_25 10 (dk_at dksX40_go_17 22 rfl rfl)
theorem dX40_go_510 : decode cX40_go 510 = .ok (.ifnonnull 15, 3) := dk_199 0 15 (dk_at dksX40_go_18 0 rfl rfl)
theorem dX40_go_513 : decode cX40_go 513 = .ok (.aload 5, 2) := dk_25 5 (dk_at dksX40_go_18 3 rfl rfl)
theorem dX40_go_515 : decode cX40_go 515 = .ok (.aload 9, 2) := dk_25 9 (dk_at dksX40_go_18 5 rfl rfl)
theorem dX40_go_517 : decode cX40_go 517 = .ok (.aload 11, 2) := dk_25 11 (dk_at dksX40_go_18 7 rfl rfl)
theorem dX40_go_519 : decode cX40_go 519 = .ok (.invokevirtual 103, 3) := dk_182 0 103 (dk_at dksX40_go_18 9 rfl rfl)
theorem dX40_go_522 : decode cX40_go 522 = .ok (.goto 5, 3) := dk_167 0 5 (dk_at dksX40_go_18 12 rfl rfl)
theorem dX40_go_525 : decode cX40_go 525 = .ok (.aload 10, 2) := dk_25 10 (dk_at dksX40_go_18 15 rfl rfl)
theorem dX40_go_527 : decode cX40_go 527 = .ok (.areturn, 1) := dk_176 (dk_at dksX40_go_18 17 rfl rfl)
theorem dX40_go_528 : decode cX40_go 528 = .ok (.aload 5, 2) := dk_25 5 (dk_at dksX40_go_18 18 rfl rfl)
theorem dX40_go_530 : decode cX40_go 530 = .ok (.getfield 107, 3) := dk_180 0 107 (dk_at dksX40_go_18 20 rfl rfl)
theorem dX40_go_533 : decode cX40_go 533 = .ok (.astore 6, 2) := dk_58 6 (dk_at dksX40_go_19 0 rfl rfl)
theorem dX40_go_535 : decode cX40_go 535 = .ok (.aload 5, 2) := dk_25 5 (dk_at dksX40_go_19 2 rfl rfl)
theorem dX40_go_537 : decode cX40_go 537 = .ok (.getfield 75, 3) := dk_180 0 75 (dk_at dksX40_go_19 4 rfl rfl)
theorem dX40_go_540 : decode cX40_go 540 = .ok (.astore 4, 2) := dk_58 4 (dk_at dksX40_go_19 7 rfl rfl)
theorem dX40_go_542 : decode cX40_go 542 = .ok (.goto 579, 3) := dk_167 2 67 (dk_at dksX40_go_19 9 rfl rfl)
theorem dX40_go_545 : decode cX40_go 545 = .ok (.new 111, 3) := dk_187 0 111 (dk_at dksX40_go_19 12 rfl rfl)
theorem dX40_go_548 : decode cX40_go 548 = .ok (.dup, 1) := dk_89 (dk_at dksX40_go_19 15 rfl rfl)
theorem dX40_go_549 : decode cX40_go 549 = .ok (.aload 4, 2) := dk_25 4 (dk_at dksX40_go_19 16 rfl rfl)
theorem dX40_go_551 : decode cX40_go 551 = .ok (.aload 5, 2) := dk_25 5 (dk_at dksX40_go_19 18 rfl rfl)
theorem dX40_go_553 : decode cX40_go 553 = .ok (.aload 6, 2) := dk_25 6 (dk_at dksX40_go_19 20 rfl rfl)
theorem dX40_go_555 : decode cX40_go 555 = .ok (.invokespecial 113, 3) := dk_183 0 113 (dk_at dksX40_go_20 0 rfl rfl)
theorem dX40_go_558 : decode cX40_go 558 = .ok (.areturn, 1) := dk_176 (dk_at dksX40_go_20 3 rfl rfl)
theorem dX40_go_559 : decode cX40_go 559 = .ok (.aload_n 0, 1) := dk_42 (dk_at dksX40_go_20 4 rfl rfl)
theorem dX40_go_560 : decode cX40_go 560 = .ok (.aload 4, 2) := dk_25 4 (dk_at dksX40_go_20 5 rfl rfl)
theorem dX40_go_562 : decode cX40_go 562 = .ok (.getfield 116, 3) := dk_180 0 116 (dk_at dksX40_go_20 7 rfl rfl)
theorem dX40_go_565 : decode cX40_go 565 = .ok (.iconst 0, 1) := dk_3 (dk_at dksX40_go_20 10 rfl rfl)
theorem dX40_go_566 : decode cX40_go 566 = .ok (.aaload, 1) := dk_50 (dk_at dksX40_go_20 11 rfl rfl)
theorem dX40_go_567 : decode cX40_go 567 = .ok (.aload 5, 2) := dk_25 5 (dk_at dksX40_go_20 12 rfl rfl)
theorem dX40_go_569 : decode cX40_go 569 = .ok (.aload 6, 2) := dk_25 6 (dk_at dksX40_go_20 14 rfl rfl)
theorem dX40_go_571 : decode cX40_go 571 = .ok (.invokevirtual 99, 3) := dk_182 0 99 (dk_at dksX40_go_20 16 rfl rfl)
theorem dX40_go_574 : decode cX40_go 574 = .ok (.checkcast 111, 3) := dk_192 0 111 (dk_at dksX40_go_20 19 rfl rfl)
theorem dX40_go_577 : decode cX40_go 577 = .ok (.astore 9, 2) := dk_58 9 (dk_at dksX40_go_20 22 rfl rfl)
theorem dX40_go_579 : decode cX40_go 579 = .ok (.aload 9, 2) := dk_25 9 (dk_at dksX40_go_21 0 rfl rfl)
theorem dX40_go_581 : decode cX40_go 581 = .ok (.getfield 120, 3) := dk_180 0 120 (dk_at dksX40_go_21 2 rfl rfl)
theorem dX40_go_584 : decode cX40_go 584 = .ok (.getfield 58, 3) := dk_180 0 58 (dk_at dksX40_go_21 5 rfl rfl)
theorem dX40_go_587 : decode cX40_go 587 = .ok (.aload_n 0, 1) := dk_42 (dk_at dksX40_go_21 8 rfl rfl)
theorem dX40_go_588 : decode cX40_go 588 = .ok (.aload 4, 2) := dk_25 4 (dk_at dksX40_go_21 9 rfl rfl)
theorem dX40_go_590 : decode cX40_go 590 = .ok (.getfield 116, 3) := dk_180 0 116 (dk_at dksX40_go_21 11 rfl rfl)
theorem dX40_go_593 : decode cX40_go 593 = .ok (.iconst 1, 1) := dk_4 (dk_at dksX40_go_21 14 rfl rfl)
theorem dX40_go_594 : decode cX40_go 594 = .ok (.aaload, 1) := dk_50 (dk_at dksX40_go_21 15 rfl rfl)
theorem dX40_go_595 : decode cX40_go 595 = .ok (.aload 5, 2) := dk_25 5 (dk_at dksX40_go_21 16 rfl rfl)
theorem dX40_go_597 : decode cX40_go 597 = .ok (.aload 6, 2) := dk_25 6 (dk_at dksX40_go_21 18 rfl rfl)
theorem dX40_go_599 : decode cX40_go 599 = .ok (.invokevirtual 99, 3) := dk_182 0 99 (dk_at dksX40_go_21 20 rfl rfl)
theorem dX40_go_602 : decode cX40_go 602 = .ok (.aload 9, 2) := dk_25 9 (dk_at dksX40_go_22 0 rfl rfl)
theorem dX40_go_604 : decode cX40_go 604 = .ok (.getfield 121, 3) := dk_180 0 121 (dk_at dksX40_go_22 2 rfl rfl)
theorem dX40_go_607 : decode cX40_go 607 = .ok (.invokestatic 124, 3) := dk_184 0 124 (dk_at dksX40_go_22 5 rfl rfl)
theorem dX40_go_610 : decode cX40_go 610 = .ok (.astore 5, 2) := dk_58 5 (dk_at dksX40_go_22 8 rfl rfl)
theorem dX40_go_612 : decode cX40_go 612 = .ok (.aload 9, 2) := dk_25 9 (dk_at dksX40_go_22 10 rfl rfl)
theorem dX40_go_614 : decode cX40_go 614 = .ok (.getfield 128, 3) := dk_180 0 128 (dk_at dksX40_go_22 12 rfl rfl)
theorem dX40_go_617 : decode cX40_go 617 = .ok (.astore 6, 2) := dk_58 6 (dk_at dksX40_go_22 15 rfl rfl)
theorem dX40_go_619 : decode cX40_go 619 = .ok (.aload 9, 2) := dk_25 9 (dk_at dksX40_go_22 17 rfl rfl)
theorem dX40_go_621 : decode cX40_go 621 = .ok (.getfield 120, 3) := dk_180 0 120 (dk_at dksX40_go_22 19 rfl rfl)
theorem dX40_go_624 : decode cX40_go 624 = .ok (.getfield 116, 3) := dk_180 0 116 (dk_at dksX40_go_23 0 rfl rfl)
theorem dX40_go_627 : decode cX40_go 627 = .ok (.iconst 0, 1) := dk_3 (dk_at dksX40_go_23 3 rfl rfl)
theorem dX40_go_628 : decode cX40_go 628 = .ok (.aaload, 1) := dk_50 (dk_at dksX40_go_23 4 rfl rfl)
theorem dX40_go_629 : decode cX40_go 629 = .ok (.astore 4, 2) := dk_58 4 (dk_at dksX40_go_23 5 rfl rfl)
theorem dX40_go_631 : decode cX40_go 631 = .ok (.goto 490, 3) := dk_167 1 234 (dk_at dksX40_go_23 7 rfl rfl)
theorem dX40_go_634 : decode cX40_go 634 = .ok (.aload 4, 2) := dk_25 4 (dk_at dksX40_go_23 10 rfl rfl)
theorem dX40_go_636 : decode cX40_go 636 = .ok (.getfield 129, 3) := dk_180 0 129 (dk_at dksX40_go_23 12 rfl rfl)
theorem dX40_go_639 : decode cX40_go 639 = .ok (.invokevirtual 132, 3) := dk_182 0 132 (dk_at dksX40_go_23 15 rfl rfl)
theorem dX40_go_642 : decode cX40_go 642 = .ok (.ifCond .eq 38, 3) := dk_153 0 38 (dk_at dksX40_go_23 18 rfl rfl)
theorem dX40_go_645 : decode cX40_go 645 = .ok (.aload 4, 2) := dk_25 4 (dk_at dksX40_go_23 21 rfl rfl)
theorem dX40_go_647 : decode cX40_go 647 = .ok (.getfield 58, 3) := dk_180 0 58 (dk_at dksX40_go_24 0 rfl rfl)
theorem dX40_go_650 : decode cX40_go 650 = .ok (.aload_n 0, 1) := dk_42 (dk_at dksX40_go_24 3 rfl rfl)
theorem dX40_go_651 : decode cX40_go 651 = .ok (.aload 4, 2) := dk_25 4 (dk_at dksX40_go_24 4 rfl rfl)
theorem dX40_go_653 : decode cX40_go 653 = .ok (.getfield 116, 3) := dk_180 0 116 (dk_at dksX40_go_24 6 rfl rfl)
theorem dX40_go_656 : decode cX40_go 656 = .ok (.iconst 0, 1) := dk_3 (dk_at dksX40_go_24 9 rfl rfl)
theorem dX40_go_657 : decode cX40_go 657 = .ok (.aaload, 1) := dk_50 (dk_at dksX40_go_24 10 rfl rfl)
theorem dX40_go_658 : decode cX40_go 658 = .ok (.aload 4, 2) := dk_25 4 (dk_at dksX40_go_24 11 rfl rfl)
theorem dX40_go_660 : decode cX40_go 660 = .ok (.aload 5, 2) := dk_25 5 (dk_at dksX40_go_24 13 rfl rfl)
theorem dX40_go_662 : decode cX40_go 662 = .ok (.aload 6, 2) := dk_25 6 (dk_at dksX40_go_24 15 rfl rfl)
theorem dX40_go_664 : decode cX40_go 664 = .ok (.invokestatic 138, 3) := dk_184 0 138 (dk_at dksX40_go_24 17 rfl rfl)
theorem dX40_go_667 : decode cX40_go 667 = .ok (.aload 6, 2) := dk_25 6 (dk_at dksX40_go_24 20 rfl rfl)
theorem dX40_go_669 : decode cX40_go 669 = .ok (.invokevirtual 99, 3) := dk_182 0 99 (dk_at dksX40_go_25 0 rfl rfl)
theorem dX40_go_672 : decode cX40_go 672 = .ok (.aload 5, 2) := dk_25 5 (dk_at dksX40_go_25 3 rfl rfl)
theorem dX40_go_674 : decode cX40_go 674 = .ok (.invokestatic 124, 3) := dk_184 0 124 (dk_at dksX40_go_25 5 rfl rfl)
theorem dX40_go_677 : decode cX40_go 677 = .ok (.goto 42, 3) := dk_167 0 42 (dk_at dksX40_go_25 8 rfl rfl)
theorem dX40_go_680 : decode cX40_go 680 = .ok (.new 68, 3) := dk_187 0 68 (dk_at dksX40_go_25 11 rfl rfl)
theorem dX40_go_683 : decode cX40_go 683 = .ok (.dup, 1) := dk_89 (dk_at dksX40_go_25 14 rfl rfl)
theorem dX40_go_684 : decode cX40_go 684 = .ok (.aload 4, 2) := dk_25 4 (dk_at dksX40_go_25 15 rfl rfl)
theorem dX40_go_686 : decode cX40_go 686 = .ok (.getfield 58, 3) := dk_180 0 58 (dk_at dksX40_go_25 17 rfl rfl)
theorem dX40_go_689 : decode cX40_go 689 = .ok (.aconst_null, 1) := dk_1 (dk_at dksX40_go_25 20 rfl rfl)
theorem dX40_go_690 : decode cX40_go 690 = .ok (.aload 4, 2) := dk_25 4 (dk_at dksX40_go_25 21 rfl rfl)
theorem dX40_go_692 : decode cX40_go 692 = .ok (.getfield 116, 3) := dk_180 0 116 (dk_at dksX40_go_26 0 rfl rfl)
theorem dX40_go_695 : decode cX40_go 695 = .ok (.iconst 0, 1) := dk_3 (dk_at dksX40_go_26 3 rfl rfl)
theorem dX40_go_696 : decode cX40_go 696 = .ok (.aaload, 1) := dk_50 (dk_at dksX40_go_26 4 rfl rfl)
theorem dX40_go_697 : decode cX40_go 697 = .ok (.aload 4, 2) := dk_25 4 (dk_at dksX40_go_26 5 rfl rfl)
theorem dX40_go_699 : decode cX40_go 699 = .ok (.getfield 129, 3) := dk_180 0 129 (dk_at dksX40_go_26 7 rfl rfl)
theorem dX40_go_702 : decode cX40_go 702 = .ok (.aload 4, 2) := dk_25 4 (dk_at dksX40_go_26 10 rfl rfl)
theorem dX40_go_704 : decode cX40_go 704 = .ok (.getfield 18, 3) := dk_180 0 18 (dk_at dksX40_go_26 12 rfl rfl)
theorem dX40_go_707 : decode cX40_go 707 = .ok (.ldc 46, 2) := dk_18 46 (dk_at dksX40_go_26 15 rfl rfl)
theorem dX40_go_709 : decode cX40_go 709 = .ok (.invokevirtual 32, 3) := dk_182 0 32 (dk_at dksX40_go_26 17 rfl rfl)
theorem dX40_go_712 : decode cX40_go 712 = .ok (.aload 6, 2) := dk_25 6 (dk_at dksX40_go_26 20 rfl rfl)
theorem dX40_go_714 : decode cX40_go 714 = .ok (.aload 5, 2) := dk_25 5 (dk_at dksX40_go_26 22 rfl rfl)
theorem dX40_go_716 : decode cX40_go 716 = .ok (.invokespecial 142, 3) := dk_183 0 142 (dk_at dksX40_go_27 0 rfl rfl)
theorem dX40_go_719 : decode cX40_go 719 = .ok (.astore 5, 2) := dk_58 5 (dk_at dksX40_go_27 3 rfl rfl)
theorem dX40_go_721 : decode cX40_go 721 = .ok (.aload 4, 2) := dk_25 4 (dk_at dksX40_go_27 5 rfl rfl)
theorem dX40_go_723 : decode cX40_go 723 = .ok (.getfield 116, 3) := dk_180 0 116 (dk_at dksX40_go_27 7 rfl rfl)
theorem dX40_go_726 : decode cX40_go 726 = .ok (.iconst 1, 1) := dk_4 (dk_at dksX40_go_27 10 rfl rfl)
theorem dX40_go_727 : decode cX40_go 727 = .ok (.aaload, 1) := dk_50 (dk_at dksX40_go_27 11 rfl rfl)
theorem dX40_go_728 : decode cX40_go 728 = .ok (.astore 4, 2) := dk_58 4 (dk_at dksX40_go_27 12 rfl rfl)
theorem dX40_go_730 : decode cX40_go 730 = .ok (.goto 391, 3) := dk_167 1 135 (dk_at dksX40_go_27 14 rfl rfl)
theorem dX40_go_733 : decode cX40_go 733 = .ok (.aload_n 0, 1) := dk_42 (dk_at dksX40_go_27 17 rfl rfl)
theorem dX40_go_734 : decode cX40_go 734 = .ok (.aload 4, 2) := dk_25 4 (dk_at dksX40_go_27 18 rfl rfl)
theorem dX40_go_736 : decode cX40_go 736 = .ok (.getfield 116, 3) := dk_180 0 116 (dk_at dksX40_go_27 20 rfl rfl)
theorem dX40_go_739 : decode cX40_go 739 = .ok (.iconst 0, 1) := dk_3 (dk_at dksX40_go_27 23 rfl rfl)
theorem dX40_go_740 : decode cX40_go 740 = .ok (.aaload, 1) := dk_50 (dk_at dksX40_go_28 0 rfl rfl)
theorem dX40_go_741 : decode cX40_go 741 = .ok (.aload 5, 2) := dk_25 5 (dk_at dksX40_go_28 1 rfl rfl)
theorem dX40_go_743 : decode cX40_go 743 = .ok (.aload 6, 2) := dk_25 6 (dk_at dksX40_go_28 3 rfl rfl)
theorem dX40_go_745 : decode cX40_go 745 = .ok (.invokevirtual 99, 3) := dk_182 0 99 (dk_at dksX40_go_28 5 rfl rfl)
theorem dX40_go_748 : decode cX40_go 748 = .ok (.checkcast 145, 3) := dk_192 0 145 (dk_at dksX40_go_28 8 rfl rfl)
theorem dX40_go_751 : decode cX40_go 751 = .ok (.astore 10, 2) := dk_58 10 (dk_at dksX40_go_28 11 rfl rfl)
theorem dX40_go_753 : decode cX40_go 753 = .ok (.aload 10, 2) := dk_25 10 (dk_at dksX40_go_28 13 rfl rfl)
theorem dX40_go_755 : decode cX40_go 755 = .ok (.getfield 147, 3) := dk_180 0 147 (dk_at dksX40_go_28 15 rfl rfl)
theorem dX40_go_758 : decode cX40_go 758 = .ok (.istore 11, 2) := dk_54 11 (dk_at dksX40_go_28 18 rfl rfl)
theorem dX40_go_760 : decode cX40_go 760 = .ok (.aload 4, 2) := dk_25 4 (dk_at dksX40_go_28 20 rfl rfl)
theorem dX40_go_762 : decode cX40_go 762 = .ok (.getfield 116, 3) := dk_180 0 116 (dk_at dksX40_go_29 0 rfl rfl)
theorem dX40_go_765 : decode cX40_go 765 = .ok (.iconst 1, 1) := dk_4 (dk_at dksX40_go_29 3 rfl rfl)
theorem dX40_go_766 : decode cX40_go 766 = .ok (.aaload, 1) := dk_50 (dk_at dksX40_go_29 4 rfl rfl)
theorem dX40_go_767 : decode cX40_go 767 = .ok (.astore 4, 2) := dk_58 4 (dk_at dksX40_go_29 5 rfl rfl)
theorem dX40_go_769 : decode cX40_go 769 = .ok (.aload 4, 2) := dk_25 4 (dk_at dksX40_go_29 7 rfl rfl)
theorem dX40_go_771 : decode cX40_go 771 = .ok (.getfield 18, 3) := dk_180 0 18 (dk_at dksX40_go_29 9 rfl rfl)
theorem dX40_go_774 : decode cX40_go 774 = .ok (.ldc 150, 2) := dk_18 150 (dk_at dksX40_go_29 12 rfl rfl)
theorem dX40_go_776 : decode cX40_go 776 = .ok (.invokevirtual 32, 3) := dk_182 0 32 (dk_at dksX40_go_29 14 rfl rfl)
theorem dX40_go_779 : decode cX40_go 779 = .ok (.ifCond .eq 71, 3) := dk_153 0 71 (dk_at dksX40_go_29 17 rfl rfl)
theorem dX40_go_782 : decode cX40_go 782 = .ok (.aload 4, 2) := dk_25 4 (dk_at dksX40_go_29 20 rfl rfl)
theorem dX40_go_784 : decode cX40_go 784 = .ok (.getfield 152, 3) := dk_180 0 152 (dk_at dksX40_go_30 0 rfl rfl)
theorem dX40_go_787 : decode cX40_go 787 = .ok (.aload 4, 2) := dk_25 4 (dk_at dksX40_go_30 3 rfl rfl)
theorem dX40_go_789 : decode cX40_go 789 = .ok (.getfield 58, 3) := dk_180 0 58 (dk_at dksX40_go_30 5 rfl rfl)
theorem dX40_go_792 : decode cX40_go 792 = .ok (.bipush 10, 2) := dk_16 10 (dk_at dksX40_go_30 8 rfl rfl)
theorem dX40_go_794 : decode cX40_go 794 = .ok (.irem, 1) := dk_112 (dk_at dksX40_go_30 10 rfl rfl)
theorem dX40_go_795 : decode cX40_go 795 = .ok (.aload 6, 2) := dk_25 6 (dk_at dksX40_go_30 11 rfl rfl)
theorem dX40_go_797 : decode cX40_go 797 = .ok (.invokestatic 156, 3) := dk_184 0 156 (dk_at dksX40_go_30 13 rfl rfl)
theorem dX40_go_800 : decode cX40_go 800 = .ok (.iload 11, 2) := dk_21 11 (dk_at dksX40_go_30 16 rfl rfl)
theorem dX40_go_802 : decode cX40_go 802 = .ok (.if_icmp .eq 48, 3) := dk_159 0 48 (dk_at dksX40_go_30 18 rfl rfl)
theorem dX40_go_805 : decode cX40_go 805 = .ok (.iload 11, 2) := dk_21 11 (dk_at dksX40_go_30 21 rfl rfl)
theorem dX40_go_807 : decode cX40_go 807 = .ok (.iload 11, 2) := dk_21 11 (dk_at dksX40_go_31 0 rfl rfl)
theorem dX40_go_809 : decode cX40_go 809 = .ok (.aload 4, 2) := dk_25 4 (dk_at dksX40_go_31 2 rfl rfl)
theorem dX40_go_811 : decode cX40_go 811 = .ok (.getfield 152, 3) := dk_180 0 152 (dk_at dksX40_go_31 4 rfl rfl)
theorem dX40_go_814 : decode cX40_go 814 = .ok (.aload 4, 2) := dk_25 4 (dk_at dksX40_go_31 7 rfl rfl)
theorem dX40_go_816 : decode cX40_go 816 = .ok (.getfield 58, 3) := dk_180 0 58 (dk_at dksX40_go_31 9 rfl rfl)
theorem dX40_go_819 : decode cX40_go 819 = .ok (.bipush 10, 2) := dk_16 10 (dk_at dksX40_go_31 12 rfl rfl)
theorem dX40_go_821 : decode cX40_go 821 = .ok (.irem, 1) := dk_112 (dk_at dksX40_go_31 14 rfl rfl)
theorem dX40_go_822 : decode cX40_go 822 = .ok (.aload 6, 2) := dk_25 6 (dk_at dksX40_go_31 15 rfl rfl)
theorem dX40_go_824 : decode cX40_go 824 = .ok (.invokestatic 156, 3) := dk_184 0 156 (dk_at dksX40_go_31 17 rfl rfl)
theorem dX40_go_827 : decode cX40_go 827 = .ok (.if_icmp .le 7, 3) := dk_164 0 7 (dk_at dksX40_go_31 20 rfl rfl)
theorem dX40_go_830 : decode cX40_go 830 = .ok (.iconst 1, 1) := dk_4 (dk_at dksX40_go_31 23 rfl rfl)
theorem dX40_go_831 : decode cX40_go 831 = .ok (.goto 4, 3) := dk_167 0 4 (dk_at dksX40_go_32 0 rfl rfl)
theorem dX40_go_834 : decode cX40_go 834 = .ok (.iconst 0, 1) := dk_3 (dk_at dksX40_go_32 3 rfl rfl)
theorem dX40_go_835 : decode cX40_go 835 = .ok (.isub, 1) := dk_100 (dk_at dksX40_go_32 4 rfl rfl)
theorem dX40_go_836 : decode cX40_go 836 = .ok (.istore 11, 2) := dk_54 11 (dk_at dksX40_go_32 5 rfl rfl)
theorem dX40_go_838 : decode cX40_go 838 = .ok (.aload 4, 2) := dk_25 4 (dk_at dksX40_go_32 7 rfl rfl)
theorem dX40_go_840 : decode cX40_go 840 = .ok (.getfield 116, 3) := dk_180 0 116 (dk_at dksX40_go_32 9 rfl rfl)
theorem dX40_go_843 : decode cX40_go 843 = .ok (.iconst 1, 1) := dk_4 (dk_at dksX40_go_32 12 rfl rfl)
theorem dX40_go_844 : decode cX40_go 844 = .ok (.aaload, 1) := dk_50 (dk_at dksX40_go_32 13 rfl rfl)
theorem dX40_go_845 : decode cX40_go 845 = .ok (.astore 4, 2) := dk_58 4 (dk_at dksX40_go_32 14 rfl rfl)
theorem dX40_go_847 : decode cX40_go 847 = .ok (.goto (-78), 3) := dk_167 255 178 (dk_at dksX40_go_32 16 rfl rfl)
theorem dX40_go_850 : decode cX40_go 850 = .ok (.aload 4, 2) := dk_25 4 (dk_at dksX40_go_32 19 rfl rfl)
theorem dX40_go_852 : decode cX40_go 852 = .ok (.getfield 18, 3) := dk_180 0 18 (dk_at dksX40_go_32 21 rfl rfl)
theorem dX40_go_855 : decode cX40_go 855 = .ok (.ldc 150, 2) := dk_18 150 (dk_at dksX40_go_33 0 rfl rfl)
theorem dX40_go_857 : decode cX40_go 857 = .ok (.invokevirtual 32, 3) := dk_182 0 32 (dk_at dksX40_go_33 2 rfl rfl)
theorem dX40_go_860 : decode cX40_go 860 = .ok (.ifCond .eq 24, 3) := dk_153 0 24 (dk_at dksX40_go_33 5 rfl rfl)
theorem dX40_go_863 : decode cX40_go 863 = .ok (.aload 4, 2) := dk_25 4 (dk_at dksX40_go_33 8 rfl rfl)
theorem dX40_go_865 : decode cX40_go 865 = .ok (.getfield 58, 3) := dk_180 0 58 (dk_at dksX40_go_33 10 rfl rfl)
theorem dX40_go_868 : decode cX40_go 868 = .ok (.bipush 10, 2) := dk_16 10 (dk_at dksX40_go_33 13 rfl rfl)
theorem dX40_go_870 : decode cX40_go 870 = .ok (.idiv, 1) := dk_108 (dk_at dksX40_go_33 15 rfl rfl)
theorem dX40_go_871 : decode cX40_go 871 = .ok (.aload 10, 2) := dk_25 10 (dk_at dksX40_go_33 16 rfl rfl)
theorem dX40_go_873 : decode cX40_go 873 = .ok (.getfield 160, 3) := dk_180 0 160 (dk_at dksX40_go_33 18 rfl rfl)
theorem dX40_go_876 : decode cX40_go 876 = .ok (.aload 5, 2) := dk_25 5 (dk_at dksX40_go_33 21 rfl rfl)
theorem dX40_go_878 : decode cX40_go 878 = .ok (.invokestatic 124, 3) := dk_184 0 124 (dk_at dksX40_go_34 0 rfl rfl)
theorem dX40_go_881 : decode cX40_go 881 = .ok (.goto 27, 3) := dk_167 0 27 (dk_at dksX40_go_34 3 rfl rfl)
theorem dX40_go_884 : decode cX40_go 884 = .ok (.aload 4, 2) := dk_25 4 (dk_at dksX40_go_34 6 rfl rfl)
theorem dX40_go_886 : decode cX40_go 886 = .ok (.getfield 58, 3) := dk_180 0 58 (dk_at dksX40_go_34 8 rfl rfl)
theorem dX40_go_889 : decode cX40_go 889 = .ok (.new 145, 3) := dk_187 0 145 (dk_at dksX40_go_34 11 rfl rfl)
theorem dX40_go_892 : decode cX40_go 892 = .ok (.dup, 1) := dk_89 (dk_at dksX40_go_34 14 rfl rfl)
theorem dX40_go_893 : decode cX40_go 893 = .ok (.iload 11, 2) := dk_21 11 (dk_at dksX40_go_34 15 rfl rfl)
theorem dX40_go_895 : decode cX40_go 895 = .ok (.aload 10, 2) := dk_25 10 (dk_at dksX40_go_34 17 rfl rfl)
theorem dX40_go_897 : decode cX40_go 897 = .ok (.getfield 160, 3) := dk_180 0 160 (dk_at dksX40_go_34 19 rfl rfl)
theorem dX40_go_900 : decode cX40_go 900 = .ok (.invokespecial 161, 3) := dk_183 0 161 (dk_at dksX40_go_35 0 rfl rfl)
theorem dX40_go_903 : decode cX40_go 903 = .ok (.aload 5, 2) := dk_25 5 (dk_at dksX40_go_35 3 rfl rfl)
theorem dX40_go_905 : decode cX40_go 905 = .ok (.invokestatic 124, 3) := dk_184 0 124 (dk_at dksX40_go_35 5 rfl rfl)
theorem dX40_go_908 : decode cX40_go 908 = .ok (.astore 5, 2) := dk_58 5 (dk_at dksX40_go_35 8 rfl rfl)
theorem dX40_go_910 : decode cX40_go 910 = .ok (.aload 4, 2) := dk_25 4 (dk_at dksX40_go_35 10 rfl rfl)
theorem dX40_go_912 : decode cX40_go 912 = .ok (.getfield 116, 3) := dk_180 0 116 (dk_at dksX40_go_35 12 rfl rfl)
theorem dX40_go_915 : decode cX40_go 915 = .ok (.iconst 0, 1) := dk_3 (dk_at dksX40_go_35 15 rfl rfl)
theorem dX40_go_916 : decode cX40_go 916 = .ok (.aaload, 1) := dk_50 (dk_at dksX40_go_35 16 rfl rfl)
theorem dX40_go_917 : decode cX40_go 917 = .ok (.astore 4, 2) := dk_58 4 (dk_at dksX40_go_35 17 rfl rfl)
theorem dX40_go_919 : decode cX40_go 919 = .ok (.goto 202, 3) := dk_167 0 202 (dk_at dksX40_go_35 19 rfl rfl)
theorem dX40_go_922 : decode cX40_go 922 = .ok (.aload 4, 2) := dk_25 4 (dk_at dksX40_go_35 22 rfl rfl)
theorem dX40_go_924 : decode cX40_go 924 = .ok (.getfield 116, 3) := dk_180 0 116 (dk_at dksX40_go_36 0 rfl rfl)
theorem dX40_go_927 : decode cX40_go 927 = .ok (.aload_n 0, 1) := dk_42 (dk_at dksX40_go_36 3 rfl rfl)
theorem dX40_go_928 : decode cX40_go 928 = .ok (.aload 4, 2) := dk_25 4 (dk_at dksX40_go_36 4 rfl rfl)
theorem dX40_go_930 : decode cX40_go 930 = .ok (.getfield 116, 3) := dk_180 0 116 (dk_at dksX40_go_36 6 rfl rfl)
theorem dX40_go_933 : decode cX40_go 933 = .ok (.iconst 0, 1) := dk_3 (dk_at dksX40_go_36 9 rfl rfl)
theorem dX40_go_934 : decode cX40_go 934 = .ok (.aaload, 1) := dk_50 (dk_at dksX40_go_36 10 rfl rfl)
theorem dX40_go_935 : decode cX40_go 935 = .ok (.aload 5, 2) := dk_25 5 (dk_at dksX40_go_36 11 rfl rfl)
theorem dX40_go_937 : decode cX40_go 937 = .ok (.aload 6, 2) := dk_25 6 (dk_at dksX40_go_36 13 rfl rfl)
theorem dX40_go_939 : decode cX40_go 939 = .ok (.invokevirtual 99, 3) := dk_182 0 99 (dk_at dksX40_go_36 15 rfl rfl)
theorem dX40_go_942 : decode cX40_go 942 = .ok (.invokestatic 164, 3) := dk_184 0 164 (dk_at dksX40_go_36 18 rfl rfl)
theorem dX40_go_945 : decode cX40_go 945 = .ok (.ifCond .eq 7, 3) := dk_153 0 7 (dk_at dksX40_go_36 21 rfl rfl)
theorem dX40_go_948 : decode cX40_go 948 = .ok (.iconst 1, 1) := dk_4 (dk_at dksX40_go_37 0 rfl rfl)
theorem dX40_go_949 : decode cX40_go 949 = .ok (.goto 4, 3) := dk_167 0 4 (dk_at dksX40_go_37 1 rfl rfl)
theorem dX40_go_952 : decode cX40_go 952 = .ok (.iconst 2, 1) := dk_5 (dk_at dksX40_go_37 4 rfl rfl)
theorem dX40_go_953 : decode cX40_go 953 = .ok (.aaload, 1) := dk_50 (dk_at dksX40_go_37 5 rfl rfl)
theorem dX40_go_954 : decode cX40_go 954 = .ok (.astore 4, 2) := dk_58 4 (dk_at dksX40_go_37 6 rfl rfl)
theorem dX40_go_956 : decode cX40_go 956 = .ok (.goto 165, 3) := dk_167 0 165 (dk_at dksX40_go_37 8 rfl rfl)
theorem dX40_go_959 : decode cX40_go 959 = .ok (.aload_n 0, 1) := dk_42 (dk_at dksX40_go_37 11 rfl rfl)
theorem dX40_go_960 : decode cX40_go 960 = .ok (.aload 4, 2) := dk_25 4 (dk_at dksX40_go_37 12 rfl rfl)
theorem dX40_go_962 : decode cX40_go 962 = .ok (.getfield 116, 3) := dk_180 0 116 (dk_at dksX40_go_37 14 rfl rfl)
theorem dX40_go_965 : decode cX40_go 965 = .ok (.iconst 0, 1) := dk_3 (dk_at dksX40_go_37 17 rfl rfl)
theorem dX40_go_966 : decode cX40_go 966 = .ok (.aaload, 1) := dk_50 (dk_at dksX40_go_37 18 rfl rfl)
theorem dX40_go_967 : decode cX40_go 967 = .ok (.aload 5, 2) := dk_25 5 (dk_at dksX40_go_37 19 rfl rfl)
theorem dX40_go_969 : decode cX40_go 969 = .ok (.aload 6, 2) := dk_25 6 (dk_at dksX40_go_37 21 rfl rfl)
theorem dX40_go_971 : decode cX40_go 971 = .ok (.invokevirtual 99, 3) := dk_182 0 99 (dk_at dksX40_go_38 0 rfl rfl)
theorem dX40_go_974 : decode cX40_go 974 = .ok (.invokestatic 164, 3) := dk_184 0 164 (dk_at dksX40_go_38 3 rfl rfl)
theorem dX40_go_977 : decode cX40_go 977 = .ok (.istore 12, 2) := dk_54 12 (dk_at dksX40_go_38 6 rfl rfl)
theorem dX40_go_979 : decode cX40_go 979 = .ok (.new 56, 3) := dk_187 0 56 (dk_at dksX40_go_38 8 rfl rfl)
theorem dX40_go_982 : decode cX40_go 982 = .ok (.dup, 1) := dk_89 (dk_at dksX40_go_38 11 rfl rfl)
theorem dX40_go_983 : decode cX40_go 983 = .ok (.iload 12, 2) := dk_21 12 (dk_at dksX40_go_38 12 rfl rfl)
theorem dX40_go_985 : decode cX40_go 985 = .ok (.aload_n 0, 1) := dk_42 (dk_at dksX40_go_38 14 rfl rfl)
theorem dX40_go_986 : decode cX40_go 986 = .ok (.aload 4, 2) := dk_25 4 (dk_at dksX40_go_38 15 rfl rfl)
theorem dX40_go_988 : decode cX40_go 988 = .ok (.getfield 116, 3) := dk_180 0 116 (dk_at dksX40_go_38 17 rfl rfl)
theorem dX40_go_991 : decode cX40_go 991 = .ok (.iconst 1, 1) := dk_4 (dk_at dksX40_go_38 20 rfl rfl)
theorem dX40_go_992 : decode cX40_go 992 = .ok (.aaload, 1) := dk_50 (dk_at dksX40_go_38 21 rfl rfl)
theorem dX40_go_993 : decode cX40_go 993 = .ok (.aload 5, 2) := dk_25 5 (dk_at dksX40_go_38 22 rfl rfl)
theorem dX40_go_995 : decode cX40_go 995 = .ok (.aload 6, 2) := dk_25 6 (dk_at dksX40_go_39 0 rfl rfl)
theorem dX40_go_997 : decode cX40_go 997 = .ok (.invokevirtual 99, 3) := dk_182 0 99 (dk_at dksX40_go_39 2 rfl rfl)
theorem dX40_go_1000 : decode cX40_go 1000 = .ok (.invokestatic 164, 3) := dk_184 0 164 (dk_at dksX40_go_39 5 rfl rfl)
theorem dX40_go_1003 : decode cX40_go 1003 = .ok (.iadd, 1) := dk_96 (dk_at dksX40_go_39 8 rfl rfl)
theorem dX40_go_1004 : decode cX40_go 1004 = .ok (.invokespecial 61, 3) := dk_183 0 61 (dk_at dksX40_go_39 9 rfl rfl)
theorem dX40_go_1007 : decode cX40_go 1007 = .ok (.areturn, 1) := dk_176 (dk_at dksX40_go_39 12 rfl rfl)
theorem dX40_go_1008 : decode cX40_go 1008 = .ok (.aload_n 0, 1) := dk_42 (dk_at dksX40_go_39 13 rfl rfl)
theorem dX40_go_1009 : decode cX40_go 1009 = .ok (.aload 4, 2) := dk_25 4 (dk_at dksX40_go_39 14 rfl rfl)
theorem dX40_go_1011 : decode cX40_go 1011 = .ok (.getfield 116, 3) := dk_180 0 116 (dk_at dksX40_go_39 16 rfl rfl)
theorem dX40_go_1014 : decode cX40_go 1014 = .ok (.iconst 0, 1) := dk_3 (dk_at dksX40_go_39 19 rfl rfl)
theorem dX40_go_1015 : decode cX40_go 1015 = .ok (.aaload, 1) := dk_50 (dk_at dksX40_go_39 20 rfl rfl)
theorem dX40_go_1016 : decode cX40_go 1016 = .ok (.aload 5, 2) := dk_25 5 (dk_at dksX40_go_39 21 rfl rfl)
theorem dX40_go_1018 : decode cX40_go 1018 = .ok (.aload 6, 2) := dk_25 6 (dk_at dksX40_go_40 0 rfl rfl)
theorem dX40_go_1020 : decode cX40_go 1020 = .ok (.invokevirtual 99, 3) := dk_182 0 99 (dk_at dksX40_go_40 2 rfl rfl)
theorem dX40_go_1023 : decode cX40_go 1023 = .ok (.astore 13, 2) := dk_58 13 (dk_at dksX40_go_40 5 rfl rfl)
theorem dX40_go_1025 : decode cX40_go 1025 = .ok (.new 56, 3) := dk_187 0 56 (dk_at dksX40_go_40 7 rfl rfl)
theorem dX40_go_1028 : decode cX40_go 1028 = .ok (.dup, 1) := dk_89 (dk_at dksX40_go_40 10 rfl rfl)
theorem dX40_go_1029 : decode cX40_go 1029 = .ok (.aload 13, 2) := dk_25 13 (dk_at dksX40_go_40 11 rfl rfl)
theorem dX40_go_1031 : decode cX40_go 1031 = .ok (.aload_n 0, 1) := dk_42 (dk_at dksX40_go_40 13 rfl rfl)
theorem dX40_go_1032 : decode cX40_go 1032 = .ok (.aload 4, 2) := dk_25 4 (dk_at dksX40_go_40 14 rfl rfl)
theorem dX40_go_1034 : decode cX40_go 1034 = .ok (.getfield 116, 3) := dk_180 0 116 (dk_at dksX40_go_40 16 rfl rfl)
theorem dX40_go_1037 : decode cX40_go 1037 = .ok (.iconst 1, 1) := dk_4 (dk_at dksX40_go_40 19 rfl rfl)
theorem dX40_go_1038 : decode cX40_go 1038 = .ok (.aaload, 1) := dk_50 (dk_at dksX40_go_40 20 rfl rfl)
theorem dX40_go_1039 : decode cX40_go 1039 = .ok (.aload 5, 2) := dk_25 5 (dk_at dksX40_go_40 21 rfl rfl)
theorem dX40_go_1041 : decode cX40_go 1041 = .ok (.aload 6, 2) := dk_25 6 (dk_at dksX40_go_41 0 rfl rfl)
theorem dX40_go_1043 : decode cX40_go 1043 = .ok (.invokevirtual 99, 3) := dk_182 0 99 (dk_at dksX40_go_41 2 rfl rfl)
theorem dX40_go_1046 : decode cX40_go 1046 = .ok (.invokevirtual 168, 3) := dk_182 0 168 (dk_at dksX40_go_41 5 rfl rfl)
theorem dX40_go_1049 : decode cX40_go 1049 = .ok (.ifCond .eq 7, 3) := dk_153 0 7 (dk_at dksX40_go_41 8 rfl rfl)
theorem dX40_go_1052 : decode cX40_go 1052 = .ok (.iconst 1, 1) := dk_4 (dk_at dksX40_go_41 11 rfl rfl)
theorem dX40_go_1053 : decode cX40_go 1053 = .ok (.goto 4, 3) := dk_167 0 4 (dk_at dksX40_go_41 12 rfl rfl)
theorem dX40_go_1056 : decode cX40_go 1056 = .ok (.iconst 0, 1) := dk_3 (dk_at dksX40_go_41 15 rfl rfl)
theorem dX40_go_1057 : decode cX40_go 1057 = .ok (.invokespecial 61, 3) := dk_183 0 61 (dk_at dksX40_go_41 16 rfl rfl)
theorem dX40_go_1060 : decode cX40_go 1060 = .ok (.areturn, 1) := dk_176 (dk_at dksX40_go_41 19 rfl rfl)
theorem dX40_go_1061 : decode cX40_go 1061 = .ok (.aload_n 0, 1) := dk_42 (dk_at dksX40_go_41 20 rfl rfl)
theorem dX40_go_1062 : decode cX40_go 1062 = .ok (.aload 4, 2) := dk_25 4 (dk_at dksX40_go_41 21 rfl rfl)
theorem dX40_go_1064 : decode cX40_go 1064 = .ok (.getfield 116, 3) := dk_180 0 116 (dk_at dksX40_go_42 0 rfl rfl)
theorem dX40_go_1067 : decode cX40_go 1067 = .ok (.iconst 0, 1) := dk_3 (dk_at dksX40_go_42 3 rfl rfl)
theorem dX40_go_1068 : decode cX40_go 1068 = .ok (.aaload, 1) := dk_50 (dk_at dksX40_go_42 4 rfl rfl)
theorem dX40_go_1069 : decode cX40_go 1069 = .ok (.aload 5, 2) := dk_25 5 (dk_at dksX40_go_42 5 rfl rfl)
theorem dX40_go_1071 : decode cX40_go 1071 = .ok (.aload 6, 2) := dk_25 6 (dk_at dksX40_go_42 7 rfl rfl)
theorem dX40_go_1073 : decode cX40_go 1073 = .ok (.invokevirtual 99, 3) := dk_182 0 99 (dk_at dksX40_go_42 9 rfl rfl)
theorem dX40_go_1076 : decode cX40_go 1076 = .ok (.astore 14, 2) := dk_58 14 (dk_at dksX40_go_42 12 rfl rfl)
theorem dX40_go_1078 : decode cX40_go 1078 = .ok (.aload 4, 2) := dk_25 4 (dk_at dksX40_go_42 14 rfl rfl)
theorem dX40_go_1080 : decode cX40_go 1080 = .ok (.aload 14, 2) := dk_25 14 (dk_at dksX40_go_42 16 rfl rfl)
theorem dX40_go_1082 : decode cX40_go 1082 = .ok (.aload 4, 2) := dk_25 4 (dk_at dksX40_go_42 18 rfl rfl)
theorem dX40_go_1084 : decode cX40_go 1084 = .ok (.getfield 18, 3) := dk_180 0 18 (dk_at dksX40_go_42 20 rfl rfl)
theorem dX40_go_1087 : decode cX40_go 1087 = .ok (.ldc 174, 2) := dk_18 174 (dk_at dksX40_go_43 0 rfl rfl)
theorem dX40_go_1089 : decode cX40_go 1089 = .ok (.invokevirtual 32, 3) := dk_182 0 32 (dk_at dksX40_go_43 2 rfl rfl)
theorem dX40_go_1092 : decode cX40_go 1092 = .ok (.ifCond .eq 21, 3) := dk_153 0 21 (dk_at dksX40_go_43 5 rfl rfl)
theorem dX40_go_1095 : decode cX40_go 1095 = .ok (.aload_n 0, 1) := dk_42 (dk_at dksX40_go_43 8 rfl rfl)
theorem dX40_go_1096 : decode cX40_go 1096 = .ok (.aload 4, 2) := dk_25 4 (dk_at dksX40_go_43 9 rfl rfl)
theorem dX40_go_1098 : decode cX40_go 1098 = .ok (.getfield 116, 3) := dk_180 0 116 (dk_at dksX40_go_43 11 rfl rfl)
theorem dX40_go_1101 : decode cX40_go 1101 = .ok (.iconst 1, 1) := dk_4 (dk_at dksX40_go_43 14 rfl rfl)
theorem dX40_go_1102 : decode cX40_go 1102 = .ok (.aaload, 1) := dk_50 (dk_at dksX40_go_43 15 rfl rfl)
theorem dX40_go_1103 : decode cX40_go 1103 = .ok (.aload 5, 2) := dk_25 5 (dk_at dksX40_go_43 16 rfl rfl)
theorem dX40_go_1105 : decode cX40_go 1105 = .ok (.aload 6, 2) := dk_25 6 (dk_at dksX40_go_43 18 rfl rfl)
theorem dX40_go_1107 : decode cX40_go 1107 = .ok (.invokevirtual 99, 3) := dk_182 0 99 (dk_at dksX40_go_43 20 rfl rfl)
theorem dX40_go_1110 : decode cX40_go 1110 = .ok (.goto 5, 3) := dk_167 0 5 (dk_at dksX40_go_44 0 rfl rfl)
theorem dX40_go_1113 : decode cX40_go 1113 = .ok (.aload 14, 2) := dk_25 14 (dk_at dksX40_go_44 3 rfl rfl)
theorem dX40_go_1115 : decode cX40_go 1115 = .ok (.aload 6, 2) := dk_25 6 (dk_at dksX40_go_44 5 rfl rfl)
theorem dX40_go_1117 : decode cX40_go 1117 = .ok (.invokestatic 176, 3) := dk_184 0 176 (dk_at dksX40_go_44 7 rfl rfl)
theorem dX40_go_1120 : decode cX40_go 1120 = .ok (.areturn, 1) := dk_176 (dk_at dksX40_go_44 10 rfl rfl)
theorem dX40_go_1121 : decode cX40_go 1121 = .ok (.goto (-1112), 3) := dk_167 251 168 (dk_at dksX40_go_44 11 rfl rfl)
abbrev cX40_placesOf : ByteArray := prog_21_method_5_code
def yX40_placesOf : MethodName := ⟨RX40, "placesOf", "(LRowenTongue$Code;LRowenTongue$Bind;LRowenTongue$Slot;)LRowenTongue$Slot;"⟩
def dkwX40_placesOf_3 : List UInt8 := [132, 4, 1, 167, 255, 192, 45, 176]
abbrev dktX40_placesOf_3 : List UInt8 := dkwX40_placesOf_3 ++ []
def dkwX40_placesOf_2 : List UInt8 := [192, 0, 186, 25, 5, 180, 0, 190, 25, 5, 180, 0, 193, 44, 184, 0, 156, 45, 183, 0, 196, 78]
abbrev dktX40_placesOf_2 : List UInt8 := dkwX40_placesOf_2 ++ dktX40_placesOf_3
def dkwX40_placesOf_1 : List UInt8 := [21, 4, 182, 0, 182, 192, 0, 186, 58, 5, 187, 0, 188, 89, 43, 180, 0, 83, 21, 4, 182, 0, 182]
abbrev dktX40_placesOf_1 : List UInt8 := dkwX40_placesOf_1 ++ dktX40_placesOf_2
def dkwX40_placesOf_0 : List UInt8 := [43, 180, 0, 107, 78, 3, 54, 4, 21, 4, 43, 180, 0, 83, 182, 0, 179, 162, 0, 58, 42, 180, 0, 129]
abbrev dktX40_placesOf_0 : List UInt8 := dkwX40_placesOf_0 ++ dktX40_placesOf_1
theorem dksX40_placesOf_0 : cX40_placesOf.data.toList.drop 0 = dktX40_placesOf_0 := by decide +kernel
theorem dksX40_placesOf_1 : cX40_placesOf.data.toList.drop 24 = dktX40_placesOf_1 := dk_seg dksX40_placesOf_0 24 rfl rfl
theorem dksX40_placesOf_2 : cX40_placesOf.data.toList.drop 47 = dktX40_placesOf_2 := dk_seg dksX40_placesOf_1 23 rfl rfl
theorem dksX40_placesOf_3 : cX40_placesOf.data.toList.drop 69 = dktX40_placesOf_3 := dk_seg dksX40_placesOf_2 22 rfl rfl
theorem dX40_placesOf_0 : decode cX40_placesOf 0 = .ok (.aload_n 1, 1) := dk_43 (dk_at dksX40_placesOf_0 0 rfl rfl)
theorem dX40_placesOf_1 : decode cX40_placesOf 1 = .ok (.getfield 107, 3) := dk_180 0 107 (dk_at dksX40_placesOf_0 1 rfl rfl)
theorem dX40_placesOf_4 : decode cX40_placesOf 4 = .ok (.astore_n 3, 1) := dk_78 (dk_at dksX40_placesOf_0 4 rfl rfl)
theorem dX40_placesOf_5 : decode cX40_placesOf 5 = .ok (.iconst 0, 1) := dk_3 (dk_at dksX40_placesOf_0 5 rfl rfl)
theorem dX40_placesOf_6 : decode cX40_placesOf 6 = .ok (.istore 4, 2) := dk_54 4 (dk_at dksX40_placesOf_0 6 rfl rfl)
theorem dX40_placesOf_8 : decode cX40_placesOf 8 = .ok (.iload 4, 2) := dk_21 4 (dk_at dksX40_placesOf_0 8 rfl rfl)
theorem dX40_placesOf_10 : decode cX40_placesOf 10 = .ok (.aload_n 1, 1) := dk_43 (dk_at dksX40_placesOf_0 10 rfl rfl)
theorem dX40_placesOf_11 : decode cX40_placesOf 11 = .ok (.getfield 83, 3) := dk_180 0 83 (dk_at dksX40_placesOf_0 11 rfl rfl)
theorem dX40_placesOf_14 : decode cX40_placesOf 14 = .ok (.invokevirtual 179, 3) := dk_182 0 179 (dk_at dksX40_placesOf_0 14 rfl rfl)
theorem dX40_placesOf_17 : decode cX40_placesOf 17 = .ok (.if_icmp .ge 58, 3) := dk_162 0 58 (dk_at dksX40_placesOf_0 17 rfl rfl)
theorem dX40_placesOf_20 : decode cX40_placesOf 20 = .ok (.aload_n 0, 1) := dk_42 (dk_at dksX40_placesOf_0 20 rfl rfl)
theorem dX40_placesOf_21 : decode cX40_placesOf 21 = .ok (.getfield 129, 3) := dk_180 0 129 (dk_at dksX40_placesOf_0 21 rfl rfl)
theorem dX40_placesOf_24 : decode cX40_placesOf 24 = .ok (.iload 4, 2) := dk_21 4 (dk_at dksX40_placesOf_1 0 rfl rfl)
theorem dX40_placesOf_26 : decode cX40_placesOf 26 = .ok (.invokevirtual 182, 3) := dk_182 0 182 (dk_at dksX40_placesOf_1 2 rfl rfl)
theorem dX40_placesOf_29 : decode cX40_placesOf 29 = .ok (.checkcast 186, 3) := dk_192 0 186 (dk_at dksX40_placesOf_1 5 rfl rfl)
theorem dX40_placesOf_32 : decode cX40_placesOf 32 = .ok (.astore 5, 2) := dk_58 5 (dk_at dksX40_placesOf_1 8 rfl rfl)
theorem dX40_placesOf_34 : decode cX40_placesOf 34 = .ok (.new 188, 3) := dk_187 0 188 (dk_at dksX40_placesOf_1 10 rfl rfl)
theorem dX40_placesOf_37 : decode cX40_placesOf 37 = .ok (.dup, 1) := dk_89 (dk_at dksX40_placesOf_1 13 rfl rfl)
theorem dX40_placesOf_38 : decode cX40_placesOf 38 = .ok (.aload_n 1, 1) := dk_43 (dk_at dksX40_placesOf_1 14 rfl rfl)
theorem dX40_placesOf_39 : decode cX40_placesOf 39 = .ok (.getfield 83, 3) := dk_180 0 83 (dk_at dksX40_placesOf_1 15 rfl rfl)
theorem dX40_placesOf_42 : decode cX40_placesOf 42 = .ok (.iload 4, 2) := dk_21 4 (dk_at dksX40_placesOf_1 18 rfl rfl)
theorem dX40_placesOf_44 : decode cX40_placesOf 44 = .ok (.invokevirtual 182, 3) := dk_182 0 182 (dk_at dksX40_placesOf_1 20 rfl rfl)
theorem dX40_placesOf_47 : decode cX40_placesOf 47 = .ok (.checkcast 186, 3) := dk_192 0 186 (dk_at dksX40_placesOf_2 0 rfl rfl)
theorem dX40_placesOf_50 : decode cX40_placesOf 50 = .ok (.aload 5, 2) := dk_25 5 (dk_at dksX40_placesOf_2 3 rfl rfl)
theorem dX40_placesOf_52 : decode cX40_placesOf 52 = .ok (.getfield 190, 3) := dk_180 0 190 (dk_at dksX40_placesOf_2 5 rfl rfl)
theorem dX40_placesOf_55 : decode cX40_placesOf 55 = .ok (.aload 5, 2) := dk_25 5 (dk_at dksX40_placesOf_2 8 rfl rfl)
theorem dX40_placesOf_57 : decode cX40_placesOf 57 = .ok (.getfield 193, 3) := dk_180 0 193 (dk_at dksX40_placesOf_2 10 rfl rfl)
theorem dX40_placesOf_60 : decode cX40_placesOf 60 = .ok (.aload_n 2, 1) := dk_44 (dk_at dksX40_placesOf_2 13 rfl rfl)
theorem dX40_placesOf_61 : decode cX40_placesOf 61 = .ok (.invokestatic 156, 3) := dk_184 0 156 (dk_at dksX40_placesOf_2 14 rfl rfl)
theorem dX40_placesOf_64 : decode cX40_placesOf 64 = .ok (.aload_n 3, 1) := dk_45 (dk_at dksX40_placesOf_2 17 rfl rfl)
theorem dX40_placesOf_65 : decode cX40_placesOf 65 = .ok (.invokespecial 196, 3) := dk_183 0 196 (dk_at dksX40_placesOf_2 18 rfl rfl)
theorem dX40_placesOf_68 : decode cX40_placesOf 68 = .ok (.astore_n 3, 1) := dk_78 (dk_at dksX40_placesOf_2 21 rfl rfl)
theorem dX40_placesOf_69 : decode cX40_placesOf 69 = .ok (.iinc 4 1, 3) := dk_132 4 1 (dk_at dksX40_placesOf_3 0 rfl rfl)
theorem dX40_placesOf_72 : decode cX40_placesOf 72 = .ok (.goto (-64), 3) := dk_167 255 192 (dk_at dksX40_placesOf_3 3 rfl rfl)
theorem dX40_placesOf_75 : decode cX40_placesOf 75 = .ok (.aload_n 3, 1) := dk_45 (dk_at dksX40_placesOf_3 6 rfl rfl)
theorem dX40_placesOf_76 : decode cX40_placesOf 76 = .ok (.areturn, 1) := dk_176 (dk_at dksX40_placesOf_3 7 rfl rfl)
abbrev cX40_bound : ByteArray := prog_21_method_3_code
def yX40_bound : MethodName := ⟨RX40, "bound", "(ILRowenTongue$Thing;LRowenTongue$Bind;)LRowenTongue$Bind;"⟩
def dkwX40_bound_0 : List UInt8 := [187, 0, 68, 89, 26, 43, 1, 1, 3, 1, 44, 183, 0, 142, 176]
abbrev dktX40_bound_0 : List UInt8 := dkwX40_bound_0 ++ []
theorem dksX40_bound_0 : cX40_bound.data.toList.drop 0 = dktX40_bound_0 := by decide +kernel
theorem dX40_bound_0 : decode cX40_bound 0 = .ok (.new 68, 3) := dk_187 0 68 (dk_at dksX40_bound_0 0 rfl rfl)
theorem dX40_bound_3 : decode cX40_bound 3 = .ok (.dup, 1) := dk_89 (dk_at dksX40_bound_0 3 rfl rfl)
theorem dX40_bound_4 : decode cX40_bound 4 = .ok (.iload_n 0, 1) := dk_26 (dk_at dksX40_bound_0 4 rfl rfl)
theorem dX40_bound_5 : decode cX40_bound 5 = .ok (.aload_n 1, 1) := dk_43 (dk_at dksX40_bound_0 5 rfl rfl)
theorem dX40_bound_6 : decode cX40_bound 6 = .ok (.aconst_null, 1) := dk_1 (dk_at dksX40_bound_0 6 rfl rfl)
theorem dX40_bound_7 : decode cX40_bound 7 = .ok (.aconst_null, 1) := dk_1 (dk_at dksX40_bound_0 7 rfl rfl)
theorem dX40_bound_8 : decode cX40_bound 8 = .ok (.iconst 0, 1) := dk_3 (dk_at dksX40_bound_0 8 rfl rfl)
theorem dX40_bound_9 : decode cX40_bound 9 = .ok (.aconst_null, 1) := dk_1 (dk_at dksX40_bound_0 9 rfl rfl)
theorem dX40_bound_10 : decode cX40_bound 10 = .ok (.aload_n 2, 1) := dk_44 (dk_at dksX40_bound_0 10 rfl rfl)
theorem dX40_bound_11 : decode cX40_bound 11 = .ok (.invokespecial 142, 3) := dk_183 0 142 (dk_at dksX40_bound_0 11 rfl rfl)
theorem dX40_bound_14 : decode cX40_bound 14 = .ok (.areturn, 1) := dk_176 (dk_at dksX40_bound_0 14 rfl rfl)
abbrev cX40_aroundOf : ByteArray := prog_21_method_4_code
def yX40_aroundOf : MethodName := ⟨RX40, "aroundOf", "(LRowenTongue$Code;LRowenTongue$Bind;LRowenTongue$Slot;)LRowenTongue$Bind;"⟩
def dkwX40_aroundOf_1 : List UInt8 := [180, 0, 116, 3, 50, 1, 4, 44, 43, 183, 0, 142, 167, 0, 4, 43, 176]
abbrev dktX40_aroundOf_1 : List UInt8 := dkwX40_aroundOf_1 ++ []
def dkwX40_aroundOf_0 : List UInt8 := [42, 180, 0, 18, 18, 46, 182, 0, 32, 153, 0, 28, 187, 0, 68, 89, 42, 180, 0, 58, 1, 42]
abbrev dktX40_aroundOf_0 : List UInt8 := dkwX40_aroundOf_0 ++ dktX40_aroundOf_1
theorem dksX40_aroundOf_0 : cX40_aroundOf.data.toList.drop 0 = dktX40_aroundOf_0 := by decide +kernel
theorem dksX40_aroundOf_1 : cX40_aroundOf.data.toList.drop 22 = dktX40_aroundOf_1 := dk_seg dksX40_aroundOf_0 22 rfl rfl
theorem dX40_aroundOf_0 : decode cX40_aroundOf 0 = .ok (.aload_n 0, 1) := dk_42 (dk_at dksX40_aroundOf_0 0 rfl rfl)
theorem dX40_aroundOf_1 : decode cX40_aroundOf 1 = .ok (.getfield 18, 3) := dk_180 0 18 (dk_at dksX40_aroundOf_0 1 rfl rfl)
theorem dX40_aroundOf_4 : decode cX40_aroundOf 4 = .ok (.ldc 46, 2) := dk_18 46 (dk_at dksX40_aroundOf_0 4 rfl rfl)
theorem dX40_aroundOf_6 : decode cX40_aroundOf 6 = .ok (.invokevirtual 32, 3) := dk_182 0 32 (dk_at dksX40_aroundOf_0 6 rfl rfl)
theorem dX40_aroundOf_9 : decode cX40_aroundOf 9 = .ok (.ifCond .eq 28, 3) := dk_153 0 28 (dk_at dksX40_aroundOf_0 9 rfl rfl)
theorem dX40_aroundOf_12 : decode cX40_aroundOf 12 = .ok (.new 68, 3) := dk_187 0 68 (dk_at dksX40_aroundOf_0 12 rfl rfl)
theorem dX40_aroundOf_15 : decode cX40_aroundOf 15 = .ok (.dup, 1) := dk_89 (dk_at dksX40_aroundOf_0 15 rfl rfl)
theorem dX40_aroundOf_16 : decode cX40_aroundOf 16 = .ok (.aload_n 0, 1) := dk_42 (dk_at dksX40_aroundOf_0 16 rfl rfl)
theorem dX40_aroundOf_17 : decode cX40_aroundOf 17 = .ok (.getfield 58, 3) := dk_180 0 58 (dk_at dksX40_aroundOf_0 17 rfl rfl)
theorem dX40_aroundOf_20 : decode cX40_aroundOf 20 = .ok (.aconst_null, 1) := dk_1 (dk_at dksX40_aroundOf_0 20 rfl rfl)
theorem dX40_aroundOf_21 : decode cX40_aroundOf 21 = .ok (.aload_n 0, 1) := dk_42 (dk_at dksX40_aroundOf_0 21 rfl rfl)
theorem dX40_aroundOf_22 : decode cX40_aroundOf 22 = .ok (.getfield 116, 3) := dk_180 0 116 (dk_at dksX40_aroundOf_1 0 rfl rfl)
theorem dX40_aroundOf_25 : decode cX40_aroundOf 25 = .ok (.iconst 0, 1) := dk_3 (dk_at dksX40_aroundOf_1 3 rfl rfl)
theorem dX40_aroundOf_26 : decode cX40_aroundOf 26 = .ok (.aaload, 1) := dk_50 (dk_at dksX40_aroundOf_1 4 rfl rfl)
theorem dX40_aroundOf_27 : decode cX40_aroundOf 27 = .ok (.aconst_null, 1) := dk_1 (dk_at dksX40_aroundOf_1 5 rfl rfl)
theorem dX40_aroundOf_28 : decode cX40_aroundOf 28 = .ok (.iconst 1, 1) := dk_4 (dk_at dksX40_aroundOf_1 6 rfl rfl)
theorem dX40_aroundOf_29 : decode cX40_aroundOf 29 = .ok (.aload_n 2, 1) := dk_44 (dk_at dksX40_aroundOf_1 7 rfl rfl)
theorem dX40_aroundOf_30 : decode cX40_aroundOf 30 = .ok (.aload_n 1, 1) := dk_43 (dk_at dksX40_aroundOf_1 8 rfl rfl)
theorem dX40_aroundOf_31 : decode cX40_aroundOf 31 = .ok (.invokespecial 142, 3) := dk_183 0 142 (dk_at dksX40_aroundOf_1 9 rfl rfl)
theorem dX40_aroundOf_34 : decode cX40_aroundOf 34 = .ok (.goto 4, 3) := dk_167 0 4 (dk_at dksX40_aroundOf_1 12 rfl rfl)
theorem dX40_aroundOf_37 : decode cX40_aroundOf 37 = .ok (.aload_n 1, 1) := dk_43 (dk_at dksX40_aroundOf_1 15 rfl rfl)
theorem dX40_aroundOf_38 : decode cX40_aroundOf 38 = .ok (.areturn, 1) := dk_176 (dk_at dksX40_aroundOf_1 16 rfl rfl)
abbrev cX40_row : ByteArray := prog_21_method_6_code
def yX40_row : MethodName := ⟨RX40, "row", "(LRowenTongue$Code;LRowenTongue$Thing;LRowenTongue$Thing;LRowenTongue$Slot;)LRowenTongue$Thing;"⟩
def dkwX40_row_8 : List UInt8 := [176]
abbrev dktX40_row_8 : List UInt8 := dkwX40_row_8 ++ []
def dkwX40_row_7 : List UInt8 := [192, 0, 64, 180, 0, 205, 21, 4, 182, 0, 182, 192, 0, 169, 176, 44, 192, 0, 64, 21, 4, 182, 0, 208]
abbrev dktX40_row_7 : List UInt8 := dkwX40_row_7 ++ dktX40_row_8
def dkwX40_row_6 : List UInt8 := [187, 0, 145, 89, 21, 4, 43, 183, 0, 161, 176, 44, 192, 0, 64, 21, 4, 43, 182, 0, 202, 176, 44]
abbrev dktX40_row_6 : List UInt8 := dkwX40_row_6 ++ dktX40_row_7
def dkwX40_row_5 : List UInt8 := [170, 0, 0, 0, 63, 0, 0, 0, 0, 0, 0, 0, 2, 0, 0, 0, 25, 0, 0, 0, 36, 0, 0, 0, 47]
abbrev dktX40_row_5 : List UInt8 := dkwX40_row_5 ++ dktX40_row_6
def dkwX40_row_4 : List UInt8 := [153, 0, 22, 4, 54, 6, 167, 0, 16, 25, 5, 18, 201, 182, 0, 32, 153, 0, 6, 5, 54, 6, 21, 6]
abbrev dktX40_row_4 : List UInt8 := dkwX40_row_4 ++ dktX40_row_5
def dkwX40_row_3 : List UInt8 := [25, 5, 18, 199, 182, 0, 32, 153, 0, 38, 3, 54, 6, 167, 0, 32, 25, 5, 18, 174, 182, 0, 32]
abbrev dktX40_row_3 : List UInt8 := dkwX40_row_3 ++ dktX40_row_4
def dkwX40_row_2 : List UInt8 := [171, 0, 0, 0, 0, 0, 0, 81, 0, 0, 0, 3, 0, 0, 12, 50, 0, 0, 0, 36, 0, 0, 13, 215, 0, 0, 0, 68, 0, 55, 176, 198, 0, 0, 0, 52]
abbrev dktX40_row_2 : List UInt8 := dkwX40_row_2 ++ dktX40_row_3
def dkwX40_row_1 : List UInt8 := [25, 5, 182, 0, 24]
abbrev dktX40_row_1 : List UInt8 := dkwX40_row_1 ++ dktX40_row_2
def dkwX40_row_0 : List UInt8 := [42, 180, 0, 152, 42, 180, 0, 58, 45, 184, 0, 156, 54, 4, 42, 180, 0, 18, 58, 5, 2, 54, 6]
abbrev dktX40_row_0 : List UInt8 := dkwX40_row_0 ++ dktX40_row_1
theorem dksX40_row_0 : cX40_row.data.toList.drop 0 = dktX40_row_0 := by decide +kernel
theorem dksX40_row_1 : cX40_row.data.toList.drop 23 = dktX40_row_1 := dk_seg dksX40_row_0 23 rfl rfl
theorem dksX40_row_2 : cX40_row.data.toList.drop 28 = dktX40_row_2 := dk_seg dksX40_row_1 5 rfl rfl
theorem dksX40_row_3 : cX40_row.data.toList.drop 64 = dktX40_row_3 := dk_seg dksX40_row_2 36 rfl rfl
theorem dksX40_row_4 : cX40_row.data.toList.drop 87 = dktX40_row_4 := dk_seg dksX40_row_3 23 rfl rfl
theorem dksX40_row_5 : cX40_row.data.toList.drop 111 = dktX40_row_5 := dk_seg dksX40_row_4 24 rfl rfl
theorem dksX40_row_6 : cX40_row.data.toList.drop 136 = dktX40_row_6 := dk_seg dksX40_row_5 25 rfl rfl
theorem dksX40_row_7 : cX40_row.data.toList.drop 159 = dktX40_row_7 := dk_seg dksX40_row_6 23 rfl rfl
theorem dksX40_row_8 : cX40_row.data.toList.drop 183 = dktX40_row_8 := dk_seg dksX40_row_7 24 rfl rfl
theorem dX40_row_0 : decode cX40_row 0 = .ok (.aload_n 0, 1) := dk_42 (dk_at dksX40_row_0 0 rfl rfl)
theorem dX40_row_1 : decode cX40_row 1 = .ok (.getfield 152, 3) := dk_180 0 152 (dk_at dksX40_row_0 1 rfl rfl)
theorem dX40_row_4 : decode cX40_row 4 = .ok (.aload_n 0, 1) := dk_42 (dk_at dksX40_row_0 4 rfl rfl)
theorem dX40_row_5 : decode cX40_row 5 = .ok (.getfield 58, 3) := dk_180 0 58 (dk_at dksX40_row_0 5 rfl rfl)
theorem dX40_row_8 : decode cX40_row 8 = .ok (.aload_n 3, 1) := dk_45 (dk_at dksX40_row_0 8 rfl rfl)
theorem dX40_row_9 : decode cX40_row 9 = .ok (.invokestatic 156, 3) := dk_184 0 156 (dk_at dksX40_row_0 9 rfl rfl)
theorem dX40_row_12 : decode cX40_row 12 = .ok (.istore 4, 2) := dk_54 4 (dk_at dksX40_row_0 12 rfl rfl)
theorem dX40_row_14 : decode cX40_row 14 = .ok (.aload_n 0, 1) := dk_42 (dk_at dksX40_row_0 14 rfl rfl)
theorem dX40_row_15 : decode cX40_row 15 = .ok (.getfield 18, 3) := dk_180 0 18 (dk_at dksX40_row_0 15 rfl rfl)
theorem dX40_row_18 : decode cX40_row 18 = .ok (.astore 5, 2) := dk_58 5 (dk_at dksX40_row_0 18 rfl rfl)
theorem dX40_row_20 : decode cX40_row 20 = .ok (.iconst (-1), 1) := dk_2 (dk_at dksX40_row_0 20 rfl rfl)
theorem dX40_row_21 : decode cX40_row 21 = .ok (.istore 6, 2) := dk_54 6 (dk_at dksX40_row_0 21 rfl rfl)
theorem dX40_row_23 : decode cX40_row 23 = .ok (.aload 5, 2) := dk_25 5 (dk_at dksX40_row_1 0 rfl rfl)
theorem dX40_row_25 : decode cX40_row 25 = .ok (.invokevirtual 24, 3) := dk_182 0 24 (dk_at dksX40_row_1 2 rfl rfl)
theorem dX40_row_28 : decode cX40_row 28 = .ok (.lookupswitch 81 #[(3122, 36), (3543, 68), (3649734, 52)], 36) := by decide +kernel
theorem dX40_row_64 : decode cX40_row 64 = .ok (.aload 5, 2) := dk_25 5 (dk_at dksX40_row_3 0 rfl rfl)
theorem dX40_row_66 : decode cX40_row 66 = .ok (.ldc 199, 2) := dk_18 199 (dk_at dksX40_row_3 2 rfl rfl)
theorem dX40_row_68 : decode cX40_row 68 = .ok (.invokevirtual 32, 3) := dk_182 0 32 (dk_at dksX40_row_3 4 rfl rfl)
theorem dX40_row_71 : decode cX40_row 71 = .ok (.ifCond .eq 38, 3) := dk_153 0 38 (dk_at dksX40_row_3 7 rfl rfl)
theorem dX40_row_74 : decode cX40_row 74 = .ok (.iconst 0, 1) := dk_3 (dk_at dksX40_row_3 10 rfl rfl)
theorem dX40_row_75 : decode cX40_row 75 = .ok (.istore 6, 2) := dk_54 6 (dk_at dksX40_row_3 11 rfl rfl)
theorem dX40_row_77 : decode cX40_row 77 = .ok (.goto 32, 3) := dk_167 0 32 (dk_at dksX40_row_3 13 rfl rfl)
theorem dX40_row_80 : decode cX40_row 80 = .ok (.aload 5, 2) := dk_25 5 (dk_at dksX40_row_3 16 rfl rfl)
theorem dX40_row_82 : decode cX40_row 82 = .ok (.ldc 174, 2) := dk_18 174 (dk_at dksX40_row_3 18 rfl rfl)
theorem dX40_row_84 : decode cX40_row 84 = .ok (.invokevirtual 32, 3) := dk_182 0 32 (dk_at dksX40_row_3 20 rfl rfl)
theorem dX40_row_87 : decode cX40_row 87 = .ok (.ifCond .eq 22, 3) := dk_153 0 22 (dk_at dksX40_row_4 0 rfl rfl)
theorem dX40_row_90 : decode cX40_row 90 = .ok (.iconst 1, 1) := dk_4 (dk_at dksX40_row_4 3 rfl rfl)
theorem dX40_row_91 : decode cX40_row 91 = .ok (.istore 6, 2) := dk_54 6 (dk_at dksX40_row_4 4 rfl rfl)
theorem dX40_row_93 : decode cX40_row 93 = .ok (.goto 16, 3) := dk_167 0 16 (dk_at dksX40_row_4 6 rfl rfl)
theorem dX40_row_96 : decode cX40_row 96 = .ok (.aload 5, 2) := dk_25 5 (dk_at dksX40_row_4 9 rfl rfl)
theorem dX40_row_98 : decode cX40_row 98 = .ok (.ldc 201, 2) := dk_18 201 (dk_at dksX40_row_4 11 rfl rfl)
theorem dX40_row_100 : decode cX40_row 100 = .ok (.invokevirtual 32, 3) := dk_182 0 32 (dk_at dksX40_row_4 13 rfl rfl)
theorem dX40_row_103 : decode cX40_row 103 = .ok (.ifCond .eq 6, 3) := dk_153 0 6 (dk_at dksX40_row_4 16 rfl rfl)
theorem dX40_row_106 : decode cX40_row 106 = .ok (.iconst 2, 1) := dk_5 (dk_at dksX40_row_4 19 rfl rfl)
theorem dX40_row_107 : decode cX40_row 107 = .ok (.istore 6, 2) := dk_54 6 (dk_at dksX40_row_4 20 rfl rfl)
theorem dX40_row_109 : decode cX40_row 109 = .ok (.iload 6, 2) := dk_21 6 (dk_at dksX40_row_4 22 rfl rfl)
theorem dX40_row_111 : decode cX40_row 111 = .ok (.tableswitch 63 0 2 #[25, 36, 47], 25) := by decide +kernel
theorem dX40_row_136 : decode cX40_row 136 = .ok (.new 145, 3) := dk_187 0 145 (dk_at dksX40_row_6 0 rfl rfl)
theorem dX40_row_139 : decode cX40_row 139 = .ok (.dup, 1) := dk_89 (dk_at dksX40_row_6 3 rfl rfl)
theorem dX40_row_140 : decode cX40_row 140 = .ok (.iload 4, 2) := dk_21 4 (dk_at dksX40_row_6 4 rfl rfl)
theorem dX40_row_142 : decode cX40_row 142 = .ok (.aload_n 1, 1) := dk_43 (dk_at dksX40_row_6 6 rfl rfl)
theorem dX40_row_143 : decode cX40_row 143 = .ok (.invokespecial 161, 3) := dk_183 0 161 (dk_at dksX40_row_6 7 rfl rfl)
theorem dX40_row_146 : decode cX40_row 146 = .ok (.areturn, 1) := dk_176 (dk_at dksX40_row_6 10 rfl rfl)
theorem dX40_row_147 : decode cX40_row 147 = .ok (.aload_n 2, 1) := dk_44 (dk_at dksX40_row_6 11 rfl rfl)
theorem dX40_row_148 : decode cX40_row 148 = .ok (.checkcast 64, 3) := dk_192 0 64 (dk_at dksX40_row_6 12 rfl rfl)
theorem dX40_row_151 : decode cX40_row 151 = .ok (.iload 4, 2) := dk_21 4 (dk_at dksX40_row_6 15 rfl rfl)
theorem dX40_row_153 : decode cX40_row 153 = .ok (.aload_n 1, 1) := dk_43 (dk_at dksX40_row_6 17 rfl rfl)
theorem dX40_row_154 : decode cX40_row 154 = .ok (.invokevirtual 202, 3) := dk_182 0 202 (dk_at dksX40_row_6 18 rfl rfl)
theorem dX40_row_157 : decode cX40_row 157 = .ok (.areturn, 1) := dk_176 (dk_at dksX40_row_6 21 rfl rfl)
theorem dX40_row_158 : decode cX40_row 158 = .ok (.aload_n 2, 1) := dk_44 (dk_at dksX40_row_6 22 rfl rfl)
theorem dX40_row_159 : decode cX40_row 159 = .ok (.checkcast 64, 3) := dk_192 0 64 (dk_at dksX40_row_7 0 rfl rfl)
theorem dX40_row_162 : decode cX40_row 162 = .ok (.getfield 205, 3) := dk_180 0 205 (dk_at dksX40_row_7 3 rfl rfl)
theorem dX40_row_165 : decode cX40_row 165 = .ok (.iload 4, 2) := dk_21 4 (dk_at dksX40_row_7 6 rfl rfl)
theorem dX40_row_167 : decode cX40_row 167 = .ok (.invokevirtual 182, 3) := dk_182 0 182 (dk_at dksX40_row_7 8 rfl rfl)
theorem dX40_row_170 : decode cX40_row 170 = .ok (.checkcast 169, 3) := dk_192 0 169 (dk_at dksX40_row_7 11 rfl rfl)
theorem dX40_row_173 : decode cX40_row 173 = .ok (.areturn, 1) := dk_176 (dk_at dksX40_row_7 14 rfl rfl)
theorem dX40_row_174 : decode cX40_row 174 = .ok (.aload_n 2, 1) := dk_44 (dk_at dksX40_row_7 15 rfl rfl)
theorem dX40_row_175 : decode cX40_row 175 = .ok (.checkcast 64, 3) := dk_192 0 64 (dk_at dksX40_row_7 16 rfl rfl)
theorem dX40_row_178 : decode cX40_row 178 = .ok (.iload 4, 2) := dk_21 4 (dk_at dksX40_row_7 19 rfl rfl)
theorem dX40_row_180 : decode cX40_row 180 = .ok (.invokevirtual 208, 3) := dk_182 0 208 (dk_at dksX40_row_7 21 rfl rfl)
theorem dX40_row_183 : decode cX40_row 183 = .ok (.areturn, 1) := dk_176 (dk_at dksX40_row_8 0 rfl rfl)
theorem q113 : (Jvm.Cond.initialized "RowenTongue$Machine") ∈ lw_all := lw_g (lw_at lw_m1 64 rfl) rfl
theorem q386 : (Jvm.Cond.selects "RowenTongue$Machine" ({ cls := "java/lang/Object", name := "getClass", desc := "()Ljava/lang/Class;" } : Jvm.MethodName) ({ cls := "java/lang/Object", name := "getClass", desc := "()Ljava/lang/Class;" } : Jvm.MethodName)) ∈ lw_all := lw_g (lw_at lw_m2 97 rfl) rfl
theorem q571 : (Jvm.Cond.fieldLinkNest "RowenTongue$Machine" (18 : Nat) "RowenTongue$Code" "what" "Ljava/lang/String;" "RowenTongue") ∈ lw_tbl := lw_at lw_m3 42 rfl
theorem q573 : (Jvm.Cond.fieldLinkNest "RowenTongue$Machine" (58 : Nat) "RowenTongue$Code" "which" "I" "RowenTongue") ∈ lw_tbl := lw_at lw_m3 44 rfl
theorem q575 : (Jvm.Cond.fieldLinkNest "RowenTongue$Machine" (152 : Nat) "RowenTongue$Code" "row" "LRowenTongue$Row;" "RowenTongue") ∈ lw_tbl := lw_at lw_m3 46 rfl
theorem q577 : (Jvm.Cond.fieldLinkNest "RowenTongue$Machine" (129 : Nat) "RowenTongue$Code" "places" "Ljava/util/ArrayList;" "RowenTongue") ∈ lw_tbl := lw_at lw_m3 48 rfl
theorem q579 : (Jvm.Cond.fieldLinkNest "RowenTongue$Machine" (116 : Nat) "RowenTongue$Code" "of" "[LRowenTongue$Code;" "RowenTongue") ∈ lw_tbl := lw_at lw_m3 50 rfl
theorem q760 : (Jvm.Cond.selects "RowenTongue$Machine" ({ cls := "java/lang/Object", name := "equals", desc := "(Ljava/lang/Object;)Z" } : Jvm.MethodName) ({ cls := "java/lang/Object", name := "equals", desc := "(Ljava/lang/Object;)Z" } : Jvm.MethodName)) ∈ lw_all := lw_g (lw_at lw_m3 231 rfl) rfl
theorem q1002 : (Jvm.Cond.fieldLinkNest "RowenTongue$Machine" (190 : Nat) "RowenTongue$Place" "row" "LRowenTongue$OpenRow;" "RowenTongue") ∈ lw_tbl := lw_at lw_m4 233 rfl
theorem q1006 : (Jvm.Cond.fieldLinkNest "RowenTongue$Machine" (193 : Nat) "RowenTongue$Place" "label" "I" "RowenTongue") ∈ lw_tbl := lw_at lw_m4 237 rfl
theorem q2000 : (Jvm.Cond.instantiable "RowenTongue$Machine" (1 : Nat)) ∈ lw_all := lw_g (lw_at lw_m9 31 rfl) rfl
theorem q2002 : (Jvm.Cond.instanceMethod ({ cls := "RowenTongue$Machine", name := "<init>", desc := "()V" } : Jvm.MethodName)) ∈ lw_all := lw_g (lw_at lw_m9 33 rfl) rfl
theorem q2003 : (Jvm.Cond.code ({ cls := "RowenTongue$Machine", name := "<init>", desc := "()V" } : Jvm.MethodName) prog_21_method_1_code (1 : Nat) (Option.none : Option Jvm.ClassFile.FieldType)) ∈ lw_all := lw_g (lw_at lw_m9 34 rfl) rfl
theorem q2004 : (Jvm.Cond.methodLink "RowenTongue$Machine" (3 : Nat) ({ cls := "java/lang/Object", name := "<init>", desc := "()V" } : Jvm.MethodName)) ∈ lw_all := lw_g (lw_at lw_m9 35 rfl) rfl
theorem q2005 : (Jvm.Cond.fieldLink "RowenTongue$Machine" (9 : Nat) "RowenTongue$Machine" "done" "I") ∈ lw_all := lw_g (lw_at lw_m9 36 rfl) rfl
theorem q2006 : (Jvm.Cond.lays "RowenTongue$Machine" "RowenTongue$Machine" "done" "I") ∈ lw_all := lw_g (lw_at lw_m9 37 rfl) rfl
theorem q2007 : (Jvm.Cond.soleField "RowenTongue$Machine" "done") ∈ lw_all := lw_g (lw_at lw_m9 38 rfl) rfl
theorem q2008 : (Jvm.Cond.superclass "RowenTongue$Machine" "java/lang/Object") ∈ lw_all := lw_g (lw_at lw_m9 39 rfl) rfl
theorem q2010 : (Jvm.Cond.privateMethod ({ cls := "RowenTongue$Machine", name := "go", desc := "(LRowenTongue$Code;LRowenTongue$Bind;LRowenTongue$Slot;)LRowenTongue$Thing;" } : Jvm.MethodName)) ∈ lw_tbl := lw_at lw_m9 41 rfl
theorem q2011 : (Jvm.Cond.instanceMethod ({ cls := "RowenTongue$Machine", name := "go", desc := "(LRowenTongue$Code;LRowenTongue$Bind;LRowenTongue$Slot;)LRowenTongue$Thing;" } : Jvm.MethodName)) ∈ lw_all := lw_g (lw_at lw_m9 42 rfl) rfl
theorem q2012 : (Jvm.Cond.code ({ cls := "RowenTongue$Machine", name := "go", desc := "(LRowenTongue$Code;LRowenTongue$Bind;LRowenTongue$Slot;)LRowenTongue$Thing;" } : Jvm.MethodName) prog_21_method_2_code (15 : Nat) (Option.some (Jvm.ClassFile.FieldType.object "RowenTongue$Thing"))) ∈ lw_all := lw_g (lw_at lw_m9 43 rfl) rfl
theorem q2013 : (Jvm.Cond.classLink "RowenTongue$Machine" (15 : Nat) "RowenTongue$Far") ∈ lw_all := lw_g (lw_at lw_m9 44 rfl) rfl
theorem q2014 : (Jvm.Cond.methodLinkNest "RowenTongue$Machine" (17 : Nat) ({ cls := "RowenTongue$Far", name := "<init>", desc := "()V" } : Jvm.MethodName) "RowenTongue") ∈ lw_tbl := lw_at lw_m9 45 rfl
theorem q2015 : (Jvm.Cond.methodLink "RowenTongue$Machine" (24 : Nat) ({ cls := "java/lang/String", name := "hashCode", desc := "()I" } : Jvm.MethodName)) ∈ lw_all := lw_g (lw_at lw_m9 46 rfl) rfl
theorem q2072 : (Jvm.Cond.stringRef "RowenTongue$Machine" (30 : Nat) "number") ∈ lw_tbl := lw_at lw_m9 103 rfl
theorem q2073 : (Jvm.Cond.methodLink "RowenTongue$Machine" (32 : Nat) ({ cls := "java/lang/String", name := "equals", desc := "(Ljava/lang/Object;)Z" } : Jvm.MethodName)) ∈ lw_all := lw_g (lw_at lw_m9 104 rfl) rfl
theorem q2074 : (Jvm.Cond.stringRef "RowenTongue$Machine" (36 : Nat) "empty") ∈ lw_tbl := lw_at lw_m9 105 rfl
theorem q2075 : (Jvm.Cond.stringRef "RowenTongue$Machine" (38 : Nat) "name") ∈ lw_tbl := lw_at lw_m9 106 rfl
theorem q2076 : (Jvm.Cond.stringRef "RowenTongue$Machine" (40 : Nat) "fun") ∈ lw_tbl := lw_at lw_m9 107 rfl
theorem q2077 : (Jvm.Cond.stringRef "RowenTongue$Machine" (42 : Nat) "give") ∈ lw_tbl := lw_at lw_m9 108 rfl
theorem q2078 : (Jvm.Cond.stringRef "RowenTongue$Machine" (44 : Nat) "let") ∈ lw_tbl := lw_at lw_m9 109 rfl
theorem q2079 : (Jvm.Cond.stringRef "RowenTongue$Machine" (46 : Nat) "rec") ∈ lw_tbl := lw_at lw_m9 110 rfl
theorem q2080 : (Jvm.Cond.stringRef "RowenTongue$Machine" (48 : Nat) "match") ∈ lw_tbl := lw_at lw_m9 111 rfl
theorem q2081 : (Jvm.Cond.stringRef "RowenTongue$Machine" (50 : Nat) "if") ∈ lw_tbl := lw_at lw_m9 112 rfl
theorem q2082 : (Jvm.Cond.stringRef "RowenTongue$Machine" (52 : Nat) "plus") ∈ lw_tbl := lw_at lw_m9 113 rfl
theorem q2083 : (Jvm.Cond.stringRef "RowenTongue$Machine" (54 : Nat) "same") ∈ lw_tbl := lw_at lw_m9 114 rfl
theorem q2084 : (Jvm.Cond.classLink "RowenTongue$Machine" (56 : Nat) "RowenTongue$Sum") ∈ lw_all := lw_g (lw_at lw_m9 115 rfl) rfl
theorem q2086 : (Jvm.Cond.methodLink "RowenTongue$Machine" (61 : Nat) ({ cls := "RowenTongue$Sum", name := "<init>", desc := "(I)V" } : Jvm.MethodName)) ∈ lw_all := lw_g (lw_at lw_m9 117 rfl) rfl
theorem q2098 : (Jvm.Cond.classLink "RowenTongue$Machine" (64 : Nat) "RowenTongue$Line") ∈ lw_all := lw_g (lw_at lw_m9 129 rfl) rfl
theorem q2100 : (Jvm.Cond.methodLinkNest "RowenTongue$Machine" (66 : Nat) ({ cls := "RowenTongue$Line", name := "<init>", desc := "()V" } : Jvm.MethodName) "RowenTongue") ∈ lw_tbl := lw_at lw_m9 131 rfl
theorem q2107 : (Jvm.Cond.fieldLinkNest "RowenTongue$Machine" (205 : Nat) "RowenTongue$Line" "things" "Ljava/util/ArrayList;" "RowenTongue") ∈ lw_tbl := lw_at lw_m9 138 rfl
theorem q2111 : (Jvm.Cond.methodLink "RowenTongue$Machine" (87 : Nat) ({ cls := "RowenTongue$Machine", name := "placesOf", desc := "(LRowenTongue$Code;LRowenTongue$Bind;LRowenTongue$Slot;)LRowenTongue$Slot;" } : Jvm.MethodName)) ∈ lw_all := lw_g (lw_at lw_m9 142 rfl) rfl
theorem q2112 : (Jvm.Cond.static ({ cls := "RowenTongue$Machine", name := "placesOf", desc := "(LRowenTongue$Code;LRowenTongue$Bind;LRowenTongue$Slot;)LRowenTongue$Slot;" } : Jvm.MethodName)) ∈ lw_all := lw_g (lw_at lw_m9 143 rfl) rfl
theorem q2113 : (Jvm.Cond.code ({ cls := "RowenTongue$Machine", name := "placesOf", desc := "(LRowenTongue$Code;LRowenTongue$Bind;LRowenTongue$Slot;)LRowenTongue$Slot;" } : Jvm.MethodName) prog_21_method_5_code (6 : Nat) (Option.some (Jvm.ClassFile.FieldType.object "RowenTongue$Slot"))) ∈ lw_all := lw_g (lw_at lw_m9 144 rfl) rfl
theorem q2114 : (Jvm.Cond.methodLink "RowenTongue$Machine" (179 : Nat) ({ cls := "java/util/ArrayList", name := "size", desc := "()I" } : Jvm.MethodName)) ∈ lw_all := lw_g (lw_at lw_m9 145 rfl) rfl
theorem q2115 : (Jvm.Cond.methodLink "RowenTongue$Machine" (182 : Nat) ({ cls := "java/util/ArrayList", name := "get", desc := "(I)Ljava/lang/Object;" } : Jvm.MethodName)) ∈ lw_all := lw_g (lw_at lw_m9 146 rfl) rfl
theorem q2116 : (Jvm.Cond.classLink "RowenTongue$Machine" (186 : Nat) "RowenTongue$Place") ∈ lw_all := lw_g (lw_at lw_m9 147 rfl) rfl
theorem q2117 : (Jvm.Cond.classLink "RowenTongue$Machine" (188 : Nat) "RowenTongue$Slot") ∈ lw_all := lw_g (lw_at lw_m9 148 rfl) rfl
theorem q2119 : (Jvm.Cond.methodLinkNest "RowenTongue$Machine" (156 : Nat) ({ cls := "RowenTongue", name := "less", desc := "(LRowenTongue$Row;ILRowenTongue$Slot;)I" } : Jvm.MethodName) "RowenTongue") ∈ lw_tbl := lw_at lw_m9 150 rfl
theorem q2124 : (Jvm.Cond.methodLink "RowenTongue$Machine" (196 : Nat) ({ cls := "RowenTongue$Slot", name := "<init>", desc := "(LRowenTongue$Place;ILRowenTongue$Slot;)V" } : Jvm.MethodName)) ∈ lw_all := lw_g (lw_at lw_m9 155 rfl) rfl
theorem q2143 : (Jvm.Cond.methodLink "RowenTongue$Machine" (91 : Nat) ({ cls := "RowenTongue$Bind", name := "known", desc := "(LRowenTongue$Slot;)LRowenTongue$Thing;" } : Jvm.MethodName)) ∈ lw_all := lw_g (lw_at lw_m9 174 rfl) rfl
theorem q2156 : (Jvm.Cond.methodLink "RowenTongue$Machine" (95 : Nat) ({ cls := "RowenTongue$Bind", name := "within", desc := "(LRowenTongue$Slot;)LRowenTongue$Bind;" } : Jvm.MethodName)) ∈ lw_all := lw_g (lw_at lw_m9 187 rfl) rfl
theorem q2166 : (Jvm.Cond.fieldLinkNest "RowenTongue$Machine" (67 : Nat) "RowenTongue$Bind" "name" "I" "RowenTongue") ∈ lw_tbl := lw_at lw_m9 197 rfl
theorem q2168 : (Jvm.Cond.fieldLinkNest "RowenTongue$Machine" (79 : Nat) "RowenTongue$Bind" "thing" "LRowenTongue$Thing;" "RowenTongue") ∈ lw_tbl := lw_at lw_m9 199 rfl
theorem q2170 : (Jvm.Cond.fieldLinkNest "RowenTongue$Machine" (75 : Nat) "RowenTongue$Bind" "code" "LRowenTongue$Code;" "RowenTongue") ∈ lw_tbl := lw_at lw_m9 201 rfl
theorem q2172 : (Jvm.Cond.fieldLinkNest "RowenTongue$Machine" (83 : Nat) "RowenTongue$Bind" "wants" "Ljava/util/ArrayList;" "RowenTongue") ∈ lw_tbl := lw_at lw_m9 203 rfl
theorem q2175 : (Jvm.Cond.fieldLinkNest "RowenTongue$Machine" (107 : Nat) "RowenTongue$Bind" "slots" "LRowenTongue$Slot;" "RowenTongue") ∈ lw_tbl := lw_at lw_m9 206 rfl
theorem q2177 : (Jvm.Cond.fieldLinkNest "RowenTongue$Machine" (71 : Nat) "RowenTongue$Bind" "next" "LRowenTongue$Bind;" "RowenTongue") ∈ lw_tbl := lw_at lw_m9 208 rfl
theorem q2199 : (Jvm.Cond.methodLink "RowenTongue$Machine" (99 : Nat) ({ cls := "RowenTongue$Machine", name := "go", desc := "(LRowenTongue$Code;LRowenTongue$Bind;LRowenTongue$Slot;)LRowenTongue$Thing;" } : Jvm.MethodName)) ∈ lw_all := lw_g (lw_at lw_m9 230 rfl) rfl
theorem q2200 : (Jvm.Cond.methodLink "RowenTongue$Machine" (103 : Nat) ({ cls := "RowenTongue$Bind", name := "keep", desc := "(LRowenTongue$Slot;LRowenTongue$Thing;)LRowenTongue$Thing;" } : Jvm.MethodName)) ∈ lw_all := lw_g (lw_at lw_m9 231 rfl) rfl
theorem q2207 : (Jvm.Cond.classLink "RowenTongue$Machine" (111 : Nat) "RowenTongue$Action") ∈ lw_all := lw_g (lw_at lw_m9 238 rfl) rfl
theorem q2209 : (Jvm.Cond.methodLink "RowenTongue$Machine" (113 : Nat) ({ cls := "RowenTongue$Action", name := "<init>", desc := "(LRowenTongue$Code;LRowenTongue$Bind;LRowenTongue$Slot;)V" } : Jvm.MethodName)) ∈ lw_all := lw_g (lw_at lw_m10 0 rfl) rfl
theorem q2214 : (Jvm.Cond.fieldLinkNest "RowenTongue$Machine" (120 : Nat) "RowenTongue$Action" "code" "LRowenTongue$Code;" "RowenTongue") ∈ lw_tbl := lw_at lw_m10 5 rfl
theorem q2216 : (Jvm.Cond.fieldLinkNest "RowenTongue$Machine" (121 : Nat) "RowenTongue$Action" "binds" "LRowenTongue$Bind;" "RowenTongue") ∈ lw_tbl := lw_at lw_m10 7 rfl
theorem q2218 : (Jvm.Cond.fieldLinkNest "RowenTongue$Machine" (128 : Nat) "RowenTongue$Action" "slots" "LRowenTongue$Slot;" "RowenTongue") ∈ lw_tbl := lw_at lw_m10 9 rfl
theorem q2226 : (Jvm.Cond.methodLink "RowenTongue$Machine" (124 : Nat) ({ cls := "RowenTongue$Machine", name := "bound", desc := "(ILRowenTongue$Thing;LRowenTongue$Bind;)LRowenTongue$Bind;" } : Jvm.MethodName)) ∈ lw_all := lw_g (lw_at lw_m10 17 rfl) rfl
theorem q2227 : (Jvm.Cond.static ({ cls := "RowenTongue$Machine", name := "bound", desc := "(ILRowenTongue$Thing;LRowenTongue$Bind;)LRowenTongue$Bind;" } : Jvm.MethodName)) ∈ lw_all := lw_g (lw_at lw_m10 18 rfl) rfl
theorem q2228 : (Jvm.Cond.code ({ cls := "RowenTongue$Machine", name := "bound", desc := "(ILRowenTongue$Thing;LRowenTongue$Bind;)LRowenTongue$Bind;" } : Jvm.MethodName) prog_21_method_3_code (3 : Nat) (Option.some (Jvm.ClassFile.FieldType.object "RowenTongue$Bind"))) ∈ lw_all := lw_g (lw_at lw_m10 19 rfl) rfl
theorem q2229 : (Jvm.Cond.classLink "RowenTongue$Machine" (68 : Nat) "RowenTongue$Bind") ∈ lw_all := lw_g (lw_at lw_m10 20 rfl) rfl
theorem q2230 : (Jvm.Cond.methodLink "RowenTongue$Machine" (142 : Nat) ({ cls := "RowenTongue$Bind", name := "<init>", desc := "(ILRowenTongue$Thing;LRowenTongue$Code;Ljava/util/ArrayList;ZLRowenTongue$Slot;LRowenTongue$Bind;)V" } : Jvm.MethodName)) ∈ lw_all := lw_g (lw_at lw_m10 21 rfl) rfl
theorem q2231 : (Jvm.Cond.methodLink "RowenTongue$Machine" (132 : Nat) ({ cls := "java/util/ArrayList", name := "isEmpty", desc := "()Z" } : Jvm.MethodName)) ∈ lw_all := lw_g (lw_at lw_m10 22 rfl) rfl
theorem q2235 : (Jvm.Cond.methodLink "RowenTongue$Machine" (138 : Nat) ({ cls := "RowenTongue$Machine", name := "aroundOf", desc := "(LRowenTongue$Code;LRowenTongue$Bind;LRowenTongue$Slot;)LRowenTongue$Bind;" } : Jvm.MethodName)) ∈ lw_all := lw_g (lw_at lw_m10 26 rfl) rfl
theorem q2236 : (Jvm.Cond.static ({ cls := "RowenTongue$Machine", name := "aroundOf", desc := "(LRowenTongue$Code;LRowenTongue$Bind;LRowenTongue$Slot;)LRowenTongue$Bind;" } : Jvm.MethodName)) ∈ lw_all := lw_g (lw_at lw_m10 27 rfl) rfl
theorem q2237 : (Jvm.Cond.code ({ cls := "RowenTongue$Machine", name := "aroundOf", desc := "(LRowenTongue$Code;LRowenTongue$Bind;LRowenTongue$Slot;)LRowenTongue$Bind;" } : Jvm.MethodName) prog_21_method_4_code (3 : Nat) (Option.some (Jvm.ClassFile.FieldType.object "RowenTongue$Bind"))) ∈ lw_all := lw_g (lw_at lw_m10 28 rfl) rfl
theorem q2238 : (Jvm.Cond.classLink "RowenTongue$Machine" (145 : Nat) "RowenTongue$Pick") ∈ lw_all := lw_g (lw_at lw_m10 29 rfl) rfl
theorem q2239 : (Jvm.Cond.stringRef "RowenTongue$Machine" (150 : Nat) "case") ∈ lw_tbl := lw_at lw_m10 30 rfl
theorem q2241 : (Jvm.Cond.methodLink "RowenTongue$Machine" (161 : Nat) ({ cls := "RowenTongue$Pick", name := "<init>", desc := "(ILRowenTongue$Thing;)V" } : Jvm.MethodName)) ∈ lw_all := lw_g (lw_at lw_m10 32 rfl) rfl
theorem q2246 : (Jvm.Cond.fieldLinkNest "RowenTongue$Machine" (147 : Nat) "RowenTongue$Pick" "place" "I" "RowenTongue") ∈ lw_tbl := lw_at lw_m10 37 rfl
theorem q2248 : (Jvm.Cond.fieldLinkNest "RowenTongue$Machine" (160 : Nat) "RowenTongue$Pick" "thing" "LRowenTongue$Thing;" "RowenTongue") ∈ lw_tbl := lw_at lw_m10 39 rfl
theorem q2254 : (Jvm.Cond.methodLinkNest "RowenTongue$Machine" (164 : Nat) ({ cls := "RowenTongue", name := "sumOf", desc := "(LRowenTongue$Thing;)I" } : Jvm.MethodName) "RowenTongue") ∈ lw_tbl := lw_at lw_m10 45 rfl
theorem q2258 : (Jvm.Cond.methodLink "RowenTongue$Machine" (168 : Nat) ({ cls := "RowenTongue$Thing", name := "isSame", desc := "(LRowenTongue$Thing;)Z" } : Jvm.MethodName)) ∈ lw_all := lw_g (lw_at lw_m10 49 rfl) rfl
theorem q2281 : (Jvm.Cond.stringRef "RowenTongue$Machine" (174 : Nat) "with") ∈ lw_tbl := lw_at lw_m10 72 rfl
theorem q2282 : (Jvm.Cond.methodLink "RowenTongue$Machine" (176 : Nat) ({ cls := "RowenTongue$Machine", name := "row", desc := "(LRowenTongue$Code;LRowenTongue$Thing;LRowenTongue$Thing;LRowenTongue$Slot;)LRowenTongue$Thing;" } : Jvm.MethodName)) ∈ lw_all := lw_g (lw_at lw_m10 73 rfl) rfl
theorem q2283 : (Jvm.Cond.static ({ cls := "RowenTongue$Machine", name := "row", desc := "(LRowenTongue$Code;LRowenTongue$Thing;LRowenTongue$Thing;LRowenTongue$Slot;)LRowenTongue$Thing;" } : Jvm.MethodName)) ∈ lw_all := lw_g (lw_at lw_m10 74 rfl) rfl
theorem q2284 : (Jvm.Cond.code ({ cls := "RowenTongue$Machine", name := "row", desc := "(LRowenTongue$Code;LRowenTongue$Thing;LRowenTongue$Thing;LRowenTongue$Slot;)LRowenTongue$Thing;" } : Jvm.MethodName) prog_21_method_6_code (7 : Nat) (Option.some (Jvm.ClassFile.FieldType.object "RowenTongue$Thing"))) ∈ lw_all := lw_g (lw_at lw_m10 75 rfl) rfl
theorem q2285 : (Jvm.Cond.stringRef "RowenTongue$Machine" (199 : Nat) "as") ∈ lw_tbl := lw_at lw_m10 76 rfl
theorem q2286 : (Jvm.Cond.stringRef "RowenTongue$Machine" (201 : Nat) "of") ∈ lw_tbl := lw_at lw_m10 77 rfl
theorem q2287 : (Jvm.Cond.methodLink "RowenTongue$Machine" (202 : Nat) ({ cls := "RowenTongue$Line", name := "with", desc := "(ILRowenTongue$Thing;)LRowenTongue$Line;" } : Jvm.MethodName)) ∈ lw_all := lw_g (lw_at lw_m10 78 rfl) rfl
theorem q2307 : (Jvm.Cond.classLink "RowenTongue$Machine" (169 : Nat) "RowenTongue$Thing") ∈ lw_all := lw_g (lw_at lw_m10 98 rfl) rfl
theorem q2308 : (Jvm.Cond.methodLink "RowenTongue$Machine" (208 : Nat) ({ cls := "RowenTongue$Line", name := "without", desc := "(I)LRowenTongue$Line;" } : Jvm.MethodName)) ∈ lw_all := lw_g (lw_at lw_m10 99 rfl) rfl
theorem q2927 : (Jvm.Cond.castable "RowenTongue$Machine" "java/lang/Object") ∈ lw_tbl := lw_at lw_m12 238 rfl
theorem in_X40 : ∀ w ∈ wsX400, w ∈ lw_all := lw_in wsX400 [2006] (by decide +kernel) (by decide +kernel)
/-! RowenTongue$Thing -/
set_option maxRecDepth 100000
def RX41 : String := "RowenTongue$Thing"
abbrev cX41_init : ByteArray := prog_36_method_1_code
def yX41_init : MethodName := ⟨RX41, "<init>", "()V"⟩
theorem dX41_init_0 : decode cX41_init 0 = .ok (.aload_n 0, 1) := by decide +kernel
theorem dX41_init_1 : decode cX41_init 1 = .ok (.invokespecial 1, 3) := by decide +kernel
theorem dX41_init_4 : decode cX41_init 4 = .ok (.return_, 1) := by decide +kernel
theorem q114 : (Jvm.Cond.initialized "RowenTongue$Thing") ∈ lw_all := lw_g (lw_at lw_m1 65 rfl) rfl
theorem q2090 : (Jvm.Cond.instanceMethod ({ cls := "RowenTongue$Thing", name := "<init>", desc := "()V" } : Jvm.MethodName)) ∈ lw_all := lw_g (lw_at lw_m9 121 rfl) rfl
theorem q2091 : (Jvm.Cond.code ({ cls := "RowenTongue$Thing", name := "<init>", desc := "()V" } : Jvm.MethodName) prog_36_method_1_code (1 : Nat) (Option.none : Option Jvm.ClassFile.FieldType)) ∈ lw_all := lw_g (lw_at lw_m9 122 rfl) rfl
theorem q2092 : (Jvm.Cond.methodLink "RowenTongue$Thing" (1 : Nat) ({ cls := "java/lang/Object", name := "<init>", desc := "()V" } : Jvm.MethodName)) ∈ lw_all := lw_g (lw_at lw_m9 123 rfl) rfl
theorem q2259 : (Jvm.Cond.declares ({ cls := "RowenTongue$Thing", name := "isSame", desc := "(LRowenTongue$Thing;)Z" } : Jvm.MethodName)) ∈ lw_tbl := lw_at lw_m10 50 rfl
theorem q2260 : (Jvm.Cond.sameMethod "RowenTongue$Thing" "RowenTongue$Thing" "isSame" "(LRowenTongue$Thing;)Z") ∈ lw_all := lw_g (lw_at lw_m10 51 rfl) rfl
theorem q2321 : (Jvm.Cond.declares ({ cls := "RowenTongue$Thing", name := "tell", desc := "(LRowenTongue$Type;Ljava/lang/StringBuilder;)V" } : Jvm.MethodName)) ∈ lw_tbl := lw_at lw_m10 112 rfl
theorem q2322 : (Jvm.Cond.sameMethod "RowenTongue$Thing" "RowenTongue$Thing" "tell" "(LRowenTongue$Type;Ljava/lang/StringBuilder;)V") ∈ lw_all := lw_g (lw_at lw_m10 113 rfl) rfl
/-! RowenTongue$Sum -/
set_option maxRecDepth 100000
def RX42 : String := "RowenTongue$Sum"
def TX42 : u_T := fun k => match k with
  | _ => ("RowenTongue$Sum", "number", "I", true)
def tyX42 : Nat → FieldType := fun k => match k with
  | _ => .int
abbrev wsX420 : List Cond := u_ws RX42 TX42 1
theorem nmX42 : ∀ a, a < 1 → ∀ b, b < 1 → a ≠ b → (TX42 a).2.1 ≠ (TX42 b).2.1 := by decide +kernel
theorem tyX42_ok : ∀ k, k < 1 → parseFieldDescriptor (TX42 k).2.2.1 = some (tyX42 k) := by decide +kernel
abbrev cX42_init : ByteArray := prog_33_method_1_code
def yX42_init : MethodName := ⟨RX42, "<init>", "(I)V"⟩
def dkwX42_init_0 : List UInt8 := [42, 183, 0, 1, 42, 27, 181, 0, 7, 177]
abbrev dktX42_init_0 : List UInt8 := dkwX42_init_0 ++ []
theorem dksX42_init_0 : cX42_init.data.toList.drop 0 = dktX42_init_0 := by decide +kernel
theorem dX42_init_0 : decode cX42_init 0 = .ok (.aload_n 0, 1) := dk_42 (dk_at dksX42_init_0 0 rfl rfl)
theorem dX42_init_1 : decode cX42_init 1 = .ok (.invokespecial 1, 3) := dk_183 0 1 (dk_at dksX42_init_0 1 rfl rfl)
theorem dX42_init_4 : decode cX42_init 4 = .ok (.aload_n 0, 1) := dk_42 (dk_at dksX42_init_0 4 rfl rfl)
theorem dX42_init_5 : decode cX42_init 5 = .ok (.iload_n 1, 1) := dk_27 (dk_at dksX42_init_0 5 rfl rfl)
theorem dX42_init_6 : decode cX42_init 6 = .ok (.putfield 7, 3) := dk_181 0 7 (dk_at dksX42_init_0 6 rfl rfl)
theorem dX42_init_9 : decode cX42_init 9 = .ok (.return_, 1) := dk_177 (dk_at dksX42_init_0 9 rfl rfl)
abbrev cX42_isSame : ByteArray := prog_33_method_3_code
def yX42_isSame : MethodName := ⟨RX42, "isSame", "(LRowenTongue$Thing;)Z"⟩
def dkwX42_isSame_0 : List UInt8 := [43, 192, 0, 8, 180, 0, 7, 42, 180, 0, 7, 160, 0, 7, 4, 167, 0, 4, 3, 172]
abbrev dktX42_isSame_0 : List UInt8 := dkwX42_isSame_0 ++ []
theorem dksX42_isSame_0 : cX42_isSame.data.toList.drop 0 = dktX42_isSame_0 := by decide +kernel
theorem dX42_isSame_0 : decode cX42_isSame 0 = .ok (.aload_n 1, 1) := dk_43 (dk_at dksX42_isSame_0 0 rfl rfl)
theorem dX42_isSame_1 : decode cX42_isSame 1 = .ok (.checkcast 8, 3) := dk_192 0 8 (dk_at dksX42_isSame_0 1 rfl rfl)
theorem dX42_isSame_4 : decode cX42_isSame 4 = .ok (.getfield 7, 3) := dk_180 0 7 (dk_at dksX42_isSame_0 4 rfl rfl)
theorem dX42_isSame_7 : decode cX42_isSame 7 = .ok (.aload_n 0, 1) := dk_42 (dk_at dksX42_isSame_0 7 rfl rfl)
theorem dX42_isSame_8 : decode cX42_isSame 8 = .ok (.getfield 7, 3) := dk_180 0 7 (dk_at dksX42_isSame_0 8 rfl rfl)
theorem dX42_isSame_11 : decode cX42_isSame 11 = .ok (.if_icmp .ne 7, 3) := dk_160 0 7 (dk_at dksX42_isSame_0 11 rfl rfl)
theorem dX42_isSame_14 : decode cX42_isSame 14 = .ok (.iconst 1, 1) := dk_4 (dk_at dksX42_isSame_0 14 rfl rfl)
theorem dX42_isSame_15 : decode cX42_isSame 15 = .ok (.goto 4, 3) := dk_167 0 4 (dk_at dksX42_isSame_0 15 rfl rfl)
theorem dX42_isSame_18 : decode cX42_isSame 18 = .ok (.iconst 0, 1) := dk_3 (dk_at dksX42_isSame_0 18 rfl rfl)
theorem dX42_isSame_19 : decode cX42_isSame 19 = .ok (.ireturn, 1) := dk_172 (dk_at dksX42_isSame_0 19 rfl rfl)
abbrev cX42_tell : ByteArray := prog_33_method_2_code
def yX42_tell : MethodName := ⟨RX42, "tell", "(LRowenTongue$Type;Ljava/lang/StringBuilder;)V"⟩
def dkwX42_tell_0 : List UInt8 := [44, 42, 180, 0, 7, 182, 0, 13, 87, 177]
abbrev dktX42_tell_0 : List UInt8 := dkwX42_tell_0 ++ []
theorem dksX42_tell_0 : cX42_tell.data.toList.drop 0 = dktX42_tell_0 := by decide +kernel
theorem dX42_tell_0 : decode cX42_tell 0 = .ok (.aload_n 2, 1) := dk_44 (dk_at dksX42_tell_0 0 rfl rfl)
theorem dX42_tell_1 : decode cX42_tell 1 = .ok (.aload_n 0, 1) := dk_42 (dk_at dksX42_tell_0 1 rfl rfl)
theorem dX42_tell_2 : decode cX42_tell 2 = .ok (.getfield 7, 3) := dk_180 0 7 (dk_at dksX42_tell_0 2 rfl rfl)
theorem dX42_tell_5 : decode cX42_tell 5 = .ok (.invokevirtual 13, 3) := dk_182 0 13 (dk_at dksX42_tell_0 5 rfl rfl)
theorem dX42_tell_8 : decode cX42_tell 8 = .ok (.pop, 1) := dk_87 (dk_at dksX42_tell_0 8 rfl rfl)
theorem dX42_tell_9 : decode cX42_tell 9 = .ok (.return_, 1) := dk_177 (dk_at dksX42_tell_0 9 rfl rfl)
theorem q115 : (Jvm.Cond.initialized "RowenTongue$Sum") ∈ lw_all := lw_g (lw_at lw_m1 66 rfl) rfl
theorem q397 : (Jvm.Cond.selects "RowenTongue$Sum" ({ cls := "java/lang/Object", name := "getClass", desc := "()Ljava/lang/Class;" } : Jvm.MethodName) ({ cls := "java/lang/Object", name := "getClass", desc := "()Ljava/lang/Class;" } : Jvm.MethodName)) ∈ lw_all := lw_g (lw_at lw_m2 108 rfl) rfl
theorem q771 : (Jvm.Cond.selects "RowenTongue$Sum" ({ cls := "java/lang/Object", name := "equals", desc := "(Ljava/lang/Object;)Z" } : Jvm.MethodName) ({ cls := "java/lang/Object", name := "equals", desc := "(Ljava/lang/Object;)Z" } : Jvm.MethodName)) ∈ lw_all := lw_g (lw_at lw_m4 2 rfl) rfl
theorem q2085 : (Jvm.Cond.instantiable "RowenTongue$Sum" (1 : Nat)) ∈ lw_all := lw_g (lw_at lw_m9 116 rfl) rfl
theorem q2087 : (Jvm.Cond.instanceMethod ({ cls := "RowenTongue$Sum", name := "<init>", desc := "(I)V" } : Jvm.MethodName)) ∈ lw_all := lw_g (lw_at lw_m9 118 rfl) rfl
theorem q2088 : (Jvm.Cond.code ({ cls := "RowenTongue$Sum", name := "<init>", desc := "(I)V" } : Jvm.MethodName) prog_33_method_1_code (2 : Nat) (Option.none : Option Jvm.ClassFile.FieldType)) ∈ lw_all := lw_g (lw_at lw_m9 119 rfl) rfl
theorem q2089 : (Jvm.Cond.methodLinkNest "RowenTongue$Sum" (1 : Nat) ({ cls := "RowenTongue$Thing", name := "<init>", desc := "()V" } : Jvm.MethodName) "RowenTongue") ∈ lw_tbl := lw_at lw_m9 120 rfl
theorem q2093 : (Jvm.Cond.fieldLink "RowenTongue$Sum" (7 : Nat) "RowenTongue$Sum" "number" "I") ∈ lw_all := lw_g (lw_at lw_m9 124 rfl) rfl
theorem q2095 : (Jvm.Cond.laysFinal "RowenTongue$Sum" "RowenTongue$Sum" "number" "I") ∈ lw_all := lw_g (lw_at lw_m9 126 rfl) rfl
theorem q2096 : (Jvm.Cond.soleField "RowenTongue$Sum" "number") ∈ lw_all := lw_g (lw_at lw_m9 127 rfl) rfl
theorem q2097 : (Jvm.Cond.superclass "RowenTongue$Sum" "RowenTongue$Thing") ∈ lw_all := lw_g (lw_at lw_m9 128 rfl) rfl
theorem q2276 : (Jvm.Cond.instanceMethod ({ cls := "RowenTongue$Sum", name := "isSame", desc := "(LRowenTongue$Thing;)Z" } : Jvm.MethodName)) ∈ lw_all := lw_g (lw_at lw_m10 67 rfl) rfl
theorem q2277 : (Jvm.Cond.code ({ cls := "RowenTongue$Sum", name := "isSame", desc := "(LRowenTongue$Thing;)Z" } : Jvm.MethodName) prog_33_method_3_code (2 : Nat) (Option.some Jvm.ClassFile.FieldType.boolean)) ∈ lw_all := lw_g (lw_at lw_m10 68 rfl) rfl
theorem q2278 : (Jvm.Cond.classLink "RowenTongue$Sum" (8 : Nat) "RowenTongue$Sum") ∈ lw_all := lw_g (lw_at lw_m10 69 rfl) rfl
theorem q2280 : (Jvm.Cond.selects "RowenTongue$Sum" ({ cls := "RowenTongue$Thing", name := "isSame", desc := "(LRowenTongue$Thing;)Z" } : Jvm.MethodName) ({ cls := "RowenTongue$Sum", name := "isSame", desc := "(LRowenTongue$Thing;)Z" } : Jvm.MethodName)) ∈ lw_all := lw_g (lw_at lw_m10 71 rfl) rfl
theorem q2356 : (Jvm.Cond.instanceMethod ({ cls := "RowenTongue$Sum", name := "tell", desc := "(LRowenTongue$Type;Ljava/lang/StringBuilder;)V" } : Jvm.MethodName)) ∈ lw_all := lw_g (lw_at lw_m10 147 rfl) rfl
theorem q2357 : (Jvm.Cond.code ({ cls := "RowenTongue$Sum", name := "tell", desc := "(LRowenTongue$Type;Ljava/lang/StringBuilder;)V" } : Jvm.MethodName) prog_33_method_2_code (3 : Nat) (Option.none : Option Jvm.ClassFile.FieldType)) ∈ lw_all := lw_g (lw_at lw_m10 148 rfl) rfl
theorem q2358 : (Jvm.Cond.methodLink "RowenTongue$Sum" (13 : Nat) ({ cls := "java/lang/StringBuilder", name := "append", desc := "(I)Ljava/lang/StringBuilder;" } : Jvm.MethodName)) ∈ lw_all := lw_g (lw_at lw_m10 149 rfl) rfl
theorem q2360 : (Jvm.Cond.selects "RowenTongue$Sum" ({ cls := "RowenTongue$Thing", name := "tell", desc := "(LRowenTongue$Type;Ljava/lang/StringBuilder;)V" } : Jvm.MethodName) ({ cls := "RowenTongue$Sum", name := "tell", desc := "(LRowenTongue$Type;Ljava/lang/StringBuilder;)V" } : Jvm.MethodName)) ∈ lw_all := lw_g (lw_at lw_m10 151 rfl) rfl
theorem q2880 : (Jvm.Cond.castable "RowenTongue$Sum" "RowenTongue$Thing") ∈ lw_tbl := lw_at lw_m12 191 rfl
theorem q2929 : (Jvm.Cond.castable "RowenTongue$Sum" "java/lang/Object") ∈ lw_tbl := lw_at lw_m13 0 rfl
theorem in_X42 : ∀ w ∈ wsX420, w ∈ lw_all := lw_in wsX420 [2095] (by decide +kernel) (by decide +kernel)
/-! RowenTongue$Line -/
set_option maxRecDepth 100000
def RX43 : String := "RowenTongue$Line"
def TX43 : u_T := fun k => match k with
  | _ => ("RowenTongue$Line", "things", "Ljava/util/ArrayList;", true)
def tyX43 : Nat → FieldType := fun k => match k with
  | _ => .object "java/util/ArrayList"
abbrev wsX430 : List Cond := u_ws RX43 TX43 1
theorem nmX43 : ∀ a, a < 1 → ∀ b, b < 1 → a ≠ b → (TX43 a).2.1 ≠ (TX43 b).2.1 := by decide +kernel
theorem tyX43_ok : ∀ k, k < 1 → parseFieldDescriptor (TX43 k).2.2.1 = some (tyX43 k) := by decide +kernel
abbrev cX43_init : ByteArray := prog_20_method_1_code
def yX43_init : MethodName := ⟨RX43, "<init>", "()V"⟩
def dkwX43_init_0 : List UInt8 := [42, 183, 0, 3, 42, 187, 0, 9, 89, 183, 0, 11, 181, 0, 12, 177]
abbrev dktX43_init_0 : List UInt8 := dkwX43_init_0 ++ []
theorem dksX43_init_0 : cX43_init.data.toList.drop 0 = dktX43_init_0 := by decide +kernel
theorem dX43_init_0 : decode cX43_init 0 = .ok (.aload_n 0, 1) := dk_42 (dk_at dksX43_init_0 0 rfl rfl)
theorem dX43_init_1 : decode cX43_init 1 = .ok (.invokespecial 3, 3) := dk_183 0 3 (dk_at dksX43_init_0 1 rfl rfl)
theorem dX43_init_4 : decode cX43_init 4 = .ok (.aload_n 0, 1) := dk_42 (dk_at dksX43_init_0 4 rfl rfl)
theorem dX43_init_5 : decode cX43_init 5 = .ok (.new 9, 3) := dk_187 0 9 (dk_at dksX43_init_0 5 rfl rfl)
theorem dX43_init_8 : decode cX43_init 8 = .ok (.dup, 1) := dk_89 (dk_at dksX43_init_0 8 rfl rfl)
theorem dX43_init_9 : decode cX43_init 9 = .ok (.invokespecial 11, 3) := dk_183 0 11 (dk_at dksX43_init_0 9 rfl rfl)
theorem dX43_init_12 : decode cX43_init 12 = .ok (.putfield 12, 3) := dk_181 0 12 (dk_at dksX43_init_0 12 rfl rfl)
theorem dX43_init_15 : decode cX43_init 15 = .ok (.return_, 1) := dk_177 (dk_at dksX43_init_0 15 rfl rfl)
abbrev cX43_isSame : ByteArray := prog_20_method_5_code
def yX43_isSame : MethodName := ⟨RX43, "isSame", "(LRowenTongue$Thing;)Z"⟩
def dkwX43_isSame_2 : List UInt8 := [132, 3, 1, 167, 255, 209, 28, 172]
abbrev dktX43_isSame_2 : List UInt8 := dkwX43_isSame_2 ++ []
def dkwX43_isSame_1 : List UInt8 := [182, 0, 76, 192, 0, 4, 43, 192, 0, 13, 180, 0, 12, 29, 182, 0, 76, 192, 0, 4, 182, 0, 89, 61]
abbrev dktX43_isSame_1 : List UInt8 := dkwX43_isSame_1 ++ dktX43_isSame_2
def dkwX43_isSame_0 : List UInt8 := [4, 61, 3, 62, 28, 153, 0, 49, 29, 42, 180, 0, 12, 182, 0, 86, 162, 0, 38, 42, 180, 0, 12, 29]
abbrev dktX43_isSame_0 : List UInt8 := dkwX43_isSame_0 ++ dktX43_isSame_1
theorem dksX43_isSame_0 : cX43_isSame.data.toList.drop 0 = dktX43_isSame_0 := by decide +kernel
theorem dksX43_isSame_1 : cX43_isSame.data.toList.drop 24 = dktX43_isSame_1 := dk_seg dksX43_isSame_0 24 rfl rfl
theorem dksX43_isSame_2 : cX43_isSame.data.toList.drop 48 = dktX43_isSame_2 := dk_seg dksX43_isSame_1 24 rfl rfl
theorem dX43_isSame_0 : decode cX43_isSame 0 = .ok (.iconst 1, 1) := dk_4 (dk_at dksX43_isSame_0 0 rfl rfl)
theorem dX43_isSame_1 : decode cX43_isSame 1 = .ok (.istore_n 2, 1) := dk_61 (dk_at dksX43_isSame_0 1 rfl rfl)
theorem dX43_isSame_2 : decode cX43_isSame 2 = .ok (.iconst 0, 1) := dk_3 (dk_at dksX43_isSame_0 2 rfl rfl)
theorem dX43_isSame_3 : decode cX43_isSame 3 = .ok (.istore_n 3, 1) := dk_62 (dk_at dksX43_isSame_0 3 rfl rfl)
theorem dX43_isSame_4 : decode cX43_isSame 4 = .ok (.iload_n 2, 1) := dk_28 (dk_at dksX43_isSame_0 4 rfl rfl)
theorem dX43_isSame_5 : decode cX43_isSame 5 = .ok (.ifCond .eq 49, 3) := dk_153 0 49 (dk_at dksX43_isSame_0 5 rfl rfl)
theorem dX43_isSame_8 : decode cX43_isSame 8 = .ok (.iload_n 3, 1) := dk_29 (dk_at dksX43_isSame_0 8 rfl rfl)
theorem dX43_isSame_9 : decode cX43_isSame 9 = .ok (.aload_n 0, 1) := dk_42 (dk_at dksX43_isSame_0 9 rfl rfl)
theorem dX43_isSame_10 : decode cX43_isSame 10 = .ok (.getfield 12, 3) := dk_180 0 12 (dk_at dksX43_isSame_0 10 rfl rfl)
theorem dX43_isSame_13 : decode cX43_isSame 13 = .ok (.invokevirtual 86, 3) := dk_182 0 86 (dk_at dksX43_isSame_0 13 rfl rfl)
theorem dX43_isSame_16 : decode cX43_isSame 16 = .ok (.if_icmp .ge 38, 3) := dk_162 0 38 (dk_at dksX43_isSame_0 16 rfl rfl)
theorem dX43_isSame_19 : decode cX43_isSame 19 = .ok (.aload_n 0, 1) := dk_42 (dk_at dksX43_isSame_0 19 rfl rfl)
theorem dX43_isSame_20 : decode cX43_isSame 20 = .ok (.getfield 12, 3) := dk_180 0 12 (dk_at dksX43_isSame_0 20 rfl rfl)
theorem dX43_isSame_23 : decode cX43_isSame 23 = .ok (.iload_n 3, 1) := dk_29 (dk_at dksX43_isSame_0 23 rfl rfl)
theorem dX43_isSame_24 : decode cX43_isSame 24 = .ok (.invokevirtual 76, 3) := dk_182 0 76 (dk_at dksX43_isSame_1 0 rfl rfl)
theorem dX43_isSame_27 : decode cX43_isSame 27 = .ok (.checkcast 4, 3) := dk_192 0 4 (dk_at dksX43_isSame_1 3 rfl rfl)
theorem dX43_isSame_30 : decode cX43_isSame 30 = .ok (.aload_n 1, 1) := dk_43 (dk_at dksX43_isSame_1 6 rfl rfl)
theorem dX43_isSame_31 : decode cX43_isSame 31 = .ok (.checkcast 13, 3) := dk_192 0 13 (dk_at dksX43_isSame_1 7 rfl rfl)
theorem dX43_isSame_34 : decode cX43_isSame 34 = .ok (.getfield 12, 3) := dk_180 0 12 (dk_at dksX43_isSame_1 10 rfl rfl)
theorem dX43_isSame_37 : decode cX43_isSame 37 = .ok (.iload_n 3, 1) := dk_29 (dk_at dksX43_isSame_1 13 rfl rfl)
theorem dX43_isSame_38 : decode cX43_isSame 38 = .ok (.invokevirtual 76, 3) := dk_182 0 76 (dk_at dksX43_isSame_1 14 rfl rfl)
theorem dX43_isSame_41 : decode cX43_isSame 41 = .ok (.checkcast 4, 3) := dk_192 0 4 (dk_at dksX43_isSame_1 17 rfl rfl)
theorem dX43_isSame_44 : decode cX43_isSame 44 = .ok (.invokevirtual 89, 3) := dk_182 0 89 (dk_at dksX43_isSame_1 20 rfl rfl)
theorem dX43_isSame_47 : decode cX43_isSame 47 = .ok (.istore_n 2, 1) := dk_61 (dk_at dksX43_isSame_1 23 rfl rfl)
theorem dX43_isSame_48 : decode cX43_isSame 48 = .ok (.iinc 3 1, 3) := dk_132 3 1 (dk_at dksX43_isSame_2 0 rfl rfl)
theorem dX43_isSame_51 : decode cX43_isSame 51 = .ok (.goto (-47), 3) := dk_167 255 209 (dk_at dksX43_isSame_2 3 rfl rfl)
theorem dX43_isSame_54 : decode cX43_isSame 54 = .ok (.iload_n 2, 1) := dk_28 (dk_at dksX43_isSame_2 6 rfl rfl)
theorem dX43_isSame_55 : decode cX43_isSame 55 = .ok (.ireturn, 1) := dk_172 (dk_at dksX43_isSame_2 7 rfl rfl)
abbrev cX43_with : ByteArray := prog_20_method_2_code
def yX43_with : MethodName := ⟨RX43, "with", "(ILRowenTongue$Thing;)LRowenTongue$Line;"⟩
def dkwX43_with_1 : List UInt8 := [27, 44, 182, 0, 23, 45, 176]
abbrev dktX43_with_1 : List UInt8 := dkwX43_with_1 ++ []
def dkwX43_with_0 : List UInt8 := [187, 0, 13, 89, 183, 0, 18, 78, 45, 180, 0, 12, 42, 180, 0, 12, 182, 0, 19, 87, 45, 180, 0, 12]
abbrev dktX43_with_0 : List UInt8 := dkwX43_with_0 ++ dktX43_with_1
theorem dksX43_with_0 : cX43_with.data.toList.drop 0 = dktX43_with_0 := by decide +kernel
theorem dksX43_with_1 : cX43_with.data.toList.drop 24 = dktX43_with_1 := dk_seg dksX43_with_0 24 rfl rfl
theorem dX43_with_0 : decode cX43_with 0 = .ok (.new 13, 3) := dk_187 0 13 (dk_at dksX43_with_0 0 rfl rfl)
theorem dX43_with_3 : decode cX43_with 3 = .ok (.dup, 1) := dk_89 (dk_at dksX43_with_0 3 rfl rfl)
theorem dX43_with_4 : decode cX43_with 4 = .ok (.invokespecial 18, 3) := dk_183 0 18 (dk_at dksX43_with_0 4 rfl rfl)
theorem dX43_with_7 : decode cX43_with 7 = .ok (.astore_n 3, 1) := dk_78 (dk_at dksX43_with_0 7 rfl rfl)
theorem dX43_with_8 : decode cX43_with 8 = .ok (.aload_n 3, 1) := dk_45 (dk_at dksX43_with_0 8 rfl rfl)
theorem dX43_with_9 : decode cX43_with 9 = .ok (.getfield 12, 3) := dk_180 0 12 (dk_at dksX43_with_0 9 rfl rfl)
theorem dX43_with_12 : decode cX43_with 12 = .ok (.aload_n 0, 1) := dk_42 (dk_at dksX43_with_0 12 rfl rfl)
theorem dX43_with_13 : decode cX43_with 13 = .ok (.getfield 12, 3) := dk_180 0 12 (dk_at dksX43_with_0 13 rfl rfl)
theorem dX43_with_16 : decode cX43_with 16 = .ok (.invokevirtual 19, 3) := dk_182 0 19 (dk_at dksX43_with_0 16 rfl rfl)
theorem dX43_with_19 : decode cX43_with 19 = .ok (.pop, 1) := dk_87 (dk_at dksX43_with_0 19 rfl rfl)
theorem dX43_with_20 : decode cX43_with 20 = .ok (.aload_n 3, 1) := dk_45 (dk_at dksX43_with_0 20 rfl rfl)
theorem dX43_with_21 : decode cX43_with 21 = .ok (.getfield 12, 3) := dk_180 0 12 (dk_at dksX43_with_0 21 rfl rfl)
theorem dX43_with_24 : decode cX43_with 24 = .ok (.iload_n 1, 1) := dk_27 (dk_at dksX43_with_1 0 rfl rfl)
theorem dX43_with_25 : decode cX43_with 25 = .ok (.aload_n 2, 1) := dk_44 (dk_at dksX43_with_1 1 rfl rfl)
theorem dX43_with_26 : decode cX43_with 26 = .ok (.invokevirtual 23, 3) := dk_182 0 23 (dk_at dksX43_with_1 2 rfl rfl)
theorem dX43_with_29 : decode cX43_with 29 = .ok (.aload_n 3, 1) := dk_45 (dk_at dksX43_with_1 5 rfl rfl)
theorem dX43_with_30 : decode cX43_with 30 = .ok (.areturn, 1) := dk_176 (dk_at dksX43_with_1 6 rfl rfl)
abbrev cX43_without : ByteArray := prog_20_method_3_code
def yX43_without : MethodName := ⟨RX43, "without", "(I)LRowenTongue$Line;"⟩
def dkwX43_without_1 : List UInt8 := [27, 182, 0, 27, 192, 0, 4, 78, 44, 176]
abbrev dktX43_without_1 : List UInt8 := dkwX43_without_1 ++ []
def dkwX43_without_0 : List UInt8 := [187, 0, 13, 89, 183, 0, 18, 77, 44, 180, 0, 12, 42, 180, 0, 12, 182, 0, 19, 87, 44, 180, 0, 12]
abbrev dktX43_without_0 : List UInt8 := dkwX43_without_0 ++ dktX43_without_1
theorem dksX43_without_0 : cX43_without.data.toList.drop 0 = dktX43_without_0 := by decide +kernel
theorem dksX43_without_1 : cX43_without.data.toList.drop 24 = dktX43_without_1 := dk_seg dksX43_without_0 24 rfl rfl
theorem dX43_without_0 : decode cX43_without 0 = .ok (.new 13, 3) := dk_187 0 13 (dk_at dksX43_without_0 0 rfl rfl)
theorem dX43_without_3 : decode cX43_without 3 = .ok (.dup, 1) := dk_89 (dk_at dksX43_without_0 3 rfl rfl)
theorem dX43_without_4 : decode cX43_without 4 = .ok (.invokespecial 18, 3) := dk_183 0 18 (dk_at dksX43_without_0 4 rfl rfl)
theorem dX43_without_7 : decode cX43_without 7 = .ok (.astore_n 2, 1) := dk_77 (dk_at dksX43_without_0 7 rfl rfl)
theorem dX43_without_8 : decode cX43_without 8 = .ok (.aload_n 2, 1) := dk_44 (dk_at dksX43_without_0 8 rfl rfl)
theorem dX43_without_9 : decode cX43_without 9 = .ok (.getfield 12, 3) := dk_180 0 12 (dk_at dksX43_without_0 9 rfl rfl)
theorem dX43_without_12 : decode cX43_without 12 = .ok (.aload_n 0, 1) := dk_42 (dk_at dksX43_without_0 12 rfl rfl)
theorem dX43_without_13 : decode cX43_without 13 = .ok (.getfield 12, 3) := dk_180 0 12 (dk_at dksX43_without_0 13 rfl rfl)
theorem dX43_without_16 : decode cX43_without 16 = .ok (.invokevirtual 19, 3) := dk_182 0 19 (dk_at dksX43_without_0 16 rfl rfl)
theorem dX43_without_19 : decode cX43_without 19 = .ok (.pop, 1) := dk_87 (dk_at dksX43_without_0 19 rfl rfl)
theorem dX43_without_20 : decode cX43_without 20 = .ok (.aload_n 2, 1) := dk_44 (dk_at dksX43_without_0 20 rfl rfl)
theorem dX43_without_21 : decode cX43_without 21 = .ok (.getfield 12, 3) := dk_180 0 12 (dk_at dksX43_without_0 21 rfl rfl)
theorem dX43_without_24 : decode cX43_without 24 = .ok (.iload_n 1, 1) := dk_27 (dk_at dksX43_without_1 0 rfl rfl)
theorem dX43_without_25 : decode cX43_without 25 = .ok (.invokevirtual 27, 3) := dk_182 0 27 (dk_at dksX43_without_1 1 rfl rfl)
theorem dX43_without_28 : decode cX43_without 28 = .ok (.checkcast 4, 3) := dk_192 0 4 (dk_at dksX43_without_1 4 rfl rfl)
theorem dX43_without_31 : decode cX43_without 31 = .ok (.astore_n 3, 1) := dk_78 (dk_at dksX43_without_1 7 rfl rfl)
theorem dX43_without_32 : decode cX43_without 32 = .ok (.aload_n 2, 1) := dk_44 (dk_at dksX43_without_1 8 rfl rfl)
theorem dX43_without_33 : decode cX43_without 33 = .ok (.areturn, 1) := dk_176 (dk_at dksX43_without_1 9 rfl rfl)
abbrev cX43_tell : ByteArray := prog_20_method_4_code
def yX43_tell : MethodName := ⟨RX43, "tell", "(LRowenTongue$Type;Ljava/lang/StringBuilder;)V"⟩
def dkwX43_tell_5 : List UInt8 := [132, 4, 1, 132, 5, 1, 167, 255, 166, 44, 16, 125, 182, 0, 48, 87, 177]
abbrev dktX43_tell_5 : List UInt8 := dkwX43_tell_5 ++ []
def dkwX43_tell_4 : List UInt8 := [182, 0, 76, 192, 0, 4, 45, 180, 0, 79, 21, 5, 182, 0, 76, 192, 0, 34, 44, 182, 0, 82]
abbrev dktX43_tell_4 : List UInt8 := dkwX43_tell_4 ++ dktX43_tell_5
def dkwX43_tell_3 : List UInt8 := [18, 68, 182, 0, 70, 21, 5, 182, 0, 73, 16, 58, 182, 0, 48, 87, 42, 180, 0, 12, 21, 4]
abbrev dktX43_tell_3 : List UInt8 := dkwX43_tell_3 ++ dktX43_tell_4
def dkwX43_tell_2 : List UInt8 := [45, 180, 0, 58, 21, 5, 184, 0, 62, 153, 0, 61, 44, 21, 4, 154, 0, 8, 18, 66, 167, 0, 5]
abbrev dktX43_tell_2 : List UInt8 := dkwX43_tell_2 ++ dktX43_tell_3
def dkwX43_tell_1 : List UInt8 := [87, 3, 54, 4, 3, 54, 5, 21, 5, 16, 10, 162, 0, 89, 44, 182, 0, 54, 17, 1, 44, 163, 0, 79]
abbrev dktX43_tell_1 : List UInt8 := dkwX43_tell_1 ++ dktX43_tell_2
def dkwX43_tell_0 : List UInt8 := [187, 0, 31, 89, 43, 182, 0, 33, 192, 0, 39, 180, 0, 41, 183, 0, 45, 78, 44, 16, 123, 182, 0, 48]
abbrev dktX43_tell_0 : List UInt8 := dkwX43_tell_0 ++ dktX43_tell_1
theorem dksX43_tell_0 : cX43_tell.data.toList.drop 0 = dktX43_tell_0 := by decide +kernel
theorem dksX43_tell_1 : cX43_tell.data.toList.drop 24 = dktX43_tell_1 := dk_seg dksX43_tell_0 24 rfl rfl
theorem dksX43_tell_2 : cX43_tell.data.toList.drop 48 = dktX43_tell_2 := dk_seg dksX43_tell_1 24 rfl rfl
theorem dksX43_tell_3 : cX43_tell.data.toList.drop 71 = dktX43_tell_3 := dk_seg dksX43_tell_2 23 rfl rfl
theorem dksX43_tell_4 : cX43_tell.data.toList.drop 93 = dktX43_tell_4 := dk_seg dksX43_tell_3 22 rfl rfl
theorem dksX43_tell_5 : cX43_tell.data.toList.drop 115 = dktX43_tell_5 := dk_seg dksX43_tell_4 22 rfl rfl
theorem dX43_tell_0 : decode cX43_tell 0 = .ok (.new 31, 3) := dk_187 0 31 (dk_at dksX43_tell_0 0 rfl rfl)
theorem dX43_tell_3 : decode cX43_tell 3 = .ok (.dup, 1) := dk_89 (dk_at dksX43_tell_0 3 rfl rfl)
theorem dX43_tell_4 : decode cX43_tell 4 = .ok (.aload_n 1, 1) := dk_43 (dk_at dksX43_tell_0 4 rfl rfl)
theorem dX43_tell_5 : decode cX43_tell 5 = .ok (.invokevirtual 33, 3) := dk_182 0 33 (dk_at dksX43_tell_0 5 rfl rfl)
theorem dX43_tell_8 : decode cX43_tell 8 = .ok (.checkcast 39, 3) := dk_192 0 39 (dk_at dksX43_tell_0 8 rfl rfl)
theorem dX43_tell_11 : decode cX43_tell 11 = .ok (.getfield 41, 3) := dk_180 0 41 (dk_at dksX43_tell_0 11 rfl rfl)
theorem dX43_tell_14 : decode cX43_tell 14 = .ok (.invokespecial 45, 3) := dk_183 0 45 (dk_at dksX43_tell_0 14 rfl rfl)
theorem dX43_tell_17 : decode cX43_tell 17 = .ok (.astore_n 3, 1) := dk_78 (dk_at dksX43_tell_0 17 rfl rfl)
theorem dX43_tell_18 : decode cX43_tell 18 = .ok (.aload_n 2, 1) := dk_44 (dk_at dksX43_tell_0 18 rfl rfl)
theorem dX43_tell_19 : decode cX43_tell 19 = .ok (.bipush 123, 2) := dk_16 123 (dk_at dksX43_tell_0 19 rfl rfl)
theorem dX43_tell_21 : decode cX43_tell 21 = .ok (.invokevirtual 48, 3) := dk_182 0 48 (dk_at dksX43_tell_0 21 rfl rfl)
theorem dX43_tell_24 : decode cX43_tell 24 = .ok (.pop, 1) := dk_87 (dk_at dksX43_tell_1 0 rfl rfl)
theorem dX43_tell_25 : decode cX43_tell 25 = .ok (.iconst 0, 1) := dk_3 (dk_at dksX43_tell_1 1 rfl rfl)
theorem dX43_tell_26 : decode cX43_tell 26 = .ok (.istore 4, 2) := dk_54 4 (dk_at dksX43_tell_1 2 rfl rfl)
theorem dX43_tell_28 : decode cX43_tell 28 = .ok (.iconst 0, 1) := dk_3 (dk_at dksX43_tell_1 4 rfl rfl)
theorem dX43_tell_29 : decode cX43_tell 29 = .ok (.istore 5, 2) := dk_54 5 (dk_at dksX43_tell_1 5 rfl rfl)
theorem dX43_tell_31 : decode cX43_tell 31 = .ok (.iload 5, 2) := dk_21 5 (dk_at dksX43_tell_1 7 rfl rfl)
theorem dX43_tell_33 : decode cX43_tell 33 = .ok (.bipush 10, 2) := dk_16 10 (dk_at dksX43_tell_1 9 rfl rfl)
theorem dX43_tell_35 : decode cX43_tell 35 = .ok (.if_icmp .ge 89, 3) := dk_162 0 89 (dk_at dksX43_tell_1 11 rfl rfl)
theorem dX43_tell_38 : decode cX43_tell 38 = .ok (.aload_n 2, 1) := dk_44 (dk_at dksX43_tell_1 14 rfl rfl)
theorem dX43_tell_39 : decode cX43_tell 39 = .ok (.invokevirtual 54, 3) := dk_182 0 54 (dk_at dksX43_tell_1 15 rfl rfl)
theorem dX43_tell_42 : decode cX43_tell 42 = .ok (.sipush 300, 3) := dk_17 1 44 (dk_at dksX43_tell_1 18 rfl rfl)
theorem dX43_tell_45 : decode cX43_tell 45 = .ok (.if_icmp .gt 79, 3) := dk_163 0 79 (dk_at dksX43_tell_1 21 rfl rfl)
theorem dX43_tell_48 : decode cX43_tell 48 = .ok (.aload_n 3, 1) := dk_45 (dk_at dksX43_tell_2 0 rfl rfl)
theorem dX43_tell_49 : decode cX43_tell 49 = .ok (.getfield 58, 3) := dk_180 0 58 (dk_at dksX43_tell_2 1 rfl rfl)
theorem dX43_tell_52 : decode cX43_tell 52 = .ok (.iload 5, 2) := dk_21 5 (dk_at dksX43_tell_2 4 rfl rfl)
theorem dX43_tell_54 : decode cX43_tell 54 = .ok (.invokestatic 62, 3) := dk_184 0 62 (dk_at dksX43_tell_2 6 rfl rfl)
theorem dX43_tell_57 : decode cX43_tell 57 = .ok (.ifCond .eq 61, 3) := dk_153 0 61 (dk_at dksX43_tell_2 9 rfl rfl)
theorem dX43_tell_60 : decode cX43_tell 60 = .ok (.aload_n 2, 1) := dk_44 (dk_at dksX43_tell_2 12 rfl rfl)
theorem dX43_tell_61 : decode cX43_tell 61 = .ok (.iload 4, 2) := dk_21 4 (dk_at dksX43_tell_2 13 rfl rfl)
theorem dX43_tell_63 : decode cX43_tell 63 = .ok (.ifCond .ne 8, 3) := dk_154 0 8 (dk_at dksX43_tell_2 15 rfl rfl)
theorem dX43_tell_66 : decode cX43_tell 66 = .ok (.ldc 66, 2) := dk_18 66 (dk_at dksX43_tell_2 18 rfl rfl)
theorem dX43_tell_68 : decode cX43_tell 68 = .ok (.goto 5, 3) := dk_167 0 5 (dk_at dksX43_tell_2 20 rfl rfl)
theorem dX43_tell_71 : decode cX43_tell 71 = .ok (.ldc 68, 2) := dk_18 68 (dk_at dksX43_tell_3 0 rfl rfl)
theorem dX43_tell_73 : decode cX43_tell 73 = .ok (.invokevirtual 70, 3) := dk_182 0 70 (dk_at dksX43_tell_3 2 rfl rfl)
theorem dX43_tell_76 : decode cX43_tell 76 = .ok (.iload 5, 2) := dk_21 5 (dk_at dksX43_tell_3 5 rfl rfl)
theorem dX43_tell_78 : decode cX43_tell 78 = .ok (.invokevirtual 73, 3) := dk_182 0 73 (dk_at dksX43_tell_3 7 rfl rfl)
theorem dX43_tell_81 : decode cX43_tell 81 = .ok (.bipush 58, 2) := dk_16 58 (dk_at dksX43_tell_3 10 rfl rfl)
theorem dX43_tell_83 : decode cX43_tell 83 = .ok (.invokevirtual 48, 3) := dk_182 0 48 (dk_at dksX43_tell_3 12 rfl rfl)
theorem dX43_tell_86 : decode cX43_tell 86 = .ok (.pop, 1) := dk_87 (dk_at dksX43_tell_3 15 rfl rfl)
theorem dX43_tell_87 : decode cX43_tell 87 = .ok (.aload_n 0, 1) := dk_42 (dk_at dksX43_tell_3 16 rfl rfl)
theorem dX43_tell_88 : decode cX43_tell 88 = .ok (.getfield 12, 3) := dk_180 0 12 (dk_at dksX43_tell_3 17 rfl rfl)
theorem dX43_tell_91 : decode cX43_tell 91 = .ok (.iload 4, 2) := dk_21 4 (dk_at dksX43_tell_3 20 rfl rfl)
theorem dX43_tell_93 : decode cX43_tell 93 = .ok (.invokevirtual 76, 3) := dk_182 0 76 (dk_at dksX43_tell_4 0 rfl rfl)
theorem dX43_tell_96 : decode cX43_tell 96 = .ok (.checkcast 4, 3) := dk_192 0 4 (dk_at dksX43_tell_4 3 rfl rfl)
theorem dX43_tell_99 : decode cX43_tell 99 = .ok (.aload_n 3, 1) := dk_45 (dk_at dksX43_tell_4 6 rfl rfl)
theorem dX43_tell_100 : decode cX43_tell 100 = .ok (.getfield 79, 3) := dk_180 0 79 (dk_at dksX43_tell_4 7 rfl rfl)
theorem dX43_tell_103 : decode cX43_tell 103 = .ok (.iload 5, 2) := dk_21 5 (dk_at dksX43_tell_4 10 rfl rfl)
theorem dX43_tell_105 : decode cX43_tell 105 = .ok (.invokevirtual 76, 3) := dk_182 0 76 (dk_at dksX43_tell_4 12 rfl rfl)
theorem dX43_tell_108 : decode cX43_tell 108 = .ok (.checkcast 34, 3) := dk_192 0 34 (dk_at dksX43_tell_4 15 rfl rfl)
theorem dX43_tell_111 : decode cX43_tell 111 = .ok (.aload_n 2, 1) := dk_44 (dk_at dksX43_tell_4 18 rfl rfl)
theorem dX43_tell_112 : decode cX43_tell 112 = .ok (.invokevirtual 82, 3) := dk_182 0 82 (dk_at dksX43_tell_4 19 rfl rfl)
theorem dX43_tell_115 : decode cX43_tell 115 = .ok (.iinc 4 1, 3) := dk_132 4 1 (dk_at dksX43_tell_5 0 rfl rfl)
theorem dX43_tell_118 : decode cX43_tell 118 = .ok (.iinc 5 1, 3) := dk_132 5 1 (dk_at dksX43_tell_5 3 rfl rfl)
theorem dX43_tell_121 : decode cX43_tell 121 = .ok (.goto (-90), 3) := dk_167 255 166 (dk_at dksX43_tell_5 6 rfl rfl)
theorem dX43_tell_124 : decode cX43_tell 124 = .ok (.aload_n 2, 1) := dk_44 (dk_at dksX43_tell_5 9 rfl rfl)
theorem dX43_tell_125 : decode cX43_tell 125 = .ok (.bipush 125, 2) := dk_16 125 (dk_at dksX43_tell_5 10 rfl rfl)
theorem dX43_tell_127 : decode cX43_tell 127 = .ok (.invokevirtual 48, 3) := dk_182 0 48 (dk_at dksX43_tell_5 12 rfl rfl)
theorem dX43_tell_130 : decode cX43_tell 130 = .ok (.pop, 1) := dk_87 (dk_at dksX43_tell_5 15 rfl rfl)
theorem dX43_tell_131 : decode cX43_tell 131 = .ok (.return_, 1) := dk_177 (dk_at dksX43_tell_5 16 rfl rfl)
theorem q116 : (Jvm.Cond.initialized "RowenTongue$Line") ∈ lw_all := lw_g (lw_at lw_m1 67 rfl) rfl
theorem q385 : (Jvm.Cond.selects "RowenTongue$Line" ({ cls := "java/lang/Object", name := "getClass", desc := "()Ljava/lang/Class;" } : Jvm.MethodName) ({ cls := "java/lang/Object", name := "getClass", desc := "()Ljava/lang/Class;" } : Jvm.MethodName)) ∈ lw_all := lw_g (lw_at lw_m2 96 rfl) rfl
theorem q623 : (Jvm.Cond.fieldLinkNest "RowenTongue$Line" (41 : Nat) "RowenTongue$Bag" "row" "LRowenTongue$Row;" "RowenTongue") ∈ lw_tbl := lw_at lw_m3 94 rfl
theorem q759 : (Jvm.Cond.selects "RowenTongue$Line" ({ cls := "java/lang/Object", name := "equals", desc := "(Ljava/lang/Object;)Z" } : Jvm.MethodName) ({ cls := "java/lang/Object", name := "equals", desc := "(Ljava/lang/Object;)Z" } : Jvm.MethodName)) ∈ lw_all := lw_g (lw_at lw_m3 230 rfl) rfl
theorem q1212 : (Jvm.Cond.fieldLinkNest "RowenTongue$Line" (79 : Nat) "RowenTongue$Flat" "types" "Ljava/util/ArrayList;" "RowenTongue") ∈ lw_tbl := lw_at lw_m5 203 rfl
theorem q1220 : (Jvm.Cond.fieldLinkNest "RowenTongue$Line" (58 : Nat) "RowenTongue$Flat" "labels" "I" "RowenTongue") ∈ lw_tbl := lw_at lw_m5 211 rfl
theorem q2099 : (Jvm.Cond.instantiable "RowenTongue$Line" (1 : Nat)) ∈ lw_all := lw_g (lw_at lw_m9 130 rfl) rfl
theorem q2101 : (Jvm.Cond.instanceMethod ({ cls := "RowenTongue$Line", name := "<init>", desc := "()V" } : Jvm.MethodName)) ∈ lw_all := lw_g (lw_at lw_m9 132 rfl) rfl
theorem q2102 : (Jvm.Cond.code ({ cls := "RowenTongue$Line", name := "<init>", desc := "()V" } : Jvm.MethodName) prog_20_method_1_code (1 : Nat) (Option.none : Option Jvm.ClassFile.FieldType)) ∈ lw_all := lw_g (lw_at lw_m9 133 rfl) rfl
theorem q2103 : (Jvm.Cond.methodLinkNest "RowenTongue$Line" (3 : Nat) ({ cls := "RowenTongue$Thing", name := "<init>", desc := "()V" } : Jvm.MethodName) "RowenTongue") ∈ lw_tbl := lw_at lw_m9 134 rfl
theorem q2104 : (Jvm.Cond.classLink "RowenTongue$Line" (9 : Nat) "java/util/ArrayList") ∈ lw_all := lw_g (lw_at lw_m9 135 rfl) rfl
theorem q2105 : (Jvm.Cond.methodLink "RowenTongue$Line" (11 : Nat) ({ cls := "java/util/ArrayList", name := "<init>", desc := "()V" } : Jvm.MethodName)) ∈ lw_all := lw_g (lw_at lw_m9 136 rfl) rfl
theorem q2106 : (Jvm.Cond.fieldLink "RowenTongue$Line" (12 : Nat) "RowenTongue$Line" "things" "Ljava/util/ArrayList;") ∈ lw_all := lw_g (lw_at lw_m9 137 rfl) rfl
theorem q2108 : (Jvm.Cond.laysFinal "RowenTongue$Line" "RowenTongue$Line" "things" "Ljava/util/ArrayList;") ∈ lw_all := lw_g (lw_at lw_m9 139 rfl) rfl
theorem q2109 : (Jvm.Cond.soleField "RowenTongue$Line" "things") ∈ lw_all := lw_g (lw_at lw_m9 140 rfl) rfl
theorem q2110 : (Jvm.Cond.superclass "RowenTongue$Line" "RowenTongue$Thing") ∈ lw_all := lw_g (lw_at lw_m9 141 rfl) rfl
theorem q2264 : (Jvm.Cond.selects "RowenTongue$Line" ({ cls := "RowenTongue$Thing", name := "isSame", desc := "(LRowenTongue$Thing;)Z" } : Jvm.MethodName) ({ cls := "RowenTongue$Line", name := "isSame", desc := "(LRowenTongue$Thing;)Z" } : Jvm.MethodName)) ∈ lw_all := lw_g (lw_at lw_m10 55 rfl) rfl
theorem q2265 : (Jvm.Cond.instanceMethod ({ cls := "RowenTongue$Line", name := "isSame", desc := "(LRowenTongue$Thing;)Z" } : Jvm.MethodName)) ∈ lw_all := lw_g (lw_at lw_m10 56 rfl) rfl
theorem q2266 : (Jvm.Cond.code ({ cls := "RowenTongue$Line", name := "isSame", desc := "(LRowenTongue$Thing;)Z" } : Jvm.MethodName) prog_20_method_5_code (4 : Nat) (Option.some Jvm.ClassFile.FieldType.boolean)) ∈ lw_all := lw_g (lw_at lw_m10 57 rfl) rfl
theorem q2267 : (Jvm.Cond.methodLink "RowenTongue$Line" (86 : Nat) ({ cls := "java/util/ArrayList", name := "size", desc := "()I" } : Jvm.MethodName)) ∈ lw_all := lw_g (lw_at lw_m10 58 rfl) rfl
theorem q2268 : (Jvm.Cond.methodLink "RowenTongue$Line" (76 : Nat) ({ cls := "java/util/ArrayList", name := "get", desc := "(I)Ljava/lang/Object;" } : Jvm.MethodName)) ∈ lw_all := lw_g (lw_at lw_m10 59 rfl) rfl
theorem q2269 : (Jvm.Cond.classLink "RowenTongue$Line" (4 : Nat) "RowenTongue$Thing") ∈ lw_all := lw_g (lw_at lw_m10 60 rfl) rfl
theorem q2270 : (Jvm.Cond.classLink "RowenTongue$Line" (13 : Nat) "RowenTongue$Line") ∈ lw_all := lw_g (lw_at lw_m10 61 rfl) rfl
theorem q2271 : (Jvm.Cond.methodLink "RowenTongue$Line" (89 : Nat) ({ cls := "RowenTongue$Thing", name := "isSame", desc := "(LRowenTongue$Thing;)Z" } : Jvm.MethodName)) ∈ lw_all := lw_g (lw_at lw_m10 62 rfl) rfl
theorem q2288 : (Jvm.Cond.instanceMethod ({ cls := "RowenTongue$Line", name := "with", desc := "(ILRowenTongue$Thing;)LRowenTongue$Line;" } : Jvm.MethodName)) ∈ lw_all := lw_g (lw_at lw_m10 79 rfl) rfl
theorem q2289 : (Jvm.Cond.selects "RowenTongue$Line" ({ cls := "RowenTongue$Line", name := "with", desc := "(ILRowenTongue$Thing;)LRowenTongue$Line;" } : Jvm.MethodName) ({ cls := "RowenTongue$Line", name := "with", desc := "(ILRowenTongue$Thing;)LRowenTongue$Line;" } : Jvm.MethodName)) ∈ lw_all := lw_g (lw_at lw_m10 80 rfl) rfl
theorem q2290 : (Jvm.Cond.code ({ cls := "RowenTongue$Line", name := "with", desc := "(ILRowenTongue$Thing;)LRowenTongue$Line;" } : Jvm.MethodName) prog_20_method_2_code (4 : Nat) (Option.some (Jvm.ClassFile.FieldType.object "RowenTongue$Line"))) ∈ lw_all := lw_g (lw_at lw_m10 81 rfl) rfl
theorem q2291 : (Jvm.Cond.methodLink "RowenTongue$Line" (18 : Nat) ({ cls := "RowenTongue$Line", name := "<init>", desc := "()V" } : Jvm.MethodName)) ∈ lw_all := lw_g (lw_at lw_m10 82 rfl) rfl
theorem q2292 : (Jvm.Cond.methodLink "RowenTongue$Line" (19 : Nat) ({ cls := "java/util/ArrayList", name := "addAll", desc := "(Ljava/util/Collection;)Z" } : Jvm.MethodName)) ∈ lw_all := lw_g (lw_at lw_m10 83 rfl) rfl
theorem q2306 : (Jvm.Cond.methodLink "RowenTongue$Line" (23 : Nat) ({ cls := "java/util/ArrayList", name := "add", desc := "(ILjava/lang/Object;)V" } : Jvm.MethodName)) ∈ lw_all := lw_g (lw_at lw_m10 97 rfl) rfl
theorem q2309 : (Jvm.Cond.instanceMethod ({ cls := "RowenTongue$Line", name := "without", desc := "(I)LRowenTongue$Line;" } : Jvm.MethodName)) ∈ lw_all := lw_g (lw_at lw_m10 100 rfl) rfl
theorem q2310 : (Jvm.Cond.selects "RowenTongue$Line" ({ cls := "RowenTongue$Line", name := "without", desc := "(I)LRowenTongue$Line;" } : Jvm.MethodName) ({ cls := "RowenTongue$Line", name := "without", desc := "(I)LRowenTongue$Line;" } : Jvm.MethodName)) ∈ lw_all := lw_g (lw_at lw_m10 101 rfl) rfl
theorem q2311 : (Jvm.Cond.code ({ cls := "RowenTongue$Line", name := "without", desc := "(I)LRowenTongue$Line;" } : Jvm.MethodName) prog_20_method_3_code (4 : Nat) (Option.some (Jvm.ClassFile.FieldType.object "RowenTongue$Line"))) ∈ lw_all := lw_g (lw_at lw_m10 102 rfl) rfl
theorem q2312 : (Jvm.Cond.methodLink "RowenTongue$Line" (27 : Nat) ({ cls := "java/util/ArrayList", name := "remove", desc := "(I)Ljava/lang/Object;" } : Jvm.MethodName)) ∈ lw_all := lw_g (lw_at lw_m10 103 rfl) rfl
theorem q2327 : (Jvm.Cond.selects "RowenTongue$Line" ({ cls := "RowenTongue$Thing", name := "tell", desc := "(LRowenTongue$Type;Ljava/lang/StringBuilder;)V" } : Jvm.MethodName) ({ cls := "RowenTongue$Line", name := "tell", desc := "(LRowenTongue$Type;Ljava/lang/StringBuilder;)V" } : Jvm.MethodName)) ∈ lw_all := lw_g (lw_at lw_m10 118 rfl) rfl
theorem q2328 : (Jvm.Cond.instanceMethod ({ cls := "RowenTongue$Line", name := "tell", desc := "(LRowenTongue$Type;Ljava/lang/StringBuilder;)V" } : Jvm.MethodName)) ∈ lw_all := lw_g (lw_at lw_m10 119 rfl) rfl
theorem q2329 : (Jvm.Cond.code ({ cls := "RowenTongue$Line", name := "tell", desc := "(LRowenTongue$Type;Ljava/lang/StringBuilder;)V" } : Jvm.MethodName) prog_20_method_4_code (6 : Nat) (Option.none : Option Jvm.ClassFile.FieldType)) ∈ lw_all := lw_g (lw_at lw_m10 120 rfl) rfl
theorem q2330 : (Jvm.Cond.classLink "RowenTongue$Line" (31 : Nat) "RowenTongue$Flat") ∈ lw_all := lw_g (lw_at lw_m10 121 rfl) rfl
theorem q2331 : (Jvm.Cond.methodLink "RowenTongue$Line" (33 : Nat) ({ cls := "RowenTongue$Type", name := "now", desc := "()LRowenTongue$Type;" } : Jvm.MethodName)) ∈ lw_all := lw_g (lw_at lw_m10 122 rfl) rfl
theorem q2332 : (Jvm.Cond.classLink "RowenTongue$Line" (39 : Nat) "RowenTongue$Bag") ∈ lw_all := lw_g (lw_at lw_m10 123 rfl) rfl
theorem q2333 : (Jvm.Cond.methodLink "RowenTongue$Line" (45 : Nat) ({ cls := "RowenTongue$Flat", name := "<init>", desc := "(LRowenTongue$Row;)V" } : Jvm.MethodName)) ∈ lw_all := lw_g (lw_at lw_m10 124 rfl) rfl
theorem q2334 : (Jvm.Cond.methodLink "RowenTongue$Line" (48 : Nat) ({ cls := "java/lang/StringBuilder", name := "append", desc := "(C)Ljava/lang/StringBuilder;" } : Jvm.MethodName)) ∈ lw_all := lw_g (lw_at lw_m10 125 rfl) rfl
theorem q2335 : (Jvm.Cond.methodLink "RowenTongue$Line" (54 : Nat) ({ cls := "java/lang/StringBuilder", name := "length", desc := "()I" } : Jvm.MethodName)) ∈ lw_all := lw_g (lw_at lw_m10 126 rfl) rfl
theorem q2336 : (Jvm.Cond.methodLinkNest "RowenTongue$Line" (62 : Nat) ({ cls := "RowenTongue", name := "has", desc := "(II)Z" } : Jvm.MethodName) "RowenTongue") ∈ lw_tbl := lw_at lw_m10 127 rfl
theorem q2337 : (Jvm.Cond.stringRef "RowenTongue$Line" (66 : Nat) "") ∈ lw_tbl := lw_at lw_m10 128 rfl
theorem q2338 : (Jvm.Cond.stringRef "RowenTongue$Line" (68 : Nat) ",") ∈ lw_tbl := lw_at lw_m10 129 rfl
theorem q2339 : (Jvm.Cond.methodLink "RowenTongue$Line" (70 : Nat) ({ cls := "java/lang/StringBuilder", name := "append", desc := "(Ljava/lang/String;)Ljava/lang/StringBuilder;" } : Jvm.MethodName)) ∈ lw_all := lw_g (lw_at lw_m10 130 rfl) rfl
theorem q2340 : (Jvm.Cond.methodLink "RowenTongue$Line" (73 : Nat) ({ cls := "java/lang/StringBuilder", name := "append", desc := "(I)Ljava/lang/StringBuilder;" } : Jvm.MethodName)) ∈ lw_all := lw_g (lw_at lw_m10 131 rfl) rfl
theorem q2341 : (Jvm.Cond.classLink "RowenTongue$Line" (34 : Nat) "RowenTongue$Type") ∈ lw_all := lw_g (lw_at lw_m10 132 rfl) rfl
theorem q2342 : (Jvm.Cond.methodLink "RowenTongue$Line" (82 : Nat) ({ cls := "RowenTongue$Thing", name := "tell", desc := "(LRowenTongue$Type;Ljava/lang/StringBuilder;)V" } : Jvm.MethodName)) ∈ lw_all := lw_g (lw_at lw_m10 133 rfl) rfl
theorem q2878 : (Jvm.Cond.castable "RowenTongue$Line" "RowenTongue$Thing") ∈ lw_tbl := lw_at lw_m12 189 rfl
theorem q2930 : (Jvm.Cond.castable "RowenTongue$Line" "java/lang/Object") ∈ lw_tbl := lw_at lw_m13 1 rfl
theorem in_X43 : ∀ w ∈ wsX430, w ∈ lw_all := lw_in wsX430 [2108] (by decide +kernel) (by decide +kernel)
/-! RowenTongue$Slot -/
set_option maxRecDepth 100000
def RX44 : String := "RowenTongue$Slot"
def TX44 : u_T := fun k => match k with
  | 0 => ("RowenTongue$Slot", "place", "LRowenTongue$Place;", true)
  | 1 => ("RowenTongue$Slot", "number", "I", true)
  | _ => ("RowenTongue$Slot", "next", "LRowenTongue$Slot;", true)
def tyX44 : Nat → FieldType := fun k => match k with
  | 0 => .object "RowenTongue$Place"
  | 1 => .int
  | _ => .object "RowenTongue$Slot"
abbrev wsX440 : List Cond := u_ws RX44 TX44 3
theorem nmX44 : ∀ a, a < 3 → ∀ b, b < 3 → a ≠ b → (TX44 a).2.1 ≠ (TX44 b).2.1 := by decide +kernel
theorem tyX44_ok : ∀ k, k < 3 → parseFieldDescriptor (TX44 k).2.2.1 = some (tyX44 k) := by decide +kernel
abbrev cX44_init : ByteArray := prog_32_method_1_code
def yX44_init : MethodName := ⟨RX44, "<init>", "(LRowenTongue$Place;ILRowenTongue$Slot;)V"⟩
def dkwX44_init_0 : List UInt8 := [42, 183, 0, 1, 42, 43, 181, 0, 7, 42, 28, 181, 0, 13, 42, 45, 181, 0, 17, 177]
abbrev dktX44_init_0 : List UInt8 := dkwX44_init_0 ++ []
theorem dksX44_init_0 : cX44_init.data.toList.drop 0 = dktX44_init_0 := by decide +kernel
theorem dX44_init_0 : decode cX44_init 0 = .ok (.aload_n 0, 1) := dk_42 (dk_at dksX44_init_0 0 rfl rfl)
theorem dX44_init_1 : decode cX44_init 1 = .ok (.invokespecial 1, 3) := dk_183 0 1 (dk_at dksX44_init_0 1 rfl rfl)
theorem dX44_init_4 : decode cX44_init 4 = .ok (.aload_n 0, 1) := dk_42 (dk_at dksX44_init_0 4 rfl rfl)
theorem dX44_init_5 : decode cX44_init 5 = .ok (.aload_n 1, 1) := dk_43 (dk_at dksX44_init_0 5 rfl rfl)
theorem dX44_init_6 : decode cX44_init 6 = .ok (.putfield 7, 3) := dk_181 0 7 (dk_at dksX44_init_0 6 rfl rfl)
theorem dX44_init_9 : decode cX44_init 9 = .ok (.aload_n 0, 1) := dk_42 (dk_at dksX44_init_0 9 rfl rfl)
theorem dX44_init_10 : decode cX44_init 10 = .ok (.iload_n 2, 1) := dk_28 (dk_at dksX44_init_0 10 rfl rfl)
theorem dX44_init_11 : decode cX44_init 11 = .ok (.putfield 13, 3) := dk_181 0 13 (dk_at dksX44_init_0 11 rfl rfl)
theorem dX44_init_14 : decode cX44_init 14 = .ok (.aload_n 0, 1) := dk_42 (dk_at dksX44_init_0 14 rfl rfl)
theorem dX44_init_15 : decode cX44_init 15 = .ok (.aload_n 3, 1) := dk_45 (dk_at dksX44_init_0 15 rfl rfl)
theorem dX44_init_16 : decode cX44_init 16 = .ok (.putfield 17, 3) := dk_181 0 17 (dk_at dksX44_init_0 16 rfl rfl)
theorem dX44_init_19 : decode cX44_init 19 = .ok (.return_, 1) := dk_177 (dk_at dksX44_init_0 19 rfl rfl)
theorem q117 : (Jvm.Cond.initialized "RowenTongue$Slot") ∈ lw_all := lw_g (lw_at lw_m1 68 rfl) rfl
theorem q396 : (Jvm.Cond.selects "RowenTongue$Slot" ({ cls := "java/lang/Object", name := "getClass", desc := "()Ljava/lang/Class;" } : Jvm.MethodName) ({ cls := "java/lang/Object", name := "getClass", desc := "()Ljava/lang/Class;" } : Jvm.MethodName)) ∈ lw_all := lw_g (lw_at lw_m2 107 rfl) rfl
theorem q770 : (Jvm.Cond.selects "RowenTongue$Slot" ({ cls := "java/lang/Object", name := "equals", desc := "(Ljava/lang/Object;)Z" } : Jvm.MethodName) ({ cls := "java/lang/Object", name := "equals", desc := "(Ljava/lang/Object;)Z" } : Jvm.MethodName)) ∈ lw_all := lw_g (lw_at lw_m4 1 rfl) rfl
theorem q2118 : (Jvm.Cond.instantiable "RowenTongue$Slot" (3 : Nat)) ∈ lw_all := lw_g (lw_at lw_m9 149 rfl) rfl
theorem q2125 : (Jvm.Cond.instanceMethod ({ cls := "RowenTongue$Slot", name := "<init>", desc := "(LRowenTongue$Place;ILRowenTongue$Slot;)V" } : Jvm.MethodName)) ∈ lw_all := lw_g (lw_at lw_m9 156 rfl) rfl
theorem q2126 : (Jvm.Cond.code ({ cls := "RowenTongue$Slot", name := "<init>", desc := "(LRowenTongue$Place;ILRowenTongue$Slot;)V" } : Jvm.MethodName) prog_32_method_1_code (4 : Nat) (Option.none : Option Jvm.ClassFile.FieldType)) ∈ lw_all := lw_g (lw_at lw_m9 157 rfl) rfl
theorem q2127 : (Jvm.Cond.methodLink "RowenTongue$Slot" (1 : Nat) ({ cls := "java/lang/Object", name := "<init>", desc := "()V" } : Jvm.MethodName)) ∈ lw_all := lw_g (lw_at lw_m9 158 rfl) rfl
theorem q2128 : (Jvm.Cond.fieldLink "RowenTongue$Slot" (7 : Nat) "RowenTongue$Slot" "place" "LRowenTongue$Place;") ∈ lw_all := lw_g (lw_at lw_m9 159 rfl) rfl
theorem q2130 : (Jvm.Cond.fieldLink "RowenTongue$Slot" (13 : Nat) "RowenTongue$Slot" "number" "I") ∈ lw_all := lw_g (lw_at lw_m9 161 rfl) rfl
theorem q2133 : (Jvm.Cond.fieldLink "RowenTongue$Slot" (17 : Nat) "RowenTongue$Slot" "next" "LRowenTongue$Slot;") ∈ lw_all := lw_g (lw_at lw_m9 164 rfl) rfl
theorem q2136 : (Jvm.Cond.laysFinal "RowenTongue$Slot" "RowenTongue$Slot" "place" "LRowenTongue$Place;") ∈ lw_all := lw_g (lw_at lw_m9 167 rfl) rfl
theorem q2137 : (Jvm.Cond.soleField "RowenTongue$Slot" "place") ∈ lw_all := lw_g (lw_at lw_m9 168 rfl) rfl
theorem q2138 : (Jvm.Cond.laysFinal "RowenTongue$Slot" "RowenTongue$Slot" "number" "I") ∈ lw_all := lw_g (lw_at lw_m9 169 rfl) rfl
theorem q2139 : (Jvm.Cond.soleField "RowenTongue$Slot" "number") ∈ lw_all := lw_g (lw_at lw_m9 170 rfl) rfl
theorem q2140 : (Jvm.Cond.laysFinal "RowenTongue$Slot" "RowenTongue$Slot" "next" "LRowenTongue$Slot;") ∈ lw_all := lw_g (lw_at lw_m9 171 rfl) rfl
theorem q2141 : (Jvm.Cond.soleField "RowenTongue$Slot" "next") ∈ lw_all := lw_g (lw_at lw_m9 172 rfl) rfl
theorem q2142 : (Jvm.Cond.superclass "RowenTongue$Slot" "java/lang/Object") ∈ lw_all := lw_g (lw_at lw_m9 173 rfl) rfl
theorem q2931 : (Jvm.Cond.castable "RowenTongue$Slot" "java/lang/Object") ∈ lw_tbl := lw_at lw_m13 2 rfl
theorem in_X44 : ∀ w ∈ wsX440, w ∈ lw_all := lw_in wsX440 [2136, 2138, 2140] (by decide +kernel) (by decide +kernel)
/-! RowenTongue$Bind -/
set_option maxRecDepth 100000
def RX45 : String := "RowenTongue$Bind"
def TX45 : u_T := fun k => match k with
  | 0 => ("RowenTongue$Bind", "name", "I", true)
  | 1 => ("RowenTongue$Bind", "thing", "LRowenTongue$Thing;", true)
  | 2 => ("RowenTongue$Bind", "code", "LRowenTongue$Code;", true)
  | 3 => ("RowenTongue$Bind", "wants", "Ljava/util/ArrayList;", true)
  | 4 => ("RowenTongue$Bind", "isRec", "Z", true)
  | 5 => ("RowenTongue$Bind", "slots", "LRowenTongue$Slot;", true)
  | 6 => ("RowenTongue$Bind", "next", "LRowenTongue$Bind;", true)
  | 7 => ("RowenTongue$Bind", "handed", "Ljava/util/ArrayList;", false)
  | _ => ("RowenTongue$Bind", "things", "Ljava/util/ArrayList;", false)
def tyX45 : Nat → FieldType := fun k => match k with
  | 0 => .int
  | 1 => .object "RowenTongue$Thing"
  | 2 => .object "RowenTongue$Code"
  | 3 => .object "java/util/ArrayList"
  | 4 => .boolean
  | 5 => .object "RowenTongue$Slot"
  | 6 => .object "RowenTongue$Bind"
  | 7 => .object "java/util/ArrayList"
  | _ => .object "java/util/ArrayList"
abbrev wsX450 : List Cond := u_ws RX45 TX45 9
theorem nmX45 : ∀ a, a < 9 → ∀ b, b < 9 → a ≠ b → (TX45 a).2.1 ≠ (TX45 b).2.1 := by decide +kernel
theorem tyX45_ok : ∀ k, k < 9 → parseFieldDescriptor (TX45 k).2.2.1 = some (tyX45 k) := by decide +kernel
abbrev cX45_known : ByteArray := prog_5_method_2_code
def yX45_known : MethodName := ⟨RX45, "known", "(LRowenTongue$Slot;)LRowenTongue$Thing;"⟩
def dkwX45_known_2 : List UInt8 := [182, 0, 46, 192, 0, 59, 176, 132, 2, 1, 167, 255, 204, 1, 176]
abbrev dktX45_known_2 : List UInt8 := dkwX45_known_2 ++ []
def dkwX45_known_1 : List UInt8 := [180, 0, 37, 28, 182, 0, 46, 192, 0, 50, 43, 182, 0, 52, 153, 0, 15, 42, 180, 0, 56, 28]
abbrev dktX45_known_1 : List UInt8 := dkwX45_known_1 ++ dktX45_known_2
def dkwX45_known_0 : List UInt8 := [3, 61, 42, 180, 0, 37, 198, 0, 51, 28, 42, 180, 0, 37, 182, 0, 40, 162, 0, 40, 42, 42]
abbrev dktX45_known_0 : List UInt8 := dkwX45_known_0 ++ dktX45_known_1
theorem dksX45_known_0 : cX45_known.data.toList.drop 0 = dktX45_known_0 := by decide +kernel
theorem dksX45_known_1 : cX45_known.data.toList.drop 22 = dktX45_known_1 := dk_seg dksX45_known_0 22 rfl rfl
theorem dksX45_known_2 : cX45_known.data.toList.drop 44 = dktX45_known_2 := dk_seg dksX45_known_1 22 rfl rfl
theorem dX45_known_0 : decode cX45_known 0 = .ok (.iconst 0, 1) := dk_3 (dk_at dksX45_known_0 0 rfl rfl)
theorem dX45_known_1 : decode cX45_known 1 = .ok (.istore_n 2, 1) := dk_61 (dk_at dksX45_known_0 1 rfl rfl)
theorem dX45_known_2 : decode cX45_known 2 = .ok (.aload_n 0, 1) := dk_42 (dk_at dksX45_known_0 2 rfl rfl)
theorem dX45_known_3 : decode cX45_known 3 = .ok (.getfield 37, 3) := dk_180 0 37 (dk_at dksX45_known_0 3 rfl rfl)
theorem dX45_known_6 : decode cX45_known 6 = .ok (.ifnull 51, 3) := dk_198 0 51 (dk_at dksX45_known_0 6 rfl rfl)
theorem dX45_known_9 : decode cX45_known 9 = .ok (.iload_n 2, 1) := dk_28 (dk_at dksX45_known_0 9 rfl rfl)
theorem dX45_known_10 : decode cX45_known 10 = .ok (.aload_n 0, 1) := dk_42 (dk_at dksX45_known_0 10 rfl rfl)
theorem dX45_known_11 : decode cX45_known 11 = .ok (.getfield 37, 3) := dk_180 0 37 (dk_at dksX45_known_0 11 rfl rfl)
theorem dX45_known_14 : decode cX45_known 14 = .ok (.invokevirtual 40, 3) := dk_182 0 40 (dk_at dksX45_known_0 14 rfl rfl)
theorem dX45_known_17 : decode cX45_known 17 = .ok (.if_icmp .ge 40, 3) := dk_162 0 40 (dk_at dksX45_known_0 17 rfl rfl)
theorem dX45_known_20 : decode cX45_known 20 = .ok (.aload_n 0, 1) := dk_42 (dk_at dksX45_known_0 20 rfl rfl)
theorem dX45_known_21 : decode cX45_known 21 = .ok (.aload_n 0, 1) := dk_42 (dk_at dksX45_known_0 21 rfl rfl)
theorem dX45_known_22 : decode cX45_known 22 = .ok (.getfield 37, 3) := dk_180 0 37 (dk_at dksX45_known_1 0 rfl rfl)
theorem dX45_known_25 : decode cX45_known 25 = .ok (.iload_n 2, 1) := dk_28 (dk_at dksX45_known_1 3 rfl rfl)
theorem dX45_known_26 : decode cX45_known 26 = .ok (.invokevirtual 46, 3) := dk_182 0 46 (dk_at dksX45_known_1 4 rfl rfl)
theorem dX45_known_29 : decode cX45_known 29 = .ok (.checkcast 50, 3) := dk_192 0 50 (dk_at dksX45_known_1 7 rfl rfl)
theorem dX45_known_32 : decode cX45_known 32 = .ok (.aload_n 1, 1) := dk_43 (dk_at dksX45_known_1 10 rfl rfl)
theorem dX45_known_33 : decode cX45_known 33 = .ok (.invokevirtual 52, 3) := dk_182 0 52 (dk_at dksX45_known_1 11 rfl rfl)
theorem dX45_known_36 : decode cX45_known 36 = .ok (.ifCond .eq 15, 3) := dk_153 0 15 (dk_at dksX45_known_1 14 rfl rfl)
theorem dX45_known_39 : decode cX45_known 39 = .ok (.aload_n 0, 1) := dk_42 (dk_at dksX45_known_1 17 rfl rfl)
theorem dX45_known_40 : decode cX45_known 40 = .ok (.getfield 56, 3) := dk_180 0 56 (dk_at dksX45_known_1 18 rfl rfl)
theorem dX45_known_43 : decode cX45_known 43 = .ok (.iload_n 2, 1) := dk_28 (dk_at dksX45_known_1 21 rfl rfl)
theorem dX45_known_44 : decode cX45_known 44 = .ok (.invokevirtual 46, 3) := dk_182 0 46 (dk_at dksX45_known_2 0 rfl rfl)
theorem dX45_known_47 : decode cX45_known 47 = .ok (.checkcast 59, 3) := dk_192 0 59 (dk_at dksX45_known_2 3 rfl rfl)
theorem dX45_known_50 : decode cX45_known 50 = .ok (.areturn, 1) := dk_176 (dk_at dksX45_known_2 6 rfl rfl)
theorem dX45_known_51 : decode cX45_known 51 = .ok (.iinc 2 1, 3) := dk_132 2 1 (dk_at dksX45_known_2 7 rfl rfl)
theorem dX45_known_54 : decode cX45_known 54 = .ok (.goto (-52), 3) := dk_167 255 204 (dk_at dksX45_known_2 10 rfl rfl)
theorem dX45_known_57 : decode cX45_known 57 = .ok (.aconst_null, 1) := dk_1 (dk_at dksX45_known_2 13 rfl rfl)
theorem dX45_known_58 : decode cX45_known 58 = .ok (.areturn, 1) := dk_176 (dk_at dksX45_known_2 14 rfl rfl)
abbrev cX45_isSame : ByteArray := prog_5_method_3_code
def yX45_isSame : MethodName := ⟨RX45, "isSame", "(LRowenTongue$Slot;LRowenTongue$Slot;)Z"⟩
def dkwX45_isSame_2 : List UInt8 := [180, 0, 64, 78, 25, 4, 180, 0, 64, 58, 4, 132, 6, 1, 167, 255, 207, 21, 5, 172]
abbrev dktX45_isSame_2 : List UInt8 := dkwX45_isSame_2 ++ []
def dkwX45_isSame_1 : List UInt8 := [21, 5, 45, 180, 0, 61, 25, 4, 180, 0, 61, 160, 0, 7, 4, 167, 0, 4, 3, 126, 54, 5, 45]
abbrev dktX45_isSame_1 : List UInt8 := dkwX45_isSame_1 ++ dktX45_isSame_2
def dkwX45_isSame_0 : List UInt8 := [43, 78, 44, 58, 4, 4, 54, 5, 3, 54, 6, 21, 6, 42, 180, 0, 21, 182, 0, 40, 162, 0, 43]
abbrev dktX45_isSame_0 : List UInt8 := dkwX45_isSame_0 ++ dktX45_isSame_1
theorem dksX45_isSame_0 : cX45_isSame.data.toList.drop 0 = dktX45_isSame_0 := by decide +kernel
theorem dksX45_isSame_1 : cX45_isSame.data.toList.drop 23 = dktX45_isSame_1 := dk_seg dksX45_isSame_0 23 rfl rfl
theorem dksX45_isSame_2 : cX45_isSame.data.toList.drop 46 = dktX45_isSame_2 := dk_seg dksX45_isSame_1 23 rfl rfl
theorem dX45_isSame_0 : decode cX45_isSame 0 = .ok (.aload_n 1, 1) := dk_43 (dk_at dksX45_isSame_0 0 rfl rfl)
theorem dX45_isSame_1 : decode cX45_isSame 1 = .ok (.astore_n 3, 1) := dk_78 (dk_at dksX45_isSame_0 1 rfl rfl)
theorem dX45_isSame_2 : decode cX45_isSame 2 = .ok (.aload_n 2, 1) := dk_44 (dk_at dksX45_isSame_0 2 rfl rfl)
theorem dX45_isSame_3 : decode cX45_isSame 3 = .ok (.astore 4, 2) := dk_58 4 (dk_at dksX45_isSame_0 3 rfl rfl)
theorem dX45_isSame_5 : decode cX45_isSame 5 = .ok (.iconst 1, 1) := dk_4 (dk_at dksX45_isSame_0 5 rfl rfl)
theorem dX45_isSame_6 : decode cX45_isSame 6 = .ok (.istore 5, 2) := dk_54 5 (dk_at dksX45_isSame_0 6 rfl rfl)
theorem dX45_isSame_8 : decode cX45_isSame 8 = .ok (.iconst 0, 1) := dk_3 (dk_at dksX45_isSame_0 8 rfl rfl)
theorem dX45_isSame_9 : decode cX45_isSame 9 = .ok (.istore 6, 2) := dk_54 6 (dk_at dksX45_isSame_0 9 rfl rfl)
theorem dX45_isSame_11 : decode cX45_isSame 11 = .ok (.iload 6, 2) := dk_21 6 (dk_at dksX45_isSame_0 11 rfl rfl)
theorem dX45_isSame_13 : decode cX45_isSame 13 = .ok (.aload_n 0, 1) := dk_42 (dk_at dksX45_isSame_0 13 rfl rfl)
theorem dX45_isSame_14 : decode cX45_isSame 14 = .ok (.getfield 21, 3) := dk_180 0 21 (dk_at dksX45_isSame_0 14 rfl rfl)
theorem dX45_isSame_17 : decode cX45_isSame 17 = .ok (.invokevirtual 40, 3) := dk_182 0 40 (dk_at dksX45_isSame_0 17 rfl rfl)
theorem dX45_isSame_20 : decode cX45_isSame 20 = .ok (.if_icmp .ge 43, 3) := dk_162 0 43 (dk_at dksX45_isSame_0 20 rfl rfl)
theorem dX45_isSame_23 : decode cX45_isSame 23 = .ok (.iload 5, 2) := dk_21 5 (dk_at dksX45_isSame_1 0 rfl rfl)
theorem dX45_isSame_25 : decode cX45_isSame 25 = .ok (.aload_n 3, 1) := dk_45 (dk_at dksX45_isSame_1 2 rfl rfl)
theorem dX45_isSame_26 : decode cX45_isSame 26 = .ok (.getfield 61, 3) := dk_180 0 61 (dk_at dksX45_isSame_1 3 rfl rfl)
theorem dX45_isSame_29 : decode cX45_isSame 29 = .ok (.aload 4, 2) := dk_25 4 (dk_at dksX45_isSame_1 6 rfl rfl)
theorem dX45_isSame_31 : decode cX45_isSame 31 = .ok (.getfield 61, 3) := dk_180 0 61 (dk_at dksX45_isSame_1 8 rfl rfl)
theorem dX45_isSame_34 : decode cX45_isSame 34 = .ok (.if_icmp .ne 7, 3) := dk_160 0 7 (dk_at dksX45_isSame_1 11 rfl rfl)
theorem dX45_isSame_37 : decode cX45_isSame 37 = .ok (.iconst 1, 1) := dk_4 (dk_at dksX45_isSame_1 14 rfl rfl)
theorem dX45_isSame_38 : decode cX45_isSame 38 = .ok (.goto 4, 3) := dk_167 0 4 (dk_at dksX45_isSame_1 15 rfl rfl)
theorem dX45_isSame_41 : decode cX45_isSame 41 = .ok (.iconst 0, 1) := dk_3 (dk_at dksX45_isSame_1 18 rfl rfl)
theorem dX45_isSame_42 : decode cX45_isSame 42 = .ok (.iand, 1) := dk_126 (dk_at dksX45_isSame_1 19 rfl rfl)
theorem dX45_isSame_43 : decode cX45_isSame 43 = .ok (.istore 5, 2) := dk_54 5 (dk_at dksX45_isSame_1 20 rfl rfl)
theorem dX45_isSame_45 : decode cX45_isSame 45 = .ok (.aload_n 3, 1) := dk_45 (dk_at dksX45_isSame_1 22 rfl rfl)
theorem dX45_isSame_46 : decode cX45_isSame 46 = .ok (.getfield 64, 3) := dk_180 0 64 (dk_at dksX45_isSame_2 0 rfl rfl)
theorem dX45_isSame_49 : decode cX45_isSame 49 = .ok (.astore_n 3, 1) := dk_78 (dk_at dksX45_isSame_2 3 rfl rfl)
theorem dX45_isSame_50 : decode cX45_isSame 50 = .ok (.aload 4, 2) := dk_25 4 (dk_at dksX45_isSame_2 4 rfl rfl)
theorem dX45_isSame_52 : decode cX45_isSame 52 = .ok (.getfield 64, 3) := dk_180 0 64 (dk_at dksX45_isSame_2 6 rfl rfl)
theorem dX45_isSame_55 : decode cX45_isSame 55 = .ok (.astore 4, 2) := dk_58 4 (dk_at dksX45_isSame_2 9 rfl rfl)
theorem dX45_isSame_57 : decode cX45_isSame 57 = .ok (.iinc 6 1, 3) := dk_132 6 1 (dk_at dksX45_isSame_2 11 rfl rfl)
theorem dX45_isSame_60 : decode cX45_isSame 60 = .ok (.goto (-49), 3) := dk_167 255 207 (dk_at dksX45_isSame_2 14 rfl rfl)
theorem dX45_isSame_63 : decode cX45_isSame 63 = .ok (.iload 5, 2) := dk_21 5 (dk_at dksX45_isSame_2 17 rfl rfl)
theorem dX45_isSame_65 : decode cX45_isSame 65 = .ok (.ireturn, 1) := dk_172 (dk_at dksX45_isSame_2 19 rfl rfl)
abbrev cX45_within : ByteArray := prog_5_method_4_code
def yX45_within : MethodName := ⟨RX45, "within", "(LRowenTongue$Slot;)LRowenTongue$Bind;"⟩
def dkwX45_within_1 : List UInt8 := [180, 0, 33, 183, 0, 66, 167, 0, 7, 42, 180, 0, 33, 176]
abbrev dktX45_within_1 : List UInt8 := dkwX45_within_1 ++ []
def dkwX45_within_0 : List UInt8 := [42, 180, 0, 25, 153, 0, 29, 187, 0, 8, 89, 42, 180, 0, 7, 1, 42, 180, 0, 17, 1, 4, 43, 42]
abbrev dktX45_within_0 : List UInt8 := dkwX45_within_0 ++ dktX45_within_1
theorem dksX45_within_0 : cX45_within.data.toList.drop 0 = dktX45_within_0 := by decide +kernel
theorem dksX45_within_1 : cX45_within.data.toList.drop 24 = dktX45_within_1 := dk_seg dksX45_within_0 24 rfl rfl
theorem dX45_within_0 : decode cX45_within 0 = .ok (.aload_n 0, 1) := dk_42 (dk_at dksX45_within_0 0 rfl rfl)
theorem dX45_within_1 : decode cX45_within 1 = .ok (.getfield 25, 3) := dk_180 0 25 (dk_at dksX45_within_0 1 rfl rfl)
theorem dX45_within_4 : decode cX45_within 4 = .ok (.ifCond .eq 29, 3) := dk_153 0 29 (dk_at dksX45_within_0 4 rfl rfl)
theorem dX45_within_7 : decode cX45_within 7 = .ok (.new 8, 3) := dk_187 0 8 (dk_at dksX45_within_0 7 rfl rfl)
theorem dX45_within_10 : decode cX45_within 10 = .ok (.dup, 1) := dk_89 (dk_at dksX45_within_0 10 rfl rfl)
theorem dX45_within_11 : decode cX45_within 11 = .ok (.aload_n 0, 1) := dk_42 (dk_at dksX45_within_0 11 rfl rfl)
theorem dX45_within_12 : decode cX45_within 12 = .ok (.getfield 7, 3) := dk_180 0 7 (dk_at dksX45_within_0 12 rfl rfl)
theorem dX45_within_15 : decode cX45_within 15 = .ok (.aconst_null, 1) := dk_1 (dk_at dksX45_within_0 15 rfl rfl)
theorem dX45_within_16 : decode cX45_within 16 = .ok (.aload_n 0, 1) := dk_42 (dk_at dksX45_within_0 16 rfl rfl)
theorem dX45_within_17 : decode cX45_within 17 = .ok (.getfield 17, 3) := dk_180 0 17 (dk_at dksX45_within_0 17 rfl rfl)
theorem dX45_within_20 : decode cX45_within 20 = .ok (.aconst_null, 1) := dk_1 (dk_at dksX45_within_0 20 rfl rfl)
theorem dX45_within_21 : decode cX45_within 21 = .ok (.iconst 1, 1) := dk_4 (dk_at dksX45_within_0 21 rfl rfl)
theorem dX45_within_22 : decode cX45_within 22 = .ok (.aload_n 1, 1) := dk_43 (dk_at dksX45_within_0 22 rfl rfl)
theorem dX45_within_23 : decode cX45_within 23 = .ok (.aload_n 0, 1) := dk_42 (dk_at dksX45_within_0 23 rfl rfl)
theorem dX45_within_24 : decode cX45_within 24 = .ok (.getfield 33, 3) := dk_180 0 33 (dk_at dksX45_within_1 0 rfl rfl)
theorem dX45_within_27 : decode cX45_within 27 = .ok (.invokespecial 66, 3) := dk_183 0 66 (dk_at dksX45_within_1 3 rfl rfl)
theorem dX45_within_30 : decode cX45_within 30 = .ok (.goto 7, 3) := dk_167 0 7 (dk_at dksX45_within_1 6 rfl rfl)
theorem dX45_within_33 : decode cX45_within 33 = .ok (.aload_n 0, 1) := dk_42 (dk_at dksX45_within_1 9 rfl rfl)
theorem dX45_within_34 : decode cX45_within 34 = .ok (.getfield 33, 3) := dk_180 0 33 (dk_at dksX45_within_1 10 rfl rfl)
theorem dX45_within_37 : decode cX45_within 37 = .ok (.areturn, 1) := dk_176 (dk_at dksX45_within_1 13 rfl rfl)
abbrev cX45_init : ByteArray := prog_5_method_1_code
def yX45_init : MethodName := ⟨RX45, "<init>", "(ILRowenTongue$Thing;LRowenTongue$Code;Ljava/util/ArrayList;ZLRowenTongue$Slot;LRowenTongue$Bind;)V"⟩
def dkwX45_init_1 : List UInt8 := [181, 0, 21, 42, 21, 5, 181, 0, 25, 42, 25, 6, 181, 0, 29, 42, 25, 7, 181, 0, 33, 177]
abbrev dktX45_init_1 : List UInt8 := dkwX45_init_1 ++ []
def dkwX45_init_0 : List UInt8 := [42, 183, 0, 1, 42, 27, 181, 0, 7, 42, 44, 181, 0, 13, 42, 45, 181, 0, 17, 42, 25, 4]
abbrev dktX45_init_0 : List UInt8 := dkwX45_init_0 ++ dktX45_init_1
theorem dksX45_init_0 : cX45_init.data.toList.drop 0 = dktX45_init_0 := by decide +kernel
theorem dksX45_init_1 : cX45_init.data.toList.drop 22 = dktX45_init_1 := dk_seg dksX45_init_0 22 rfl rfl
theorem dX45_init_0 : decode cX45_init 0 = .ok (.aload_n 0, 1) := dk_42 (dk_at dksX45_init_0 0 rfl rfl)
theorem dX45_init_1 : decode cX45_init 1 = .ok (.invokespecial 1, 3) := dk_183 0 1 (dk_at dksX45_init_0 1 rfl rfl)
theorem dX45_init_4 : decode cX45_init 4 = .ok (.aload_n 0, 1) := dk_42 (dk_at dksX45_init_0 4 rfl rfl)
theorem dX45_init_5 : decode cX45_init 5 = .ok (.iload_n 1, 1) := dk_27 (dk_at dksX45_init_0 5 rfl rfl)
theorem dX45_init_6 : decode cX45_init 6 = .ok (.putfield 7, 3) := dk_181 0 7 (dk_at dksX45_init_0 6 rfl rfl)
theorem dX45_init_9 : decode cX45_init 9 = .ok (.aload_n 0, 1) := dk_42 (dk_at dksX45_init_0 9 rfl rfl)
theorem dX45_init_10 : decode cX45_init 10 = .ok (.aload_n 2, 1) := dk_44 (dk_at dksX45_init_0 10 rfl rfl)
theorem dX45_init_11 : decode cX45_init 11 = .ok (.putfield 13, 3) := dk_181 0 13 (dk_at dksX45_init_0 11 rfl rfl)
theorem dX45_init_14 : decode cX45_init 14 = .ok (.aload_n 0, 1) := dk_42 (dk_at dksX45_init_0 14 rfl rfl)
theorem dX45_init_15 : decode cX45_init 15 = .ok (.aload_n 3, 1) := dk_45 (dk_at dksX45_init_0 15 rfl rfl)
theorem dX45_init_16 : decode cX45_init 16 = .ok (.putfield 17, 3) := dk_181 0 17 (dk_at dksX45_init_0 16 rfl rfl)
theorem dX45_init_19 : decode cX45_init 19 = .ok (.aload_n 0, 1) := dk_42 (dk_at dksX45_init_0 19 rfl rfl)
theorem dX45_init_20 : decode cX45_init 20 = .ok (.aload 4, 2) := dk_25 4 (dk_at dksX45_init_0 20 rfl rfl)
theorem dX45_init_22 : decode cX45_init 22 = .ok (.putfield 21, 3) := dk_181 0 21 (dk_at dksX45_init_1 0 rfl rfl)
theorem dX45_init_25 : decode cX45_init 25 = .ok (.aload_n 0, 1) := dk_42 (dk_at dksX45_init_1 3 rfl rfl)
theorem dX45_init_26 : decode cX45_init 26 = .ok (.iload 5, 2) := dk_21 5 (dk_at dksX45_init_1 4 rfl rfl)
theorem dX45_init_28 : decode cX45_init 28 = .ok (.putfield 25, 3) := dk_181 0 25 (dk_at dksX45_init_1 6 rfl rfl)
theorem dX45_init_31 : decode cX45_init 31 = .ok (.aload_n 0, 1) := dk_42 (dk_at dksX45_init_1 9 rfl rfl)
theorem dX45_init_32 : decode cX45_init 32 = .ok (.aload 6, 2) := dk_25 6 (dk_at dksX45_init_1 10 rfl rfl)
theorem dX45_init_34 : decode cX45_init 34 = .ok (.putfield 29, 3) := dk_181 0 29 (dk_at dksX45_init_1 12 rfl rfl)
theorem dX45_init_37 : decode cX45_init 37 = .ok (.aload_n 0, 1) := dk_42 (dk_at dksX45_init_1 15 rfl rfl)
theorem dX45_init_38 : decode cX45_init 38 = .ok (.aload 7, 2) := dk_25 7 (dk_at dksX45_init_1 16 rfl rfl)
theorem dX45_init_40 : decode cX45_init 40 = .ok (.putfield 33, 3) := dk_181 0 33 (dk_at dksX45_init_1 18 rfl rfl)
theorem dX45_init_43 : decode cX45_init 43 = .ok (.return_, 1) := dk_177 (dk_at dksX45_init_1 21 rfl rfl)
abbrev cX45_keep : ByteArray := prog_5_method_5_code
def yX45_keep : MethodName := ⟨RX45, "keep", "(LRowenTongue$Slot;LRowenTongue$Thing;)LRowenTongue$Thing;"⟩
def dkwX45_keep_2 : List UInt8 := [44, 176]
abbrev dktX45_keep_2 : List UInt8 := dkwX45_keep_2 ++ []
def dkwX45_keep_1 : List UInt8 := [183, 0, 69, 181, 0, 56, 42, 180, 0, 37, 43, 182, 0, 70, 87, 42, 180, 0, 56, 44, 182, 0, 70, 87]
abbrev dktX45_keep_1 : List UInt8 := dkwX45_keep_1 ++ dktX45_keep_2
def dkwX45_keep_0 : List UInt8 := [42, 180, 0, 37, 199, 0, 25, 42, 187, 0, 41, 89, 183, 0, 69, 181, 0, 37, 42, 187, 0, 41, 89]
abbrev dktX45_keep_0 : List UInt8 := dkwX45_keep_0 ++ dktX45_keep_1
theorem dksX45_keep_0 : cX45_keep.data.toList.drop 0 = dktX45_keep_0 := by decide +kernel
theorem dksX45_keep_1 : cX45_keep.data.toList.drop 23 = dktX45_keep_1 := dk_seg dksX45_keep_0 23 rfl rfl
theorem dksX45_keep_2 : cX45_keep.data.toList.drop 47 = dktX45_keep_2 := dk_seg dksX45_keep_1 24 rfl rfl
theorem dX45_keep_0 : decode cX45_keep 0 = .ok (.aload_n 0, 1) := dk_42 (dk_at dksX45_keep_0 0 rfl rfl)
theorem dX45_keep_1 : decode cX45_keep 1 = .ok (.getfield 37, 3) := dk_180 0 37 (dk_at dksX45_keep_0 1 rfl rfl)
theorem dX45_keep_4 : decode cX45_keep 4 = .ok (.ifnonnull 25, 3) := dk_199 0 25 (dk_at dksX45_keep_0 4 rfl rfl)
theorem dX45_keep_7 : decode cX45_keep 7 = .ok (.aload_n 0, 1) := dk_42 (dk_at dksX45_keep_0 7 rfl rfl)
theorem dX45_keep_8 : decode cX45_keep 8 = .ok (.new 41, 3) := dk_187 0 41 (dk_at dksX45_keep_0 8 rfl rfl)
theorem dX45_keep_11 : decode cX45_keep 11 = .ok (.dup, 1) := dk_89 (dk_at dksX45_keep_0 11 rfl rfl)
theorem dX45_keep_12 : decode cX45_keep 12 = .ok (.invokespecial 69, 3) := dk_183 0 69 (dk_at dksX45_keep_0 12 rfl rfl)
theorem dX45_keep_15 : decode cX45_keep 15 = .ok (.putfield 37, 3) := dk_181 0 37 (dk_at dksX45_keep_0 15 rfl rfl)
theorem dX45_keep_18 : decode cX45_keep 18 = .ok (.aload_n 0, 1) := dk_42 (dk_at dksX45_keep_0 18 rfl rfl)
theorem dX45_keep_19 : decode cX45_keep 19 = .ok (.new 41, 3) := dk_187 0 41 (dk_at dksX45_keep_0 19 rfl rfl)
theorem dX45_keep_22 : decode cX45_keep 22 = .ok (.dup, 1) := dk_89 (dk_at dksX45_keep_0 22 rfl rfl)
theorem dX45_keep_23 : decode cX45_keep 23 = .ok (.invokespecial 69, 3) := dk_183 0 69 (dk_at dksX45_keep_1 0 rfl rfl)
theorem dX45_keep_26 : decode cX45_keep 26 = .ok (.putfield 56, 3) := dk_181 0 56 (dk_at dksX45_keep_1 3 rfl rfl)
theorem dX45_keep_29 : decode cX45_keep 29 = .ok (.aload_n 0, 1) := dk_42 (dk_at dksX45_keep_1 6 rfl rfl)
theorem dX45_keep_30 : decode cX45_keep 30 = .ok (.getfield 37, 3) := dk_180 0 37 (dk_at dksX45_keep_1 7 rfl rfl)
theorem dX45_keep_33 : decode cX45_keep 33 = .ok (.aload_n 1, 1) := dk_43 (dk_at dksX45_keep_1 10 rfl rfl)
theorem dX45_keep_34 : decode cX45_keep 34 = .ok (.invokevirtual 70, 3) := dk_182 0 70 (dk_at dksX45_keep_1 11 rfl rfl)
theorem dX45_keep_37 : decode cX45_keep 37 = .ok (.pop, 1) := dk_87 (dk_at dksX45_keep_1 14 rfl rfl)
theorem dX45_keep_38 : decode cX45_keep 38 = .ok (.aload_n 0, 1) := dk_42 (dk_at dksX45_keep_1 15 rfl rfl)
theorem dX45_keep_39 : decode cX45_keep 39 = .ok (.getfield 56, 3) := dk_180 0 56 (dk_at dksX45_keep_1 16 rfl rfl)
theorem dX45_keep_42 : decode cX45_keep 42 = .ok (.aload_n 2, 1) := dk_44 (dk_at dksX45_keep_1 19 rfl rfl)
theorem dX45_keep_43 : decode cX45_keep 43 = .ok (.invokevirtual 70, 3) := dk_182 0 70 (dk_at dksX45_keep_1 20 rfl rfl)
theorem dX45_keep_46 : decode cX45_keep 46 = .ok (.pop, 1) := dk_87 (dk_at dksX45_keep_1 23 rfl rfl)
theorem dX45_keep_47 : decode cX45_keep 47 = .ok (.aload_n 2, 1) := dk_44 (dk_at dksX45_keep_2 0 rfl rfl)
theorem dX45_keep_48 : decode cX45_keep 48 = .ok (.areturn, 1) := dk_176 (dk_at dksX45_keep_2 1 rfl rfl)
theorem q118 : (Jvm.Cond.initialized "RowenTongue$Bind") ∈ lw_all := lw_g (lw_at lw_m1 69 rfl) rfl
theorem q370 : (Jvm.Cond.selects "RowenTongue$Bind" ({ cls := "java/lang/Object", name := "getClass", desc := "()Ljava/lang/Class;" } : Jvm.MethodName) ({ cls := "java/lang/Object", name := "getClass", desc := "()Ljava/lang/Class;" } : Jvm.MethodName)) ∈ lw_all := lw_g (lw_at lw_m2 81 rfl) rfl
theorem q744 : (Jvm.Cond.selects "RowenTongue$Bind" ({ cls := "java/lang/Object", name := "equals", desc := "(Ljava/lang/Object;)Z" } : Jvm.MethodName) ({ cls := "java/lang/Object", name := "equals", desc := "(Ljava/lang/Object;)Z" } : Jvm.MethodName)) ∈ lw_all := lw_g (lw_at lw_m3 215 rfl) rfl
theorem q2131 : (Jvm.Cond.fieldLinkNest "RowenTongue$Bind" (61 : Nat) "RowenTongue$Slot" "number" "I" "RowenTongue") ∈ lw_tbl := lw_at lw_m9 162 rfl
theorem q2134 : (Jvm.Cond.fieldLinkNest "RowenTongue$Bind" (64 : Nat) "RowenTongue$Slot" "next" "LRowenTongue$Slot;" "RowenTongue") ∈ lw_tbl := lw_at lw_m9 165 rfl
theorem q2144 : (Jvm.Cond.instanceMethod ({ cls := "RowenTongue$Bind", name := "known", desc := "(LRowenTongue$Slot;)LRowenTongue$Thing;" } : Jvm.MethodName)) ∈ lw_all := lw_g (lw_at lw_m9 175 rfl) rfl
theorem q2145 : (Jvm.Cond.selects "RowenTongue$Bind" ({ cls := "RowenTongue$Bind", name := "known", desc := "(LRowenTongue$Slot;)LRowenTongue$Thing;" } : Jvm.MethodName) ({ cls := "RowenTongue$Bind", name := "known", desc := "(LRowenTongue$Slot;)LRowenTongue$Thing;" } : Jvm.MethodName)) ∈ lw_all := lw_g (lw_at lw_m9 176 rfl) rfl
theorem q2146 : (Jvm.Cond.code ({ cls := "RowenTongue$Bind", name := "known", desc := "(LRowenTongue$Slot;)LRowenTongue$Thing;" } : Jvm.MethodName) prog_5_method_2_code (3 : Nat) (Option.some (Jvm.ClassFile.FieldType.object "RowenTongue$Thing"))) ∈ lw_all := lw_g (lw_at lw_m9 177 rfl) rfl
theorem q2147 : (Jvm.Cond.methodLink "RowenTongue$Bind" (40 : Nat) ({ cls := "java/util/ArrayList", name := "size", desc := "()I" } : Jvm.MethodName)) ∈ lw_all := lw_g (lw_at lw_m9 178 rfl) rfl
theorem q2148 : (Jvm.Cond.methodLink "RowenTongue$Bind" (46 : Nat) ({ cls := "java/util/ArrayList", name := "get", desc := "(I)Ljava/lang/Object;" } : Jvm.MethodName)) ∈ lw_all := lw_g (lw_at lw_m9 179 rfl) rfl
theorem q2149 : (Jvm.Cond.classLink "RowenTongue$Bind" (50 : Nat) "RowenTongue$Slot") ∈ lw_all := lw_g (lw_at lw_m9 180 rfl) rfl
theorem q2150 : (Jvm.Cond.methodLink "RowenTongue$Bind" (52 : Nat) ({ cls := "RowenTongue$Bind", name := "isSame", desc := "(LRowenTongue$Slot;LRowenTongue$Slot;)Z" } : Jvm.MethodName)) ∈ lw_all := lw_g (lw_at lw_m9 181 rfl) rfl
theorem q2151 : (Jvm.Cond.privateMethod ({ cls := "RowenTongue$Bind", name := "isSame", desc := "(LRowenTongue$Slot;LRowenTongue$Slot;)Z" } : Jvm.MethodName)) ∈ lw_tbl := lw_at lw_m9 182 rfl
theorem q2152 : (Jvm.Cond.instanceMethod ({ cls := "RowenTongue$Bind", name := "isSame", desc := "(LRowenTongue$Slot;LRowenTongue$Slot;)Z" } : Jvm.MethodName)) ∈ lw_all := lw_g (lw_at lw_m9 183 rfl) rfl
theorem q2153 : (Jvm.Cond.instantiable "RowenTongue$Bind" (9 : Nat)) ∈ lw_all := lw_g (lw_at lw_m9 184 rfl) rfl
theorem q2154 : (Jvm.Cond.code ({ cls := "RowenTongue$Bind", name := "isSame", desc := "(LRowenTongue$Slot;LRowenTongue$Slot;)Z" } : Jvm.MethodName) prog_5_method_3_code (7 : Nat) (Option.some Jvm.ClassFile.FieldType.boolean)) ∈ lw_all := lw_g (lw_at lw_m9 185 rfl) rfl
theorem q2155 : (Jvm.Cond.classLink "RowenTongue$Bind" (59 : Nat) "RowenTongue$Thing") ∈ lw_all := lw_g (lw_at lw_m9 186 rfl) rfl
theorem q2157 : (Jvm.Cond.instanceMethod ({ cls := "RowenTongue$Bind", name := "within", desc := "(LRowenTongue$Slot;)LRowenTongue$Bind;" } : Jvm.MethodName)) ∈ lw_all := lw_g (lw_at lw_m9 188 rfl) rfl
theorem q2158 : (Jvm.Cond.selects "RowenTongue$Bind" ({ cls := "RowenTongue$Bind", name := "within", desc := "(LRowenTongue$Slot;)LRowenTongue$Bind;" } : Jvm.MethodName) ({ cls := "RowenTongue$Bind", name := "within", desc := "(LRowenTongue$Slot;)LRowenTongue$Bind;" } : Jvm.MethodName)) ∈ lw_all := lw_g (lw_at lw_m9 189 rfl) rfl
theorem q2159 : (Jvm.Cond.code ({ cls := "RowenTongue$Bind", name := "within", desc := "(LRowenTongue$Slot;)LRowenTongue$Bind;" } : Jvm.MethodName) prog_5_method_4_code (2 : Nat) (Option.some (Jvm.ClassFile.FieldType.object "RowenTongue$Bind"))) ∈ lw_all := lw_g (lw_at lw_m9 190 rfl) rfl
theorem q2160 : (Jvm.Cond.classLink "RowenTongue$Bind" (8 : Nat) "RowenTongue$Bind") ∈ lw_all := lw_g (lw_at lw_m9 191 rfl) rfl
theorem q2161 : (Jvm.Cond.methodLink "RowenTongue$Bind" (66 : Nat) ({ cls := "RowenTongue$Bind", name := "<init>", desc := "(ILRowenTongue$Thing;LRowenTongue$Code;Ljava/util/ArrayList;ZLRowenTongue$Slot;LRowenTongue$Bind;)V" } : Jvm.MethodName)) ∈ lw_all := lw_g (lw_at lw_m9 192 rfl) rfl
theorem q2162 : (Jvm.Cond.instanceMethod ({ cls := "RowenTongue$Bind", name := "<init>", desc := "(ILRowenTongue$Thing;LRowenTongue$Code;Ljava/util/ArrayList;ZLRowenTongue$Slot;LRowenTongue$Bind;)V" } : Jvm.MethodName)) ∈ lw_all := lw_g (lw_at lw_m9 193 rfl) rfl
theorem q2163 : (Jvm.Cond.code ({ cls := "RowenTongue$Bind", name := "<init>", desc := "(ILRowenTongue$Thing;LRowenTongue$Code;Ljava/util/ArrayList;ZLRowenTongue$Slot;LRowenTongue$Bind;)V" } : Jvm.MethodName) prog_5_method_1_code (8 : Nat) (Option.none : Option Jvm.ClassFile.FieldType)) ∈ lw_all := lw_g (lw_at lw_m9 194 rfl) rfl
theorem q2164 : (Jvm.Cond.methodLink "RowenTongue$Bind" (1 : Nat) ({ cls := "java/lang/Object", name := "<init>", desc := "()V" } : Jvm.MethodName)) ∈ lw_all := lw_g (lw_at lw_m9 195 rfl) rfl
theorem q2165 : (Jvm.Cond.fieldLink "RowenTongue$Bind" (7 : Nat) "RowenTongue$Bind" "name" "I") ∈ lw_all := lw_g (lw_at lw_m9 196 rfl) rfl
theorem q2167 : (Jvm.Cond.fieldLink "RowenTongue$Bind" (13 : Nat) "RowenTongue$Bind" "thing" "LRowenTongue$Thing;") ∈ lw_all := lw_g (lw_at lw_m9 198 rfl) rfl
theorem q2169 : (Jvm.Cond.fieldLink "RowenTongue$Bind" (17 : Nat) "RowenTongue$Bind" "code" "LRowenTongue$Code;") ∈ lw_all := lw_g (lw_at lw_m9 200 rfl) rfl
theorem q2171 : (Jvm.Cond.fieldLink "RowenTongue$Bind" (21 : Nat) "RowenTongue$Bind" "wants" "Ljava/util/ArrayList;") ∈ lw_all := lw_g (lw_at lw_m9 202 rfl) rfl
theorem q2173 : (Jvm.Cond.fieldLink "RowenTongue$Bind" (25 : Nat) "RowenTongue$Bind" "isRec" "Z") ∈ lw_all := lw_g (lw_at lw_m9 204 rfl) rfl
theorem q2174 : (Jvm.Cond.fieldLink "RowenTongue$Bind" (29 : Nat) "RowenTongue$Bind" "slots" "LRowenTongue$Slot;") ∈ lw_all := lw_g (lw_at lw_m9 205 rfl) rfl
theorem q2176 : (Jvm.Cond.fieldLink "RowenTongue$Bind" (33 : Nat) "RowenTongue$Bind" "next" "LRowenTongue$Bind;") ∈ lw_all := lw_g (lw_at lw_m9 207 rfl) rfl
theorem q2178 : (Jvm.Cond.fieldLink "RowenTongue$Bind" (37 : Nat) "RowenTongue$Bind" "handed" "Ljava/util/ArrayList;") ∈ lw_all := lw_g (lw_at lw_m9 209 rfl) rfl
theorem q2179 : (Jvm.Cond.fieldLink "RowenTongue$Bind" (56 : Nat) "RowenTongue$Bind" "things" "Ljava/util/ArrayList;") ∈ lw_all := lw_g (lw_at lw_m9 210 rfl) rfl
theorem q2180 : (Jvm.Cond.laysFinal "RowenTongue$Bind" "RowenTongue$Bind" "name" "I") ∈ lw_all := lw_g (lw_at lw_m9 211 rfl) rfl
theorem q2181 : (Jvm.Cond.soleField "RowenTongue$Bind" "name") ∈ lw_all := lw_g (lw_at lw_m9 212 rfl) rfl
theorem q2182 : (Jvm.Cond.laysFinal "RowenTongue$Bind" "RowenTongue$Bind" "thing" "LRowenTongue$Thing;") ∈ lw_all := lw_g (lw_at lw_m9 213 rfl) rfl
theorem q2183 : (Jvm.Cond.soleField "RowenTongue$Bind" "thing") ∈ lw_all := lw_g (lw_at lw_m9 214 rfl) rfl
theorem q2184 : (Jvm.Cond.laysFinal "RowenTongue$Bind" "RowenTongue$Bind" "code" "LRowenTongue$Code;") ∈ lw_all := lw_g (lw_at lw_m9 215 rfl) rfl
theorem q2185 : (Jvm.Cond.soleField "RowenTongue$Bind" "code") ∈ lw_all := lw_g (lw_at lw_m9 216 rfl) rfl
theorem q2186 : (Jvm.Cond.laysFinal "RowenTongue$Bind" "RowenTongue$Bind" "wants" "Ljava/util/ArrayList;") ∈ lw_all := lw_g (lw_at lw_m9 217 rfl) rfl
theorem q2187 : (Jvm.Cond.soleField "RowenTongue$Bind" "wants") ∈ lw_all := lw_g (lw_at lw_m9 218 rfl) rfl
theorem q2188 : (Jvm.Cond.laysFinal "RowenTongue$Bind" "RowenTongue$Bind" "isRec" "Z") ∈ lw_all := lw_g (lw_at lw_m9 219 rfl) rfl
theorem q2189 : (Jvm.Cond.soleField "RowenTongue$Bind" "isRec") ∈ lw_all := lw_g (lw_at lw_m9 220 rfl) rfl
theorem q2190 : (Jvm.Cond.laysFinal "RowenTongue$Bind" "RowenTongue$Bind" "slots" "LRowenTongue$Slot;") ∈ lw_all := lw_g (lw_at lw_m9 221 rfl) rfl
theorem q2191 : (Jvm.Cond.soleField "RowenTongue$Bind" "slots") ∈ lw_all := lw_g (lw_at lw_m9 222 rfl) rfl
theorem q2192 : (Jvm.Cond.laysFinal "RowenTongue$Bind" "RowenTongue$Bind" "next" "LRowenTongue$Bind;") ∈ lw_all := lw_g (lw_at lw_m9 223 rfl) rfl
theorem q2193 : (Jvm.Cond.soleField "RowenTongue$Bind" "next") ∈ lw_all := lw_g (lw_at lw_m9 224 rfl) rfl
theorem q2194 : (Jvm.Cond.lays "RowenTongue$Bind" "RowenTongue$Bind" "handed" "Ljava/util/ArrayList;") ∈ lw_all := lw_g (lw_at lw_m9 225 rfl) rfl
theorem q2195 : (Jvm.Cond.soleField "RowenTongue$Bind" "handed") ∈ lw_all := lw_g (lw_at lw_m9 226 rfl) rfl
theorem q2196 : (Jvm.Cond.lays "RowenTongue$Bind" "RowenTongue$Bind" "things" "Ljava/util/ArrayList;") ∈ lw_all := lw_g (lw_at lw_m9 227 rfl) rfl
theorem q2197 : (Jvm.Cond.soleField "RowenTongue$Bind" "things") ∈ lw_all := lw_g (lw_at lw_m9 228 rfl) rfl
theorem q2198 : (Jvm.Cond.superclass "RowenTongue$Bind" "java/lang/Object") ∈ lw_all := lw_g (lw_at lw_m9 229 rfl) rfl
theorem q2201 : (Jvm.Cond.instanceMethod ({ cls := "RowenTongue$Bind", name := "keep", desc := "(LRowenTongue$Slot;LRowenTongue$Thing;)LRowenTongue$Thing;" } : Jvm.MethodName)) ∈ lw_all := lw_g (lw_at lw_m9 232 rfl) rfl
theorem q2202 : (Jvm.Cond.selects "RowenTongue$Bind" ({ cls := "RowenTongue$Bind", name := "keep", desc := "(LRowenTongue$Slot;LRowenTongue$Thing;)LRowenTongue$Thing;" } : Jvm.MethodName) ({ cls := "RowenTongue$Bind", name := "keep", desc := "(LRowenTongue$Slot;LRowenTongue$Thing;)LRowenTongue$Thing;" } : Jvm.MethodName)) ∈ lw_all := lw_g (lw_at lw_m9 233 rfl) rfl
theorem q2203 : (Jvm.Cond.code ({ cls := "RowenTongue$Bind", name := "keep", desc := "(LRowenTongue$Slot;LRowenTongue$Thing;)LRowenTongue$Thing;" } : Jvm.MethodName) prog_5_method_5_code (3 : Nat) (Option.some (Jvm.ClassFile.FieldType.object "RowenTongue$Thing"))) ∈ lw_all := lw_g (lw_at lw_m9 234 rfl) rfl
theorem q2204 : (Jvm.Cond.classLink "RowenTongue$Bind" (41 : Nat) "java/util/ArrayList") ∈ lw_all := lw_g (lw_at lw_m9 235 rfl) rfl
theorem q2205 : (Jvm.Cond.methodLink "RowenTongue$Bind" (69 : Nat) ({ cls := "java/util/ArrayList", name := "<init>", desc := "()V" } : Jvm.MethodName)) ∈ lw_all := lw_g (lw_at lw_m9 236 rfl) rfl
theorem q2206 : (Jvm.Cond.methodLink "RowenTongue$Bind" (70 : Nat) ({ cls := "java/util/ArrayList", name := "add", desc := "(Ljava/lang/Object;)Z" } : Jvm.MethodName)) ∈ lw_all := lw_g (lw_at lw_m9 237 rfl) rfl
theorem q2932 : (Jvm.Cond.castable "RowenTongue$Bind" "java/lang/Object") ∈ lw_tbl := lw_at lw_m13 3 rfl
theorem in_X45 : ∀ w ∈ wsX450, w ∈ lw_all := lw_in wsX450 [2180, 2182, 2184, 2186, 2188, 2190, 2192, 2194, 2196] (by decide +kernel) (by decide +kernel)
