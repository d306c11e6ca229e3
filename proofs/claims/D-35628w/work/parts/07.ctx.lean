/-! ===== the classes, arrays, statics and strings of this claim; a method's contract over a whole memory ===== -/
set_option maxRecDepth 100000
def mm_TE0 : u_T := fun _ => ("RowenTongue$Likening", "", "", false)
def mm_TE1 : u_T := fun _ => ("RowenTongue$Numbers", "", "", false)
def mm_TE2 : u_T := fun _ => ("RowenTongue$Nothing", "", "", false)
def mm_TE3 : u_T := fun _ => ("java/lang/System$2", "", "", false)
def mm_cl : List vw_C := [(RX1, TX1, 4), (RX2, TX2, 17), (RX3, TX3, 7), (RX4, TX4, 1), (RX5, TX5, 2), (RX6, TX6, 5), (RX8, TX8, 5), (RX9, TX9, 8), (RX10, TX10, 5), (RX11, TX11, 3), (RX12, TX12, 5), (RX14, TX14, 3), (RX15, TX15, 4), (RX16, TX16, 2), (RX17, TX17, 4), (RX18, TX18, 3), (RX20, TX20, 7), (RX22, TX22, 3), (RX23, TX23, 2), (RX24, TX24, 5), (RX25, TX25, 8), (RX26, TX26, 7), (RX27, TX27, 7), (RX28, TX28, 5), (RX29, TX29, 2), (RX30, TX30, 1), (RX31, TX31, 6), (RX33, TX33, 1), (RX34, TX34, 3), (RX35, TX35, 4), (RX36, TX36, 1), (RX37, TX37, 2), (RX38, TX38, 5), (RX39, TX39, 4), (RX40, TX40, 1), (RX42, TX42, 1), (RX43, TX43, 1), (RX44, TX44, 3), (RX45, TX45, 9), (RX46, TX46, 3), (RX47, TX47, 2), (RJ2, TJ2, 3), (RJ3, TJ3, 5), (RJ6, TJ6, 6), (RJ7, TJ7, 6), (RJ11, TJ11, 6), (RJ12, TJ12, 6), (RJ13, TJ13, 4), (RJ17, TJ17, 4), (RJ19, TJ19, 4), ("RowenTongue$Likening", mm_TE0, 0), ("RowenTongue$Numbers", mm_TE1, 0), ("RowenTongue$Nothing", mm_TE2, 0), ("java/lang/System$2", mm_TE3, 0)]
theorem mm_cX1 : mm_cl[0]? = some (RX1, TX1, 4) := rfl
theorem mm_cX2 : mm_cl[1]? = some (RX2, TX2, 17) := rfl
theorem mm_cX3 : mm_cl[2]? = some (RX3, TX3, 7) := rfl
theorem mm_cX4 : mm_cl[3]? = some (RX4, TX4, 1) := rfl
theorem mm_cX5 : mm_cl[4]? = some (RX5, TX5, 2) := rfl
theorem mm_cX6 : mm_cl[5]? = some (RX6, TX6, 5) := rfl
theorem mm_cX8 : mm_cl[6]? = some (RX8, TX8, 5) := rfl
theorem mm_cX9 : mm_cl[7]? = some (RX9, TX9, 8) := rfl
theorem mm_cX10 : mm_cl[8]? = some (RX10, TX10, 5) := rfl
theorem mm_cX11 : mm_cl[9]? = some (RX11, TX11, 3) := rfl
theorem mm_cX12 : mm_cl[10]? = some (RX12, TX12, 5) := rfl
theorem mm_cX14 : mm_cl[11]? = some (RX14, TX14, 3) := rfl
theorem mm_cX15 : mm_cl[12]? = some (RX15, TX15, 4) := rfl
theorem mm_cX16 : mm_cl[13]? = some (RX16, TX16, 2) := rfl
theorem mm_cX17 : mm_cl[14]? = some (RX17, TX17, 4) := rfl
theorem mm_cX18 : mm_cl[15]? = some (RX18, TX18, 3) := rfl
theorem mm_cX20 : mm_cl[16]? = some (RX20, TX20, 7) := rfl
theorem mm_cX22 : mm_cl[17]? = some (RX22, TX22, 3) := rfl
theorem mm_cX23 : mm_cl[18]? = some (RX23, TX23, 2) := rfl
theorem mm_cX24 : mm_cl[19]? = some (RX24, TX24, 5) := rfl
theorem mm_cX25 : mm_cl[20]? = some (RX25, TX25, 8) := rfl
theorem mm_cX26 : mm_cl[21]? = some (RX26, TX26, 7) := rfl
theorem mm_cX27 : mm_cl[22]? = some (RX27, TX27, 7) := rfl
theorem mm_cX28 : mm_cl[23]? = some (RX28, TX28, 5) := rfl
theorem mm_cX29 : mm_cl[24]? = some (RX29, TX29, 2) := rfl
theorem mm_cX30 : mm_cl[25]? = some (RX30, TX30, 1) := rfl
theorem mm_cX31 : mm_cl[26]? = some (RX31, TX31, 6) := rfl
theorem mm_cX33 : mm_cl[27]? = some (RX33, TX33, 1) := rfl
theorem mm_cX34 : mm_cl[28]? = some (RX34, TX34, 3) := rfl
theorem mm_cX35 : mm_cl[29]? = some (RX35, TX35, 4) := rfl
theorem mm_cX36 : mm_cl[30]? = some (RX36, TX36, 1) := rfl
theorem mm_cX37 : mm_cl[31]? = some (RX37, TX37, 2) := rfl
theorem mm_cX38 : mm_cl[32]? = some (RX38, TX38, 5) := rfl
theorem mm_cX39 : mm_cl[33]? = some (RX39, TX39, 4) := rfl
theorem mm_cX40 : mm_cl[34]? = some (RX40, TX40, 1) := rfl
theorem mm_cX42 : mm_cl[35]? = some (RX42, TX42, 1) := rfl
theorem mm_cX43 : mm_cl[36]? = some (RX43, TX43, 1) := rfl
theorem mm_cX44 : mm_cl[37]? = some (RX44, TX44, 3) := rfl
theorem mm_cX45 : mm_cl[38]? = some (RX45, TX45, 9) := rfl
theorem mm_cX46 : mm_cl[39]? = some (RX46, TX46, 3) := rfl
theorem mm_cX47 : mm_cl[40]? = some (RX47, TX47, 2) := rfl
theorem mm_cJ2 : mm_cl[41]? = some (RJ2, TJ2, 3) := rfl
theorem mm_cJ3 : mm_cl[42]? = some (RJ3, TJ3, 5) := rfl
theorem mm_cJ6 : mm_cl[43]? = some (RJ6, TJ6, 6) := rfl
theorem mm_cJ7 : mm_cl[44]? = some (RJ7, TJ7, 6) := rfl
theorem mm_cJ11 : mm_cl[45]? = some (RJ11, TJ11, 6) := rfl
theorem mm_cJ12 : mm_cl[46]? = some (RJ12, TJ12, 6) := rfl
theorem mm_cJ13 : mm_cl[47]? = some (RJ13, TJ13, 4) := rfl
theorem mm_cJ17 : mm_cl[48]? = some (RJ17, TJ17, 4) := rfl
theorem mm_cJ19 : mm_cl[49]? = some (RJ19, TJ19, 4) := rfl
theorem mm_cE0 : mm_cl[50]? = some ("RowenTongue$Likening", mm_TE0, 0) := rfl
theorem mm_cE1 : mm_cl[51]? = some ("RowenTongue$Numbers", mm_TE1, 0) := rfl
theorem mm_cE2 : mm_cl[52]? = some ("RowenTongue$Nothing", mm_TE2, 0) := rfl
theorem mm_cE3 : mm_cl[53]? = some ("java/lang/System$2", mm_TE3, 0) := rfl
/-- what is fixed for a run: the classes' numbers and slots, the array classes' numbers, what statics hold, where the strings lie -/
abbrev mm_G : Type := va_G × (Nat → ClassId) × (Nat → Nat) × (Nat → Nat)
abbrev mm_tys (Z : mm_G) : List (ClassId × FieldType) := [(Z.2.1 0, .int), (Z.2.1 1, .byte), (Z.2.1 2, .long), (Z.2.1 3, .object "java/lang/Object"), (Z.2.1 4, .object "RowenTongue$Term"), (Z.2.1 5, .object "RowenTongue$Code"), (Z.2.1 6, .object "RowenTongue$Value"), (Z.2.1 7, .object "RowenTongueModel$Row"), (Z.2.1 8, .object "RowenTongueModel$Type"), (Z.2.1 9, .object "RowenTongueModel$Value")]
def mm_strs (Z : mm_G) : List (String × Nat × String × Nat) := [("RowenTongue", 20, "", Z.2.2.2 0), ("RowenTongue$Finder", 43, "number", Z.2.2.2 1), ("RowenTongue$Finder", 63, "empty", Z.2.2.2 2), ("RowenTongue$Finder", 103, "name", Z.2.2.2 3), ("RowenTongue$Finder", 168, "fun", Z.2.2.2 4), ("RowenTongue$Finder", 178, "give", Z.2.2.2 5), ("RowenTongue$Finder", 202, "rec", Z.2.2.2 6), ("RowenTongue$Finder", 204, "let", Z.2.2.2 7), ("java/util/ArrayList", 201, "Index: ", Z.2.2.2 8), ("java/util/ArrayList", 203, ", Size: ", Z.2.2.2 9), ("java/util/Arrays", 337, " > ", Z.2.2.2 10), ("RowenTongue$Finder", 237, "end", Z.2.2.2 11), ("RowenTongue$Finder", 239, "rest", Z.2.2.2 12), ("RowenTongue$Finder", 241, "case", Z.2.2.2 13), ("RowenTongue$Finder", 245, "match", Z.2.2.2 14), ("RowenTongue$Finder", 247, "if", Z.2.2.2 15), ("RowenTongue$Finder", 249, "plus", Z.2.2.2 16), ("RowenTongue$Finder", 255, "same", Z.2.2.2 17), ("RowenTongue$Finder", 216, "as", Z.2.2.2 18), ("RowenTongue$Finder", 218, "with", Z.2.2.2 19), ("RowenTongue$Finder", 220, "of", Z.2.2.2 20), ("RowenTongue$Finder", 221, "without", Z.2.2.2 21), ("RowenTongue$Teller", 99, "", Z.2.2.2 0), ("RowenTongue$Teller", 101, ",", Z.2.2.2 22), ("RowenTongue$Teller", 129, "=", Z.2.2.2 23), ("RowenTongue$Teller", 131, "/", Z.2.2.2 24), ("java/lang/StringLatin1", 151, "", Z.2.2.2 0), ("java/lang/StringUTF16", 295, "", Z.2.2.2 0), ("RowenTongue$Bundle", 32, "", Z.2.2.2 0), ("RowenTongue$Bundle", 34, ",", Z.2.2.2 22), ("jdk/internal/util/ArraysSupport", 92, "unrecognized basic type: ", Z.2.2.2 25), ("RowenTongue$Machine", 30, "number", Z.2.2.2 1), ("RowenTongue$Machine", 36, "empty", Z.2.2.2 2), ("RowenTongue$Machine", 38, "name", Z.2.2.2 3), ("RowenTongue$Machine", 40, "fun", Z.2.2.2 4), ("RowenTongue$Machine", 42, "give", Z.2.2.2 5), ("RowenTongue$Machine", 44, "let", Z.2.2.2 7), ("RowenTongue$Machine", 46, "rec", Z.2.2.2 6), ("RowenTongue$Machine", 48, "match", Z.2.2.2 14), ("RowenTongue$Machine", 50, "if", Z.2.2.2 15), ("RowenTongue$Machine", 52, "plus", Z.2.2.2 16), ("RowenTongue$Machine", 54, "same", Z.2.2.2 17), ("RowenTongue$Machine", 150, "case", Z.2.2.2 13), ("RowenTongue$Machine", 174, "with", Z.2.2.2 19), ("RowenTongue$Machine", 199, "as", Z.2.2.2 18), ("RowenTongue$Machine", 201, "of", Z.2.2.2 20), ("RowenTongue$Line", 66, "", Z.2.2.2 0), ("RowenTongue$Line", 68, ",", Z.2.2.2 22), ("RowenTongueModel", 32, "", Z.2.2.2 0)]
def mm_stat (Z : mm_G) : List (String × String × String × Value) := [("RowenTongue", "NUMBERS", "LRowenTongue$Type;", .ref (Z.2.2.1 0)), ("RowenTongue", "NOTHING", "LRowenTongue$Row;", .ref (Z.2.2.1 1)), ("java/util/ArrayList", "DEFAULTCAPACITY_EMPTY_ELEMENTDATA", "[Ljava/lang/Object;", .ref (Z.2.2.1 2)), ("java/lang/Integer", "DigitOnes", "[B", .ref (Z.2.2.1 3)), ("java/lang/Integer", "DigitTens", "[B", .ref (Z.2.2.1 4)), ("jdk/internal/util/ArraysSupport", "JLA", "Ljdk/internal/access/JavaLangAccess;", .ref (Z.2.2.1 5)), ("java/lang/String", "COMPACT_STRINGS", "Z", .int 1), ("java/lang/StringUTF16", "HI_BYTE_SHIFT", "I", .int 0), ("java/lang/StringUTF16", "LO_BYTE_SHIFT", "I", .int 8), ("java/lang/StringUTF16", "$assertionsDisabled", "Z", .int 1)]
def mm_NWk : Cond → Bool
  | .fieldLinkNest .. => true
  | .methodLinkNest .. => true
  | .castable .. => true
  | .declares _ => true
  | _ => false
/-- what the tables say, and no list of words carries -/
def mm_N (U : State) : Prop := ∀ w ∈ lw_tbl, mm_NWk w = true → va_Nw w U
theorem mm_N.warm {s U : State} (hW : s.WarmedH U.vm) (h : mm_N s) : mm_N U := by
  intro w hw hk
  have h1 := h w hw hk
  cases w with
  | fieldLinkNest a i b n d h => exact va_Nw.warmF hW h1
  | methodLinkNest a i x h => exact va_Nw.warmM hW h1
  | castable a b => exact va_Nw.warmC hW h1
  | declares x => exact va_Nw.warmD hW h1
  | _ => simp [mm_NWk] at hk
def mm_wa (d : String) : MethodName := ⟨"RowenTongue$Walk", "at", d⟩
def mm_fws : List (String × MethodName × MethodName) := [
  ("RowenTongue$Within", mm_wa "(LRowenTongue$Open;)V", ⟨"RowenTongue$Within", "at", "(LRowenTongue$Open;)V"⟩),
  ("RowenTongue$Within", mm_wa "(LRowenTongue$OpenRow;)V", ⟨"RowenTongue$Within", "at", "(LRowenTongue$OpenRow;)V"⟩),
  ("RowenTongue$Generalising", mm_wa "(LRowenTongue$Open;)V", ⟨"RowenTongue$Generalising", "at", "(LRowenTongue$Open;)V"⟩),
  ("RowenTongue$Generalising", mm_wa "(LRowenTongue$OpenRow;)V", ⟨"RowenTongue$Generalising", "at", "(LRowenTongue$OpenRow;)V"⟩),
  ("RowenTongue$Likening", mm_wa "(LRowenTongue$Open;)V", ⟨"RowenTongue$Likening", "at", "(LRowenTongue$Open;)V"⟩),
  ("RowenTongue$Likening", mm_wa "(LRowenTongue$OpenRow;)V", ⟨"RowenTongue$Likening", "at", "(LRowenTongue$OpenRow;)V"⟩),
  ("RowenTongue$Likening", mm_wa "(LRowenTongue$Function;)V", ⟨"RowenTongue$Likening", "at", "(LRowenTongue$Function;)V"⟩),
  ("RowenTongue$Open", ⟨"RowenTongue$Variable", "isLike", "()Z"⟩, ⟨"RowenTongue$Open", "isLike", "()Z"⟩),
  ("RowenTongue$Open", ⟨"RowenTongue$Variable", "lacking", "()I"⟩, ⟨"RowenTongue$Open", "lacking", "()I"⟩),
  ("RowenTongue$OpenRow", ⟨"RowenTongue$Variable", "isLike", "()Z"⟩, ⟨"RowenTongue$OpenRow", "isLike", "()Z"⟩),
  ("RowenTongue$OpenRow", ⟨"RowenTongue$Variable", "lacking", "()I"⟩, ⟨"RowenTongue$OpenRow", "lacking", "()I"⟩),
  ("java/util/ArrayList$Itr", ⟨"java/util/Iterator", "hasNext", "()Z"⟩, ⟨"java/util/ArrayList$Itr", "hasNext", "()Z"⟩),
  ("java/util/ArrayList$Itr", ⟨"java/util/Iterator", "next", "()Ljava/lang/Object;"⟩, ⟨"java/util/ArrayList$Itr", "next", "()Ljava/lang/Object;"⟩),
  ("java/util/ArrayList", ⟨"java/util/Collection", "toArray", "()[Ljava/lang/Object;"⟩, ⟨"java/util/ArrayList", "toArray", "()[Ljava/lang/Object;"⟩)]
def mm_F (U : State) : Prop := ∀ q ∈ mm_fws, va_Fw q.1 q.2.1 q.2.2 U
theorem mm_F.moved {s U : State} (hvm : s.vm.Alike U.vm) (h : mm_F s) : mm_F U := by
  intro q hq
  have h1 := h q hq
  refine va_Fw.moved ?_ hvm h1
  have : ∀ q ∈ mm_fws, q.2.1.cls ≠ "java/lang/invoke/MethodHandle" ∧ q.2.1.cls ≠ "java/lang/invoke/VarHandle" := by decide +kernel
  exact this q hq
/-- pairs of classes that are not castable, out of the Statement -/
def mm_NC (U : State) : Prop := ∀ C T : String, Cond.not (.castable C T) ∈ flatC narrow_1 → va_Nc C T U
theorem mm_NC.moved {s U : State} (hvm : s.vm.Alike U.vm) (h : mm_NC s) : mm_NC U := fun C T hm => va_Nc.moved hvm (h C T hm)
def mm_aos : List String := ["RowenTongue$Code", "RowenTongue$Term", "RowenTongue$Value", "RowenTongueModel$Row", "RowenTongueModel$Type", "RowenTongueModel$Value", "java/lang/Object"]
def mm_AO (U : State) : Prop := ∀ C ∈ mm_aos, va_AO C U
theorem mm_AO.moved {s U : State} (hvm : s.vm.Alike U.vm) (h : mm_AO s) : mm_AO U := fun C hC => va_AO.moved hvm (h C hC)
def mm_SR (Z : mm_G) (U : State) : Prop := ∀ q ∈ mm_strs Z, vk_R q.1 q.2.1 q.2.2.1 q.2.2.2 U
theorem mm_SR.warm {Z : mm_G} {s U : State} (hW : s.WarmedH U.vm) (h : mm_SR Z s) : mm_SR Z U := fun q hq => vk_R.warm hW (h q hq)
/-- AbstractStringBuilder's own private methods, at a StringBuilder -/
def mm_sbp : List MethodName := [⟨"java/lang/AbstractStringBuilder", "appendNull", "()Ljava/lang/AbstractStringBuilder;"⟩, ⟨"java/lang/AbstractStringBuilder", "ensureCapacityInternal", "(I)V"⟩, ⟨"java/lang/AbstractStringBuilder", "newCapacity", "(I)I"⟩, ⟨"java/lang/AbstractStringBuilder", "putStringAt", "(ILjava/lang/String;)V"⟩, ⟨"java/lang/AbstractStringBuilder", "inflateIfNeededFor", "(Ljava/lang/String;)V"⟩, ⟨"java/lang/AbstractStringBuilder", "inflate", "()V"⟩]
theorem mm_selP {C : String} {y : MethodName} {s : State} {args : Array Value} {n : Nat} (hy : y.cls ≠ "java/lang/invoke/MethodHandle" ∧ y.cls ≠ "java/lang/invoke/VarHandle")
    (hins : (Cond.instantiable C n).before args s = true) (hfi : (Cond.instantiable y.cls n).before args s = true ∨ (Cond.sameMethod y.cls y.cls y.name y.desc).before args s = true) (hpriv : (Cond.privateMethod y).before args s = true) (hinst : (Cond.instanceMethod y).before args s = true) :
    (Cond.selects C y y).before args s = true := by
  obtain ⟨c, k, hc, hk, -, hniab, -, -⟩ := Cond.instantiable_spec hins
  obtain ⟨mk, methM, hnamed, hmethM, -, -⟩ := Cond.instanceMethod_spec hinst
  have hfound : s.methodFound? y.cls y.name y.desc = some mk := State.methodFound?_of_named hnamed hy
  have hsel : selectMethod {} s.vm c mk = .method mk := selectMethod_private hmethM (Cond.privateMethod_at hpriv mk methM hnamed hmethM)
  have hni : ∃ k2, s.vm.classes[mk.cls]? = some k2 ∧ k2.isInterface = false := by
    rcases hfi with h | h
    · obtain ⟨c2, k2, hc2, hk2, -, hniab2, -, -⟩ := Cond.instantiable_spec h
      have e : mk.cls = c2 := Option.some.inj ((findClass_of_methodNamed hnamed).symm.trans hc2)
      exact ⟨k2, by rw [e]; exact hk2, (Bool.or_eq_false_iff.mp hniab2).1⟩
    · obtain ⟨cn, ck, r1, hcn, hck, hni, hf, hn1⟩ := Cond.sameMethod_found h
      have e : mk.cls = cn := Option.some.inj ((findClass_of_methodNamed hnamed).symm.trans hcn)
      exact ⟨ck, by rw [e]; exact hck, hni⟩
  obtain ⟨k2, hk2, hk2i⟩ := hni
  simp only [Cond.before, Cond.holds, Cond.value, hc, hfound, hnamed, hsel, hk2]
  simp; exact hk2i
def mm_SP (U : State) : Prop := ∀ y ∈ mm_sbp, va_Nw (.selects "java/lang/StringBuilder" y y) U
theorem mm_SP.warm {s U : State} (hW : s.WarmedH U.vm) (h : mm_SP s) : mm_SP U := fun y hy => word_at hW (Or.inl (by simp [Cond.onTables, Cond.keeps, Cond.steady])) (h y hy)
/-- what holds of the virtual machine all through the run -/
def mm_E (Z : mm_G) (U : State) : Prop := va_K Z.1 mm_cl (mm_tys Z) U ∧ mm_N U ∧ mm_F U ∧ mm_NC U ∧ mm_AO U ∧ mm_SR Z U ∧ va_Mi "[Ljava/lang/Object;" (Z.2.2.1 6) U ∧ mm_SP U
theorem mm_E.warm {Z : mm_G} {s U : State} (hW : s.WarmedH U.vm) (h : mm_E Z s) : mm_E Z U :=
  ⟨va_K.moved hW.alike h.1, mm_N.warm hW h.2.1, mm_F.moved hW.alike h.2.2.1, mm_NC.moved hW.alike h.2.2.2.1, mm_AO.moved hW.alike h.2.2.2.2.1, mm_SR.warm hW h.2.2.2.2.2.1, va_Mi.moved hW.alike h.2.2.2.2.2.2.1, mm_SP.warm hW h.2.2.2.2.2.2.2⟩
/-- what lands in a default method -/
abbrev mm_wF : MethodName := ⟨"RowenTongue$Walk", "at", "(LRowenTongue$Function;)V"⟩
def mm_LD (U : State) : Prop := (Cond.publicMethod mm_wF).before #[] U = true ∧ (Cond.landsInDefault "RowenTongue$Within" mm_wF mm_wF).before #[] U = true ∧ (Cond.landsInDefault "RowenTongue$Generalising" mm_wF mm_wF).before #[] U = true
theorem mm_LD.moved {u U : State} (hvm : u.vm.Alike U.vm) (h : mm_LD u) : mm_LD U := by
  obtain ⟨h1, h2, h3⟩ := h
  have tr : ∀ {c : Cond}, c.onTables = true → c.before #[] (u.setVm U.vm) = true → c.before #[] U = true := by
    intro c hc h
    have e := Cond.onTables_vm (A := #[]) (A' := #[]) (U := u) (U' := U) U.vm c hc
    have hU : U.setVm U.vm = U := rfl
    rw [hU] at e
    rw [← e]
    exact h
  have tl : ∀ C : String, (Cond.landsInDefault C mm_wF mm_wF).before #[] u = true → (Cond.landsInDefault C mm_wF mm_wF).before #[] U = true := by
    intro C h
    have e1 := Cond.landsInDefault_setVm (args := #[]) (args' := #[]) (s := u) (vm' := U.vm) hvm (cls := C) (x := mm_wF) (y := mm_wF) (State.methodFound?_setVm hvm _ _ _)
    rw [← e1] at h
    exact h
  exact ⟨tr rfl (by rw [Cond.publicMethod_setVm hvm]; exact h1), tl _ h2, tl _ h3⟩
/-- what statics hold, at cells that nobody's memory has -/
def mm_S (Z : mm_G) (A : Nat → Prop) (U : State) (H : Heap) : Prop := (∀ q ∈ mm_stat Z, va_Z q.1 q.2.1 q.2.2.1 q.2.2.2 A U H) ∧ vx_Zq Bundle.tN "UNASSIGNED_STACK" Bundle.steD A U H ∧ vx_Zq Bundle.tN "SUPPRESSED_SENTINEL" Bundle.listD A U H ∧ va_Zq "jdk/internal/util/Preconditions" "SIOOBE_FORMATTER" "Ljava/util/function/BiFunction;" A U H ∧ mm_LD U
theorem mm_S.moved {Z : mm_G} {A : Nat → Prop} {u U : State} {H : Heap} (hvm : u.vm.Alike U.vm) (h : mm_S Z A u H) : mm_S Z A U H := ⟨fun q hq => va_Z.moved hvm (h.1 q hq), vx_Zq.moved hvm h.2.1, vx_Zq.moved hvm h.2.2.1, va_Zq.moved hvm h.2.2.2.1, mm_LD.moved hvm h.2.2.2.2⟩
theorem mm_S.kept {Z : mm_G} {A : Nat → Prop} {U : State} {H H1 : Heap} (h : mm_S Z A U H) (hq : ∀ a : Nat, a < H.size → ¬ A a → H1[a]? = H[a]?) : mm_S Z A U H1 := ⟨fun q h1 => va_Z.kept (h.1 q h1) hq, vx_Zq.kept h.2.1 hq, vx_Zq.kept h.2.2.1 hq, va_Zq.kept h.2.2.2.1 hq, h.2.2.2.2⟩
theorem mm_S.narrow {Z : mm_G} {A B : Nat → Prop} {U : State} {H : Heap} (h : mm_S Z A U H) (hAB : ∀ q, B q → A q) : mm_S Z B U H := ⟨fun q h1 => va_Z.narrow (h.1 q h1) hAB, vx_Zq.narrow h.2.1 hAB, vx_Zq.narrow h.2.2.1 hAB, va_Zq.narrow h.2.2.2.1 hAB, h.2.2.2.2⟩
/-- a contract's start: the memory M, of a heap of sz cells -/
def mm_Pre (Z : mm_G) (M : mm_M) (sz : Nat) (U : State) : Prop := U.heap.size = sz ∧ mm_P Z.1 mm_cl (mm_A M sz) M U.heap ∧ mm_E Z U ∧ mm_S Z (mm_A M sz) U U.heap
def mm_Q (Z : mm_G) (A : Nat → Prop) (Post : Option Value → mm_M → Prop) : Array Value → State → Outcome → State → Prop := fun _ st o t => (∃ (v : Option Value) (M' : mm_M), o = .returned v ∧ Post v M' ∧ mm_P Z.1 mm_cl A M' t.heap) ∧ va_F A st t
def mm_X (Z : mm_G) (A : Nat → Prop) (PX : String → Nat → mm_M → Prop) : String → Addr → State → State → Prop := fun E q st t => (∃ M' : mm_M, PX E q M' ∧ mm_P Z.1 mm_cl A M' t.heap) ∧ va_F A st t
/-- a method's contract: from the memory M with the arguments av it returns (Post: the answer, the new memory), or throws (PX: the class, the object's address, the new memory); rm is its room, and what it makes -/
def mm_C (l : Launch) (Z : mm_G) (y : MethodName) (ws : List Cond) (rm : Room) (av : List Value) (M : mm_M) (Post : Option Value → mm_M → Prop) (PX : String → Nat → mm_M → Prop) : Prop :=
  ∀ sz : Nat, vx_Met l y ws rm (va_Pc av (mm_Pre Z M sz)) (mm_Q Z (mm_A M sz) Post) (mm_X Z (mm_A M sz) PX) rm.cells rm.slots (mm_A M sz)
/-- never throws -/
def mm_nx : String → Nat → mm_M → Prop := fun _ _ _ => False
theorem mm_blind {Z : mm_G} {M : mm_M} {sz : Nat} {av : List Value} : FrameBlind (va_Pc av (mm_Pre Z M sz)) := by
  intro a U g mk h
  obtain ⟨h1, h2, h3, h4, h5⟩ := h
  have hW : U.WarmedH (U.calling g mk a).vm := State.WarmedH.refl U
  exact ⟨h1, h2, h3, mm_E.warm hW h4, mm_S.moved hW.alike h5⟩
section MMC
variable {p : Program} {l : Launch} {e : Env} {R : Room} {s : State} {m : MethodId} {args : Array Value} {below : List Frame} {meth : Method} {c : Code} {H : Heap} {locs : List Loc} {cells slots : Nat} {Q : State → Prop}
variable {cc bytes : ByteArray} {pc : Nat} {ls : Array Slot} {rest : List Value} {A : Nat → Prop} {Z : mm_G} {M : mm_M} {y : MethodName} {ws : List Cond} {rm : Room} {Post : Option Value → mm_M → Prop} {PX : String → Nat → mm_M → Prop} {X : String → Addr → State → State → Prop}
/-- the start of a method without handlers -/
theorem mm_ofW {av : List Value} {cc : ByteArray} {maxL : Nat} {ret : Option FieldType} (hy : plainName y.cls = true) (hw : ws = Cond.code y cc maxL ret :: lw_all) (hn : (lg_sl av).length ≤ maxL)
    (body : ∀ (p : Program) (e : Env) (s : State) (m : MethodId) (below : List Frame) (meth : Method) (c : Code) (A : Nat → Prop) (ls : Array Slot), p.tables.exec = Jvm.exec → c.code = cc → meth.sig.returnType = ret → meth.locks = false → c.maxLocals = maxL → s.vm.findClass y.cls = some m.cls → meth.name = y.name →
      (∀ w ∈ lw_all, w.before av.toArray s = true) → (∀ x ∈ c.exceptionTable.toList, False) → mm_E Z s → mm_S Z A s s.heap → (∀ q : Nat, s.heap.size ≤ q → A q) → mm_P Z.1 mm_cl A M s.heap → va_S A s.heap s.heap [] → lv_has ls maxL (lv_args 0 av) →
      W p l e rm s m av.toArray below meth c s.heap [] 0 0 (vx_MQ below (mm_Q Z A Post) (mm_X Z A PX) av.toArray s rm.cells rm.slots A) (F0 m 0 ls [])) : mm_C l Z y ws rm av M Post PX := by
  intro sz
  refine vx_ofW (cc := cc) (maxL := maxL) (ret := ret) hy hw ?_
  intro p e s m args below meth c s₁ B hml ht hv
  obtain ⟨rfl, rfl, hM, hE, hST⟩ := hv
  have hts := atoms_spec (ws := ws) B.pre
  have hl := lv_entry av (n := maxL) hn
  rw [lg_entry_eq]
  exact body p e s m below meth c (mm_A M s.heap.size) _ B.exec B.bytes B.returns B.notSynchronized hml (findClass_of_methodNamed B.named) ((name_of_methodNamed B.named B.method).1) (fun w h => hts w (by rw [hw]; exact List.mem_cons_of_mem _ h)) ht hE hST (fun q h => Or.inr h) hM va_S.rf hl
theorem mm_reti {v : Int32} {mc ms : Nat} (hexec : p.tables.exec = Jvm.exec) (hb : c.code = cc) (hr : meth.sig.returnType = some .int) (hlocks : meth.locks = false) (hM : mm_P Z.1 mm_cl A M H) (hS : va_S A s.heap H locs) (hp : Post (some (.int v)) M) (hdg : decode cc pc = .ok (.ireturn, 1)) (hc : cells ≤ mc) (hs : slots ≤ ms) :
    W p l e R s m args below meth c H locs cells slots (vx_MQ below (mm_Q Z A Post) X args s mc ms A) (F0 m pc ls [.int v]) :=
  vx_ret (W.widen hc hs (W.iret hexec hb hr (fun t ht hW => ⟨⟨_, _, rfl, hp, by rw [ht]; exact hM⟩, hS.F ht⟩) hS.2.2 hdg))
theorem mm_retz {v : Int32} {ty : FieldType} {mc ms : Nat} (hexec : p.tables.exec = Jvm.exec) (hb : c.code = cc) (hr : meth.sig.returnType = some ty) (hn : narrow ty (.int v) = .int v) (hlocks : meth.locks = false) (hM : mm_P Z.1 mm_cl A M H) (hS : va_S A s.heap H locs) (hp : Post (some (.int v)) M) (hdg : decode cc pc = .ok (.ireturn, 1)) (hc : cells ≤ mc) (hs : slots ≤ ms) :
    W p l e R s m args below meth c H locs cells slots (vx_MQ below (mm_Q Z A Post) X args s mc ms A) (F0 m pc ls [.int v]) :=
  vx_ret (W.widen hc hs (W.zret hexec hb hr hn (fun t ht hW => ⟨⟨_, _, rfl, hp, by rw [ht]; exact hM⟩, hS.F ht⟩) hS.2.2 hdg))
theorem mm_retv {mc ms : Nat} (hexec : p.tables.exec = Jvm.exec) (hb : c.code = cc) (hr : meth.sig.returnType = none) (hlocks : meth.locks = false) (hM : mm_P Z.1 mm_cl A M H) (hS : va_S A s.heap H locs) (hp : Post none M) (hdg : decode cc pc = .ok (.return_, 1)) (hc : cells ≤ mc) (hs : slots ≤ ms) :
    W p l e R s m args below meth c H locs cells slots (vx_MQ below (mm_Q Z A Post) X args s mc ms A) (F0 m pc ls []) :=
  vx_ret (W.widen hc hs (W.vret hexec hb hr (fun t ht hW => ⟨⟨_, _, rfl, hp, by rw [ht]; exact hM⟩, hS.F ht⟩) hS.2.2 hdg))
theorem mm_reta {v : Value} {rt : FieldType} {mc ms : Nat} (hexec : p.tables.exec = Jvm.exec) (hb : c.code = cc) (hr : meth.sig.returnType = some rt) (hrt : (∃ n, rt = .object n) ∨ ∃ t, rt = .array t) (hv : v = .null ∨ ∃ a, v = .ref a) (hlocks : meth.locks = false) (hM : mm_P Z.1 mm_cl A M H) (hS : va_S A s.heap H locs) (hp : Post (some v) M) (hdg : decode cc pc = .ok (.areturn, 1)) (hc : cells ≤ mc) (hs : slots ≤ ms) :
    W p l e R s m args below meth c H locs cells slots (vx_MQ below (mm_Q Z A Post) X args s mc ms A) (F0 m pc ls [v]) :=
  vx_ret (W.widen hc hs (W.aret hexec hb hr hrt hv (fun t ht hW => ⟨⟨_, _, rfl, hp, by rw [ht]; exact hM⟩, hS.F ht⟩) hS.2.2 hdg))
theorem mm_retl {v : Int64} {mc ms : Nat} (hexec : p.tables.exec = Jvm.exec) (hb : c.code = cc) (hr : meth.sig.returnType = some .long) (hlocks : meth.locks = false) (hM : mm_P Z.1 mm_cl A M H) (hS : va_S A s.heap H locs) (hp : Post (some (.long v)) M) (hdg : decode cc pc = .ok (.lreturn, 1)) (hc : cells ≤ mc) (hs : slots ≤ ms) :
    W p l e R s m args below meth c H locs cells slots (vx_MQ below (mm_Q Z A Post) X args s mc ms A) (F0 m pc ls [.long v]) :=
  vx_ret (W.widen hc hs (W.lret hexec hb hr (fun t ht hW => ⟨⟨_, _, rfl, hp, by rw [ht]; exact hM⟩, hS.F ht⟩) hS.2.2 hdg))
/-- what a callee is handed -/
theorem mm_pre {As : List Value} {U : State} (hE : mm_E Z s) (hST : mm_S Z A s s.heap) (hA : ∀ q : Nat, s.heap.size ≤ q → A q) (hM : mm_P Z.1 mm_cl A M H) (hS : va_S A s.heap H locs) (hU : U.heap = H) (hW : s.WarmedH U.vm) : va_Pc As (mm_Pre Z M H.size) As.toArray U := by
  refine ⟨rfl, by rw [hU], by rw [hU]; exact hM.self, mm_E.warm hW hE, ?_⟩
  rw [hU]
  refine mm_S.moved hW.alike (mm_S.narrow (hST.kept hS.2.1) (fun q hq => ?_))
  rcases hq with ⟨e, he⟩ | hq
  · exact hM.inA he
  · exact hA q (Nat.le_trans hS.1 hq)
/-- behind a call -/
theorem mm_go {mc ms : Nat} {a : Array Value} {st0 : List Value} (hr : vx_Run p l e R s m args below meth c H locs cells slots mc ms (F0 m pc ls st0) rest (mm_Q Z (mm_A M H.size) Post a) (mm_X Z (mm_A M H.size) PX) (mm_A M H.size)) (hA : ∀ q : Nat, s.heap.size ≤ q → A q) (hM : mm_P Z.1 mm_cl A M H) (hS : va_S A s.heap H locs)
    (kx : ∀ (E : String) (ce : Cell) (q : Nat) (M' : mm_M) (H1 : Heap) (locs1 : List Loc), PX E q M' → mm_P Z.1 mm_cl A M' H1 → va_S A s.heap H1 locs1 → H1[q]? = some ce → ce.vm = .none → s.vm.findClass E = some ce.cls → vx_W p l e R s m args below meth c H1 locs1 (cells + mc) (slots + ms) Q (F0 m pc ls rest) q)
    (kk : ∀ (v : Option Value) (M' : mm_M) (H1 : Heap) (locs1 : List Loc), Post v M' → mm_P Z.1 mm_cl A M' H1 → va_S A s.heap H1 locs1 → W p l e R s m args below meth c H1 locs1 (cells + mc) (slots + ms) Q (F0 m (pc + 3) ls (v.toList ++ rest))) : W p l e R s m args below meth c H locs cells slots Q (F0 m pc ls st0) := by
  intro T hT X
  have hsub : ∀ q, mm_A M H.size q → A q := fun q hq => by
    rcases hq with ⟨e, he⟩ | hq
    · exact hM.inA he
    · exact hA q (Nat.le_trans hS.1 hq)
  rcases hr T hT X with ⟨v0, st₀, t, T', L, h0, X', hL, e1, e2, ⟨⟨v, M', hv, hp, hm⟩, hF⟩, st⟩ | ⟨q, st₀, t, T', L, E, ce, h0, X', hL, e1, e2, ⟨⟨M', hp, hm⟩, hF⟩, hce, hcv, hcl, st⟩
  · cases hv
    obtain ⟨k1, k2, k3⟩ := vx_keep h0 e1 hS (fun q _ h => hsub q h) hsub hL hF
    obtain ⟨t2, a1, b1⟩ := kk v0 M' T'.heap (locs ++ L) hp (by rw [e1]; exact hm.weaken (fun q _ h => hsub q h)) k3 T' rfl X'
    exact ⟨t2, st t2 a1, b1⟩
  · obtain ⟨k1, k2, k3⟩ := vx_keep h0 e1 hS (fun q _ h => hsub q h) hsub hL hF
    obtain ⟨t2, a1, b1⟩ := kx E ce q M' T'.heap (locs ++ L) hp (by rw [e1]; exact hm.weaken (fun q _ h => hsub q h)) k3 (by rw [e1]; exact hce) hcv hcl T' rfl X'
    exact ⟨t2, st.trans a1, b1⟩
/-- the receiver -/
theorem mm_recv {a ci : Nat} {r : vw_C} {fs : List Value} (hE : mm_E Z s) (hM : mm_P Z.1 mm_cl A M H) (hc : mm_cl[ci]? = some r) (he : M a = some (.inr (ci, fs))) : ∃ cell : Cell, H[a]? = some cell ∧ cell.vm.isStatics = false ∧ s.vm.findClass r.1 = some cell.cls :=
  va_recv hE.1 (hM.at he) hc (q0 := 0) rfl
end MMC
section MMR
variable {p : Program} {l : Launch} {e : Env} {R : Room} {s : State} {m : MethodId} {args : Array Value} {below : List Frame} {meth : Method} {c : Code} {H : Heap} {locs : List Loc} {cells slots : Nat} {Q : State → Prop}
variable {cc bytes : ByteArray} {pc : Nat} {ls : Array Slot} {rest : List Value} {A : Nat → Prop} {Z : mm_G} {M : mm_M} {y : MethodName} {ws : List Cond} {rm : Room} {Post : Option Value → mm_M → Prop} {PX : String → Nat → mm_M → Prop}
variable {maxL nL n index : Nat} {ret : Option FieldType} {own C host : String} {As : List Value} {b : Nat}
theorem mm_callS (hex : p.tables.exec = Jvm.exec ∧ c.code = cc ∧ c.maxLocals = nL ∧ s.vm.findClass own = some m.cls ∧ ∀ w ∈ lw_all, w.before args s = true) (hE : mm_E Z s) (hST : mm_S Z A s s.heap) (hA : ∀ q : Nat, s.heap.size ≤ q → A q)
    (hC : mm_C l Z y ws rm As M Post PX) (cw : CallB R s args own index y bytes maxL ret ws rm rm.cells rm.slots n ∧ (Cond.static y).before args s = true) (hM : mm_P Z.1 mm_cl A M H) (hS : va_S A s.heap H locs) (hn : As.length = n) (hsize : ls.size = nL) (hW : (rest.map fun v => v.category).sum ≤ 8) (hdg : decode cc pc = .ok (.invokestatic index, 3)) {st0 : List Value} (hst : st0 = As.reverse ++ rest) (hf : cells + rm.cells ≤ R.cells ∧ slots + rm.slots ≤ R.slots)
    (kx : ∀ (E : String) (ce : Cell) (q : Nat) (M' : mm_M) (H1 : Heap) (locs1 : List Loc), PX E q M' → mm_P Z.1 mm_cl A M' H1 → va_S A s.heap H1 locs1 → H1[q]? = some ce → ce.vm = .none → s.vm.findClass E = some ce.cls → vx_W p l e R s m args below meth c H1 locs1 (cells + rm.cells) (slots + rm.slots) Q (F0 m pc ls rest) q)
    (kk : ∀ (v : Option Value) (M' : mm_M) (H1 : Heap) (locs1 : List Loc), Post v M' → mm_P Z.1 mm_cl A M' H1 → va_S A s.heap H1 locs1 → W p l e R s m args below meth c H1 locs1 (cells + rm.cells) (slots + rm.slots) Q (F0 m (pc + 3) ls (v.toList ++ rest))) : W p l e R s m args below meth c H locs cells slots Q (F0 m pc ls st0) :=
  mm_go (vx_runS (As := As) (rest := rest) hex (hC H.size) cw ⟨mm_blind, fun U hU hW => mm_pre hE hST hA hM hS hU hW⟩ rfl hn hsize hst (lv_room (pc := pc) (ls := ls) (rest := rest) (m := m) hW) hdg hf) hA hM hS kx kk
theorem mm_callI (hex : p.tables.exec = Jvm.exec ∧ c.code = cc ∧ c.maxLocals = nL ∧ s.vm.findClass own = some m.cls ∧ ∀ w ∈ lw_all, w.before args s = true) (hE : mm_E Z s) (hST : mm_S Z A s s.heap) (hA : ∀ q : Nat, s.heap.size ≤ q → A q)
    (hC : mm_C l Z y ws rm (.ref b :: As) M Post PX) (cw : CallB R s args own index y bytes maxL none ws rm rm.cells rm.slots n ∧ y.name = "<init>" ∧ (Cond.instanceMethod y).before args s = true) (hM : mm_P Z.1 mm_cl A M H) (hS : va_S A s.heap H locs) (hn : As.length = n) (hsize : ls.size = nL) (hW : (rest.map fun v => v.category).sum ≤ 8) (hdg : decode cc pc = .ok (.invokespecial index, 3)) {st0 : List Value} (hst : st0 = As.reverse ++ .ref b :: rest) (hf : cells + rm.cells ≤ R.cells ∧ slots + rm.slots ≤ R.slots)
    (kx : ∀ (E : String) (ce : Cell) (q : Nat) (M' : mm_M) (H1 : Heap) (locs1 : List Loc), PX E q M' → mm_P Z.1 mm_cl A M' H1 → va_S A s.heap H1 locs1 → H1[q]? = some ce → ce.vm = .none → s.vm.findClass E = some ce.cls → vx_W p l e R s m args below meth c H1 locs1 (cells + rm.cells) (slots + rm.slots) Q (F0 m pc ls rest) q)
    (kk : ∀ (v : Option Value) (M' : mm_M) (H1 : Heap) (locs1 : List Loc), Post v M' → mm_P Z.1 mm_cl A M' H1 → va_S A s.heap H1 locs1 → W p l e R s m args below meth c H1 locs1 (cells + rm.cells) (slots + rm.slots) Q (F0 m (pc + 3) ls (v.toList ++ rest))) : W p l e R s m args below meth c H locs cells slots Q (F0 m pc ls st0) :=
  mm_go (vx_runI (As := As) (rest := rest) hex (hC H.size) cw ⟨mm_blind, fun U hU hW => mm_pre hE hST hA hM hS hU hW⟩ rfl hn hsize hst (lv_room (pc := pc) (ls := ls) (rest := rest) (m := m) hW) hdg hf) hA hM hS kx kk
theorem mm_callIN (hex : p.tables.exec = Jvm.exec ∧ c.code = cc ∧ c.maxLocals = nL ∧ s.vm.findClass own = some m.cls ∧ ∀ w ∈ lw_all, w.before args s = true) (hE : mm_E Z s) (hST : mm_S Z A s s.heap) (hA : ∀ q : Nat, s.heap.size ≤ q → A q)
    (hC : mm_C l Z y ws rm (.ref b :: As) M Post PX) (cw : va_CN R s args own index y host bytes maxL none ws rm rm.cells rm.slots n ∧ y.name = "<init>" ∧ (Cond.instanceMethod y).before args s = true) (hM : mm_P Z.1 mm_cl A M H) (hS : va_S A s.heap H locs) (hn : As.length = n) (hsize : ls.size = nL) (hW : (rest.map fun v => v.category).sum ≤ 8) (hdg : decode cc pc = .ok (.invokespecial index, 3)) {st0 : List Value} (hst : st0 = As.reverse ++ .ref b :: rest) (hf : cells + rm.cells ≤ R.cells ∧ slots + rm.slots ≤ R.slots)
    (kx : ∀ (E : String) (ce : Cell) (q : Nat) (M' : mm_M) (H1 : Heap) (locs1 : List Loc), PX E q M' → mm_P Z.1 mm_cl A M' H1 → va_S A s.heap H1 locs1 → H1[q]? = some ce → ce.vm = .none → s.vm.findClass E = some ce.cls → vx_W p l e R s m args below meth c H1 locs1 (cells + rm.cells) (slots + rm.slots) Q (F0 m pc ls rest) q)
    (kk : ∀ (v : Option Value) (M' : mm_M) (H1 : Heap) (locs1 : List Loc), Post v M' → mm_P Z.1 mm_cl A M' H1 → va_S A s.heap H1 locs1 → W p l e R s m args below meth c H1 locs1 (cells + rm.cells) (slots + rm.slots) Q (F0 m (pc + 3) ls (v.toList ++ rest))) : W p l e R s m args below meth c H locs cells slots Q (F0 m pc ls st0) :=
  mm_go (vx_runIN (As := As) (rest := rest) hex (hC H.size) cw ⟨mm_blind, fun U hU hW => mm_pre hE hST hA hM hS hU hW⟩ rfl hn hsize hst (lv_room (pc := pc) (ls := ls) (rest := rest) (m := m) hW) hdg hf) hA hM hS kx kk
theorem mm_callV (hex : p.tables.exec = Jvm.exec ∧ c.code = cc ∧ c.maxLocals = nL ∧ s.vm.findClass own = some m.cls ∧ ∀ w ∈ lw_all, w.before args s = true) (hE : mm_E Z s) (hST : mm_S Z A s s.heap) (hA : ∀ q : Nat, s.heap.size ≤ q → A q)
    (hC : mm_C l Z y ws rm (.ref b :: As) M Post PX) (cw : CallW R s args own C index y bytes maxL ret ws rm rm.cells rm.slots n) (hM : mm_P Z.1 mm_cl A M H) (hS : va_S A s.heap H locs) {ci : Nat} {T : u_T} {N : Nat} {fs : List Value} (hc : mm_cl[ci]? = some (C, T, N)) (he : M b = some (.inr (ci, fs))) (hn : As.length = n) (hsize : ls.size = nL) (hW : (rest.map fun v => v.category).sum ≤ 8) (hdg : decode cc pc = .ok (.invokevirtual index, 3)) {st0 : List Value} (hst : st0 = As.reverse ++ .ref b :: rest) (hf : cells + rm.cells ≤ R.cells ∧ slots + rm.slots ≤ R.slots)
    (kx : ∀ (E : String) (ce : Cell) (q : Nat) (M' : mm_M) (H1 : Heap) (locs1 : List Loc), PX E q M' → mm_P Z.1 mm_cl A M' H1 → va_S A s.heap H1 locs1 → H1[q]? = some ce → ce.vm = .none → s.vm.findClass E = some ce.cls → vx_W p l e R s m args below meth c H1 locs1 (cells + rm.cells) (slots + rm.slots) Q (F0 m pc ls rest) q)
    (kk : ∀ (v : Option Value) (M' : mm_M) (H1 : Heap) (locs1 : List Loc), Post v M' → mm_P Z.1 mm_cl A M' H1 → va_S A s.heap H1 locs1 → W p l e R s m args below meth c H1 locs1 (cells + rm.cells) (slots + rm.slots) Q (F0 m (pc + 3) ls (v.toList ++ rest))) : W p l e R s m args below meth c H locs cells slots Q (F0 m pc ls st0) :=
  mm_go (vx_runV (As := As) (rest := rest) hex (hC H.size) cw ⟨mm_blind, mm_recv hE hM hc he, fun U hU hW => mm_pre hE hST hA hM hS hU hW⟩ rfl hn hsize hst (lv_room (pc := pc) (ls := ls) (rest := rest) (m := m) hW) hdg hf) hA hM hS kx kk
theorem mm_callVN (hex : p.tables.exec = Jvm.exec ∧ c.code = cc ∧ c.maxLocals = nL ∧ s.vm.findClass own = some m.cls ∧ ∀ w ∈ lw_all, w.before args s = true) (hE : mm_E Z s) (hST : mm_S Z A s s.heap) (hA : ∀ q : Nat, s.heap.size ≤ q → A q)
    (hC : mm_C l Z y ws rm (.ref b :: As) M Post PX) (cw : va_CN R s args own index y host bytes maxL ret ws rm rm.cells rm.slots n ∧ (Cond.instanceMethod y).before args s = true ∧ (Cond.selects C y y).before args s = true) (hM : mm_P Z.1 mm_cl A M H) (hS : va_S A s.heap H locs) {ci : Nat} {T : u_T} {N : Nat} {fs : List Value} (hc : mm_cl[ci]? = some (C, T, N)) (he : M b = some (.inr (ci, fs))) (hn : As.length = n) (hsize : ls.size = nL) (hW : (rest.map fun v => v.category).sum ≤ 8) (hdg : decode cc pc = .ok (.invokevirtual index, 3)) {st0 : List Value} (hst : st0 = As.reverse ++ .ref b :: rest) (hf : cells + rm.cells ≤ R.cells ∧ slots + rm.slots ≤ R.slots)
    (kx : ∀ (E : String) (ce : Cell) (q : Nat) (M' : mm_M) (H1 : Heap) (locs1 : List Loc), PX E q M' → mm_P Z.1 mm_cl A M' H1 → va_S A s.heap H1 locs1 → H1[q]? = some ce → ce.vm = .none → s.vm.findClass E = some ce.cls → vx_W p l e R s m args below meth c H1 locs1 (cells + rm.cells) (slots + rm.slots) Q (F0 m pc ls rest) q)
    (kk : ∀ (v : Option Value) (M' : mm_M) (H1 : Heap) (locs1 : List Loc), Post v M' → mm_P Z.1 mm_cl A M' H1 → va_S A s.heap H1 locs1 → W p l e R s m args below meth c H1 locs1 (cells + rm.cells) (slots + rm.slots) Q (F0 m (pc + 3) ls (v.toList ++ rest))) : W p l e R s m args below meth c H locs cells slots Q (F0 m pc ls st0) :=
  mm_go (vx_runVN (As := As) (rest := rest) hex (hC H.size) cw ⟨mm_blind, mm_recv hE hM hc he, fun U hU hW => mm_pre hE hST hA hM hS hU hW⟩ rfl hn hsize hst (lv_room (pc := pc) (ls := ls) (rest := rest) (m := m) hW) hdg hf) hA hM hS kx kk
theorem mm_callSN (hex : p.tables.exec = Jvm.exec ∧ c.code = cc ∧ c.maxLocals = nL ∧ s.vm.findClass own = some m.cls ∧ ∀ w ∈ lw_all, w.before args s = true) (hE : mm_E Z s) (hST : mm_S Z A s s.heap) (hA : ∀ q : Nat, s.heap.size ≤ q → A q)
    (hC : mm_C l Z y ws rm As M Post PX) (cw : va_CN R s args own index y host bytes maxL ret ws rm rm.cells rm.slots n ∧ (Cond.static y).before args s = true ∧ True) (hM : mm_P Z.1 mm_cl A M H) (hS : va_S A s.heap H locs) (hn : As.length = n) (hsize : ls.size = nL) (hW : (rest.map fun v => v.category).sum ≤ 8) (hdg : decode cc pc = .ok (.invokestatic index, 3)) {st0 : List Value} (hst : st0 = As.reverse ++ rest) (hf : cells + rm.cells ≤ R.cells ∧ slots + rm.slots ≤ R.slots)
    (kx : ∀ (E : String) (ce : Cell) (q : Nat) (M' : mm_M) (H1 : Heap) (locs1 : List Loc), PX E q M' → mm_P Z.1 mm_cl A M' H1 → va_S A s.heap H1 locs1 → H1[q]? = some ce → ce.vm = .none → s.vm.findClass E = some ce.cls → vx_W p l e R s m args below meth c H1 locs1 (cells + rm.cells) (slots + rm.slots) Q (F0 m pc ls rest) q)
    (kk : ∀ (v : Option Value) (M' : mm_M) (H1 : Heap) (locs1 : List Loc), Post v M' → mm_P Z.1 mm_cl A M' H1 → va_S A s.heap H1 locs1 → W p l e R s m args below meth c H1 locs1 (cells + rm.cells) (slots + rm.slots) Q (F0 m (pc + 3) ls (v.toList ++ rest))) : W p l e R s m args below meth c H locs cells slots Q (F0 m pc ls st0) :=
  mm_go (vx_runSN (As := As) (rest := rest) hex (hC H.size) cw ⟨mm_blind, fun U hU hW => mm_pre hE hST hA hM hS hU hW⟩ rfl hn hsize hst (lv_room (pc := pc) (ls := ls) (rest := rest) (m := m) hW) hdg hf) hA hM hS kx kk
theorem mm_callU {x : MethodName} {owner : String} (hex : p.tables.exec = Jvm.exec ∧ c.code = cc ∧ c.maxLocals = nL ∧ s.vm.findClass own = some m.cls ∧ ∀ w ∈ lw_all, w.before args s = true) (hE : mm_E Z s) (hST : mm_S Z A s s.heap) (hA : ∀ q : Nat, s.heap.size ≤ q → A q)
    (hC : mm_C l Z y ws rm (.ref b :: As) M Post PX) (cw : va_CU R s args own C owner index x y bytes maxL ret ws rm rm.cells rm.slots n) (hM : mm_P Z.1 mm_cl A M H) (hS : va_S A s.heap H locs) {ci : Nat} {T : u_T} {N : Nat} {fs : List Value} (hc : mm_cl[ci]? = some (C, T, N)) (he : M b = some (.inr (ci, fs))) (hn : As.length = n) (hsize : ls.size = nL) (hW : (rest.map fun v => v.category).sum ≤ 8) (hdg : decode cc pc = .ok (.invokevirtual index, 3)) {st0 : List Value} (hst : st0 = As.reverse ++ .ref b :: rest) (hf : cells + rm.cells ≤ R.cells ∧ slots + rm.slots ≤ R.slots)
    (kx : ∀ (E : String) (ce : Cell) (q : Nat) (M' : mm_M) (H1 : Heap) (locs1 : List Loc), PX E q M' → mm_P Z.1 mm_cl A M' H1 → va_S A s.heap H1 locs1 → H1[q]? = some ce → ce.vm = .none → s.vm.findClass E = some ce.cls → vx_W p l e R s m args below meth c H1 locs1 (cells + rm.cells) (slots + rm.slots) Q (F0 m pc ls rest) q)
    (kk : ∀ (v : Option Value) (M' : mm_M) (H1 : Heap) (locs1 : List Loc), Post v M' → mm_P Z.1 mm_cl A M' H1 → va_S A s.heap H1 locs1 → W p l e R s m args below meth c H1 locs1 (cells + rm.cells) (slots + rm.slots) Q (F0 m (pc + 3) ls (v.toList ++ rest))) : W p l e R s m args below meth c H locs cells slots Q (F0 m pc ls st0) :=
  mm_go (vx_runU (As := As) (rest := rest) hex (hC H.size) cw ⟨mm_blind, mm_recv hE hM hc he, fun U hU hW => mm_pre hE hST hA hM hS hU hW⟩ rfl hn hsize hst (lv_room (pc := pc) (ls := ls) (rest := rest) (m := m) hW) hdg hf) hA hM hS kx kk
theorem mm_callSU (hex : p.tables.exec = Jvm.exec ∧ c.code = cc ∧ c.maxLocals = nL ∧ s.vm.findClass own = some m.cls ∧ ∀ w ∈ lw_all, w.before args s = true) (hE : mm_E Z s) (hST : mm_S Z A s s.heap) (hA : ∀ q : Nat, s.heap.size ≤ q → A q)
    (hC : mm_C l Z y ws rm (.ref b :: As) M Post PX) (cw : va_CS R s args own index y bytes maxL ret ws rm rm.cells rm.slots n) (hM : mm_P Z.1 mm_cl A M H) (hS : va_S A s.heap H locs) {ci : Nat} {T : u_T} {N : Nat} {fs : List Value} (hc : mm_cl[ci]? = some (C, T, N)) (he : M b = some (.inr (ci, fs))) (hn : As.length = n) (hsize : ls.size = nL) (hW : (rest.map fun v => v.category).sum ≤ 8) (hdg : decode cc pc = .ok (.invokespecial index, 3)) {st0 : List Value} (hst : st0 = As.reverse ++ .ref b :: rest) (hf : cells + rm.cells ≤ R.cells ∧ slots + rm.slots ≤ R.slots)
    (kx : ∀ (E : String) (ce : Cell) (q : Nat) (M' : mm_M) (H1 : Heap) (locs1 : List Loc), PX E q M' → mm_P Z.1 mm_cl A M' H1 → va_S A s.heap H1 locs1 → H1[q]? = some ce → ce.vm = .none → s.vm.findClass E = some ce.cls → vx_W p l e R s m args below meth c H1 locs1 (cells + rm.cells) (slots + rm.slots) Q (F0 m pc ls rest) q)
    (kk : ∀ (v : Option Value) (M' : mm_M) (H1 : Heap) (locs1 : List Loc), Post v M' → mm_P Z.1 mm_cl A M' H1 → va_S A s.heap H1 locs1 → W p l e R s m args below meth c H1 locs1 (cells + rm.cells) (slots + rm.slots) Q (F0 m (pc + 3) ls (v.toList ++ rest))) : W p l e R s m args below meth c H locs cells slots Q (F0 m pc ls st0) :=
  mm_go (vx_runSU (As := As) (rest := rest) (hE.1.1 ci _ hc).2 hex (hC H.size) cw ⟨mm_blind, mm_recv hE hM hc he, fun U hU hW => mm_pre hE hST hA hM hS hU hW⟩ rfl hn hsize hst (lv_room (pc := pc) (ls := ls) (rest := rest) (m := m) hW) hdg hf) hA hM hS kx kk
end MMR
theorem mm_U_U {M : mm_M} {a : Nat} {e1 e2 : va_E} : mm_U (mm_U M a e1) a e2 = mm_U M a e2 := by
  funext q
  by_cases h : q = a <;> simp [mm_U, h]
theorem mm_neN {M : mm_M} {a q : Nat} {e : va_E} (h : M a = some e) (hq : M q = none) : a ≠ q := fun h9 => by rw [h9, hq] at h; cases h
theorem mm_neC {M : mm_M} {a b ci cj : Nat} {fs gs : List Value} (h1 : M a = some (.inr (ci, fs))) (h2 : M b = some (.inr (cj, gs))) (h : ci ≠ cj) : a ≠ b := fun h9 => by
  rw [h9, h2] at h1
  exact h (Prod.mk.inj (Sum.inr.inj (Option.some.inj h1))).1.symm
theorem mm_neA {M : mm_M} {a b cj : Nat} {x : ClassId × vp_A} {gs : List Value} (h1 : M a = some (.inl x)) (h2 : M b = some (.inr (cj, gs))) : a ≠ b := fun h9 => by rw [h9, h2] at h1; cases h1
/-- a boolean on the stack -/
def mm_b (b : Bool) : Int32 := if b then 1 else 0
theorem mm_b_nar (b : Bool) : narrow .boolean (.int (mm_b b)) = .int (mm_b b) := by cases b <;> rfl
theorem mm_b_fit (b : Bool) : fits .boolean (.int (mm_b b)) = true := by cases b <;> rfl
theorem mm_b_0 (b : Bool) : mm_b b = 0 ↔ b = false := by cases b <;> simp [mm_b]

def mm_f0X1 : List Value := [.null, .int 0, .int 0, .null]
theorem mm_dfX1 : ∀ j, j < 4 → defaultValue (tyX1 j) = vp_V mm_f0X1 j := by intro j hj; match j, hj with | 0, _ => rfl | 1, _ => rfl | 2, _ => rfl | 3, _ => rfl | j + 4, hj => exact absurd hj (by omega)
def mm_f0X2 : List Value := [.int 0, .null, .null, .null, .null, .null, .null, .int 0, .int 0, .null, .int 0, .int 0, .int 0, .null, .int 0, .int 0, .long 0]
theorem mm_dfX2 : ∀ j, j < 17 → defaultValue (tyX2 j) = vp_V mm_f0X2 j := by intro j hj; match j, hj with | 0, _ => rfl | 1, _ => rfl | 2, _ => rfl | 3, _ => rfl | 4, _ => rfl | 5, _ => rfl | 6, _ => rfl | 7, _ => rfl | 8, _ => rfl | 9, _ => rfl | 10, _ => rfl | 11, _ => rfl | 12, _ => rfl | 13, _ => rfl | 14, _ => rfl | 15, _ => rfl | 16, _ => rfl | j + 17, hj => exact absurd hj (by omega)
def mm_f0X3 : List Value := [.int 0, .int 0, .int 0, .int 0, .null, .int 0, .null]
theorem mm_dfX3 : ∀ j, j < 7 → defaultValue (tyX3 j) = vp_V mm_f0X3 j := by intro j hj; match j, hj with | 0, _ => rfl | 1, _ => rfl | 2, _ => rfl | 3, _ => rfl | 4, _ => rfl | 5, _ => rfl | 6, _ => rfl | j + 7, hj => exact absurd hj (by omega)
def mm_f0X4 : List Value := [.null]
theorem mm_dfX4 : ∀ j, j < 1 → defaultValue (tyX4 j) = vp_V mm_f0X4 j := by intro j hj; match j, hj with | 0, _ => rfl | j + 1, hj => exact absurd hj (by omega)
def mm_f0X5 : List Value := [.null, .null]
theorem mm_dfX5 : ∀ j, j < 2 → defaultValue (tyX5 j) = vp_V mm_f0X5 j := by intro j hj; match j, hj with | 0, _ => rfl | 1, _ => rfl | j + 2, hj => exact absurd hj (by omega)
def mm_f0X6 : List Value := [.null, .int 0, .null, .null, .null]
theorem mm_dfX6 : ∀ j, j < 5 → defaultValue (tyX6 j) = vp_V mm_f0X6 j := by intro j hj; match j, hj with | 0, _ => rfl | 1, _ => rfl | 2, _ => rfl | 3, _ => rfl | 4, _ => rfl | j + 5, hj => exact absurd hj (by omega)
def mm_f0X8 : List Value := [.int 0, .null, .null, .null, .null]
theorem mm_dfX8 : ∀ j, j < 5 → defaultValue (tyX8 j) = vp_V mm_f0X8 j := by intro j hj; match j, hj with | 0, _ => rfl | 1, _ => rfl | 2, _ => rfl | 3, _ => rfl | 4, _ => rfl | j + 5, hj => exact absurd hj (by omega)
def mm_f0X9 : List Value := [.null, .null, .null, .null, .null, .int 0, .int 0, .null]
theorem mm_dfX9 : ∀ j, j < 8 → defaultValue (tyX9 j) = vp_V mm_f0X9 j := by intro j hj; match j, hj with | 0, _ => rfl | 1, _ => rfl | 2, _ => rfl | 3, _ => rfl | 4, _ => rfl | 5, _ => rfl | 6, _ => rfl | 7, _ => rfl | j + 8, hj => exact absurd hj (by omega)
def mm_f0X10 : List Value := [.null, .null, .null, .null, .int 0]
theorem mm_dfX10 : ∀ j, j < 5 → defaultValue (tyX10 j) = vp_V mm_f0X10 j := by intro j hj; match j, hj with | 0, _ => rfl | 1, _ => rfl | 2, _ => rfl | 3, _ => rfl | 4, _ => rfl | j + 5, hj => exact absurd hj (by omega)
def mm_f0X11 : List Value := [.null, .int 0, .int 0]
theorem mm_dfX11 : ∀ j, j < 3 → defaultValue (tyX11 j) = vp_V mm_f0X11 j := by intro j hj; match j, hj with | 0, _ => rfl | 1, _ => rfl | 2, _ => rfl | j + 3, hj => exact absurd hj (by omega)
def mm_f0X12 : List Value := [.null, .null, .null, .null, .null]
theorem mm_dfX12 : ∀ j, j < 5 → defaultValue (tyX12 j) = vp_V mm_f0X12 j := by intro j hj; match j, hj with | 0, _ => rfl | 1, _ => rfl | 2, _ => rfl | 3, _ => rfl | 4, _ => rfl | j + 5, hj => exact absurd hj (by omega)
def mm_f0X14 : List Value := [.int 0, .null, .null]
theorem mm_dfX14 : ∀ j, j < 3 → defaultValue (tyX14 j) = vp_V mm_f0X14 j := by intro j hj; match j, hj with | 0, _ => rfl | 1, _ => rfl | 2, _ => rfl | j + 3, hj => exact absurd hj (by omega)
def mm_f0X15 : List Value := [.null, .int 0, .int 0, .int 0]
theorem mm_dfX15 : ∀ j, j < 4 → defaultValue (tyX15 j) = vp_V mm_f0X15 j := by intro j hj; match j, hj with | 0, _ => rfl | 1, _ => rfl | 2, _ => rfl | 3, _ => rfl | j + 4, hj => exact absurd hj (by omega)
def mm_f0X16 : List Value := [.null, .int 0]
theorem mm_dfX16 : ∀ j, j < 2 → defaultValue (tyX16 j) = vp_V mm_f0X16 j := by intro j hj; match j, hj with | 0, _ => rfl | 1, _ => rfl | j + 2, hj => exact absurd hj (by omega)
def mm_f0X17 : List Value := [.int 0, .null, .null, .null]
theorem mm_dfX17 : ∀ j, j < 4 → defaultValue (tyX17 j) = vp_V mm_f0X17 j := by intro j hj; match j, hj with | 0, _ => rfl | 1, _ => rfl | 2, _ => rfl | 3, _ => rfl | j + 4, hj => exact absurd hj (by omega)
def mm_f0X18 : List Value := [.null, .null, .int 0]
theorem mm_dfX18 : ∀ j, j < 3 → defaultValue (tyX18 j) = vp_V mm_f0X18 j := by intro j hj; match j, hj with | 0, _ => rfl | 1, _ => rfl | 2, _ => rfl | j + 3, hj => exact absurd hj (by omega)
def mm_f0X20 : List Value := [.null, .null, .null, .null, .null, .int 0, .int 0]
theorem mm_dfX20 : ∀ j, j < 7 → defaultValue (tyX20 j) = vp_V mm_f0X20 j := by intro j hj; match j, hj with | 0, _ => rfl | 1, _ => rfl | 2, _ => rfl | 3, _ => rfl | 4, _ => rfl | 5, _ => rfl | 6, _ => rfl | j + 7, hj => exact absurd hj (by omega)
def mm_f0X22 : List Value := [.null, .null, .int 0]
theorem mm_dfX22 : ∀ j, j < 3 → defaultValue (tyX22 j) = vp_V mm_f0X22 j := by intro j hj; match j, hj with | 0, _ => rfl | 1, _ => rfl | 2, _ => rfl | j + 3, hj => exact absurd hj (by omega)
def mm_f0X23 : List Value := [.null, .int 0]
theorem mm_dfX23 : ∀ j, j < 2 → defaultValue (tyX23 j) = vp_V mm_f0X23 j := by intro j hj; match j, hj with | 0, _ => rfl | 1, _ => rfl | j + 2, hj => exact absurd hj (by omega)
def mm_f0X24 : List Value := [.null, .null, .null, .null, .null]
theorem mm_dfX24 : ∀ j, j < 5 → defaultValue (tyX24 j) = vp_V mm_f0X24 j := by intro j hj; match j, hj with | 0, _ => rfl | 1, _ => rfl | 2, _ => rfl | 3, _ => rfl | 4, _ => rfl | j + 5, hj => exact absurd hj (by omega)
def mm_f0X25 : List Value := [.int 0, .null, .null, .null, .null, .int 0, .long 0, .null]
theorem mm_dfX25 : ∀ j, j < 8 → defaultValue (tyX25 j) = vp_V mm_f0X25 j := by intro j hj; match j, hj with | 0, _ => rfl | 1, _ => rfl | 2, _ => rfl | 3, _ => rfl | 4, _ => rfl | 5, _ => rfl | 6, _ => rfl | 7, _ => rfl | j + 8, hj => exact absurd hj (by omega)
def mm_f0X26 : List Value := [.null, .null, .null, .null, .null, .int 0, .int 0]
theorem mm_dfX26 : ∀ j, j < 7 → defaultValue (tyX26 j) = vp_V mm_f0X26 j := by intro j hj; match j, hj with | 0, _ => rfl | 1, _ => rfl | 2, _ => rfl | 3, _ => rfl | 4, _ => rfl | 5, _ => rfl | 6, _ => rfl | j + 7, hj => exact absurd hj (by omega)
def mm_f0X27 : List Value := [.int 0, .null, .int 0, .null, .null, .int 0, .int 0]
theorem mm_dfX27 : ∀ j, j < 7 → defaultValue (tyX27 j) = vp_V mm_f0X27 j := by intro j hj; match j, hj with | 0, _ => rfl | 1, _ => rfl | 2, _ => rfl | 3, _ => rfl | 4, _ => rfl | 5, _ => rfl | 6, _ => rfl | j + 7, hj => exact absurd hj (by omega)
def mm_f0X28 : List Value := [.int 0, .null, .null, .null, .null]
theorem mm_dfX28 : ∀ j, j < 5 → defaultValue (tyX28 j) = vp_V mm_f0X28 j := by intro j hj; match j, hj with | 0, _ => rfl | 1, _ => rfl | 2, _ => rfl | 3, _ => rfl | 4, _ => rfl | j + 5, hj => exact absurd hj (by omega)
def mm_f0X29 : List Value := [.null, .null]
theorem mm_dfX29 : ∀ j, j < 2 → defaultValue (tyX29 j) = vp_V mm_f0X29 j := by intro j hj; match j, hj with | 0, _ => rfl | 1, _ => rfl | j + 2, hj => exact absurd hj (by omega)
def mm_f0X30 : List Value := [.int 0]
theorem mm_dfX30 : ∀ j, j < 1 → defaultValue (tyX30 j) = vp_V mm_f0X30 j := by intro j hj; match j, hj with | 0, _ => rfl | j + 1, hj => exact absurd hj (by omega)
def mm_f0X31 : List Value := [.null, .null, .null, .null, .null, .int 0]
theorem mm_dfX31 : ∀ j, j < 6 → defaultValue (tyX31 j) = vp_V mm_f0X31 j := by intro j hj; match j, hj with | 0, _ => rfl | 1, _ => rfl | 2, _ => rfl | 3, _ => rfl | 4, _ => rfl | 5, _ => rfl | j + 6, hj => exact absurd hj (by omega)
def mm_f0X33 : List Value := [.int 0]
theorem mm_dfX33 : ∀ j, j < 1 → defaultValue (tyX33 j) = vp_V mm_f0X33 j := by intro j hj; match j, hj with | 0, _ => rfl | j + 1, hj => exact absurd hj (by omega)
def mm_f0X34 : List Value := [.int 0, .null, .null]
theorem mm_dfX34 : ∀ j, j < 3 → defaultValue (tyX34 j) = vp_V mm_f0X34 j := by intro j hj; match j, hj with | 0, _ => rfl | 1, _ => rfl | 2, _ => rfl | j + 3, hj => exact absurd hj (by omega)
def mm_f0X35 : List Value := [.int 0, .null, .null, .null]
theorem mm_dfX35 : ∀ j, j < 4 → defaultValue (tyX35 j) = vp_V mm_f0X35 j := by intro j hj; match j, hj with | 0, _ => rfl | 1, _ => rfl | 2, _ => rfl | 3, _ => rfl | j + 4, hj => exact absurd hj (by omega)
def mm_f0X36 : List Value := [.null]
theorem mm_dfX36 : ∀ j, j < 1 → defaultValue (tyX36 j) = vp_V mm_f0X36 j := by intro j hj; match j, hj with | 0, _ => rfl | j + 1, hj => exact absurd hj (by omega)
def mm_f0X37 : List Value := [.int 0, .null]
theorem mm_dfX37 : ∀ j, j < 2 → defaultValue (tyX37 j) = vp_V mm_f0X37 j := by intro j hj; match j, hj with | 0, _ => rfl | 1, _ => rfl | j + 2, hj => exact absurd hj (by omega)
def mm_f0X38 : List Value := [.int 0, .int 0, .null, .null, .null]
theorem mm_dfX38 : ∀ j, j < 5 → defaultValue (tyX38 j) = vp_V mm_f0X38 j := by intro j hj; match j, hj with | 0, _ => rfl | 1, _ => rfl | 2, _ => rfl | 3, _ => rfl | 4, _ => rfl | j + 5, hj => exact absurd hj (by omega)
def mm_f0X39 : List Value := [.int 0, .null, .int 0, .null]
theorem mm_dfX39 : ∀ j, j < 4 → defaultValue (tyX39 j) = vp_V mm_f0X39 j := by intro j hj; match j, hj with | 0, _ => rfl | 1, _ => rfl | 2, _ => rfl | 3, _ => rfl | j + 4, hj => exact absurd hj (by omega)
def mm_f0X40 : List Value := [.int 0]
theorem mm_dfX40 : ∀ j, j < 1 → defaultValue (tyX40 j) = vp_V mm_f0X40 j := by intro j hj; match j, hj with | 0, _ => rfl | j + 1, hj => exact absurd hj (by omega)
def mm_f0X42 : List Value := [.int 0]
theorem mm_dfX42 : ∀ j, j < 1 → defaultValue (tyX42 j) = vp_V mm_f0X42 j := by intro j hj; match j, hj with | 0, _ => rfl | j + 1, hj => exact absurd hj (by omega)
def mm_f0X43 : List Value := [.null]
theorem mm_dfX43 : ∀ j, j < 1 → defaultValue (tyX43 j) = vp_V mm_f0X43 j := by intro j hj; match j, hj with | 0, _ => rfl | j + 1, hj => exact absurd hj (by omega)
def mm_f0X44 : List Value := [.null, .int 0, .null]
theorem mm_dfX44 : ∀ j, j < 3 → defaultValue (tyX44 j) = vp_V mm_f0X44 j := by intro j hj; match j, hj with | 0, _ => rfl | 1, _ => rfl | 2, _ => rfl | j + 3, hj => exact absurd hj (by omega)
def mm_f0X45 : List Value := [.int 0, .null, .null, .null, .int 0, .null, .null, .null, .null]
theorem mm_dfX45 : ∀ j, j < 9 → defaultValue (tyX45 j) = vp_V mm_f0X45 j := by intro j hj; match j, hj with | 0, _ => rfl | 1, _ => rfl | 2, _ => rfl | 3, _ => rfl | 4, _ => rfl | 5, _ => rfl | 6, _ => rfl | 7, _ => rfl | 8, _ => rfl | j + 9, hj => exact absurd hj (by omega)
def mm_f0X46 : List Value := [.null, .null, .null]
theorem mm_dfX46 : ∀ j, j < 3 → defaultValue (tyX46 j) = vp_V mm_f0X46 j := by intro j hj; match j, hj with | 0, _ => rfl | 1, _ => rfl | 2, _ => rfl | j + 3, hj => exact absurd hj (by omega)
def mm_f0X47 : List Value := [.int 0, .null]
theorem mm_dfX47 : ∀ j, j < 2 → defaultValue (tyX47 j) = vp_V mm_f0X47 j := by intro j hj; match j, hj with | 0, _ => rfl | 1, _ => rfl | j + 2, hj => exact absurd hj (by omega)
def mm_f0J2 : List Value := [.int 0, .null, .int 0]
theorem mm_dfJ2 : ∀ j, j < 3 → defaultValue (tyJ2 j) = vp_V mm_f0J2 j := by intro j hj; match j, hj with | 0, _ => rfl | 1, _ => rfl | 2, _ => rfl | j + 3, hj => exact absurd hj (by omega)
def mm_f0J3 : List Value := [.null, .null, .null, .null, .null]
theorem mm_dfJ3 : ∀ j, j < 5 → defaultValue (tyJ3 j) = vp_V mm_f0J3 j := by intro j hj; match j, hj with | 0, _ => rfl | 1, _ => rfl | 2, _ => rfl | 3, _ => rfl | 4, _ => rfl | j + 5, hj => exact absurd hj (by omega)
def mm_f0J6 : List Value := [.null, .null, .null, .null, .null, .int 0]
theorem mm_dfJ6 : ∀ j, j < 6 → defaultValue (tyJ6 j) = vp_V mm_f0J6 j := by intro j hj; match j, hj with | 0, _ => rfl | 1, _ => rfl | 2, _ => rfl | 3, _ => rfl | 4, _ => rfl | 5, _ => rfl | j + 6, hj => exact absurd hj (by omega)
def mm_f0J7 : List Value := [.null, .null, .null, .null, .null, .int 0]
theorem mm_dfJ7 : ∀ j, j < 6 → defaultValue (tyJ7 j) = vp_V mm_f0J7 j := by intro j hj; match j, hj with | 0, _ => rfl | 1, _ => rfl | 2, _ => rfl | 3, _ => rfl | 4, _ => rfl | 5, _ => rfl | j + 6, hj => exact absurd hj (by omega)
def mm_f0J11 : List Value := [.null, .null, .null, .null, .null, .int 0]
theorem mm_dfJ11 : ∀ j, j < 6 → defaultValue (tyJ11 j) = vp_V mm_f0J11 j := by intro j hj; match j, hj with | 0, _ => rfl | 1, _ => rfl | 2, _ => rfl | 3, _ => rfl | 4, _ => rfl | 5, _ => rfl | j + 6, hj => exact absurd hj (by omega)
def mm_f0J12 : List Value := [.null, .null, .null, .null, .int 0, .null]
theorem mm_dfJ12 : ∀ j, j < 6 → defaultValue (tyJ12 j) = vp_V mm_f0J12 j := by intro j hj; match j, hj with | 0, _ => rfl | 1, _ => rfl | 2, _ => rfl | 3, _ => rfl | 4, _ => rfl | 5, _ => rfl | j + 6, hj => exact absurd hj (by omega)
def mm_f0J13 : List Value := [.null, .int 0, .int 0, .int 0]
theorem mm_dfJ13 : ∀ j, j < 4 → defaultValue (tyJ13 j) = vp_V mm_f0J13 j := by intro j hj; match j, hj with | 0, _ => rfl | 1, _ => rfl | 2, _ => rfl | 3, _ => rfl | j + 4, hj => exact absurd hj (by omega)
def mm_f0J17 : List Value := [.int 0, .int 0, .int 0, .null]
theorem mm_dfJ17 : ∀ j, j < 4 → defaultValue (tyJ17 j) = vp_V mm_f0J17 j := by intro j hj; match j, hj with | 0, _ => rfl | 1, _ => rfl | 2, _ => rfl | 3, _ => rfl | j + 4, hj => exact absurd hj (by omega)
def mm_f0J19 : List Value := [.null, .int 0, .int 0, .int 0]
theorem mm_dfJ19 : ∀ j, j < 4 → defaultValue (tyJ19 j) = vp_V mm_f0J19 j := by intro j hj; match j, hj with | 0, _ => rfl | 1, _ => rfl | 2, _ => rfl | 3, _ => rfl | j + 4, hj => exact absurd hj (by omega)
theorem mm_inE0 : ∀ w ∈ u_ws "RowenTongue$Likening" mm_TE0 0, w ∈ lw_all := fun w h => by simp [u_ws] at h
theorem mm_inE1 : ∀ w ∈ u_ws "RowenTongue$Numbers" mm_TE1 0, w ∈ lw_all := fun w h => by simp [u_ws] at h
theorem mm_inE2 : ∀ w ∈ u_ws "RowenTongue$Nothing" mm_TE2 0, w ∈ lw_all := fun w h => by simp [u_ws] at h
theorem mm_inE3 : ∀ w ∈ u_ws "java/lang/System$2" mm_TE3 0, w ∈ lw_all := fun w h => by simp [u_ws] at h
