/-! ===== Throwable.fillInStackTrace() where no traces are kept (follows Shelf42/EX1.lean, fillPaysAny, head28) ===== -/
set_option maxRecDepth 100000
set_option maxHeartbeats 4000000 in
theorem mm_fillBack {l : Launch} {R : Room} {p : Program} {e : Env} {below : List Frame} {s : State} {sargs : Array Value} {len W : Nat} (hexec : p.tables.exec = Jvm.exec) (htr : e.platform.stackTraces = false)
    (T : ThrowableC) (L : T.Links e.platform s) (hfillN : s.methodNamed? Bundle.tFill = some T.fill)
    {u0 : RefV} {self : Addr} {cell cellS : Cell}
    (hobj : ∀ k, cell.vm ≠ .statics k) (hknown : cell.vm ≠ .unknown) (hfree : cell.monitor.owner = none) (hcount : cell.monitor.count = 0)
    (hvS : cell.slots[T.fStack.slot]? = some u0.v) (hsel0 : selectMethod e.platform s.vm cell.cls T.fill0 = .method T.fill0)
    (hneS : T.aS ≠ self) (hknownS : cellS.vm ≠ .unknown) (hvU : cellS.slots[T.fUnassigned.slot]? = some u0.v) (htS : Jvm.Takes s cell T.fStack u0.v)
    (hback : ∃ B : BackC, B.Links T e.platform s ∧ cell.slots[B.fBack.slot]? = some .null)
    (hRframes : 2 < R.frames) (hRlocals : W + 42 ≤ R.locals) :
    Back l R p e below s sargs Bundle.tFill len W
      (fun A a => a = #[.ref self] ∧ A.U.heap[self]? = some cell ∧ A.U.heap[T.aS]? = some cellS)
      (fun A _ v B => v = some (.ref self) ∧ (∃ vm' : Vm, B.U = (A.U.setVm vm').setCell self (cell.setSlot T.fStack.slot u0.v)) ∧
        B.locs = A.locs ++ [⟨self, T.fStack.slot⟩] ∧ B.cells = A.cells ∧ B.slots = A.slots) := by
  intro m meth c A g ig mk a X hg hsize hdg hWd hmk hPre
  obtain ⟨T', locs, cells, slots⟩ := A
  obtain ⟨ha, hcell, hcellS⟩ := hPre
  dsimp only [Pt.U, Pt.locs, Pt.cells, Pt.slots] at X hmk hcell hcellS ⊢
  subst ha
  have e1 : T'.methodNamed? Bundle.tFill = s.methodNamed? Bundle.tFill := by
    rw [State.methodNamed?_of_vm (U := T') (V := s.setVm T'.vm) rfl]; exact State.methodNamed?_setVm X.warmed.alike _
  obtain rfl : mk = T.fill := Option.some.inj ((hmk.symm.trans e1).trans hfillN)
  have h : At T' g.method c below := by rw [hg]; exact X.here
  have hfr' : T'.frames.length + 2 < (e.platform.stackLimits T'.me).1 := X.framesAbove hRframes
  have hwd' : (stackUse (.java g :: T'.frames.tail)).2 + 42 ≤ (e.platform.stackLimits T'.me).2 := X.stackAbove hsize (K := 42) (by omega)
  obtain ⟨g₀, hg0⟩ := Option.isSome_iff_exists.mp h.top
  obtain ⟨tl0, htl0⟩ := State.topJava?_eq_some.mp hg0
  have hlen0 : T'.frames.length = (Frame.java g :: T'.frames.tail).length := by rw [htl0]; rfl
  generalize hFr : (Frame.java g :: T'.frames.tail) = Fr at hlen0 hwd'
  have hlt : self < T'.heap.size := (Array.getElem?_eq_some_iff.mp hcell).1
  have hfg : (T'.setTop g).frames = [] ++ Fr := by rw [State.frames_setTop _ htl0, ← hFr, htl0]; rfl
  have hroom : e.platform.stackFull (((T'.setTop g).threads[(T'.setTop g).cur]?).getD { frames := [] }) (T'.setTop g).frames (1 + 2) = false :=
    Jvm.roomAbove (pushed := []) (base := Fr) (free := 42) (lim := e.platform.stackLimits T'.me) hfg (State.stackLimits_setTop _ h.top g) (by rw [← hlen0]; simp only [List.length_nil]; omega) hwd' (by simp only [stackUse_nil]; omega)
  have hw14 : (stackUse [Frame.java (fillJ T.fill self 16 [])]).2 = 14 := by
    rw [stackUse_java, stackUse_nil]
    simp [operandWords]
  obtain ⟨vm', hW', st⟩ := Steps.fillColdAnyV p (V := T') (g := g) (c := c) (self := self) h hexec T L X.warmed
    (Nn := fun u => u) heapOnly_id (fun _ _ => rfl) (fun _ => rfl) (fun u x y => setCell_twice _ _ _ _)
    (cell := cell) (cellS := cellS) (cN := cell.withEntry T'.cur) (u0 := u0) (ig := ig) (len := len) []
    hcell hobj hknown (Or.inl hfree) hvS hsel0 hcellS hneS hknownS hvU (fun u hu => hu) (fun u hu => hu) rfl rfl rfl rfl htS hdg
    (fun _ vm1 hW1 hAt t' hrest => by
      obtain ⟨g₁, hg1⟩ := Option.isSome_iff_exists.mp hAt.top
      obtain ⟨tl1, htl1⟩ := State.topJava?_eq_some.mp hg1
      have htail : (fillInside (T'.setVm vm1) g T.fill self cell).frames.tail = Fr := by rw [← hFr]; exact fillInside_tail (T'.setVm vm1) g T.fill self cell h.top
      have etl : tl1 = Fr := by rw [htl1] at htail; exact htail
      have htopE : ((T'.setVm vm1).setCell self (cell.withEntry (T'.setVm vm1).cur)).topJava?.isSome := h.top
      have hlimF : e.platform.stackLimits (fillInside (T'.setVm vm1) g T.fill self cell).me = e.platform.stackLimits T'.me := by
        rw [State.stackLimits_pushFrame, State.stackLimits_setTop _ htopE]; rfl
      exact L.nativeOff p htr hAt hW1 (self := self)
        (Jvm.roomAbove (pushed := [.java (fillJ T.fill self 16 [])]) (base := Fr) (free := 42) (lim := e.platform.stackLimits T'.me) (by rw [State.frames_setTop _ htl1, etl]; rfl) (by rw [State.stackLimits_setTop _ hAt.top]; exact hlimF)
          (by rw [← hlen0]; simp only [List.length_cons, List.length_nil]; omega) hwd' (by rw [hw14]; decide)) hrest)
    hroom (by obtain ⟨B, LB, hvB⟩ := hback; exact ⟨B, LB, hvB, fun _ _ => rfl⟩)
  have hend : ((cell.withEntry T'.cur).setSlot T.fStack.slot u0.v).left = cell.setSlot T.fStack.slot u0.v := by
    simp only [Cell.left_setSlot, Cell.left_withEntry T'.cur hfree hcount]
  rw [hend] at st
  have X2 := (X.noted hW').stored (a := self) (cell := cell) hcell T.fStack.slot u0.v
  exact ⟨some (.ref self), ⟨(T'.setVm vm').setCell self (cell.setSlot T.fStack.slot u0.v), locs ++ [⟨self, T.fStack.slot⟩], cells, slots⟩, X2, ⟨rfl, ⟨vm', rfl⟩, rfl, rfl, rfl⟩, st _ (Steps.refl _)⟩
theorem mm_setSelf {cell : Cell} {i : Nat} {v : Value} (h : cell.slots[i]? = some v) : cell.setSlot i v = cell := by
  have e : cell.slots.setIfInBounds i v = cell.slots := by
    apply Array.ext_getElem?
    intro j
    by_cases hj : i = j
    · subst hj
      have hi : i < cell.slots.size := (Array.getElem?_eq_some_iff.mp h).1
      simp [Array.getElem?_setIfInBounds, hi, h]
      exact (Array.getElem?_eq_some_iff.mp h).2.symm
    · simp [Array.getElem?_setIfInBounds, hj]
  unfold Cell.setSlot
  rw [e]
section MFL
variable {p : Program} {l : Launch} {e : Env} {R : Room} {s : State} {m : MethodId} {args : Array Value} {below : List Frame} {meth : Method} {c : Code} {H : Heap} {locs : List Loc} {cells slots : Nat} {Q : State → Prop}
variable {cc : ByteArray} {pc : Nat} {ls : Array Slot} {rest : List Value} {A : Nat → Prop} {a : Nat} {M : mm_M} {Z : mm_G}
set_option maxHeartbeats 4000000 in
/-- fillInStackTrace() inside Throwable's constructors -/
theorem mm_fill (hexec : p.tables.exec = Jvm.exec) (hb : c.code = cc) (htr : l.stackTraces = false) (hml : c.maxLocals = ls.size) (hown : s.vm.findClass Bundle.tN = some m.cls) (hE : mm_E Z s) (hST : mm_S Z A s s.heap)
    {u0 : RefV} (hU : va_Z Bundle.tN "UNASSIGNED_STACK" Bundle.steD u0.v A s s.heap) (hM : mm_P Z.1 mm_cl A M H) (hS : va_S A s.heap H locs) (hFr : mm_Fr a H)
    {ci N kS kB : Nat} {C : String} {T0 : u_T} {fs : List Value} (he : M a = some (.inr (ci, fs))) (hc : mm_cl[ci]? = some (C, T0, N))
    (hkS : kS < N ∧ (T0 kS).1 = Bundle.tN ∧ (T0 kS).2.1 = "stackTrace" ∧ (T0 kS).2.2.1 = Bundle.steD ∧ fs[kS]? = some u0.v)
    (hkB : kB < N ∧ (T0 kB).1 = Bundle.tN ∧ (T0 kB).2.1 = "backtrace" ∧ (T0 kB).2.2.1 = "Ljava/lang/Object;" ∧ fs[kB]? = some .null)
    (hth : ∀ w ∈ Bundle.throwableAtoms.filter vx_no, w.before args s = true)
    (hs0 : (Cond.selects C Bundle.tFill0 Bundle.tFill0).before args s = true) (hsF : (Cond.selects C Bundle.tFill Bundle.tFill).before args s = true)
    (h198 : (Cond.fieldLink Bundle.tN 198 Bundle.tN "backtrace" "Ljava/lang/Object;").before args s = true) (hlB : (Cond.lays Bundle.tN Bundle.tN "backtrace" "Ljava/lang/Object;").before args s = true)
    (hlS : (Cond.lays C Bundle.tN "stackTrace" Bundle.steD).before args s = true) (hini : (Cond.initialized Bundle.tN).before args s = true)
    (hRframes : 2 < R.frames) (hRlocals : (rest.map fun v => v.category).sum + 42 ≤ R.locals) (hdg : decode cc pc = .ok (.invokevirtual 27, 3))
    (kk : ∀ (H1 : Heap) (locs1 : List Loc), mm_P Z.1 mm_cl A M H1 → va_S A s.heap H1 locs1 → W p l e R s m args below meth c H1 locs1 cells slots Q (F0 m (pc + 3) ls (.ref a :: rest))) :
    W p l e R s m args below meth c H locs cells slots Q (F0 m pc ls (.ref a :: rest)) := by
  intro T1 hT X
  have htr' : e.platform.stackTraces = false := (show e.platform.stackTraces = l.stackTraces by rw [X.admits.platform]).trans htr
  have howns : e.platform.frameOwnsMonitors = true := by rw [X.admits.platform]
  have hfin : e.platform.finalization = false := by rw [X.admits.platform]
  have hpl : e.platform.magicAccessors = ({} : Platform).magicAccessors := by rw [X.admits.platform]
  have hat : ∀ w ∈ Bundle.throwableAtoms, w.before args s = true := vx_own hth (vx_isRefq hST.2.1.1) (vx_isRefq hST.2.2.1.1) hST.2.1.2.word hST.2.2.1.2.word
  have hdecl : (Cond.declares Bundle.tFill).before args s = true := by
    obtain ⟨mk, methM, hn, hm, hst, -⟩ := Cond.instanceMethod_spec (hat (.instanceMethod Bundle.tFill) (by simp [Bundle.throwableAtoms]))
    obtain ⟨methM', cM, hm', -, -, -, -, -, -, hsig⟩ := Cond.codeSync_spec hn (hat (.codeSync Bundle.tFill LibCode.Throwable.Fill.code 1 (some (.object Bundle.tN))) (by simp [Bundle.throwableAtoms]))
    cases hm.symm.trans hm'
    simp [Cond.before, Cond.holds, Cond.value, hn, hm, hst, hsig]
  obtain ⟨T, Z0, L, -, Y⟩ := ThrowableC.of_atoms (args := args) howns hfin hpl hat
  obtain ⟨r, h1, cell, q1, q2, q3, q4⟩ := hM.at he 0 _ rfl
  cases Option.some.inj (h1.symm.trans hc)
  obtain ⟨cell', f1, f2, f3⟩ := hFr
  cases Option.some.inj (q1.symm.trans f1)
  obtain ⟨hSl, hfc, kC, hkC, hkind⟩ := hE.1.1 ci _ hc
  dsimp only at q1 q2 q3 q4 hSl hfc hkC
  -- the slots of the two fields
  obtain ⟨g1, g2, g3, g4, g5⟩ := hkS
  obtain ⟨b1, b2, b3, b4, b5⟩ := hkB
  obtain ⟨_, _, _, fS, hfS, hsS⟩ := hSl kS g1
  rw [g2, g3, g4] at hfS
  cases hfS.symm.trans Y.stack
  obtain ⟨ci198, i198, fB, hk198, hg198, ha198, hsB, -, hnB, htB, hffB⟩ := Cond.ownField (t := .object "java/lang/Object") Y.found L.cls (by decide +kernel) h198 hlB e.platform hpl
  obtain ⟨_, _, _, fB', hfB, hsB'⟩ := hSl kB b1
  rw [b2, b3, b4] at hfB
  cases hfB.symm.trans hffB
  have vS : cell.slots[T.fStack.slot]? = some u0.v := by rw [hsS, q4 kS g1]; simp [vp_V, List.getD_eq_getElem?_getD, g5]
  have vB : cell.slots[fB.slot]? = some .null := by rw [hsB', q4 kB b1]; simp [vp_V, List.getD_eq_getElem?_getD, b5]
  -- the statics
  obtain ⟨cf, kf, fi, fU, aU, cellU, z1, z2, z3, z4, z5, z6, z7, z8⟩ := hU
  cases z1.symm.trans Y.unassigned
  cases Option.some.inj (z4.symm.trans L.statics)
  have keepS : H[T.aS]? = some cellU := by rw [hS.2.1 T.aS (Array.getElem?_eq_some_iff.mp z5).1 z8]; exact z5
  have hneS : T.aS ≠ a := fun h9 => z8 (by rw [h9]; exact hM.inA he)
  have hknS : cellU.vm ≠ .unknown := fun h9 => by rw [h9] at z6; cases z6
  have hsel0 : selectMethod e.platform s.vm cell.cls T.fill0 = .method T.fill0 := by
    obtain ⟨c2, r2, m2, p1, p2, p3, p4, -⟩ := Cond.selects_spec hs0
    cases Option.some.inj (p1.symm.trans hfc)
    cases Option.some.inj (p2.symm.trans (State.methodFound?_of_named Y.fill0 (by decide)))
    cases Option.some.inj (p3.symm.trans Y.fill0)
    rw [Launch.admits_selectMethod X.admits, q2]; exact p4
  obtain ⟨tyS, dS, hdS, hdnS⟩ := Cond.laysAt hfc hkC Y.stack hlS
  have fS' : fits T.fStack.type u0.v = true := by rw [Y.stackType]; exact fits_refV_array _ u0
  have tk : Jvm.Takes s cell T.fStack u0.v := by
    obtain ⟨t1, t2⟩ := Takes.of_laid (v := u0.v) hkC hkind tyS fS'
    exact ⟨(Array.getElem?_eq_some_iff.mp vS).1, by rw [q2, q3]; exact t2⟩
  have hcT : T1.heap[a]? = some cell := by rw [hT]; exact q1
  obtain ⟨v6, vm6, ⟨T6, L6, c6, n6⟩, hW6, X6, ⟨hv6, ⟨vm7, hU6⟩, hL6, hc6, hn6⟩, come⟩ := X.virtualBack hexec (own := Bundle.tN) (C := C) (index := 27) (y := Bundle.tFill) (z := Bundle.tFill) hown (hat (.methodLink Bundle.tN 27 Bundle.tFill) (by simp [Bundle.throwableAtoms])) hdecl (notFace_of_selects hsF) hsF (hat (.instanceMethod Bundle.tFill) (by simp [Bundle.throwableAtoms])) (by decide)
    (mm_fillBack (l := l) (W := (rest.map fun v => v.category).sum) hexec htr' T L Y.fill (u0 := u0) (self := a) (cell := cell) (cellS := cellU) (fun _ => by rw [q3]; simp) (by rw [q3]; simp) f2 f3 vS hsel0 hneS hknS z7 tk
      ⟨{ ci198 := ci198, i198 := i198, fBack := fB }, ⟨hk198, hg198, ha198, hsB⟩, vB⟩ hRframes hRlocals)
    (b := a) (cB := cell.cls) (by rw [q2]; exact hfc) ⟨cell, hcT, rfl, by rw [q3]; rfl⟩ (g := F0 m pc ls (.ref a :: rest)) rfl hml.symm (Steps.refl _) (argsL := []) (rest := rest)
    (fun sig h => by rw [show parseMethodDescriptor Bundle.tFill.desc = some ⟨[], some (.object Bundle.tN)⟩ from by decide +kernel] at h; rw [← Option.some.inj h]; rfl) rfl (by show 2 * 0 + _ ≤ _; omega) (by rw [hb]; exact hdg)
    (fun vmx hWx => ⟨rfl, hcT, by show T1.heap[T.aS]? = some cellU; rw [hT]; exact keepS⟩)
  dsimp only [Pt.U, Pt.locs, Pt.cells, Pt.slots] at X6 hU6 hL6 hc6 hn6 come
  subst hv6 hL6 hc6 hn6
  have hheap : ∀ q : Nat, T6.heap[q]? = H[q]? := by
    intro q
    rw [hU6, mm_setSelf vS, ← hT]
    show (T1.heap.setIfInBounds a cell)[q]? = T1.heap[q]?
    by_cases hq : a = q
    · subst hq
      have hlt : a < T1.heap.size := (Array.getElem?_eq_some_iff.mp hcT).1
      rw [hcT]; simp [Array.getElem?_setIfInBounds, hlt]
    · simp [Array.getElem?_setIfInBounds, hq]
  have hsz : T6.heap.size = H.size := by
    rw [hU6, ← hT]
    show (T1.heap.setIfInBounds a _).size = T1.heap.size
    simp
  obtain ⟨t, a1, o1⟩ := kk T6.heap (locs ++ [⟨a, T.fStack.slot⟩]) (hM.ext (fun q _ => hheap q)) (hS.put hsz (fun q _ => hheap q) (hM.inA he)) T6 rfl X6
  exact ⟨t, come.trans a1, o1⟩
end MFL
