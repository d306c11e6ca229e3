/-! ===== methods with handlers ===== -/
set_option maxRecDepth 100000
section MH
variable {p : Program} {l : Launch} {e : Env} {R : Room} {s : State} {m : MethodId} {args : Array Value} {below : List Frame} {meth : Method} {c : Code} {H : Heap} {locs : List Loc} {cells slots : Nat} {Q : State → Prop}
variable {cc bytes : ByteArray} {pc : Nat} {ls : Array Slot} {rest : List Value} {A : Nat → Prop} {Z : mm_G} {M : mm_M} {y : MethodName} {ws : List Cond} {rm : Room} {Post : Option Value → mm_M → Prop} {PX : String → Nat → mm_M → Prop} {X : String → Addr → State → State → Prop}
variable {maxL nL n index : Nat} {ret : Option FieldType} {own C host : String} {As : List Value} {b : Nat} {hh : List (Nat × Nat × Nat × Nat)}
theorem mm_ofWH {av : List Value} {cc : ByteArray} {maxL : Nat} {ret : Option FieldType} (hy : plainName y.cls = true) (hw : ws = Cond.codeWith y cc maxL ret hh :: lw_all) (hn : (lg_sl av).length ≤ maxL)
    (body : ∀ (p : Program) (e : Env) (s : State) (m : MethodId) (below : List Frame) (meth : Method) (c : Code) (A : Nat → Prop) (ls : Array Slot), p.tables.exec = Jvm.exec → c.code = cc → meth.sig.returnType = ret → meth.locks = false → c.maxLocals = maxL → s.vm.findClass y.cls = some m.cls → meth.name = y.name →
      (∀ w ∈ lw_all, w.before av.toArray s = true) → c.exceptionTable.toList = tableOf hh → mm_E Z s → mm_S Z A s s.heap → (∀ q : Nat, s.heap.size ≤ q → A q) → mm_P Z.1 mm_cl A M s.heap → va_S A s.heap s.heap [] → lv_has ls maxL (lv_args 0 av) →
      W p l e rm s m av.toArray below meth c s.heap [] 0 0 (vx_MQ below (mm_Q Z A Post) (mm_X Z A PX) av.toArray s rm.cells rm.slots A) (F0 m 0 ls [])) : mm_C l Z y ws rm av M Post PX := by
  intro sz
  refine vx_ofWH (cc := cc) (maxL := maxL) (ret := ret) (hh := hh) hy hw ?_
  intro p e s m args below meth c s₁ B hml hv
  obtain ⟨rfl, rfl, hM, hE, hST⟩ := hv
  have hts := atoms_spec (ws := ws) B.pre
  have ht := vx_table (x := y) B (hts _ (by rw [hw]; exact List.mem_cons_self))
  have hl := lv_entry av (n := maxL) hn
  rw [lg_entry_eq]
  exact body p e s m below meth c (mm_A M s.heap.size) _ B.exec B.bytes B.returns B.notSynchronized hml (findClass_of_methodNamed B.named) ((name_of_methodNamed B.named B.method).1) (fun w h => hts w (by rw [hw]; exact List.mem_cons_of_mem _ h)) ht hE hST (fun q h => Or.inr h) hM va_S.rf hl
/-- caught by the first row of the table that covers -/
theorem mm_catch {name E : String} {ce : Cell} {q : Addr} (hown : s.vm.findClass own = some m.cls) (hE : mm_E Z s) (htab : c.exceptionTable.toList = tableOf hh) (pre : List ExceptionTableEntry) (x : ExceptionTableEntry) (suf : List ExceptionTableEntry) (hsplit : tableOf hh = pre ++ x :: suf)
    (hpass : ∀ z ∈ pre, covers z pc = false ∨ (z.catchType ≠ 0 ∧ ∃ nm : String, (Cond.classLink own z.catchType nm).before args s = true ∧ va_Nc E nm s)) (hx : covers x pc = true) (h0 : x.catchType ≠ 0)
    (hlink : (Cond.classLink own x.catchType name).before args s = true) (hcast : Cond.castable E name ∈ lw_tbl) (hcell : H[q]? = some ce) (hv : ce.vm = .none) (hcl : s.vm.findClass E = some ce.cls)
    (kk : W p l e R s m args below meth c H locs cells slots Q (F0 m x.handlerPc ls [.ref q])) : vx_W p l e R s m args below meth c H locs cells slots Q (F0 m pc ls rest) q :=
  vx_catch hown pre x suf (htab.trans hsplit) hpass hx h0 hlink (va_Nw.use rfl (hE.2.1 _ hcast rfl)) hcell hv hcl kk
/-- not caught here -/
theorem mm_outH {mc ms q : Nat} {E : String} {ce : Cell} (hown : s.vm.findClass own = some m.cls) (htab : c.exceptionTable.toList = tableOf hh) (hpass : ∀ z ∈ tableOf hh, covers z pc = false ∨ (z.catchType ≠ 0 ∧ ∃ nm : String, (Cond.classLink own z.catchType nm).before args s = true ∧ va_Nc E nm s)) (hlocks : meth.locks = false) (hM : mm_P Z.1 mm_cl A M H) (hS : va_S A s.heap H locs) (hce : H[q]? = some ce) (hcv : ce.vm = .none) (hcl : s.vm.findClass E = some ce.cls) (hp : PX E q M) (h1 : cells ≤ mc) (h2 : slots ≤ ms) :
    vx_W p l e R s m args below meth c H locs cells slots (vx_MQ below (mm_Q Z A Post) (mm_X Z A PX) args s mc ms A) (F0 m pc ls rest) q :=
  vx_outP hown hlocks (fun z hz => hpass z (htab ▸ hz)) hce hcv hcl (fun t ht _ => ⟨⟨M, hp, by rw [ht]; exact hM⟩, hS.F ht⟩) hS.2.2 h1 h2
theorem mm_athrowH {mc ms q ci N : Nat} {C : String} {T0 : u_T} {fs : List Value} (hexec : p.tables.exec = Jvm.exec) (hb : c.code = cc) (htab : c.exceptionTable.toList = tableOf hh) (hout : ∀ z ∈ tableOf hh, covers z pc = false) (hown : s.vm.findClass own = some m.cls) (hlocks : meth.locks = false) (hE : mm_E Z s) (hM : mm_P Z.1 mm_cl A M H) (hS : va_S A s.heap H locs) (he : M q = some (.inr (ci, fs))) (hc : mm_cl[ci]? = some (C, T0, N)) (hp : PX C q M) (hdg : decode cc pc = .ok (.athrow, 1)) (h1 : cells ≤ mc) (h2 : slots ≤ ms) :
    W p l e R s m args below meth c H locs cells slots (vx_MQ below (mm_Q Z A Post) (mm_X Z A PX) args s mc ms A) (F0 m pc ls (.ref q :: rest)) := by
  obtain ⟨r, g1, cell, q1, q2, q3, q4⟩ := hM.at he 0 _ rfl
  cases Option.some.inj (g1.symm.trans hc)
  refine vx_athrow hexec hb hdg (mm_outH (own := own) hown htab (fun z hz => Or.inl (hout z hz)) hlocks hM hS q1 q3 ?_ hp h1 h2)
  rw [q2]
  exact (hE.1.1 ci _ hc).2.1
end MH
section MHC
variable {p : Program} {l : Launch} {e : Env} {R : Room} {s : State} {m : MethodId} {args : Array Value} {below : List Frame} {meth : Method} {c : Code} {H : Heap} {locs : List Loc} {cells slots : Nat} {Q : State → Prop}
variable {cc bytes : ByteArray} {pc : Nat} {ls : Array Slot} {rest : List Value} {A : Nat → Prop} {Z : mm_G} {M : mm_M} {y : MethodName} {ws : List Cond} {rm : Room} {Post : Option Value → mm_M → Prop} {PX : String → Nat → mm_M → Prop}
variable {maxL nL n index : Nat} {ret : Option FieldType} {own C host : String} {As : List Value} {b : Nat}
variable {hh : List (Nat × Nat × Nat × Nat)}
theorem mm_callSX (hex : p.tables.exec = Jvm.exec ∧ c.code = cc ∧ c.maxLocals = nL ∧ s.vm.findClass own = some m.cls ∧ ∀ w ∈ lw_all, w.before args s = true) (hE : mm_E Z s) (hST : mm_S Z A s s.heap) (hA : ∀ q : Nat, s.heap.size ≤ q → A q)
    (hC : mm_C l Z y ws rm As M Post PX) (cw : vx_CSW R s args own index y bytes maxL ret hh ws rm rm.cells rm.slots n) (hM : mm_P Z.1 mm_cl A M H) (hS : va_S A s.heap H locs) (hn : As.length = n) (hsize : ls.size = nL) (hW : (rest.map fun v => v.category).sum ≤ 8) (hdg : decode cc pc = .ok (.invokestatic index, 3)) {st0 : List Value} (hst : st0 = As.reverse ++ rest) (hf : cells + rm.cells ≤ R.cells ∧ slots + rm.slots ≤ R.slots)
    (kx : ∀ (E : String) (ce : Cell) (q : Nat) (M' : mm_M) (H1 : Heap) (locs1 : List Loc), PX E q M' → mm_P Z.1 mm_cl A M' H1 → va_S A s.heap H1 locs1 → H1[q]? = some ce → ce.vm = .none → s.vm.findClass E = some ce.cls → vx_W p l e R s m args below meth c H1 locs1 (cells + rm.cells) (slots + rm.slots) Q (F0 m pc ls rest) q)
    (kk : ∀ (v : Option Value) (M' : mm_M) (H1 : Heap) (locs1 : List Loc), Post v M' → mm_P Z.1 mm_cl A M' H1 → va_S A s.heap H1 locs1 → W p l e R s m args below meth c H1 locs1 (cells + rm.cells) (slots + rm.slots) Q (F0 m (pc + 3) ls (v.toList ++ rest))) : W p l e R s m args below meth c H locs cells slots Q (F0 m pc ls st0) :=
  mm_go (vx_runSX (As := As) (rest := rest) hex (hC H.size) cw ⟨mm_blind, fun U hU hW => mm_pre hE hST hA hM hS hU hW⟩ rfl hn hsize hst (lv_room (pc := pc) (ls := ls) (rest := rest) (m := m) hW) hdg hf) hA hM hS kx kk
theorem mm_callVX (hex : p.tables.exec = Jvm.exec ∧ c.code = cc ∧ c.maxLocals = nL ∧ s.vm.findClass own = some m.cls ∧ ∀ w ∈ lw_all, w.before args s = true) (hE : mm_E Z s) (hST : mm_S Z A s s.heap) (hA : ∀ q : Nat, s.heap.size ≤ q → A q)
    (hC : mm_C l Z y ws rm (.ref b :: As) M Post PX) (cw : vx_CVW R s args own C index y bytes maxL ret hh ws rm rm.cells rm.slots n) (hM : mm_P Z.1 mm_cl A M H) (hS : va_S A s.heap H locs) {ci : Nat} {T : u_T} {N : Nat} {fs : List Value} (hc : mm_cl[ci]? = some (C, T, N)) (he : M b = some (.inr (ci, fs))) (hn : As.length = n) (hsize : ls.size = nL) (hW : (rest.map fun v => v.category).sum ≤ 8) (hdg : decode cc pc = .ok (.invokevirtual index, 3)) {st0 : List Value} (hst : st0 = As.reverse ++ .ref b :: rest) (hf : cells + rm.cells ≤ R.cells ∧ slots + rm.slots ≤ R.slots)
    (kx : ∀ (E : String) (ce : Cell) (q : Nat) (M' : mm_M) (H1 : Heap) (locs1 : List Loc), PX E q M' → mm_P Z.1 mm_cl A M' H1 → va_S A s.heap H1 locs1 → H1[q]? = some ce → ce.vm = .none → s.vm.findClass E = some ce.cls → vx_W p l e R s m args below meth c H1 locs1 (cells + rm.cells) (slots + rm.slots) Q (F0 m pc ls rest) q)
    (kk : ∀ (v : Option Value) (M' : mm_M) (H1 : Heap) (locs1 : List Loc), Post v M' → mm_P Z.1 mm_cl A M' H1 → va_S A s.heap H1 locs1 → W p l e R s m args below meth c H1 locs1 (cells + rm.cells) (slots + rm.slots) Q (F0 m (pc + 3) ls (v.toList ++ rest))) : W p l e R s m args below meth c H locs cells slots Q (F0 m pc ls st0) :=
  mm_go (vx_runVX (As := As) (rest := rest) hex (hC H.size) cw ⟨mm_blind, mm_recv hE hM hc he, fun U hU hW => mm_pre hE hST hA hM hS hU hW⟩ rfl hn hsize hst (lv_room (pc := pc) (ls := ls) (rest := rest) (m := m) hW) hdg hf) hA hM hS kx kk
end MHC
