/-! ===== things whose monitor is known to be free: for the constructors of Throwables ===== -/
set_option maxRecDepth 100000
def mm_Fr (a : Nat) (H : Heap) : Prop := ∃ cell : Cell, H[a]? = some cell ∧ cell.monitor.owner = none ∧ cell.monitor.count = 0
section MF1
variable {p : Program} {l : Launch} {e : Env} {R : Room} {s : State} {m : MethodId} {args : Array Value} {below : List Frame} {meth : Method} {c : Code} {H : Heap} {locs : List Loc} {cells slots : Nat} {Q : State → Prop}
variable {cc : ByteArray} {pc : Nat} {ls : Array Slot} {rest : List Value} {D : va_G} {cl : List vw_C} {A : Nat → Prop} {a : Nat} {tys : List (ClassId × FieldType)} {M : mm_M} {H0 : Heap}
theorem mm_newX {c0 : Code} (hexec : p.tables.exec = Jvm.exec) (hb : c0.code = cc) {own C : String} {T : u_T} {N ci index : Nat} {Ts : List Cond} (hts : ∀ w ∈ Ts, w.before args s = true) (hin : ∀ w ∈ u_ws C T N, w ∈ Ts) (ty : Nat → FieldType) (hty : ∀ k, k < N → parseFieldDescriptor (T k).2.2.1 = some (ty k)) (hown : s.vm.findClass own = some m.cls) (hcl : (Cond.classLink own index C).before args s = true) (hinst : (Cond.instantiable C N).before args s = true) (hini : (Cond.initialized C).before args s = true)
    (hK : va_K D cl tys s) (hM : mm_P D cl A M H) (hS : va_S A H0 H locs) (hA : ∀ q, H0.size ≤ q → A q) (hc : cl[ci]? = some (C, T, N)) {fs : List Value} (hfs : ∀ j, j < N → defaultValue (ty j) = vp_V fs j) (hcells : cells + 1 ≤ R.cells) (hslots : slots + N ≤ R.slots) (hdg : decode cc pc = .ok (.new index, 3))
    (kk : ∀ (q : Nat) (H1 : Heap), M q = none → mm_P D cl A (mm_U M q (.inr (ci, fs))) H1 → va_S A H0 H1 locs → mm_Fr q H1 →
      W p l e R s m args below meth c0 H1 locs (cells + 1) (slots + N) Q (F0 m (pc + 3) ls (.ref q :: rest))) : W p l e R s m args below meth c0 H locs cells slots Q (F0 m pc ls rest) := by
  obtain ⟨ws, hP, hD, hI⟩ := hM
  have hKn := hK.1 ci _ hc
  refine W.newcK hexec hb hown hcl hinst hini rfl hdg hcells hslots hKn.2.1 rfl fun H1 kC hkC e1 z1 o1 => ?_
  have hk : ∀ (k : Nat) (x : Nat × va_E), ws[k]? = some x → H1[x.1]? = H[x.1]? := fun k x hx => o1 x.1 ((hP k x hx).lt)
  have d1 : va_D A (ws ++ [(H.size, .inr (ci, fs))]) := hD.push hP rfl (hA _ hS.1)
  refine kk H.size H1 (mm_idx_push d1 hI).1 ⟨_, (hP.kept hk).app (fun k x hx => ?_), d1, (mm_idx_push d1 hI).2⟩ ⟨Nat.le_trans hS.1 (by omega), fun x h1 h2 => (o1 x (Nat.lt_of_lt_of_le h1 hS.1)).trans (hS.2.1 x h1 h2), hS.2.2⟩ ⟨_, e1, rfl, rfl⟩
  have hz : k < 1 := (List.getElem?_eq_some_iff.mp hx).1
  rw [show k = 0 by omega] at hx
  cases hx
  exact ⟨_, hc, (u_born ty hts hin hKn hkC e1 hty).to hfs⟩
theorem mm_putX (hexec : p.tables.exec = Jvm.exec) (hb : c.code = cc) {own ref C : String} {T : u_T} {N ci index : Nat} {Ts : List Cond} (hts : ∀ w ∈ Ts, w.before args s = true) (hin : ∀ w ∈ u_ws C T N, w ∈ Ts) (ty0 : Nat → FieldType) (hty : ∀ k, k < N → parseFieldDescriptor (T k).2.2.1 = some (ty0 k)) (hnm : ∀ a, a < N → ∀ b, b < N → a ≠ b → (T a).2.1 ≠ (T b).2.1) (hown : s.vm.findClass own = some m.cls) (hK : va_K D cl tys s) (hM : mm_P D cl A M H) (hS0 : va_S A H0 H locs) (hFr : mm_Fr a H) {fs : List Value} (he : M a = some (.inr (ci, fs))) (hc : cl[ci]? = some (C, T, N)) (k : Nat) (hk : k < N) (hlink : (Cond.fieldLink own index ref (T k).2.1 (T k).2.2.1).before args s = true) (hsame : ∀ x, s.fieldFound? (T k).1 (T k).2.1 (T k).2.2.1 = some x → s.fieldFound? ref (T k).2.1 (T k).2.2.1 = some x) (hfin : (T k).2.2.2 = false) {ty : FieldType} {v : Value} (hd : parseFieldDescriptor (T k).2.2.1 = some ty) (hn : narrow ty v = v) (hfit : fits ty v = true) (hl : k < fs.length)
    (hdg : decode cc pc = .ok (.putfield index, 3)) (kk : ∀ (H1 : Heap) (locs1 : List Loc), mm_P D cl A (mm_U M a (.inr (ci, fs.set k v))) H1 → va_S A H0 H1 locs1 → mm_Fr a H1 → W p l e R s m args below meth c H1 locs1 cells slots Q (F0 m (pc + 3) ls rest)) : W p l e R s m args below meth c H locs cells slots Q (F0 m pc ls (v :: .ref a :: rest)) := by
  obtain ⟨ws, hP, hD, hI⟩ := hM
  obtain ⟨q0, h0⟩ := (hI _ _).1 he
  have hap := va_apart (own := own) hts hin ty0 hty hnm hK hc
  obtain ⟨r, h1, cell, q1, q2, q3, q4⟩ := hP q0 _ h0
  have hr : r = (C, T, N) := Option.some.inj (h1.symm.trans hc)
  subst hr
  obtain ⟨cell', f1, f2, f3⟩ := hFr
  cases Option.some.inj (q1.symm.trans f1)
  obtain ⟨hS, hfc, kC, hkC, hkind⟩ := hK.1 ci _ hc
  obtain ⟨cf, kf, fi, f, hi, hsl⟩ := hS k hk
  have hlay := hts _ (hin _ (u_in_lay hk))
  unfold u_lay at hlay
  rw [if_neg (by rw [hfin]; decide)] at hlay
  have hst := (u_facts hfc hkC (u_lays hts hin hk) hi).1
  have h6 := u_store hfc hkC hkind hlay hi hd hn hfit
  refine W.putK hexec hb (f := f) ⟨hown, hlink, ⟨_, _, _, hsame _ hi⟩, hst⟩ (by rw [q2]; exact h6) q1 q3 (by rw [hsl]; exact k2_hasslot (q4 k hk)) rfl rfl hdg fun H' e1 e2 e3 => ?_
  have e0 := e1
  rw [hsl] at e1 ⊢
  exact kk H' _ ⟨_, hP.set hD h0 (e := .inr (ci, fs.set k v)) ⟨_, hc, t_OB.to (V := updV (vp_V fs) k v) ⟨_, e1, q2, q3, t_set q4 hap hk v⟩ (fun j _ => vp_updV_set hl v j)⟩ e3, hD.set h0, mm_idx_set hD h0 hI _⟩ (hS0.put e2 e3 (hD.2 q0 _ h0)) ⟨_, e0, f2, f3⟩
end MF1
/-- a contract of a method that is handed a thing at a whose monitor is free -/
def mm_CK (l : Launch) (Z : mm_G) (y : MethodName) (ws : List Cond) (rm : Room) (a : Nat) (av : List Value) (M : mm_M) (Post : Option Value → mm_M → Prop) (PX : String → Nat → mm_M → Prop) : Prop :=
  ∀ sz : Nat, vx_Met l y ws rm (va_Pc av (fun U => mm_Pre Z M sz U ∧ mm_Fr a U.heap)) (mm_Q Z (mm_A M sz) Post) (mm_X Z (mm_A M sz) PX) rm.cells rm.slots (mm_A M sz)
theorem mm_blindK {Z : mm_G} {M : mm_M} {sz a : Nat} {av : List Value} : FrameBlind (va_Pc av (fun U => mm_Pre Z M sz U ∧ mm_Fr a U.heap)) := by
  intro a U g mk h
  obtain ⟨h1, ⟨h2, h3, h4, h5⟩, h6⟩ := h
  have hW : U.WarmedH (U.calling g mk a).vm := State.WarmedH.refl U
  exact ⟨h1, ⟨h2, h3, mm_E.warm hW h4, mm_S.moved hW.alike h5⟩, h6⟩
section MF2
variable {p : Program} {l : Launch} {e : Env} {R : Room} {s : State} {m : MethodId} {args : Array Value} {below : List Frame} {meth : Method} {c : Code} {H : Heap} {locs : List Loc} {cells slots : Nat} {Q : State → Prop}
variable {cc bytes : ByteArray} {pc : Nat} {ls : Array Slot} {rest : List Value} {A : Nat → Prop} {Z : mm_G} {M : mm_M} {y : MethodName} {ws : List Cond} {rm : Room} {Post : Option Value → mm_M → Prop} {PX : String → Nat → mm_M → Prop} {X : String → Addr → State → State → Prop}
variable {maxL nL n index : Nat} {ret : Option FieldType} {own C host : String} {As : List Value} {b fa : Nat}
theorem mm_ofWK {av : List Value} {cc : ByteArray} {maxL : Nat} {ret : Option FieldType} (hy : plainName y.cls = true) (hw : ws = Cond.code y cc maxL ret :: lw_all) (hn : (lg_sl av).length ≤ maxL)
    (body : ∀ (p : Program) (e : Env) (s : State) (m : MethodId) (below : List Frame) (meth : Method) (c : Code) (A : Nat → Prop) (ls : Array Slot), p.tables.exec = Jvm.exec → c.code = cc → meth.sig.returnType = ret → meth.locks = false → c.maxLocals = maxL → s.vm.findClass y.cls = some m.cls → meth.name = y.name →
      (∀ w ∈ lw_all, w.before av.toArray s = true) → (∀ x ∈ c.exceptionTable.toList, False) → mm_E Z s → mm_S Z A s s.heap → (∀ q : Nat, s.heap.size ≤ q → A q) → mm_P Z.1 mm_cl A M s.heap → va_S A s.heap s.heap [] → lv_has ls maxL (lv_args 0 av) → mm_Fr fa s.heap →
      W p l e rm s m av.toArray below meth c s.heap [] 0 0 (vx_MQ below (mm_Q Z A Post) (mm_X Z A PX) av.toArray s rm.cells rm.slots A) (F0 m 0 ls [])) : mm_CK l Z y ws rm fa av M Post PX := by
  intro sz
  refine vx_ofW (cc := cc) (maxL := maxL) (ret := ret) hy hw ?_
  intro p e s m args below meth c s₁ B hml ht hv
  obtain ⟨rfl, ⟨rfl, hM, hE, hST⟩, hFr⟩ := hv
  have hts := atoms_spec (ws := ws) B.pre
  have hl := lv_entry av (n := maxL) hn
  rw [lg_entry_eq]
  exact body p e s m below meth c (mm_A M s.heap.size) _ B.exec B.bytes B.returns B.notSynchronized hml (findClass_of_methodNamed B.named) ((name_of_methodNamed B.named B.method).1) (fun w h => hts w (by rw [hw]; exact List.mem_cons_of_mem _ h)) ht hE hST (fun q h => Or.inr h) hM va_S.rf hl hFr
theorem mm_callIK (hex : p.tables.exec = Jvm.exec ∧ c.code = cc ∧ c.maxLocals = nL ∧ s.vm.findClass own = some m.cls ∧ ∀ w ∈ lw_all, w.before args s = true) (hE : mm_E Z s) (hST : mm_S Z A s s.heap) (hA : ∀ q : Nat, s.heap.size ≤ q → A q)
    (hFr : mm_Fr fa H) (hC : mm_CK l Z y ws rm fa (.ref b :: As) M Post PX) (cw : CallB R s args own index y bytes maxL none ws rm rm.cells rm.slots n ∧ y.name = "<init>" ∧ (Cond.instanceMethod y).before args s = true) (hM : mm_P Z.1 mm_cl A M H) (hS : va_S A s.heap H locs) (hn : As.length = n) (hsize : ls.size = nL) (hW : (rest.map fun v => v.category).sum ≤ 8) (hdg : decode cc pc = .ok (.invokespecial index, 3)) {st0 : List Value} (hst : st0 = As.reverse ++ .ref b :: rest) (hf : cells + rm.cells ≤ R.cells ∧ slots + rm.slots ≤ R.slots)
    (kx : ∀ (E : String) (ce : Cell) (q : Nat) (M' : mm_M) (H1 : Heap) (locs1 : List Loc), PX E q M' → mm_P Z.1 mm_cl A M' H1 → va_S A s.heap H1 locs1 → H1[q]? = some ce → ce.vm = .none → s.vm.findClass E = some ce.cls → vx_W p l e R s m args below meth c H1 locs1 (cells + rm.cells) (slots + rm.slots) Q (F0 m pc ls rest) q)
    (kk : ∀ (v : Option Value) (M' : mm_M) (H1 : Heap) (locs1 : List Loc), Post v M' → mm_P Z.1 mm_cl A M' H1 → va_S A s.heap H1 locs1 → W p l e R s m args below meth c H1 locs1 (cells + rm.cells) (slots + rm.slots) Q (F0 m (pc + 3) ls (v.toList ++ rest))) : W p l e R s m args below meth c H locs cells slots Q (F0 m pc ls st0) :=
  mm_go (vx_runI (As := As) (rest := rest) hex (hC H.size) cw ⟨mm_blindK, fun U hU hW => ⟨rfl, (mm_pre (As := .ref b :: As) hE hST hA hM hS hU hW).2, by rw [hU]; exact hFr⟩⟩ rfl hn hsize hst (lv_room (pc := pc) (ls := ls) (rest := rest) (m := m) hW) hdg hf) hA hM hS kx kk
theorem mm_callINK (hex : p.tables.exec = Jvm.exec ∧ c.code = cc ∧ c.maxLocals = nL ∧ s.vm.findClass own = some m.cls ∧ ∀ w ∈ lw_all, w.before args s = true) (hE : mm_E Z s) (hST : mm_S Z A s s.heap) (hA : ∀ q : Nat, s.heap.size ≤ q → A q)
    (hFr : mm_Fr fa H) (hC : mm_CK l Z y ws rm fa (.ref b :: As) M Post PX) (cw : va_CN R s args own index y host bytes maxL none ws rm rm.cells rm.slots n ∧ y.name = "<init>" ∧ (Cond.instanceMethod y).before args s = true) (hM : mm_P Z.1 mm_cl A M H) (hS : va_S A s.heap H locs) (hn : As.length = n) (hsize : ls.size = nL) (hW : (rest.map fun v => v.category).sum ≤ 8) (hdg : decode cc pc = .ok (.invokespecial index, 3)) {st0 : List Value} (hst : st0 = As.reverse ++ .ref b :: rest) (hf : cells + rm.cells ≤ R.cells ∧ slots + rm.slots ≤ R.slots)
    (kx : ∀ (E : String) (ce : Cell) (q : Nat) (M' : mm_M) (H1 : Heap) (locs1 : List Loc), PX E q M' → mm_P Z.1 mm_cl A M' H1 → va_S A s.heap H1 locs1 → H1[q]? = some ce → ce.vm = .none → s.vm.findClass E = some ce.cls → vx_W p l e R s m args below meth c H1 locs1 (cells + rm.cells) (slots + rm.slots) Q (F0 m pc ls rest) q)
    (kk : ∀ (v : Option Value) (M' : mm_M) (H1 : Heap) (locs1 : List Loc), Post v M' → mm_P Z.1 mm_cl A M' H1 → va_S A s.heap H1 locs1 → W p l e R s m args below meth c H1 locs1 (cells + rm.cells) (slots + rm.slots) Q (F0 m (pc + 3) ls (v.toList ++ rest))) : W p l e R s m args below meth c H locs cells slots Q (F0 m pc ls st0) :=
  mm_go (vx_runIN (As := As) (rest := rest) hex (hC H.size) cw ⟨mm_blindK, fun U hU hW => ⟨rfl, (mm_pre (As := .ref b :: As) hE hST hA hM hS hU hW).2, by rw [hU]; exact hFr⟩⟩ rfl hn hsize hst (lv_room (pc := pc) (ls := ls) (rest := rest) (m := m) hW) hdg hf) hA hM hS kx kk
end MF2
