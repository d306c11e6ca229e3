/-! ===== contracts that say what was really made: n cells, k slots ===== -/
set_option maxRecDepth 100000
/-- the slots of all cells -/
def mm_tot (H : Heap) : Nat := H.foldl (fun n c => n + c.slots.size) 0
def mm_QD (Z : mm_G) (A : Nat → Prop) (Post : Option Value → mm_M → Nat → Nat → Prop) : Array Value → State → Outcome → State → Prop := fun _ st o t => (∃ (v : Option Value) (M' : mm_M) (n k : Nat), o = .returned v ∧ Post v M' n k ∧ mm_P Z.1 mm_cl A M' t.heap ∧ t.heap.size ≤ st.heap.size + n ∧ mm_tot t.heap ≤ mm_tot st.heap + k) ∧ va_F A st t
/-- as mm_C; Post is also told how many cells and slots were made at most -/
def mm_D (l : Launch) (Z : mm_G) (y : MethodName) (ws : List Cond) (rm : Room) (av : List Value) (M : mm_M) (Post : Option Value → mm_M → Nat → Nat → Prop) (PX : String → Nat → mm_M → Prop) : Prop :=
  ∀ sz : Nat, vx_Met l y ws rm (va_Pc av (mm_Pre Z M sz)) (mm_QD Z (mm_A M sz) Post) (mm_X Z (mm_A M sz) PX) rm.cells rm.slots (mm_A M sz)
section MD70
variable {p : Program} {l : Launch} {e : Env} {R : Room} {s : State} {m : MethodId} {args : Array Value} {below : List Frame} {meth : Method} {c : Code} {H : Heap} {locs : List Loc} {cells slots : Nat} {Q : State → Prop}
variable {cc bytes : ByteArray} {pc : Nat} {ls : Array Slot} {rest : List Value} {A : Nat → Prop} {Z : mm_G} {M : mm_M} {y : MethodName} {ws : List Cond} {rm : Room} {Post : Option Value → mm_M → Nat → Nat → Prop} {PX : String → Nat → mm_M → Prop} {X : String → Addr → State → State → Prop}
variable {maxL nL n index : Nat} {ret : Option FieldType} {own C host : String} {As : List Value} {b : Nat} {hh : List (Nat × Nat × Nat × Nat)}
/-- how large the heap is -/
theorem mm_size {g : JFrame} (k : H.size ≤ s.heap.size + cells → mm_tot H ≤ mm_tot s.heap + slots → W p l e R s m args below meth c H locs cells slots Q g) : W p l e R s m args below meth c H locs cells slots Q g := by
  intro T hT X
  have h1 := X.heapSize
  have h2 := X.used
  have h3 := X.book
  have h4 : s.slotsTrue = true := by
    have h := X.room
    simp only [State.hasRoom, Bool.and_eq_true] at h
    exact h.2
  simp only [State.slotsTrue, beq_iff_eq] at h3 h4
  rw [h3, h4, hT] at h2
  rw [hT] at h1
  exact k h1 h2 T hT X
/-- the count is narrowed to what was really made -/
theorem mm_narrow {g : JFrame} {c2 s2 : Nat} (h1 : H.size ≤ s.heap.size + c2) (h2 : mm_tot H ≤ mm_tot s.heap + s2) (k : W p l e R s m args below meth c H locs c2 s2 Q g) : W p l e R s m args below meth c H locs cells slots Q g := by
  intro T hT X
  refine k T hT { X with same := ?_ }
  have h3 := X.book
  have h4 : s.slotsTrue = true := by
    have h := X.room
    simp only [State.hasRoom, Bool.and_eq_true] at h
    exact h.2
  simp only [State.slotsTrue, beq_iff_eq] at h3 h4
  obtain ⟨a1, a2, a3, a4, a5, a6⟩ := X.same
  refine ⟨a1, a2, by show T.heap.size ≤ _; rw [hT]; exact h1, a4, ?_, a6⟩
  have h5 : T.slotsUsed = s.slotsUsed + _ := a4
  have h6 : mm_tot T.heap ≤ mm_tot s.heap + s2 := by rw [hT]; exact h2
  have h7 : T.slotsUsed = mm_tot T.heap := h3
  have h8 : s.slotsUsed = mm_tot s.heap := h4
  omega
theorem mm_goD {mc ms : Nat} {a : Array Value} {st0 : List Value} (hr : vx_Run p l e R s m args below meth c H locs cells slots mc ms (F0 m pc ls st0) rest (mm_QD Z (mm_A M H.size) Post a) (mm_X Z (mm_A M H.size) PX) (mm_A M H.size)) (hA : ∀ q : Nat, s.heap.size ≤ q → A q) (hM : mm_P Z.1 mm_cl A M H) (hS : va_S A s.heap H locs)
    (kx : ∀ (E : String) (ce : Cell) (q : Nat) (M' : mm_M) (H1 : Heap) (locs1 : List Loc), PX E q M' → mm_P Z.1 mm_cl A M' H1 → va_S A s.heap H1 locs1 → H1[q]? = some ce → ce.vm = .none → s.vm.findClass E = some ce.cls → vx_W p l e R s m args below meth c H1 locs1 (cells + mc) (slots + ms) Q (F0 m pc ls rest) q)
    (kk : ∀ (v : Option Value) (M' : mm_M) (n9 k9 : Nat) (H1 : Heap) (locs1 : List Loc), Post v M' n9 k9 → mm_P Z.1 mm_cl A M' H1 → va_S A s.heap H1 locs1 → W p l e R s m args below meth c H1 locs1 (cells + n9) (slots + k9) Q (F0 m (pc + 3) ls (v.toList ++ rest))) : W p l e R s m args below meth c H locs cells slots Q (F0 m pc ls st0) := by
  refine mm_size (fun hz1 hz2 => ?_)
  intro T hT X
  have hsub : ∀ q, mm_A M H.size q → A q := fun q hq => by
    rcases hq with ⟨e, he⟩ | hq
    · exact hM.inA he
    · exact hA q (Nat.le_trans hS.1 hq)
  rcases hr T hT X with ⟨v0, st₀, t, T', L, h0, X', hL, e1, e2, ⟨⟨v, M', n9, k9, hv, hp, hm, hn9, hk9⟩, hF⟩, st⟩ | ⟨q, st₀, t, T', L, E, ce, h0, X', hL, e1, e2, ⟨⟨M', hp, hm⟩, hF⟩, hce, hcv, hcl, st⟩
  · cases hv
    obtain ⟨k1, k2, k3⟩ := vx_keep h0 e1 hS (fun q _ h => hsub q h) hsub hL hF
    rw [h0] at hn9 hk9
    obtain ⟨t2, a1, b1⟩ := mm_narrow (cells := cells + mc) (slots := slots + ms) (by rw [e1]; omega) (by rw [e1]; omega) (kk v0 M' n9 k9 T'.heap (locs ++ L) hp (by rw [e1]; exact hm.weaken (fun q _ h => hsub q h)) k3) T' rfl X'
    exact ⟨t2, st t2 a1, b1⟩
  · obtain ⟨k1, k2, k3⟩ := vx_keep h0 e1 hS (fun q _ h => hsub q h) hsub hL hF
    obtain ⟨t2, a1, b1⟩ := kx E ce q M' T'.heap (locs ++ L) hp (by rw [e1]; exact hm.weaken (fun q _ h => hsub q h)) k3 (by rw [e1]; exact hce) hcv hcl T' rfl X'
    exact ⟨t2, st.trans a1, b1⟩
theorem mm_go5D {mc ms : Nat} {a : Array Value} {st0 : List Value} (hr : vx_Run5 p l e R s m args below meth c H locs cells slots mc ms (F0 m pc ls st0) rest (mm_QD Z (mm_A M H.size) Post a) (mm_X Z (mm_A M H.size) PX) (mm_A M H.size)) (hA : ∀ q : Nat, s.heap.size ≤ q → A q) (hM : mm_P Z.1 mm_cl A M H) (hS : va_S A s.heap H locs)
    (kx : ∀ (E : String) (ce : Cell) (q : Nat) (M' : mm_M) (H1 : Heap) (locs1 : List Loc), PX E q M' → mm_P Z.1 mm_cl A M' H1 → va_S A s.heap H1 locs1 → H1[q]? = some ce → ce.vm = .none → s.vm.findClass E = some ce.cls → vx_W p l e R s m args below meth c H1 locs1 (cells + mc) (slots + ms) Q (F0 m pc ls rest) q)
    (kk : ∀ (v : Option Value) (M' : mm_M) (n9 k9 : Nat) (H1 : Heap) (locs1 : List Loc), Post v M' n9 k9 → mm_P Z.1 mm_cl A M' H1 → va_S A s.heap H1 locs1 → W p l e R s m args below meth c H1 locs1 (cells + n9) (slots + k9) Q (F0 m (pc + 5) ls (v.toList ++ rest))) : W p l e R s m args below meth c H locs cells slots Q (F0 m pc ls st0) := by
  refine mm_size (fun hz1 hz2 => ?_)
  intro T hT X
  have hsub : ∀ q, mm_A M H.size q → A q := fun q hq => by
    rcases hq with ⟨e, he⟩ | hq
    · exact hM.inA he
    · exact hA q (Nat.le_trans hS.1 hq)
  rcases hr T hT X with ⟨v0, st₀, t, T', L, h0, X', hL, e1, e2, ⟨⟨v, M', n9, k9, hv, hp, hm, hn9, hk9⟩, hF⟩, st⟩ | ⟨q, st₀, t, T', L, E, ce, h0, X', hL, e1, e2, ⟨⟨M', hp, hm⟩, hF⟩, hce, hcv, hcl, st⟩
  · cases hv
    obtain ⟨k1, k2, k3⟩ := vx_keep h0 e1 hS (fun q _ h => hsub q h) hsub hL hF
    rw [h0] at hn9 hk9
    obtain ⟨t2, a1, b1⟩ := mm_narrow (cells := cells + mc) (slots := slots + ms) (by rw [e1]; omega) (by rw [e1]; omega) (kk v0 M' n9 k9 T'.heap (locs ++ L) hp (by rw [e1]; exact hm.weaken (fun q _ h => hsub q h)) k3) T' rfl X'
    exact ⟨t2, st t2 a1, b1⟩
  · obtain ⟨k1, k2, k3⟩ := vx_keep h0 e1 hS (fun q _ h => hsub q h) hsub hL hF
    obtain ⟨t2, a1, b1⟩ := kx E ce q M' T'.heap (locs ++ L) hp (by rw [e1]; exact hm.weaken (fun q _ h => hsub q h)) k3 (by rw [e1]; exact hce) hcv hcl T' rfl X'
    exact ⟨t2, st.trans a1, b1⟩
theorem mm_ofWD {av : List Value} {cc : ByteArray} {maxL : Nat} {ret : Option FieldType} (hy : plainName y.cls = true) (hw : ws = Cond.code y cc maxL ret :: lw_all) (hn : (lg_sl av).length ≤ maxL)
    (body : ∀ (p : Program) (e : Env) (s : State) (m : MethodId) (below : List Frame) (meth : Method) (c : Code) (A : Nat → Prop) (ls : Array Slot), p.tables.exec = Jvm.exec → c.code = cc → meth.sig.returnType = ret → meth.locks = false → c.maxLocals = maxL → s.vm.findClass y.cls = some m.cls → meth.name = y.name →
      (∀ w ∈ lw_all, w.before av.toArray s = true) → (∀ x ∈ c.exceptionTable.toList, False) → mm_E Z s → mm_S Z A s s.heap → (∀ q : Nat, s.heap.size ≤ q → A q) → mm_P Z.1 mm_cl A M s.heap → va_S A s.heap s.heap [] → lv_has ls maxL (lv_args 0 av) →
      W p l e rm s m av.toArray below meth c s.heap [] 0 0 (vx_MQ below (mm_QD Z A Post) (mm_X Z A PX) av.toArray s rm.cells rm.slots A) (F0 m 0 ls [])) : mm_D l Z y ws rm av M Post PX := by
  intro sz
  refine vx_ofW (cc := cc) (maxL := maxL) (ret := ret) hy hw ?_
  intro p e s m args below meth c s₁ B hml ht hv
  obtain ⟨rfl, rfl, hM, hE, hST⟩ := hv
  have hts := atoms_spec (ws := ws) B.pre
  have hl := lv_entry av (n := maxL) hn
  rw [lg_entry_eq]
  exact body p e s m below meth c (mm_A M s.heap.size) _ B.exec B.bytes B.returns B.notSynchronized hml (findClass_of_methodNamed B.named) ((name_of_methodNamed B.named B.method).1) (fun w h => hts w (by rw [hw]; exact List.mem_cons_of_mem _ h)) ht hE hST (fun q h => Or.inr h) hM va_S.rf hl
theorem mm_ofWHD {av : List Value} {cc : ByteArray} {maxL : Nat} {ret : Option FieldType} (hy : plainName y.cls = true) (hw : ws = Cond.codeWith y cc maxL ret hh :: lw_all) (hn : (lg_sl av).length ≤ maxL)
    (body : ∀ (p : Program) (e : Env) (s : State) (m : MethodId) (below : List Frame) (meth : Method) (c : Code) (A : Nat → Prop) (ls : Array Slot), p.tables.exec = Jvm.exec → c.code = cc → meth.sig.returnType = ret → meth.locks = false → c.maxLocals = maxL → s.vm.findClass y.cls = some m.cls → meth.name = y.name →
      (∀ w ∈ lw_all, w.before av.toArray s = true) → c.exceptionTable.toList = tableOf hh → mm_E Z s → mm_S Z A s s.heap → (∀ q : Nat, s.heap.size ≤ q → A q) → mm_P Z.1 mm_cl A M s.heap → va_S A s.heap s.heap [] → lv_has ls maxL (lv_args 0 av) →
      W p l e rm s m av.toArray below meth c s.heap [] 0 0 (vx_MQ below (mm_QD Z A Post) (mm_X Z A PX) av.toArray s rm.cells rm.slots A) (F0 m 0 ls [])) : mm_D l Z y ws rm av M Post PX := by
  intro sz
  refine vx_ofWH (cc := cc) (maxL := maxL) (ret := ret) (hh := hh) hy hw ?_
  intro p e s m args below meth c s₁ B hml hv
  obtain ⟨rfl, rfl, hM, hE, hST⟩ := hv
  have hts := atoms_spec (ws := ws) B.pre
  have ht := vx_table (x := y) B (hts _ (by rw [hw]; exact List.mem_cons_self))
  have hl := lv_entry av (n := maxL) hn
  rw [lg_entry_eq]
  exact body p e s m below meth c (mm_A M s.heap.size) _ B.exec B.bytes B.returns B.notSynchronized hml (findClass_of_methodNamed B.named) ((name_of_methodNamed B.named B.method).1) (fun w h => hts w (by rw [hw]; exact List.mem_cons_of_mem _ h)) ht hE hST (fun q h => Or.inr h) hM va_S.rf hl
theorem mm_retiD {v : Int32} {mc ms : Nat} (hexec : p.tables.exec = Jvm.exec) (hb : c.code = cc) (hr : meth.sig.returnType = some .int) (hlocks : meth.locks = false) (hM : mm_P Z.1 mm_cl A M H) (hS : va_S A s.heap H locs) (hp : Post (some (.int v)) M cells slots) (hdg : decode cc pc = .ok (.ireturn, 1)) (hc : cells ≤ mc) (hs : slots ≤ ms) :
    W p l e R s m args below meth c H locs cells slots (vx_MQ below (mm_QD Z A Post) X args s mc ms A) (F0 m pc ls [.int v]) :=
  mm_size (fun hz1 hz2 => vx_ret (W.widen hc hs (W.iret hexec hb hr (fun t ht hW => ⟨⟨_, _, _, _, rfl, hp, by rw [ht]; exact hM, by rw [ht]; exact hz1, by rw [ht]; exact hz2⟩, hS.F ht⟩) hS.2.2 hdg)))
theorem mm_retzD {v : Int32} {ty : FieldType} {mc ms : Nat} (hexec : p.tables.exec = Jvm.exec) (hb : c.code = cc) (hr : meth.sig.returnType = some ty) (hn : narrow ty (.int v) = .int v) (hlocks : meth.locks = false) (hM : mm_P Z.1 mm_cl A M H) (hS : va_S A s.heap H locs) (hp : Post (some (.int v)) M cells slots) (hdg : decode cc pc = .ok (.ireturn, 1)) (hc : cells ≤ mc) (hs : slots ≤ ms) :
    W p l e R s m args below meth c H locs cells slots (vx_MQ below (mm_QD Z A Post) X args s mc ms A) (F0 m pc ls [.int v]) :=
  mm_size (fun hz1 hz2 => vx_ret (W.widen hc hs (W.zret hexec hb hr hn (fun t ht hW => ⟨⟨_, _, _, _, rfl, hp, by rw [ht]; exact hM, by rw [ht]; exact hz1, by rw [ht]; exact hz2⟩, hS.F ht⟩) hS.2.2 hdg)))
theorem mm_retvD {mc ms : Nat} (hexec : p.tables.exec = Jvm.exec) (hb : c.code = cc) (hr : meth.sig.returnType = none) (hlocks : meth.locks = false) (hM : mm_P Z.1 mm_cl A M H) (hS : va_S A s.heap H locs) (hp : Post none M cells slots) (hdg : decode cc pc = .ok (.return_, 1)) (hc : cells ≤ mc) (hs : slots ≤ ms) :
    W p l e R s m args below meth c H locs cells slots (vx_MQ below (mm_QD Z A Post) X args s mc ms A) (F0 m pc ls []) :=
  mm_size (fun hz1 hz2 => vx_ret (W.widen hc hs (W.vret hexec hb hr (fun t ht hW => ⟨⟨_, _, _, _, rfl, hp, by rw [ht]; exact hM, by rw [ht]; exact hz1, by rw [ht]; exact hz2⟩, hS.F ht⟩) hS.2.2 hdg)))
theorem mm_retaD {v : Value} {rt : FieldType} {mc ms : Nat} (hexec : p.tables.exec = Jvm.exec) (hb : c.code = cc) (hr : meth.sig.returnType = some rt) (hrt : (∃ n, rt = .object n) ∨ ∃ t, rt = .array t) (hv : v = .null ∨ ∃ a, v = .ref a) (hlocks : meth.locks = false) (hM : mm_P Z.1 mm_cl A M H) (hS : va_S A s.heap H locs) (hp : Post (some v) M cells slots) (hdg : decode cc pc = .ok (.areturn, 1)) (hc : cells ≤ mc) (hs : slots ≤ ms) :
    W p l e R s m args below meth c H locs cells slots (vx_MQ below (mm_QD Z A Post) X args s mc ms A) (F0 m pc ls [v]) :=
  mm_size (fun hz1 hz2 => vx_ret (W.widen hc hs (W.aret hexec hb hr hrt hv (fun t ht hW => ⟨⟨_, _, _, _, rfl, hp, by rw [ht]; exact hM, by rw [ht]; exact hz1, by rw [ht]; exact hz2⟩, hS.F ht⟩) hS.2.2 hdg)))
theorem mm_retlD {v : Int64} {mc ms : Nat} (hexec : p.tables.exec = Jvm.exec) (hb : c.code = cc) (hr : meth.sig.returnType = some .long) (hlocks : meth.locks = false) (hM : mm_P Z.1 mm_cl A M H) (hS : va_S A s.heap H locs) (hp : Post (some (.long v)) M cells slots) (hdg : decode cc pc = .ok (.lreturn, 1)) (hc : cells ≤ mc) (hs : slots ≤ ms) :
    W p l e R s m args below meth c H locs cells slots (vx_MQ below (mm_QD Z A Post) X args s mc ms A) (F0 m pc ls [.long v]) :=
  mm_size (fun hz1 hz2 => vx_ret (W.widen hc hs (W.lret hexec hb hr (fun t ht hW => ⟨⟨_, _, _, _, rfl, hp, by rw [ht]; exact hM, by rw [ht]; exact hz1, by rw [ht]; exact hz2⟩, hS.F ht⟩) hS.2.2 hdg)))
theorem mm_outHD {mc ms q : Nat} {E : String} {ce : Cell} (hown : s.vm.findClass own = some m.cls) (htab : c.exceptionTable.toList = tableOf hh) (hpass : ∀ z ∈ tableOf hh, covers z pc = false ∨ (z.catchType ≠ 0 ∧ ∃ nm : String, (Cond.classLink own z.catchType nm).before args s = true ∧ va_Nc E nm s)) (hlocks : meth.locks = false) (hM : mm_P Z.1 mm_cl A M H) (hS : va_S A s.heap H locs) (hce : H[q]? = some ce) (hcv : ce.vm = .none) (hcl : s.vm.findClass E = some ce.cls) (hp : PX E q M) (h1 : cells ≤ mc) (h2 : slots ≤ ms) :
    vx_W p l e R s m args below meth c H locs cells slots (vx_MQ below (mm_QD Z A Post) (mm_X Z A PX) args s mc ms A) (F0 m pc ls rest) q :=
  vx_outP hown hlocks (fun z hz => hpass z (htab ▸ hz)) hce hcv hcl (fun t ht _ => ⟨⟨M, hp, by rw [ht]; exact hM⟩, hS.F ht⟩) hS.2.2 h1 h2
theorem mm_athrowHD {mc ms q ci N : Nat} {C : String} {T0 : u_T} {fs : List Value} (hexec : p.tables.exec = Jvm.exec) (hb : c.code = cc) (htab : c.exceptionTable.toList = tableOf hh) (hout : ∀ z ∈ tableOf hh, covers z pc = false) (hown : s.vm.findClass own = some m.cls) (hlocks : meth.locks = false) (hE : mm_E Z s) (hM : mm_P Z.1 mm_cl A M H) (hS : va_S A s.heap H locs) (he : M q = some (.inr (ci, fs))) (hc : mm_cl[ci]? = some (C, T0, N)) (hp : PX C q M) (hdg : decode cc pc = .ok (.athrow, 1)) (h1 : cells ≤ mc) (h2 : slots ≤ ms) :
    W p l e R s m args below meth c H locs cells slots (vx_MQ below (mm_QD Z A Post) (mm_X Z A PX) args s mc ms A) (F0 m pc ls (.ref q :: rest)) := by
  obtain ⟨r, g1, cell, q1, q2, q3, q4⟩ := hM.at he 0 _ rfl
  cases Option.some.inj (g1.symm.trans hc)
  refine vx_athrow hexec hb hdg (mm_outHD (own := own) hown htab (fun z hz => Or.inl (hout z hz)) hlocks hM hS q1 q3 ?_ hp h1 h2)
  rw [q2]
  exact (hE.1.1 ci _ hc).2.1
theorem mm_outxD {mc ms q : Nat} {E : String} {ce : Cell} (hout : ∀ x ∈ c.exceptionTable.toList, False) (hlocks : meth.locks = false) (hM : mm_P Z.1 mm_cl A M H) (hS : va_S A s.heap H locs) (hce : H[q]? = some ce) (hcv : ce.vm = .none) (hcl : s.vm.findClass E = some ce.cls) (hp : PX E q M) (h1 : cells ≤ mc) (h2 : slots ≤ ms) :
    vx_W p l e R s m args below meth c H locs cells slots (vx_MQ below (mm_QD Z A Post) (mm_X Z A PX) args s mc ms A) (F0 m pc ls rest) q :=
  vx_out (fun x hx => (hout x hx).elim) hlocks hce hcv hcl (fun t ht _ => ⟨⟨M, hp, by rw [ht]; exact hM⟩, hS.F ht⟩) hS.2.2 h1 h2
/-- 'athrow' of a thing that the memory knows, in a method without handlers -/
theorem mm_athrowD {mc ms q ci N : Nat} {C : String} {T0 : u_T} {fs : List Value} (hexec : p.tables.exec = Jvm.exec) (hb : c.code = cc) (hout : ∀ x ∈ c.exceptionTable.toList, False) (hlocks : meth.locks = false) (hE : mm_E Z s) (hM : mm_P Z.1 mm_cl A M H) (hS : va_S A s.heap H locs) (he : M q = some (.inr (ci, fs))) (hc : mm_cl[ci]? = some (C, T0, N)) (hp : PX C q M) (hdg : decode cc pc = .ok (.athrow, 1)) (h1 : cells ≤ mc) (h2 : slots ≤ ms) :
    W p l e R s m args below meth c H locs cells slots (vx_MQ below (mm_QD Z A Post) (mm_X Z A PX) args s mc ms A) (F0 m pc ls (.ref q :: rest)) := by
  obtain ⟨r, g1, cell, q1, q2, q3, q4⟩ := hM.at he 0 _ rfl
  cases Option.some.inj (g1.symm.trans hc)
  refine vx_athrow hexec hb hdg (mm_outxD hout hlocks hM hS q1 q3 ?_ hp h1 h2)
  rw [q2]
  exact (hE.1.1 ci _ hc).2.1
theorem mm_callSD (hex : p.tables.exec = Jvm.exec ∧ c.code = cc ∧ c.maxLocals = nL ∧ s.vm.findClass own = some m.cls ∧ ∀ w ∈ lw_all, w.before args s = true) (hE : mm_E Z s) (hST : mm_S Z A s s.heap) (hA : ∀ q : Nat, s.heap.size ≤ q → A q)
    (hC : mm_D l Z y ws rm As M Post PX) (cw : CallB R s args own index y bytes maxL ret ws rm rm.cells rm.slots n ∧ (Cond.static y).before args s = true) (hM : mm_P Z.1 mm_cl A M H) (hS : va_S A s.heap H locs) (hn : As.length = n) (hsize : ls.size = nL) (hW : (rest.map fun v => v.category).sum ≤ 8) (hdg : decode cc pc = .ok (.invokestatic index, 3)) {st0 : List Value} (hst : st0 = As.reverse ++ rest) (hf : cells + rm.cells ≤ R.cells ∧ slots + rm.slots ≤ R.slots)
    (kx : ∀ (E : String) (ce : Cell) (q : Nat) (M' : mm_M) (H1 : Heap) (locs1 : List Loc), PX E q M' → mm_P Z.1 mm_cl A M' H1 → va_S A s.heap H1 locs1 → H1[q]? = some ce → ce.vm = .none → s.vm.findClass E = some ce.cls → vx_W p l e R s m args below meth c H1 locs1 (cells + rm.cells) (slots + rm.slots) Q (F0 m pc ls rest) q)
    (kk : ∀ (v : Option Value) (M' : mm_M) (n9 k9 : Nat) (H1 : Heap) (locs1 : List Loc), Post v M' n9 k9 → mm_P Z.1 mm_cl A M' H1 → va_S A s.heap H1 locs1 → W p l e R s m args below meth c H1 locs1 (cells + n9) (slots + k9) Q (F0 m (pc + 3) ls (v.toList ++ rest))) : W p l e R s m args below meth c H locs cells slots Q (F0 m pc ls st0) :=
  mm_goD (vx_runS (As := As) (rest := rest) hex (hC H.size) cw ⟨mm_blind, fun U hU hW => mm_pre hE hST hA hM hS hU hW⟩ rfl hn hsize hst (lv_room (pc := pc) (ls := ls) (rest := rest) (m := m) hW) hdg hf) hA hM hS kx kk
theorem mm_callID (hex : p.tables.exec = Jvm.exec ∧ c.code = cc ∧ c.maxLocals = nL ∧ s.vm.findClass own = some m.cls ∧ ∀ w ∈ lw_all, w.before args s = true) (hE : mm_E Z s) (hST : mm_S Z A s s.heap) (hA : ∀ q : Nat, s.heap.size ≤ q → A q)
    (hC : mm_D l Z y ws rm (.ref b :: As) M Post PX) (cw : CallB R s args own index y bytes maxL none ws rm rm.cells rm.slots n ∧ y.name = "<init>" ∧ (Cond.instanceMethod y).before args s = true) (hM : mm_P Z.1 mm_cl A M H) (hS : va_S A s.heap H locs) (hn : As.length = n) (hsize : ls.size = nL) (hW : (rest.map fun v => v.category).sum ≤ 8) (hdg : decode cc pc = .ok (.invokespecial index, 3)) {st0 : List Value} (hst : st0 = As.reverse ++ .ref b :: rest) (hf : cells + rm.cells ≤ R.cells ∧ slots + rm.slots ≤ R.slots)
    (kx : ∀ (E : String) (ce : Cell) (q : Nat) (M' : mm_M) (H1 : Heap) (locs1 : List Loc), PX E q M' → mm_P Z.1 mm_cl A M' H1 → va_S A s.heap H1 locs1 → H1[q]? = some ce → ce.vm = .none → s.vm.findClass E = some ce.cls → vx_W p l e R s m args below meth c H1 locs1 (cells + rm.cells) (slots + rm.slots) Q (F0 m pc ls rest) q)
    (kk : ∀ (v : Option Value) (M' : mm_M) (n9 k9 : Nat) (H1 : Heap) (locs1 : List Loc), Post v M' n9 k9 → mm_P Z.1 mm_cl A M' H1 → va_S A s.heap H1 locs1 → W p l e R s m args below meth c H1 locs1 (cells + n9) (slots + k9) Q (F0 m (pc + 3) ls (v.toList ++ rest))) : W p l e R s m args below meth c H locs cells slots Q (F0 m pc ls st0) :=
  mm_goD (vx_runI (As := As) (rest := rest) hex (hC H.size) cw ⟨mm_blind, fun U hU hW => mm_pre hE hST hA hM hS hU hW⟩ rfl hn hsize hst (lv_room (pc := pc) (ls := ls) (rest := rest) (m := m) hW) hdg hf) hA hM hS kx kk
theorem mm_callIND (hex : p.tables.exec = Jvm.exec ∧ c.code = cc ∧ c.maxLocals = nL ∧ s.vm.findClass own = some m.cls ∧ ∀ w ∈ lw_all, w.before args s = true) (hE : mm_E Z s) (hST : mm_S Z A s s.heap) (hA : ∀ q : Nat, s.heap.size ≤ q → A q)
    (hC : mm_D l Z y ws rm (.ref b :: As) M Post PX) (cw : va_CN R s args own index y host bytes maxL none ws rm rm.cells rm.slots n ∧ y.name = "<init>" ∧ (Cond.instanceMethod y).before args s = true) (hM : mm_P Z.1 mm_cl A M H) (hS : va_S A s.heap H locs) (hn : As.length = n) (hsize : ls.size = nL) (hW : (rest.map fun v => v.category).sum ≤ 8) (hdg : decode cc pc = .ok (.invokespecial index, 3)) {st0 : List Value} (hst : st0 = As.reverse ++ .ref b :: rest) (hf : cells + rm.cells ≤ R.cells ∧ slots + rm.slots ≤ R.slots)
    (kx : ∀ (E : String) (ce : Cell) (q : Nat) (M' : mm_M) (H1 : Heap) (locs1 : List Loc), PX E q M' → mm_P Z.1 mm_cl A M' H1 → va_S A s.heap H1 locs1 → H1[q]? = some ce → ce.vm = .none → s.vm.findClass E = some ce.cls → vx_W p l e R s m args below meth c H1 locs1 (cells + rm.cells) (slots + rm.slots) Q (F0 m pc ls rest) q)
    (kk : ∀ (v : Option Value) (M' : mm_M) (n9 k9 : Nat) (H1 : Heap) (locs1 : List Loc), Post v M' n9 k9 → mm_P Z.1 mm_cl A M' H1 → va_S A s.heap H1 locs1 → W p l e R s m args below meth c H1 locs1 (cells + n9) (slots + k9) Q (F0 m (pc + 3) ls (v.toList ++ rest))) : W p l e R s m args below meth c H locs cells slots Q (F0 m pc ls st0) :=
  mm_goD (vx_runIN (As := As) (rest := rest) hex (hC H.size) cw ⟨mm_blind, fun U hU hW => mm_pre hE hST hA hM hS hU hW⟩ rfl hn hsize hst (lv_room (pc := pc) (ls := ls) (rest := rest) (m := m) hW) hdg hf) hA hM hS kx kk
theorem mm_callVD (hex : p.tables.exec = Jvm.exec ∧ c.code = cc ∧ c.maxLocals = nL ∧ s.vm.findClass own = some m.cls ∧ ∀ w ∈ lw_all, w.before args s = true) (hE : mm_E Z s) (hST : mm_S Z A s s.heap) (hA : ∀ q : Nat, s.heap.size ≤ q → A q)
    (hC : mm_D l Z y ws rm (.ref b :: As) M Post PX) (cw : CallW R s args own C index y bytes maxL ret ws rm rm.cells rm.slots n) (hM : mm_P Z.1 mm_cl A M H) (hS : va_S A s.heap H locs) {ci : Nat} {T : u_T} {N : Nat} {fs : List Value} (hc : mm_cl[ci]? = some (C, T, N)) (he : M b = some (.inr (ci, fs))) (hn : As.length = n) (hsize : ls.size = nL) (hW : (rest.map fun v => v.category).sum ≤ 8) (hdg : decode cc pc = .ok (.invokevirtual index, 3)) {st0 : List Value} (hst : st0 = As.reverse ++ .ref b :: rest) (hf : cells + rm.cells ≤ R.cells ∧ slots + rm.slots ≤ R.slots)
    (kx : ∀ (E : String) (ce : Cell) (q : Nat) (M' : mm_M) (H1 : Heap) (locs1 : List Loc), PX E q M' → mm_P Z.1 mm_cl A M' H1 → va_S A s.heap H1 locs1 → H1[q]? = some ce → ce.vm = .none → s.vm.findClass E = some ce.cls → vx_W p l e R s m args below meth c H1 locs1 (cells + rm.cells) (slots + rm.slots) Q (F0 m pc ls rest) q)
    (kk : ∀ (v : Option Value) (M' : mm_M) (n9 k9 : Nat) (H1 : Heap) (locs1 : List Loc), Post v M' n9 k9 → mm_P Z.1 mm_cl A M' H1 → va_S A s.heap H1 locs1 → W p l e R s m args below meth c H1 locs1 (cells + n9) (slots + k9) Q (F0 m (pc + 3) ls (v.toList ++ rest))) : W p l e R s m args below meth c H locs cells slots Q (F0 m pc ls st0) :=
  mm_goD (vx_runV (As := As) (rest := rest) hex (hC H.size) cw ⟨mm_blind, mm_recv hE hM hc he, fun U hU hW => mm_pre hE hST hA hM hS hU hW⟩ rfl hn hsize hst (lv_room (pc := pc) (ls := ls) (rest := rest) (m := m) hW) hdg hf) hA hM hS kx kk
theorem mm_callVND (hex : p.tables.exec = Jvm.exec ∧ c.code = cc ∧ c.maxLocals = nL ∧ s.vm.findClass own = some m.cls ∧ ∀ w ∈ lw_all, w.before args s = true) (hE : mm_E Z s) (hST : mm_S Z A s s.heap) (hA : ∀ q : Nat, s.heap.size ≤ q → A q)
    (hC : mm_D l Z y ws rm (.ref b :: As) M Post PX) (cw : va_CN R s args own index y host bytes maxL ret ws rm rm.cells rm.slots n ∧ (Cond.instanceMethod y).before args s = true ∧ (Cond.selects C y y).before args s = true) (hM : mm_P Z.1 mm_cl A M H) (hS : va_S A s.heap H locs) {ci : Nat} {T : u_T} {N : Nat} {fs : List Value} (hc : mm_cl[ci]? = some (C, T, N)) (he : M b = some (.inr (ci, fs))) (hn : As.length = n) (hsize : ls.size = nL) (hW : (rest.map fun v => v.category).sum ≤ 8) (hdg : decode cc pc = .ok (.invokevirtual index, 3)) {st0 : List Value} (hst : st0 = As.reverse ++ .ref b :: rest) (hf : cells + rm.cells ≤ R.cells ∧ slots + rm.slots ≤ R.slots)
    (kx : ∀ (E : String) (ce : Cell) (q : Nat) (M' : mm_M) (H1 : Heap) (locs1 : List Loc), PX E q M' → mm_P Z.1 mm_cl A M' H1 → va_S A s.heap H1 locs1 → H1[q]? = some ce → ce.vm = .none → s.vm.findClass E = some ce.cls → vx_W p l e R s m args below meth c H1 locs1 (cells + rm.cells) (slots + rm.slots) Q (F0 m pc ls rest) q)
    (kk : ∀ (v : Option Value) (M' : mm_M) (n9 k9 : Nat) (H1 : Heap) (locs1 : List Loc), Post v M' n9 k9 → mm_P Z.1 mm_cl A M' H1 → va_S A s.heap H1 locs1 → W p l e R s m args below meth c H1 locs1 (cells + n9) (slots + k9) Q (F0 m (pc + 3) ls (v.toList ++ rest))) : W p l e R s m args below meth c H locs cells slots Q (F0 m pc ls st0) :=
  mm_goD (vx_runVN (As := As) (rest := rest) hex (hC H.size) cw ⟨mm_blind, mm_recv hE hM hc he, fun U hU hW => mm_pre hE hST hA hM hS hU hW⟩ rfl hn hsize hst (lv_room (pc := pc) (ls := ls) (rest := rest) (m := m) hW) hdg hf) hA hM hS kx kk
theorem mm_callSND (hex : p.tables.exec = Jvm.exec ∧ c.code = cc ∧ c.maxLocals = nL ∧ s.vm.findClass own = some m.cls ∧ ∀ w ∈ lw_all, w.before args s = true) (hE : mm_E Z s) (hST : mm_S Z A s s.heap) (hA : ∀ q : Nat, s.heap.size ≤ q → A q)
    (hC : mm_D l Z y ws rm As M Post PX) (cw : va_CN R s args own index y host bytes maxL ret ws rm rm.cells rm.slots n ∧ (Cond.static y).before args s = true ∧ True) (hM : mm_P Z.1 mm_cl A M H) (hS : va_S A s.heap H locs) (hn : As.length = n) (hsize : ls.size = nL) (hW : (rest.map fun v => v.category).sum ≤ 8) (hdg : decode cc pc = .ok (.invokestatic index, 3)) {st0 : List Value} (hst : st0 = As.reverse ++ rest) (hf : cells + rm.cells ≤ R.cells ∧ slots + rm.slots ≤ R.slots)
    (kx : ∀ (E : String) (ce : Cell) (q : Nat) (M' : mm_M) (H1 : Heap) (locs1 : List Loc), PX E q M' → mm_P Z.1 mm_cl A M' H1 → va_S A s.heap H1 locs1 → H1[q]? = some ce → ce.vm = .none → s.vm.findClass E = some ce.cls → vx_W p l e R s m args below meth c H1 locs1 (cells + rm.cells) (slots + rm.slots) Q (F0 m pc ls rest) q)
    (kk : ∀ (v : Option Value) (M' : mm_M) (n9 k9 : Nat) (H1 : Heap) (locs1 : List Loc), Post v M' n9 k9 → mm_P Z.1 mm_cl A M' H1 → va_S A s.heap H1 locs1 → W p l e R s m args below meth c H1 locs1 (cells + n9) (slots + k9) Q (F0 m (pc + 3) ls (v.toList ++ rest))) : W p l e R s m args below meth c H locs cells slots Q (F0 m pc ls st0) :=
  mm_goD (vx_runSN (As := As) (rest := rest) hex (hC H.size) cw ⟨mm_blind, fun U hU hW => mm_pre hE hST hA hM hS hU hW⟩ rfl hn hsize hst (lv_room (pc := pc) (ls := ls) (rest := rest) (m := m) hW) hdg hf) hA hM hS kx kk
theorem mm_callUD {x : MethodName} {owner : String} (hex : p.tables.exec = Jvm.exec ∧ c.code = cc ∧ c.maxLocals = nL ∧ s.vm.findClass own = some m.cls ∧ ∀ w ∈ lw_all, w.before args s = true) (hE : mm_E Z s) (hST : mm_S Z A s s.heap) (hA : ∀ q : Nat, s.heap.size ≤ q → A q)
    (hC : mm_D l Z y ws rm (.ref b :: As) M Post PX) (cw : va_CU R s args own C owner index x y bytes maxL ret ws rm rm.cells rm.slots n) (hM : mm_P Z.1 mm_cl A M H) (hS : va_S A s.heap H locs) {ci : Nat} {T : u_T} {N : Nat} {fs : List Value} (hc : mm_cl[ci]? = some (C, T, N)) (he : M b = some (.inr (ci, fs))) (hn : As.length = n) (hsize : ls.size = nL) (hW : (rest.map fun v => v.category).sum ≤ 8) (hdg : decode cc pc = .ok (.invokevirtual index, 3)) {st0 : List Value} (hst : st0 = As.reverse ++ .ref b :: rest) (hf : cells + rm.cells ≤ R.cells ∧ slots + rm.slots ≤ R.slots)
    (kx : ∀ (E : String) (ce : Cell) (q : Nat) (M' : mm_M) (H1 : Heap) (locs1 : List Loc), PX E q M' → mm_P Z.1 mm_cl A M' H1 → va_S A s.heap H1 locs1 → H1[q]? = some ce → ce.vm = .none → s.vm.findClass E = some ce.cls → vx_W p l e R s m args below meth c H1 locs1 (cells + rm.cells) (slots + rm.slots) Q (F0 m pc ls rest) q)
    (kk : ∀ (v : Option Value) (M' : mm_M) (n9 k9 : Nat) (H1 : Heap) (locs1 : List Loc), Post v M' n9 k9 → mm_P Z.1 mm_cl A M' H1 → va_S A s.heap H1 locs1 → W p l e R s m args below meth c H1 locs1 (cells + n9) (slots + k9) Q (F0 m (pc + 3) ls (v.toList ++ rest))) : W p l e R s m args below meth c H locs cells slots Q (F0 m pc ls st0) :=
  mm_goD (vx_runU (As := As) (rest := rest) hex (hC H.size) cw ⟨mm_blind, mm_recv hE hM hc he, fun U hU hW => mm_pre hE hST hA hM hS hU hW⟩ rfl hn hsize hst (lv_room (pc := pc) (ls := ls) (rest := rest) (m := m) hW) hdg hf) hA hM hS kx kk
theorem mm_callSUD (hex : p.tables.exec = Jvm.exec ∧ c.code = cc ∧ c.maxLocals = nL ∧ s.vm.findClass own = some m.cls ∧ ∀ w ∈ lw_all, w.before args s = true) (hE : mm_E Z s) (hST : mm_S Z A s s.heap) (hA : ∀ q : Nat, s.heap.size ≤ q → A q)
    (hC : mm_D l Z y ws rm (.ref b :: As) M Post PX) (cw : va_CS R s args own index y bytes maxL ret ws rm rm.cells rm.slots n) (hM : mm_P Z.1 mm_cl A M H) (hS : va_S A s.heap H locs) {ci : Nat} {T : u_T} {N : Nat} {fs : List Value} (hc : mm_cl[ci]? = some (C, T, N)) (he : M b = some (.inr (ci, fs))) (hn : As.length = n) (hsize : ls.size = nL) (hW : (rest.map fun v => v.category).sum ≤ 8) (hdg : decode cc pc = .ok (.invokespecial index, 3)) {st0 : List Value} (hst : st0 = As.reverse ++ .ref b :: rest) (hf : cells + rm.cells ≤ R.cells ∧ slots + rm.slots ≤ R.slots)
    (kx : ∀ (E : String) (ce : Cell) (q : Nat) (M' : mm_M) (H1 : Heap) (locs1 : List Loc), PX E q M' → mm_P Z.1 mm_cl A M' H1 → va_S A s.heap H1 locs1 → H1[q]? = some ce → ce.vm = .none → s.vm.findClass E = some ce.cls → vx_W p l e R s m args below meth c H1 locs1 (cells + rm.cells) (slots + rm.slots) Q (F0 m pc ls rest) q)
    (kk : ∀ (v : Option Value) (M' : mm_M) (n9 k9 : Nat) (H1 : Heap) (locs1 : List Loc), Post v M' n9 k9 → mm_P Z.1 mm_cl A M' H1 → va_S A s.heap H1 locs1 → W p l e R s m args below meth c H1 locs1 (cells + n9) (slots + k9) Q (F0 m (pc + 3) ls (v.toList ++ rest))) : W p l e R s m args below meth c H locs cells slots Q (F0 m pc ls st0) :=
  mm_goD (vx_runSU (As := As) (rest := rest) (hE.1.1 ci _ hc).2 hex (hC H.size) cw ⟨mm_blind, mm_recv hE hM hc he, fun U hU hW => mm_pre hE hST hA hM hS hU hW⟩ rfl hn hsize hst (lv_room (pc := pc) (ls := ls) (rest := rest) (m := m) hW) hdg hf) hA hM hS kx kk
theorem mm_callSXD (hex : p.tables.exec = Jvm.exec ∧ c.code = cc ∧ c.maxLocals = nL ∧ s.vm.findClass own = some m.cls ∧ ∀ w ∈ lw_all, w.before args s = true) (hE : mm_E Z s) (hST : mm_S Z A s s.heap) (hA : ∀ q : Nat, s.heap.size ≤ q → A q)
    (hC : mm_D l Z y ws rm As M Post PX) (cw : vx_CSW R s args own index y bytes maxL ret hh ws rm rm.cells rm.slots n) (hM : mm_P Z.1 mm_cl A M H) (hS : va_S A s.heap H locs) (hn : As.length = n) (hsize : ls.size = nL) (hW : (rest.map fun v => v.category).sum ≤ 8) (hdg : decode cc pc = .ok (.invokestatic index, 3)) {st0 : List Value} (hst : st0 = As.reverse ++ rest) (hf : cells + rm.cells ≤ R.cells ∧ slots + rm.slots ≤ R.slots)
    (kx : ∀ (E : String) (ce : Cell) (q : Nat) (M' : mm_M) (H1 : Heap) (locs1 : List Loc), PX E q M' → mm_P Z.1 mm_cl A M' H1 → va_S A s.heap H1 locs1 → H1[q]? = some ce → ce.vm = .none → s.vm.findClass E = some ce.cls → vx_W p l e R s m args below meth c H1 locs1 (cells + rm.cells) (slots + rm.slots) Q (F0 m pc ls rest) q)
    (kk : ∀ (v : Option Value) (M' : mm_M) (n9 k9 : Nat) (H1 : Heap) (locs1 : List Loc), Post v M' n9 k9 → mm_P Z.1 mm_cl A M' H1 → va_S A s.heap H1 locs1 → W p l e R s m args below meth c H1 locs1 (cells + n9) (slots + k9) Q (F0 m (pc + 3) ls (v.toList ++ rest))) : W p l e R s m args below meth c H locs cells slots Q (F0 m pc ls st0) :=
  mm_goD (vx_runSX (As := As) (rest := rest) hex (hC H.size) cw ⟨mm_blind, fun U hU hW => mm_pre hE hST hA hM hS hU hW⟩ rfl hn hsize hst (lv_room (pc := pc) (ls := ls) (rest := rest) (m := m) hW) hdg hf) hA hM hS kx kk
theorem mm_callVXD (hex : p.tables.exec = Jvm.exec ∧ c.code = cc ∧ c.maxLocals = nL ∧ s.vm.findClass own = some m.cls ∧ ∀ w ∈ lw_all, w.before args s = true) (hE : mm_E Z s) (hST : mm_S Z A s s.heap) (hA : ∀ q : Nat, s.heap.size ≤ q → A q)
    (hC : mm_D l Z y ws rm (.ref b :: As) M Post PX) (cw : vx_CVW R s args own C index y bytes maxL ret hh ws rm rm.cells rm.slots n) (hM : mm_P Z.1 mm_cl A M H) (hS : va_S A s.heap H locs) {ci : Nat} {T : u_T} {N : Nat} {fs : List Value} (hc : mm_cl[ci]? = some (C, T, N)) (he : M b = some (.inr (ci, fs))) (hn : As.length = n) (hsize : ls.size = nL) (hW : (rest.map fun v => v.category).sum ≤ 8) (hdg : decode cc pc = .ok (.invokevirtual index, 3)) {st0 : List Value} (hst : st0 = As.reverse ++ .ref b :: rest) (hf : cells + rm.cells ≤ R.cells ∧ slots + rm.slots ≤ R.slots)
    (kx : ∀ (E : String) (ce : Cell) (q : Nat) (M' : mm_M) (H1 : Heap) (locs1 : List Loc), PX E q M' → mm_P Z.1 mm_cl A M' H1 → va_S A s.heap H1 locs1 → H1[q]? = some ce → ce.vm = .none → s.vm.findClass E = some ce.cls → vx_W p l e R s m args below meth c H1 locs1 (cells + rm.cells) (slots + rm.slots) Q (F0 m pc ls rest) q)
    (kk : ∀ (v : Option Value) (M' : mm_M) (n9 k9 : Nat) (H1 : Heap) (locs1 : List Loc), Post v M' n9 k9 → mm_P Z.1 mm_cl A M' H1 → va_S A s.heap H1 locs1 → W p l e R s m args below meth c H1 locs1 (cells + n9) (slots + k9) Q (F0 m (pc + 3) ls (v.toList ++ rest))) : W p l e R s m args below meth c H locs cells slots Q (F0 m pc ls st0) :=
  mm_goD (vx_runVX (As := As) (rest := rest) hex (hC H.size) cw ⟨mm_blind, mm_recv hE hM hc he, fun U hU hW => mm_pre hE hST hA hM hS hU hW⟩ rfl hn hsize hst (lv_room (pc := pc) (ls := ls) (rest := rest) (m := m) hW) hdg hf) hA hM hS kx kk
theorem mm_callFD {x : MethodName} {count : Nat} (hex : p.tables.exec = Jvm.exec ∧ c.code = cc ∧ c.maxLocals = nL ∧ s.vm.findClass own = some m.cls ∧ ∀ w ∈ lw_all, w.before args s = true) (hE : mm_E Z s) (hST : mm_S Z A s s.heap) (hA : ∀ q : Nat, s.heap.size ≤ q → A q)
    (hC : mm_D l Z y ws rm (.ref b :: As) M Post PX) (cw : va_CI R s args own C index x y bytes maxL ret ws rm rm.cells rm.slots n) (hM : mm_P Z.1 mm_cl A M H) (hS : va_S A s.heap H locs) {ci : Nat} {T : u_T} {N : Nat} {fs : List Value} (hc : mm_cl[ci]? = some (C, T, N)) (he : M b = some (.inr (ci, fs))) (hn : As.length = n) (hsize : ls.size = nL) (hW : (rest.map fun v => v.category).sum ≤ 8) (hdg : decode cc pc = .ok (.invokeinterface index count, 5)) {st0 : List Value} (hst : st0 = As.reverse ++ .ref b :: rest) (hf : cells + rm.cells ≤ R.cells ∧ slots + rm.slots ≤ R.slots)
    (kx : ∀ (E : String) (ce : Cell) (q : Nat) (M' : mm_M) (H1 : Heap) (locs1 : List Loc), PX E q M' → mm_P Z.1 mm_cl A M' H1 → va_S A s.heap H1 locs1 → H1[q]? = some ce → ce.vm = .none → s.vm.findClass E = some ce.cls → vx_W p l e R s m args below meth c H1 locs1 (cells + rm.cells) (slots + rm.slots) Q (F0 m pc ls rest) q)
    (kk : ∀ (v : Option Value) (M' : mm_M) (n9 k9 : Nat) (H1 : Heap) (locs1 : List Loc), Post v M' n9 k9 → mm_P Z.1 mm_cl A M' H1 → va_S A s.heap H1 locs1 → W p l e R s m args below meth c H1 locs1 (cells + n9) (slots + k9) Q (F0 m (pc + 5) ls (v.toList ++ rest))) : W p l e R s m args below meth c H locs cells slots Q (F0 m pc ls st0) :=
  mm_go5D (vx_runF (As := As) (rest := rest) (hE.1.1 ci _ hc).2 hex (hC H.size) cw ⟨mm_blind, mm_recv hE hM hc he, fun U hU hW => mm_pre hE hST hA hM hS hU hW⟩ rfl hn hsize hst (lv_room (pc := pc) (ls := ls) (rest := rest) (m := m) hW) hdg hf) hA hM hS kx kk
end MD70
