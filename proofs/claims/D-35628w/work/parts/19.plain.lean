/-! ===== methods of java.lang.Object (no row of natives has their name) ===== -/
section MPF
variable {l : Launch}
theorem mm_ofF {y : MethodName} {ws ws' : List Cond} {rm : Room} {Pc : Array Value → State → Prop} {Qc : Array Value → State → Outcome → State → Prop} {XC : String → Addr → State → State → Prop} {mc ms : Nat} {free : Addr → Prop} {cc : ByteArray} {maxL : Nat} {ret : Option FieldType}
    (hy : plainFor y = true) (hw : ws = Cond.code y cc maxL ret :: ws')
    (body : ∀ p e s m args below meth c s₁, BodyLoose p l y (headSpec ws rm) cc maxL ret e s m args below meth c s₁ → c.maxLocals = maxL → (∀ x ∈ c.exceptionTable.toList, False) → Pc args s →
      W p l e (headSpec ws rm).room s m args below meth c s.heap [] 0 0 (vx_MQ below Qc XC args s mc ms free) (entryFrame m args maxL)) : vx_Met l y ws rm Pc Qc XC mc ms free := by
  refine MetFree.of_bodySF (code := cc) (maxLocals := maxL) (ret := ret) hy ?_ ?_
  · intro args s m h hn
    obtain ⟨meth, c, h1, h2, h3, h4, h5, h6, -, -⟩ := Cond.code_spec hn (atoms_spec (ws := ws) h _ (by rw [hw]; exact List.mem_cons_self))
    exact ⟨meth, c, h1, h2, h3, h4, h5, h6⟩
  · intro p e s m args below meth c s₁ B hml hP _
    have hh0 : s₁.heap = s.heap := by rw [B.state]; rfl
    have ht : ∀ x ∈ c.exceptionTable.toList, False := by
      obtain ⟨meth9, c9, h1, h2, -, -, -, -, h7, -⟩ := Cond.code_spec B.named (atoms_spec (ws := ws) B.pre _ (by rw [hw]; exact List.mem_cons_self))
      cases Option.some.inj (h1.symm.trans B.method)
      cases Option.some.inj (h2.symm.trans (Stand.of_body B).code)
      intro x hx
      rw [Array.isEmpty_iff.mp h7] at hx
      cases hx
    obtain ⟨t, a1, o, b1, b2, b3⟩ := body p e s m args below meth c s₁ B hml ht hP s₁ hh0 (Stand.of_body B)
    exact ⟨t, o, a1, b1, b2, b3⟩
end MPF
section MPG
variable {p : Program} {l : Launch} {e : Env} {R : Room} {s : State} {m : MethodId} {args : Array Value} {below : List Frame} {meth : Method} {c : Code} {H : Heap} {locs : List Loc} {cells slots : Nat} {Q : State → Prop}
variable {cc bytes : ByteArray} {pc : Nat} {ls : Array Slot} {rest : List Value} {A : Nat → Prop} {Z : mm_G} {M : mm_M} {y : MethodName} {ws : List Cond} {rm : Room} {Post : Option Value → mm_M → Prop} {PX : String → Nat → mm_M → Prop} {X : String → Addr → State → State → Prop}
theorem mm_ofWF {av : List Value} {cc : ByteArray} {maxL : Nat} {ret : Option FieldType} (hy : plainFor y = true) (hw : ws = Cond.code y cc maxL ret :: lw_all) (hn : (lg_sl av).length ≤ maxL)
    (body : ∀ (p : Program) (e : Env) (s : State) (m : MethodId) (below : List Frame) (meth : Method) (c : Code) (A : Nat → Prop) (ls : Array Slot), p.tables.exec = Jvm.exec → c.code = cc → meth.sig.returnType = ret → meth.locks = false → c.maxLocals = maxL → s.vm.findClass y.cls = some m.cls → meth.name = y.name →
      (∀ w ∈ lw_all, w.before av.toArray s = true) → (∀ x ∈ c.exceptionTable.toList, False) → mm_E Z s → mm_S Z A s s.heap → (∀ q : Nat, s.heap.size ≤ q → A q) → mm_P Z.1 mm_cl A M s.heap → va_S A s.heap s.heap [] → lv_has ls maxL (lv_args 0 av) →
      W p l e rm s m av.toArray below meth c s.heap [] 0 0 (vx_MQ below (mm_Q Z A Post) (mm_X Z A PX) av.toArray s rm.cells rm.slots A) (F0 m 0 ls [])) : mm_C l Z y ws rm av M Post PX := by
  intro sz
  refine mm_ofF (cc := cc) (maxL := maxL) (ret := ret) hy hw ?_
  intro p e s m args below meth c s₁ B hml ht hv
  obtain ⟨rfl, rfl, hM, hE, hST⟩ := hv
  have hts := atoms_spec (ws := ws) B.pre
  have hl := lv_entry av (n := maxL) hn
  rw [lg_entry_eq]
  exact body p e s m below meth c (mm_A M s.heap.size) _ B.exec B.bytes B.returns B.notSynchronized hml (findClass_of_methodNamed B.named) ((name_of_methodNamed B.named B.method).1) (fun w h => hts w (by rw [hw]; exact List.mem_cons_of_mem _ h)) ht hE hST (fun q h => Or.inr h) hM va_S.rf hl
end MPG
set_option maxHeartbeats 4000000 in
set_option maxRecDepth 100000 in
theorem c_J22_equals (l : Launch) (Z : mm_G) {M : mm_M} {a : Nat} {b : Option Nat} : mm_C l Z yJ22_equals (ws_ yJ22_equals cJ22_equals 2 (some .boolean)) { frames := 0, cells := 0, slots := 0, locals := 0 } [.ref a, va_rf b] M (fun v M' => v = some (.int (mm_b (decide (some a = b)))) ∧ M' = M) mm_nx := by
  refine mm_ofWF (cc := cJ22_equals) (maxL := 2) (ret := (some .boolean)) (by decide +kernel) rfl (by simp [lg_sl, mm_cat_o, mm_cat_r, mm_cat_i, mm_cat_l, mm_cat_n]) ?_
  intro p e s m below meth c A ls hx hb hr hlk hml hown hmn hts htab hE hST hA hM hS hl
  replace hl : lv_has ls 2 [(0, .ref a), (1, va_rf b)] := by simpa [lv_args, mm_cat_o, mm_cat_r, mm_cat_i, mm_cat_l, mm_cat_n] using hl
  refine lv_aload_n hx hb dJ22_equals_0 rfl (lv_at hl 0 rfl) ?_
  refine mm_aload_n hx hb dJ22_equals_1 rfl (lv_at hl 1 rfl) ?_
  refine lv_acmp_ne (rx := (some a)) (ry := b) (tgt := 9) hx hb dJ22_equals_2 (by decide) (fun c_1 => ?_) (fun c_1 => ?_)
  · have e9 : decide (some a = b) = false := decide_eq_false c_1
    refine lv_iconst (v := 0) hx hb dJ22_equals_9 (by decide) ?_
    exact mm_retz hx hb hr rfl hlk hM hS ⟨by rw [e9]; rfl, rfl⟩ dJ22_equals_10 (Nat.le_of_ble_eq_true rfl) (Nat.le_of_ble_eq_true rfl)
  · have e9 : decide (some a = b) = true := decide_eq_true c_1
    refine lv_iconst (v := 1) hx hb dJ22_equals_5 (by decide) ?_
    refine lv_goto (tgt := 10) hx hb dJ22_equals_6 (by decide) ?_
    exact mm_retz hx hb hr rfl hlk hM hS ⟨by rw [e9]; rfl, rfl⟩ dJ22_equals_10 (Nat.le_of_ble_eq_true rfl) (Nat.le_of_ble_eq_true rfl)
