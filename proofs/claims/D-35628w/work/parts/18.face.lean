/-! ===== calls by an interface ===== -/
set_option maxRecDepth 100000
section MG5
variable {p : Program} {l : Launch} {e : Env} {R : Room} {s : State} {m : MethodId} {args : Array Value} {below : List Frame} {meth : Method} {c : Code} {H : Heap} {locs : List Loc} {cells slots : Nat} {Q : State → Prop}
variable {cc bytes : ByteArray} {pc : Nat} {ls : Array Slot} {rest : List Value} {A : Nat → Prop} {Z : mm_G} {M : mm_M} {y : MethodName} {ws : List Cond} {rm : Room} {Post : Option Value → mm_M → Prop} {PX : String → Nat → mm_M → Prop} {X : String → Addr → State → State → Prop}
theorem mm_go5 {mc ms : Nat} {a : Array Value} {st0 : List Value} (hr : vx_Run5 p l e R s m args below meth c H locs cells slots mc ms (F0 m pc ls st0) rest (mm_Q Z (mm_A M H.size) Post a) (mm_X Z (mm_A M H.size) PX) (mm_A M H.size)) (hA : ∀ q : Nat, s.heap.size ≤ q → A q) (hM : mm_P Z.1 mm_cl A M H) (hS : va_S A s.heap H locs)
    (kx : ∀ (E : String) (ce : Cell) (q : Nat) (M' : mm_M) (H1 : Heap) (locs1 : List Loc), PX E q M' → mm_P Z.1 mm_cl A M' H1 → va_S A s.heap H1 locs1 → H1[q]? = some ce → ce.vm = .none → s.vm.findClass E = some ce.cls → vx_W p l e R s m args below meth c H1 locs1 (cells + mc) (slots + ms) Q (F0 m pc ls rest) q)
    (kk : ∀ (v : Option Value) (M' : mm_M) (H1 : Heap) (locs1 : List Loc), Post v M' → mm_P Z.1 mm_cl A M' H1 → va_S A s.heap H1 locs1 → W p l e R s m args below meth c H1 locs1 (cells + mc) (slots + ms) Q (F0 m (pc + 5) ls (v.toList ++ rest))) : W p l e R s m args below meth c H locs cells slots Q (F0 m pc ls st0) := by
  intro T hT X
  have hsub : ∀ q, mm_A M H.size q → A q := fun q hq => by
    rcases hq with ⟨e, he⟩ | hq
    · exact hM.inA he
    · exact hA q (Nat.le_trans hS.1 hq)
  rcases hr T hT X with ⟨v0, st₀, t, T', L, h0, X', hL, e1, e2, ⟨⟨v, M', hv, hp, hm⟩, hF⟩, st⟩ | ⟨q, st₀, t, T', L, E, ce, h0, X', hL, e1, e2, ⟨⟨M', hp, hm⟩, hF⟩, hce, hcv, hcl, st⟩
  · cases hv
    obtain ⟨k1, k2, k3⟩ := vx_keep h0 e1 hS (fun q _ h => hsub q h) hsub hL hF
    obtain ⟨t2, a1, b1⟩ := kk v0 M' T'.heap (locs ++ L) hp (by rw [e1]; exact hm.weaken (fun q _ h => hsub q h)) k3 T' rfl X'
    exact ⟨t2, st t2 a1, b1⟩
  · obtain ⟨k1, k2, k3⟩ := vx_keep h0 e1 hS (fun q _ h => hsub q h) hsub hL hF
    obtain ⟨t2, a1, b1⟩ := kx E ce q M' T'.heap (locs ++ L) hp (by rw [e1]; exact hm.weaken (fun q _ h => hsub q h)) k3 (by rw [e1]; exact hce) hcv hcl T' rfl X'
    exact ⟨t2, st.trans a1, b1⟩

end MG5
section MFI
variable {p : Program} {l : Launch} {e : Env} {R : Room} {s : State} {m : MethodId} {args : Array Value} {below : List Frame} {meth : Method} {c : Code} {H : Heap} {locs : List Loc} {cells slots : Nat} {Q : State → Prop}
variable {cc bytes : ByteArray} {pc : Nat} {ls : Array Slot} {rest : List Value} {A : Nat → Prop} {Z : mm_G} {M : mm_M} {y : MethodName} {ws : List Cond} {rm : Room} {Post : Option Value → mm_M → Prop} {PX : String → Nat → mm_M → Prop}
variable {maxL nL n index : Nat} {ret : Option FieldType} {own C host : String} {As : List Value} {b : Nat}
theorem mm_callF {x : MethodName} {count : Nat} (hex : p.tables.exec = Jvm.exec ∧ c.code = cc ∧ c.maxLocals = nL ∧ s.vm.findClass own = some m.cls ∧ ∀ w ∈ lw_all, w.before args s = true) (hE : mm_E Z s) (hST : mm_S Z A s s.heap) (hA : ∀ q : Nat, s.heap.size ≤ q → A q)
    (hC : mm_C l Z y ws rm (.ref b :: As) M Post PX) (cw : va_CI R s args own C index x y bytes maxL ret ws rm rm.cells rm.slots n) (hM : mm_P Z.1 mm_cl A M H) (hS : va_S A s.heap H locs) {ci : Nat} {T : u_T} {N : Nat} {fs : List Value} (hc : mm_cl[ci]? = some (C, T, N)) (he : M b = some (.inr (ci, fs))) (hn : As.length = n) (hsize : ls.size = nL) (hW : (rest.map fun v => v.category).sum ≤ 8) (hdg : decode cc pc = .ok (.invokeinterface index count, 5)) {st0 : List Value} (hst : st0 = As.reverse ++ .ref b :: rest) (hf : cells + rm.cells ≤ R.cells ∧ slots + rm.slots ≤ R.slots)
    (kx : ∀ (E : String) (ce : Cell) (q : Nat) (M' : mm_M) (H1 : Heap) (locs1 : List Loc), PX E q M' → mm_P Z.1 mm_cl A M' H1 → va_S A s.heap H1 locs1 → H1[q]? = some ce → ce.vm = .none → s.vm.findClass E = some ce.cls → vx_W p l e R s m args below meth c H1 locs1 (cells + rm.cells) (slots + rm.slots) Q (F0 m pc ls rest) q)
    (kk : ∀ (v : Option Value) (M' : mm_M) (H1 : Heap) (locs1 : List Loc), Post v M' → mm_P Z.1 mm_cl A M' H1 → va_S A s.heap H1 locs1 → W p l e R s m args below meth c H1 locs1 (cells + rm.cells) (slots + rm.slots) Q (F0 m (pc + 5) ls (v.toList ++ rest))) : W p l e R s m args below meth c H locs cells slots Q (F0 m pc ls st0) :=
  mm_go5 (vx_runF (As := As) (rest := rest) (hE.1.1 ci _ hc).2 hex (hC H.size) cw ⟨mm_blind, mm_recv hE hM hc he, fun U hU hW => mm_pre hE hST hA hM hS hU hW⟩ rfl hn hsize hst (lv_room (pc := pc) (ls := ls) (rest := rest) (m := m) hW) hdg hf) hA hM hS kx kk
end MFI
