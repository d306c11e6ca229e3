/-! ===== throwing ===== -/
set_option maxRecDepth 100000
theorem mm_P.ext {D : va_G} {cl : List vw_C} {A : Nat → Prop} {M : mm_M} {H H1 : Heap} (h : mm_P D cl A M H) (hq : ∀ q : Nat, q < H.size → H1[q]? = H[q]?) : mm_P D cl A M H1 := by
  obtain ⟨ws, hP, hD, hI⟩ := h
  exact ⟨ws, hP.kept (fun k q hk => hq _ (vx_lt hP hk)), hD, hI⟩
section MRT
variable {p : Program} {l : Launch} {e : Env} {R : Room} {s : State} {m : MethodId} {args : Array Value} {below : List Frame} {meth : Method} {c : Code} {H : Heap} {locs : List Loc} {cells slots : Nat} {Q : State → Prop}
variable {cc : ByteArray} {pc : Nat} {ls : Array Slot} {rest : List Value} {A : Nat → Prop} {a : Nat} {M : mm_M} {H0 : Heap} {Z : mm_G} {Post : Option Value → mm_M → Prop} {PX : String → Nat → mm_M → Prop}
/-- 'throw new E()' of the JDK's -/
theorem mm_throw0 (hexec : p.tables.exec = Jvm.exec) (hb : c.code = cc) (htr : l.stackTraces = false) {own cls : String} {names : List String} {ik ic mc ms : Nat}
    (hown : s.vm.findClass own = some m.cls) (hcls : Bundle.fit cls = true ∧ ∀ n ∈ names, Bundle.fit n = true)
    (hk : (Cond.classLink own ik cls).before args s = true) (hini : (Cond.initialized cls).before args s = true) (hat : ∀ w ∈ vx_at0 own ic cls names, w.before args s = true)
    (hgood : ∀ w ∈ Cond.classLink own ik cls :: Cond.initialized cls :: vx_at0 own ic cls names, vx_ot w = true)
    (hST : mm_S Z A s s.heap) (hM : mm_P Z.1 mm_cl A M H) (hS : va_S A s.heap H locs) (hsize : ls.size = c.maxLocals)
    (d0 : decode cc pc = .ok (.new ik, 3)) (d3 : decode cc (pc + 3) = .ok (.dup, 1)) (d4 : decode cc (pc + 4) = .ok (.invokespecial ic, 3)) (d7 : decode cc (pc + 7) = .ok (.athrow, 1))
    (hout : ∀ x ∈ c.exceptionTable.toList, False) (hlocks : meth.locks = false)
    (hRframes : names.length + 3 < R.frames) (hRlocals : (rest.map fun v => v.category).sum + (13 * (names.length + 1) + 42) ≤ R.locals) (hRcells : cells + 1 ≤ R.cells) (hRslots : slots + 6 ≤ R.slots)
    (hp : PX cls H.size M) (hc : cells + 1 ≤ mc) (hs : slots + 6 ≤ ms) :
    W p l e R s m args below meth c H locs cells slots (vx_MQ below (mm_Q Z A Post) (mm_X Z A PX) args s mc ms A) (F0 m pc ls rest) :=
  vx_throw0 hexec hb htr hown hcls.1 hcls.2 hk hini hat hgood hST.2.1 hST.2.2.1 hS hsize d0 d3 d4 d7 (fun x hx => (hout x hx).elim) hRframes hRlocals hRcells hRslots hlocks
    (fun t _ h1 h2 => ⟨⟨M, hp, hM.ext h2⟩, Nat.le_trans hS.1 h1, fun q h3 h4 => (h2 q (Nat.lt_of_lt_of_le h3 hS.1)).trans (hS.2.1 q h3 h4)⟩) hS.2.2 hc hs
theorem mm_hat {own cls : String} {names : List String} {ic : Nat} (hts : ∀ w ∈ lw_all, w.before args s = true) (hE : mm_E Z s) (h1 : ∀ w ∈ (vx_at0 own ic cls names).filter goodWord, w ∈ lw_all) (h2 : ∀ w ∈ (vx_at0 own ic cls names).filter (fun w => !goodWord w), w ∈ lw_tbl ∧ mm_NWk w = true ∧ w.onTables = true) : ∀ w ∈ vx_at0 own ic cls names, w.before args s = true := by
  intro w hw
  by_cases g : goodWord w = true
  · exact hts _ (h1 w (List.mem_filter.mpr ⟨hw, g⟩))
  · obtain ⟨h3, h4, h5⟩ := h2 w (List.mem_filter.mpr ⟨hw, by simpa using g⟩)
    exact va_Nw.use h5 (hE.2.1 _ h3 h4)
end MRT

set_option maxHeartbeats 4000000 in
set_option maxRecDepth 100000 in
theorem c_X1_allowed (l : Launch) (Z : mm_G) {M : mm_M} (htr : l.stackTraces = false) {b : Bool} : mm_C l Z yX1_allowed (ws_ yX1_allowed cX1_allowed 1 none) { frames := 8, cells := 1, slots := 6, locals := 120 } [.int (mm_b b)] M (fun v M' => b = true ∧ v = none ∧ M' = M) (fun E _ M' => b = false ∧ E = "java/lang/IllegalStateException" ∧ M' = M) := by
  refine mm_ofW (cc := cX1_allowed) (maxL := 1) (ret := none) (by decide) rfl (Nat.le_of_ble_eq_true rfl) ?_
  intro p e s m below meth c A ls hx hb hr hlk hml hown hmn hts htab hE hST hA hM hS hl
  replace hl : lv_has ls 1 [(0, .int (mm_b b))] := hl
  refine lv_iload_n hx hb dX1_allowed_0 rfl (lv_at hl 0 rfl) ?_
  refine lv_if_ne (tgt := 12) hx hb dX1_allowed_1 (by decide) (fun c_1 => ?_) (fun c_1 => ?_)
  · have e9 : b = true := by cases b with | true => rfl | false => exact absurd rfl c_1
    exact mm_retv hx hb hr hlk hM hS ⟨e9, rfl, rfl⟩ dX1_allowed_12 (Nat.le_of_ble_eq_true rfl) (Nat.le_of_ble_eq_true rfl)
  · have e9 : b = false := by cases b with | false => rfl | true => exact absurd c_1 (by decide)
    have hg9 : ∀ w ∈ (vx_at0 "RowenTongue" 261 "java/lang/IllegalStateException" ["java/lang/RuntimeException", "java/lang/Exception"]).filter goodWord, w ∈ lw_all := lw_in _ [55, 223, 232, 241, 244, 246, 224, 225, 127, 128, 226, 231, 242, 259, 213, 260, 215, 261, 217, 227, 229, 219, 329, 330, 331, 251, 251, 252, 253, 254, 254, 255, 256, 224, 328, 320, 322, 239, 323, 324, 325, 326, 222, 221, 327] (by decide +kernel) (by decide +kernel)
    have hb9 : ∀ w ∈ (vx_at0 "RowenTongue" 261 "java/lang/IllegalStateException" ["java/lang/RuntimeException", "java/lang/Exception"]).filter (fun w => !goodWord w), w ∈ lw_tbl ∧ mm_NWk w = true ∧ w.onTables = true := by
      rw [show (vx_at0 "RowenTongue" 261 "java/lang/IllegalStateException" ["java/lang/RuntimeException", "java/lang/Exception"]).filter (fun w => !goodWord w) = [Cond.declares ⟨"java/lang/RuntimeException", "<init>", "()V"⟩, Cond.declares ⟨"java/lang/Exception", "<init>", "()V"⟩, Cond.declares ⟨"java/lang/Throwable", "<init>", "()V"⟩, Cond.castable "java/lang/IllegalStateException" "java/lang/IllegalStateException"] from by decide +kernel]
      intro w hw; simp only [List.mem_cons, List.not_mem_nil, or_false] at hw
      rcases hw with rfl | rfl | rfl | rfl
      · exact ⟨q204, rfl, rfl⟩
      · exact ⟨q206, rfl, rfl⟩
      · exact ⟨q208, rfl, rfl⟩
      · exact ⟨q321, rfl, rfl⟩
    exact mm_throw0 (names := ["java/lang/RuntimeException", "java/lang/Exception"]) hx hb htr hown (by decide +kernel) (hts _ q319) (hts _ q60) (mm_hat hts hE hg9 hb9) (by decide +kernel) hST hM hS (hl.1.trans hml.symm) dX1_allowed_4 dX1_allowed_7 dX1_allowed_8 dX1_allowed_11 htab hlk (Nat.le_of_ble_eq_true rfl) (Nat.le_of_ble_eq_true rfl) (Nat.le_of_ble_eq_true rfl) (Nat.le_of_ble_eq_true rfl) ⟨e9, rfl, rfl⟩ (Nat.le_of_ble_eq_true rfl) (Nat.le_of_ble_eq_true rfl)
set_option maxHeartbeats 4000000 in
set_option maxRecDepth 100000 in
theorem c_X1_there (l : Launch) (Z : mm_G) {M : mm_M} (htr : l.stackTraces = false) {b : Bool} : mm_C l Z yX1_there (ws_ yX1_there cX1_there 1 none) { frames := 8, cells := 1, slots := 6, locals := 120 } [.int (mm_b b)] M (fun v M' => b = true ∧ v = none ∧ M' = M) (fun E _ M' => b = false ∧ E = "java/lang/IndexOutOfBoundsException" ∧ M' = M) := by
  refine mm_ofW (cc := cX1_there) (maxL := 1) (ret := none) (by decide) rfl (Nat.le_of_ble_eq_true rfl) ?_
  intro p e s m below meth c A ls hx hb hr hlk hml hown hmn hts htab hE hST hA hM hS hl
  replace hl : lv_has ls 1 [(0, .int (mm_b b))] := hl
  refine lv_iload_n hx hb dX1_there_0 rfl (lv_at hl 0 rfl) ?_
  refine lv_if_ne (tgt := 12) hx hb dX1_there_1 (by decide) (fun c_1 => ?_) (fun c_1 => ?_)
  · have e9 : b = true := by cases b with | true => rfl | false => exact absurd rfl c_1
    exact mm_retv hx hb hr hlk hM hS ⟨e9, rfl, rfl⟩ dX1_there_12 (Nat.le_of_ble_eq_true rfl) (Nat.le_of_ble_eq_true rfl)
  · have e9 : b = false := by cases b with | false => rfl | true => exact absurd c_1 (by decide)
    have hg9 : ∀ w ∈ (vx_at0 "RowenTongue" 264 "java/lang/IndexOutOfBoundsException" ["java/lang/RuntimeException", "java/lang/Exception"]).filter goodWord, w ∈ lw_all := lw_in _ [55, 223, 232, 241, 244, 246, 224, 225, 127, 128, 226, 231, 242, 259, 213, 260, 215, 261, 217, 227, 229, 219, 494, 495, 496, 251, 251, 252, 253, 254, 254, 255, 256, 224, 493, 485, 487, 240, 488, 489, 490, 491, 222, 221, 492] (by decide +kernel) (by decide +kernel)
    have hb9 : ∀ w ∈ (vx_at0 "RowenTongue" 264 "java/lang/IndexOutOfBoundsException" ["java/lang/RuntimeException", "java/lang/Exception"]).filter (fun w => !goodWord w), w ∈ lw_tbl ∧ mm_NWk w = true ∧ w.onTables = true := by
      rw [show (vx_at0 "RowenTongue" 264 "java/lang/IndexOutOfBoundsException" ["java/lang/RuntimeException", "java/lang/Exception"]).filter (fun w => !goodWord w) = [Cond.declares ⟨"java/lang/RuntimeException", "<init>", "()V"⟩, Cond.declares ⟨"java/lang/Exception", "<init>", "()V"⟩, Cond.declares ⟨"java/lang/Throwable", "<init>", "()V"⟩, Cond.castable "java/lang/IndexOutOfBoundsException" "java/lang/IndexOutOfBoundsException"] from by decide +kernel]
      intro w hw; simp only [List.mem_cons, List.not_mem_nil, or_false] at hw
      rcases hw with rfl | rfl | rfl | rfl
      · exact ⟨q204, rfl, rfl⟩
      · exact ⟨q206, rfl, rfl⟩
      · exact ⟨q208, rfl, rfl⟩
      · exact ⟨q486, rfl, rfl⟩
    exact mm_throw0 (names := ["java/lang/RuntimeException", "java/lang/Exception"]) hx hb htr hown (by decide +kernel) (hts _ q484) (hts _ q65) (mm_hat hts hE hg9 hb9) (by decide +kernel) hST hM hS (hl.1.trans hml.symm) dX1_there_4 dX1_there_7 dX1_there_8 dX1_there_11 htab hlk (Nat.le_of_ble_eq_true rfl) (Nat.le_of_ble_eq_true rfl) (Nat.le_of_ble_eq_true rfl) (Nat.le_of_ble_eq_true rfl) ⟨e9, rfl, rfl⟩ (Nat.le_of_ble_eq_true rfl) (Nat.le_of_ble_eq_true rfl)
