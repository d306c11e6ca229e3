/-! ===== throwing the claim's own exceptions ===== -/
set_option maxRecDepth 100000
section MTH
variable {p : Program} {l : Launch} {e : Env} {R : Room} {s : State} {m : MethodId} {args : Array Value} {below : List Frame} {meth : Method} {c : Code} {H : Heap} {locs : List Loc} {cells slots : Nat} {Q : State → Prop}
variable {cc : ByteArray} {pc : Nat} {ls : Array Slot} {rest : List Value} {A : Nat → Prop} {M : mm_M} {Z : mm_G} {Post : Option Value → mm_M → Prop} {PX : String → Nat → mm_M → Prop}
/-- an exception that a method without handlers lets through -/
theorem mm_outx {mc ms q : Nat} {E : String} {ce : Cell} (hout : ∀ x ∈ c.exceptionTable.toList, False) (hlocks : meth.locks = false) (hM : mm_P Z.1 mm_cl A M H) (hS : va_S A s.heap H locs) (hce : H[q]? = some ce) (hcv : ce.vm = .none) (hcl : s.vm.findClass E = some ce.cls) (hp : PX E q M) (h1 : cells ≤ mc) (h2 : slots ≤ ms) :
    vx_W p l e R s m args below meth c H locs cells slots (vx_MQ below (mm_Q Z A Post) (mm_X Z A PX) args s mc ms A) (F0 m pc ls rest) q :=
  vx_out (fun x hx => (hout x hx).elim) hlocks hce hcv hcl (fun t ht _ => ⟨⟨M, hp, by rw [ht]; exact hM⟩, hS.F ht⟩) hS.2.2 h1 h2
/-- 'athrow' of a thing that the memory knows, in a method without handlers -/
theorem mm_athrow {mc ms q ci N : Nat} {C : String} {T0 : u_T} {fs : List Value} (hexec : p.tables.exec = Jvm.exec) (hb : c.code = cc) (hout : ∀ x ∈ c.exceptionTable.toList, False) (hlocks : meth.locks = false) (hE : mm_E Z s) (hM : mm_P Z.1 mm_cl A M H) (hS : va_S A s.heap H locs) (he : M q = some (.inr (ci, fs))) (hc : mm_cl[ci]? = some (C, T0, N)) (hp : PX C q M) (hdg : decode cc pc = .ok (.athrow, 1)) (h1 : cells ≤ mc) (h2 : slots ≤ ms) :
    W p l e R s m args below meth c H locs cells slots (vx_MQ below (mm_Q Z A Post) (mm_X Z A PX) args s mc ms A) (F0 m pc ls (.ref q :: rest)) := by
  obtain ⟨r, g1, cell, q1, q2, q3, q4⟩ := hM.at he 0 _ rfl
  cases Option.some.inj (g1.symm.trans hc)
  refine vx_athrow hexec hb hdg (mm_outx hout hlocks hM hS q1 q3 ?_ hp h1 h2)
  rw [q2]
  exact (hE.1.1 ci _ hc).2.1
end MTH

set_option maxHeartbeats 4000000 in
set_option maxRecDepth 100000 in
theorem c_X1_must (l : Launch) (Z : mm_G) {M : mm_M} (htr : l.stackTraces = false) {b : Bool} {er : Int32} : mm_C l Z yX1_must (ws_ yX1_must cX1_must 2 none) { frames := 6, cells := 1, slots := 7, locals := 200 } [.int (mm_b b), .int er] M (fun v M' => b = true ∧ v = none ∧ M' = M) (fun E q M' => b = false ∧ E = "RowenTongue$Clash" ∧ ∃ ru rs : Option Nat, M q = none ∧ M' = mm_U M q (.inr (16, [.ref q, va_rf ru, va_rf rs, .null, .null, .int 0, .int er]))) := by
  refine mm_ofW (cc := cX1_must) (maxL := 2) (ret := none) (by decide) rfl (Nat.le_of_ble_eq_true rfl) ?_
  intro p e s m below meth c A ls hx hb hr hlk hml hown hmn hts htab hE hST hA hM hS hl
  have hl : lv_has ls 2 [(0, .int (mm_b b)), (1, .int er)] := hl
  refine lv_iload_n hx hb dX1_must_0 rfl (lv_at hl 0 rfl) ?_
  refine lv_if_ne (tgt := 13) hx hb dX1_must_1 (by decide) (fun c_1 => ?_) (fun c_1 => ?_)
  · have e9 : b = true := by cases b with | true => rfl | false => exact absurd rfl c_1
    exact mm_retv hx hb hr hlk hM hS ⟨e9, rfl, rfl⟩ dX1_must_13 (Nat.le_of_ble_eq_true rfl) (Nat.le_of_ble_eq_true rfl)
  · have e9 : b = false := by cases b with | false => rfl | true => exact absurd c_1 (by decide)
    refine mm_newX (D := Z.1) (ci := 16) (fs := mm_f0X20) (C := RX20) (T := TX20) (N := 7) hx hb hts in_X20 tyX20 tyX20_ok hown (hts _ q1233) (hts _ q1108) (hts _ q88) hE.1 hM hS hA mm_cX20 mm_dfX20 (Nat.le_of_ble_eq_true rfl) (Nat.le_of_ble_eq_true rfl) dX1_must_4 (fun q_3 H nq_2 hM hS hFr => ?_)
    have hM : mm_P Z.1 mm_cl A (mm_U M q_3 (.inr (16, [.null, .null, .null, .null, .null, .int 0, .int 0]))) H := hM
    have hc_4 : (mm_U M q_3 (.inr (16, [.null, .null, .null, .null, .null, .int 0, .int 0]))) q_3 = some (.inr (16, [.null, .null, .null, .null, .null, .int 0, .int 0])) := mm_U_eq
    obtain ⟨M_5, eM_5⟩ : ∃ z, z = mm_U M q_3 (.inr (16, [.null, .null, .null, .null, .null, .int 0, .int 0])) := ⟨_, rfl⟩
    rw [← eM_5] at hM hc_4
    refine lv_dup hx hb dX1_must_7 rfl ?_
    refine lv_iload_n hx hb dX1_must_8 rfl (lv_at hl 1 rfl) ?_
    refine mm_callIK (As := [.int er]) (rest := [.ref q_3]) ⟨hx, hb, hml, hown, hts⟩ hE hST hA hFr (c_X20_init l Z htr (er := er) hc_4) (cwI (maxL := 2) 1 hts (lw_meth q1118) rfl rfl rfl (hts _ q88) (hts _ q1234) (hts _ q1117) rfl (by decide +kernel) ⟨(Nat.le_of_ble_eq_true rfl), (Nat.le_of_ble_eq_true rfl)⟩) hM hS rfl hl.1 (Nat.le_of_ble_eq_true rfl) dX1_must_9 rfl ⟨(Nat.le_of_ble_eq_true rfl), (Nat.le_of_ble_eq_true rfl)⟩ (fun _ _ _ _ _ _ h9 => h9.elim) (fun v_6 M_7 H locs hp_8 hM hS => ?_)
    obtain ⟨rfl, ru, rs, eM_7⟩ := hp_8
    rw [eM_7] at hM
    have hc_9 : (mm_U M_5 q_3 (.inr (16, [.ref q_3, va_rf ru, va_rf rs, .null, .null, .int 0, .int er]))) q_3 = some (.inr (16, [.ref q_3, va_rf ru, va_rf rs, .null, .null, .int 0, .int er])) := mm_U_eq
    obtain ⟨M_10, eM_10⟩ : ∃ z, z = mm_U M_5 q_3 (.inr (16, [.ref q_3, va_rf ru, va_rf rs, .null, .null, .int 0, .int er])) := ⟨_, rfl⟩
    rw [← eM_10] at hM hc_9
    exact mm_athrow hx hb htab hlk hE hM hS hc_9 mm_cX20 ⟨e9, rfl, ru, rs, nq_2, by subst eM_10 eM_5; simp only [mm_U_U]⟩ dX1_must_12 (Nat.le_of_ble_eq_true rfl) (Nat.le_of_ble_eq_true rfl)
set_option maxHeartbeats 4000000 in
set_option maxRecDepth 100000 in
theorem c_X21_at_2 (l : Launch) (Z : mm_G) {M : mm_M} (htr : l.stackTraces = false) {a h9 : Nat} : mm_C l Z yX21_at_2 (ws_ yX21_at_2 cX21_at_2 2 none) { frames := 6, cells := 1, slots := 7, locals := 200 } [.ref h9, .ref a] M (fun v M' => False) (fun E q M' => E = "RowenTongue$Clash" ∧ ∃ ru rs : Option Nat, M q = none ∧ M' = mm_U M q (.inr (16, [.ref q, va_rf ru, va_rf rs, .null, .null, .int 0, .int 5]))) := by
  refine mm_ofW (cc := cX21_at_2) (maxL := 2) (ret := none) (by decide) rfl (Nat.le_of_ble_eq_true rfl) ?_
  intro p e s m below meth c A ls hx hb hr hlk hml hown hmn hts htab hE hST hA hM hS hl
  have hl : lv_has ls 2 [(0, .ref h9), (1, .ref a)] := hl
  refine mm_newX (D := Z.1) (ci := 16) (fs := mm_f0X20) (C := RX20) (T := TX20) (N := 7) hx hb hts in_X20 tyX20 tyX20_ok hown (hts _ q1141) (hts _ q1108) (hts _ q88) hE.1 hM hS hA mm_cX20 mm_dfX20 (Nat.le_of_ble_eq_true rfl) (Nat.le_of_ble_eq_true rfl) dX21_at_2_0 (fun q_2 H nq_1 hM hS hFr => ?_)
  have hM : mm_P Z.1 mm_cl A (mm_U M q_2 (.inr (16, [.null, .null, .null, .null, .null, .int 0, .int 0]))) H := hM
  have hc_3 : (mm_U M q_2 (.inr (16, [.null, .null, .null, .null, .null, .int 0, .int 0]))) q_2 = some (.inr (16, [.null, .null, .null, .null, .null, .int 0, .int 0])) := mm_U_eq
  obtain ⟨M_4, eM_4⟩ : ∃ z, z = mm_U M q_2 (.inr (16, [.null, .null, .null, .null, .null, .int 0, .int 0])) := ⟨_, rfl⟩
  rw [← eM_4] at hM hc_3
  refine lv_dup hx hb dX21_at_2_3 rfl ?_
  refine lv_iconst (v := 5) hx hb dX21_at_2_4 (by decide) ?_
  refine mm_callIK (As := [.int 5]) (rest := [.ref q_2]) ⟨hx, hb, hml, hown, hts⟩ hE hST hA hFr (c_X20_init l Z htr (er := 5) hc_3) (cwI (maxL := 2) 1 hts (lw_meth q1118) rfl rfl rfl (hts _ q88) (hts _ q1142) (hts _ q1117) rfl (by decide +kernel) ⟨(Nat.le_of_ble_eq_true rfl), (Nat.le_of_ble_eq_true rfl)⟩) hM hS rfl hl.1 (Nat.le_of_ble_eq_true rfl) dX21_at_2_5 rfl ⟨(Nat.le_of_ble_eq_true rfl), (Nat.le_of_ble_eq_true rfl)⟩ (fun _ _ _ _ _ _ h9 => h9.elim) (fun v_5 M_6 H locs hp_7 hM hS => ?_)
  obtain ⟨rfl, ru, rs, eM_6⟩ := hp_7
  rw [eM_6] at hM
  have hc_8 : (mm_U M_4 q_2 (.inr (16, [.ref q_2, va_rf ru, va_rf rs, .null, .null, .int 0, .int 5]))) q_2 = some (.inr (16, [.ref q_2, va_rf ru, va_rf rs, .null, .null, .int 0, .int 5])) := mm_U_eq
  obtain ⟨M_9, eM_9⟩ : ∃ z, z = mm_U M_4 q_2 (.inr (16, [.ref q_2, va_rf ru, va_rf rs, .null, .null, .int 0, .int 5])) := ⟨_, rfl⟩
  rw [← eM_9] at hM hc_8
  exact mm_athrow hx hb htab hlk hE hM hS hc_8 mm_cX20 ⟨rfl, ru, rs, nq_1, by subst eM_9 eM_4; simp only [mm_U_U]⟩ dX21_at_2_8 (Nat.le_of_ble_eq_true rfl) (Nat.le_of_ble_eq_true rfl)
set_option maxHeartbeats 4000000 in
set_option maxRecDepth 100000 in
theorem c_X30_count (l : Launch) (Z : mm_G) {M : mm_M} (htr : l.stackTraces = false) {a n : Nat} (ha9 : M a = some (.inr (25, [.int (nI n)]))) (hn : n ≤ 1000) : mm_C l Z yX30_count (ws_ yX30_count cX30_count 1 none) { frames := 6, cells := 1, slots := 6, locals := 200 } [.ref a] M (fun v M' => n < 1000 ∧ v = none ∧ M' = mm_U M a (.inr (25, [.int (nI (n + 1))]))) (fun E q M' => n = 1000 ∧ E = "RowenTongue$Far" ∧ ∃ ru rs : Option Nat, M q = none ∧ M' = mm_U M q (.inr (26, [.ref q, va_rf ru, va_rf rs, .null, .null, .int 0]))) := by
  refine mm_ofW (cc := cX30_count) (maxL := 1) (ret := none) (by decide) rfl (Nat.le_of_ble_eq_true rfl) ?_
  intro p e s m below meth c A ls hx hb hr hlk hml hown hmn hts htab hE hST hA hM hS hl
  have hl : lv_has ls 1 [(0, .ref a)] := hl
  refine lv_aload_n hx hb dX30_count_0 rfl (lv_at hl 0 rfl) ?_
  refine va_get (D := Z.1) (ci := 25) (v := .int (nI n)) (C := RX30) (T := TX30) (N := 1) hx hb hts in_X30 hown hE.1 (hM.at ha9) 0 rfl mm_cX30 0 (by decide) (hts _ q1793) (fun _ h9 => h9) rfl dX30_count_1 ?_
  refine lv_sipush (v := 1000) hx hb dX30_count_4 (by decide) ?_
  refine lv_icmp_ne (tgt := 18) hx hb dX30_count_7 (by decide) (fun c_1 => ?_) (fun c_1 => ?_)
  · have e9 : n < 1000 := by have : ¬ n = 1000 := fun q => c_1 (by rw [q]; rfl); omega
    refine lv_aload_n hx hb dX30_count_18 rfl (lv_at hl 0 rfl) ?_
    refine lv_dup hx hb dX30_count_19 rfl ?_
    refine va_get (D := Z.1) (ci := 25) (v := .int (nI n)) (C := RX30) (T := TX30) (N := 1) hx hb hts in_X30 hown hE.1 (hM.at ha9) 0 rfl mm_cX30 0 (by decide) (hts _ q1793) (fun _ h9 => h9) rfl dX30_count_20 ?_
    refine lv_iconst (v := 1) hx hb dX30_count_23 (by decide) ?_
    refine lv_iadd hx hb dX30_count_24 ?_
    rw [show ((nI n) + 1 : Int32) = nI (n + 1) from nI_1 _]
    refine mm_put (D := Z.1) (ci := 25) (v := .int (nI (n + 1))) (ty := .int) (C := RX30) (T := TX30) (N := 1) hx hb hts in_X30 tyX30 tyX30_ok nmX30 hown hE.1 hM hS ha9 mm_cX30 0 (by decide) (hts _ q1793) (fun _ h9 => h9) rfl (by decide +kernel) rfl rfl (Nat.le_of_ble_eq_true rfl) dX30_count_25 (fun H locs hM hS => ?_)
    have hM : mm_P Z.1 mm_cl A (mm_U M a (.inr (25, [.int (nI (n + 1))]))) H := hM
    have hc_2 : (mm_U M a (.inr (25, [.int (nI (n + 1))]))) a = some (.inr (25, [.int (nI (n + 1))])) := mm_U_eq
    obtain ⟨M_3, eM_3⟩ : ∃ z, z = mm_U M a (.inr (25, [.int (nI (n + 1))])) := ⟨_, rfl⟩
    rw [← eM_3] at hM hc_2
    exact mm_retv hx hb hr hlk hM hS ⟨e9, rfl, eM_3⟩ dX30_count_28 (Nat.le_of_ble_eq_true rfl) (Nat.le_of_ble_eq_true rfl)
  · have e9 : n = 1000 := (nI_eq (b := 1000) (by omega) (by omega)).1 c_1
    refine mm_newX (D := Z.1) (ci := 26) (fs := mm_f0X31) (C := RX31) (T := TX31) (N := 6) hx hb hts in_X31 tyX31 tyX31_ok hown (hts _ q1808) (hts _ q1809) (hts _ q104) hE.1 hM hS hA mm_cX31 mm_dfX31 (Nat.le_of_ble_eq_true rfl) (Nat.le_of_ble_eq_true rfl) dX30_count_10 (fun q_3 H nq_2 hM hS hFr => ?_)
    have hM : mm_P Z.1 mm_cl A (mm_U M q_3 (.inr (26, [.null, .null, .null, .null, .null, .int 0]))) H := hM
    have ne_4 : a ≠ q_3 := (mm_neN ha9 nq_2)
    have hc_5 : (mm_U M q_3 (.inr (26, [.null, .null, .null, .null, .null, .int 0]))) q_3 = some (.inr (26, [.null, .null, .null, .null, .null, .int 0])) := mm_U_eq
    have hc_6 : (mm_U M q_3 (.inr (26, [.null, .null, .null, .null, .null, .int 0]))) a = some (.inr (25, [.int (nI n)])) := (mm_U_ne ne_4).trans ha9
    obtain ⟨M_7, eM_7⟩ : ∃ z, z = mm_U M q_3 (.inr (26, [.null, .null, .null, .null, .null, .int 0])) := ⟨_, rfl⟩
    rw [← eM_7] at hM hc_6 hc_5
    refine lv_dup hx hb dX30_count_13 rfl ?_
    refine mm_callINK (As := []) (rest := [.ref q_3]) ⟨hx, hb, hml, hown, hts⟩ hE hST hA hFr (c_X31_init l Z htr hc_5) ⟨va_cnB 0 hts (lw_meth q1819) rfl rfl rfl (hE.2.1 _ q1817 rfl) (hts _ q104) (by decide +kernel) ⟨(Nat.le_of_ble_eq_true rfl), (Nat.le_of_ble_eq_true rfl)⟩, rfl, hts _ q1818⟩ hM hS rfl hl.1 (Nat.le_of_ble_eq_true rfl) dX30_count_14 rfl ⟨(Nat.le_of_ble_eq_true rfl), (Nat.le_of_ble_eq_true rfl)⟩ (fun _ _ _ _ _ _ h9 => h9.elim) (fun v_8 M_9 H locs hp_10 hM hS => ?_)
    obtain ⟨rfl, ru, rs, eM_9⟩ := hp_10
    rw [eM_9] at hM
    have hc_11 : (mm_U M_7 q_3 (.inr (26, [.ref q_3, va_rf ru, va_rf rs, .null, .null, .int 0]))) q_3 = some (.inr (26, [.ref q_3, va_rf ru, va_rf rs, .null, .null, .int 0])) := mm_U_eq
    have hc_12 : (mm_U M_7 q_3 (.inr (26, [.ref q_3, va_rf ru, va_rf rs, .null, .null, .int 0]))) a = some (.inr (25, [.int (nI n)])) := (mm_U_ne ne_4).trans hc_6
    obtain ⟨M_13, eM_13⟩ : ∃ z, z = mm_U M_7 q_3 (.inr (26, [.ref q_3, va_rf ru, va_rf rs, .null, .null, .int 0])) := ⟨_, rfl⟩
    rw [← eM_13] at hM hc_12 hc_11
    exact mm_athrow hx hb htab hlk hE hM hS hc_11 mm_cX31 ⟨e9, rfl, ru, rs, nq_2, by subst eM_13 eM_7; simp only [mm_U_U]⟩ dX30_count_17 (Nat.le_of_ble_eq_true rfl) (Nat.le_of_ble_eq_true rfl)
