/-! ===== String.hashCode where it was asked before; equals of one and the same ===== -/
set_option maxRecDepth 100000
set_option maxHeartbeats 4000000 in
set_option maxRecDepth 100000 in
theorem c_J13_hashCode_h (l : Launch) (Z : mm_G) {M : mm_M} {a ar : Nat} {h z : Int32} (ha9 : M a = some (st_E ar h z)) (hh : ¬ h = 0) : mm_C l Z yJ13_hashCode (ws_ yJ13_hashCode cJ13_hashCode 2 (some .int)) { frames := 0, cells := 0, slots := 0, locals := 0 } [.ref a] M (fun v M' => v = some (.int h) ∧ M' = M) mm_nx := by
  refine mm_ofW (cc := cJ13_hashCode) (maxL := 2) (ret := (some .int)) (by decide) rfl (Nat.le_of_ble_eq_true rfl) ?_
  intro p e s m below meth c A ls hx hb hr hlk hml hown hmn hts htab hE hST hA hM hS hl
  replace hl : lv_has ls 2 [(0, .ref a)] := hl
  refine lv_aload_n hx hb dJ13_hashCode_0 rfl (lv_at hl 0 rfl) ?_
  refine va_get (D := Z.1) (ci := 47) (v := .int h) (C := RJ13) (T := TJ13) (N := 4) hx hb hts in_J13 hown hE.1 (hM.at ha9) 0 rfl mm_cJ13 2 (by decide) (hts _ q1523) (fun _ h9 => h9) rfl dJ13_hashCode_1 ?_
  refine lv_istore_n hx hb dJ13_hashCode_4 rfl hl (by decide) rfl (fun ls hl => ?_)
  replace hl : lv_has ls 2 [(1, .int h), (0, .ref a)] := hl
  refine lv_iload_n hx hb dJ13_hashCode_5 rfl (lv_at hl 0 rfl) ?_
  refine lv_if_ne (tgt := 58) hx hb dJ13_hashCode_6 (by decide) (fun _ => ?_) (fun h9 => absurd h9 hh)
  refine lv_iload_n hx hb dJ13_hashCode_58 rfl (lv_at hl 0 rfl) ?_
  exact mm_reti hx hb hr hlk hM hS ⟨rfl, rfl⟩ dJ13_hashCode_59 (Nat.le_of_ble_eq_true rfl) (Nat.le_of_ble_eq_true rfl)
set_option maxHeartbeats 4000000 in
set_option maxRecDepth 100000 in
theorem c_J13_equals_s (l : Launch) (Z : mm_G) {M : mm_M} {a : Nat} : mm_C l Z yJ13_equals (ws_ yJ13_equals cJ13_equals 3 (some .boolean)) { frames := 0, cells := 0, slots := 0, locals := 0 } [.ref a, .ref a] M (fun v M' => v = some (.int 1) ∧ M' = M) mm_nx := by
  refine mm_ofW (cc := cJ13_equals) (maxL := 3) (ret := (some .boolean)) (by decide) rfl (Nat.le_of_ble_eq_true rfl) ?_
  intro p e s m below meth c A ls hx hb hr hlk hml hown hmn hts htab hE hST hA hM hS hl
  replace hl : lv_has ls 3 [(0, .ref a), (1, .ref a)] := hl
  refine lv_aload_n hx hb dJ13_equals_0 rfl (lv_at hl 0 rfl) ?_
  refine lv_aload_n hx hb dJ13_equals_1 rfl (lv_at hl 1 rfl) ?_
  refine lv_acmp_ne (rx := (some a)) (ry := (some a)) (tgt := 7) hx hb dJ13_equals_2 (by decide) (fun c_1 => ?_) (fun c_1 => ?_)
  · exact absurd rfl c_1
  · skip
    refine lv_iconst (v := 1) hx hb dJ13_equals_5 (by decide) ?_
    exact mm_retz hx hb hr rfl hlk hM hS ⟨rfl, rfl⟩ dJ13_equals_6 (Nat.le_of_ble_eq_true rfl) (Nat.le_of_ble_eq_true rfl)
