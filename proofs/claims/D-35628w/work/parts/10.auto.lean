/-! ===== contracts of plain methods, printed by gen/mkauto.py ===== -/
set_option maxHeartbeats 4000000 in
set_option maxRecDepth 100000 in
theorem c_J0_init (l : Launch) (Z : mm_G) {M : mm_M} {h0 : Nat}  : mm_C l Z yJ0_init (ws_ yJ0_init cJ0_init 1 none) { frames := 1, cells := 0, slots := 0, locals := 12 } [.ref h0] M (fun v M' => v = none ∧ M' = M) mm_nx := by
  refine mm_ofW (cc := cJ0_init) (maxL := 1) (ret := none) (by decide) rfl (Nat.le_of_ble_eq_true rfl) ?_
  intro p e s m below meth c A ls hx hb hr hlk hml hown hmn hts htab hE hST hA hM hS hl
  replace hl : lv_has ls 1 [(0, .ref h0)] := hl
  refine lv_aload_n hx hb dJ0_init_0 rfl (lv_at hl 0 rfl) ?_
  refine W.objInit hx hb hown (hts _ q140) (hts _ q127) (hts _ q128) rfl (by rw [hml]; exact hl.1) rfl dJ0_init_1 (Nat.le_of_ble_eq_true rfl) (Nat.le_of_ble_eq_true rfl) ?_
  refine W.eq (g2 := F0 m 4 ls []) rfl ?_
  exact mm_retv hx hb hr hlk hM hS ⟨rfl, rfl⟩ dJ0_init_4 (Nat.le_of_ble_eq_true rfl) (Nat.le_of_ble_eq_true rfl)
set_option maxHeartbeats 4000000 in
set_option maxRecDepth 100000 in
theorem c_J1_init (l : Launch) (Z : mm_G) {M : mm_M} {h0 : Nat} (h_h0 : M h0 = some (.inr (41, [.int 0, .null, .int 0]))) : mm_C l Z yJ1_init (ws_ yJ1_init cJ1_init 1 none) { frames := 2, cells := 0, slots := 0, locals := 32 } [.ref h0] M (fun v M' => v = none ∧ M' = mm_U M h0 (.inr (41, [.int 0, .null, .int 0]))) mm_nx := by
  refine mm_ofW (cc := cJ1_init) (maxL := 1) (ret := none) (by decide) rfl (Nat.le_of_ble_eq_true rfl) ?_
  intro p e s m below meth c A ls hx hb hr hlk hml hown hmn hts htab hE hST hA hM hS hl
  replace hl : lv_has ls 1 [(0, .ref h0)] := hl
  refine lv_aload_n hx hb dJ1_init_0 rfl (lv_at hl 0 rfl) ?_
  refine mm_callI (As := []) (rest := []) ⟨hx, hb, hml, hown, hts⟩ hE hST hA (c_J0_init l Z (M := M) (h0 := h0) ) (cwI (maxL := 1) 0 hts (lw_meth q139) rfl rfl rfl (hts _ q51) (hts _ q137) (hts _ q138) rfl (by decide +kernel) ⟨(Nat.le_of_ble_eq_true rfl), (Nat.le_of_ble_eq_true rfl)⟩) hM hS rfl hl.1 (Nat.le_of_ble_eq_true rfl) dJ1_init_1 rfl ⟨(Nat.le_of_ble_eq_true rfl), (Nat.le_of_ble_eq_true rfl)⟩ (fun _ _ _ _ _ _ h9 => h9.elim) (fun v_1 M_2 H locs hp_3 hM hS => ?_)
  obtain ⟨rfl, eM_2⟩ := hp_3
  rw [eM_2] at hM
  refine lv_aload_n hx hb dJ1_init_4 rfl (lv_at hl 0 rfl) ?_
  refine lv_iconst (v := 0) hx hb dJ1_init_5 (by decide) ?_
  refine mm_put (D := Z.1) (ci := 41) (v := .int 0) (ty := .int) (C := RJ2) (T := TJ2) (N := 3) hx hb hts in_J2 tyJ2 tyJ2_ok nmJ2 hown hE.1 hM hS h_h0 mm_cJ2 0 (by decide) (hts _ q147) (fun _ h9 => h9) rfl (by decide +kernel) rfl rfl (Nat.le_of_ble_eq_true rfl) dJ1_init_6 (fun H locs hM hS => ?_)
  have hM : mm_P Z.1 mm_cl A (mm_U M h0 (.inr (41, [.int 0, .null, .int 0]))) H := hM
  have hc_4 : (mm_U M h0 (.inr (41, [.int 0, .null, .int 0]))) h0 = some (.inr (41, [.int 0, .null, .int 0])) := mm_U_eq
  obtain ⟨M_5, eM_5⟩ : ∃ z, z = mm_U M h0 (.inr (41, [.int 0, .null, .int 0])) := ⟨_, rfl⟩
  rw [← eM_5] at hM hc_4
  exact mm_retv hx hb hr hlk hM hS ⟨rfl, by subst eM_5; first | rfl | simp only [mm_U_U]⟩ dJ1_init_9 (Nat.le_of_ble_eq_true rfl) (Nat.le_of_ble_eq_true rfl)
set_option maxHeartbeats 4000000 in
set_option maxRecDepth 100000 in
theorem c_J18_getValue (l : Launch) (Z : mm_G) {M : mm_M} {h0 : Nat} {f0 : Option Nat} {f1 : Int32} {f2 : Bool} {f3 : Int32} (h_h0 : M h0 = some (.inr (49, [va_rf f0, .int f1, .int (mm_b f2), .int f3]))) : mm_C l Z yJ18_getValue (ws_ yJ18_getValue cJ18_getValue 1 (some (.array .byte))) { frames := 0, cells := 0, slots := 0, locals := 0 } [.ref h0] M (fun v M' => v = some (va_rf f0) ∧ M' = M) mm_nx := by
  refine mm_ofW (cc := cJ18_getValue) (maxL := 1) (ret := (some (.array .byte))) (by decide) rfl (Nat.le_of_ble_eq_true rfl) ?_
  intro p e s m below meth c A ls hx hb hr hlk hml hown hmn hts htab hE hST hA hM hS hl
  replace hl : lv_has ls 1 [(0, .ref h0)] := hl
  refine lv_aload_n hx hb dJ18_getValue_0 rfl (lv_at hl 0 rfl) ?_
  refine va_get (D := Z.1) (ci := 49) (v := va_rf f0) (C := RJ19) (T := TJ19) (N := 4) hx hb hts in_J19 hown hE.1 (hM.at h_h0) 0 rfl mm_cJ19 0 (by decide) (hts _ q1318) (fun _ h9 => h9) rfl dJ18_getValue_1 ?_
  exact mm_reta hx hb hr (Or.inr ⟨_, rfl⟩) (mm_rf_or _) hlk hM hS ⟨rfl, rfl⟩ dJ18_getValue_4 (Nat.le_of_ble_eq_true rfl) (Nat.le_of_ble_eq_true rfl)
set_option maxHeartbeats 4000000 in
set_option maxRecDepth 100000 in
theorem c_J18_length (l : Launch) (Z : mm_G) {M : mm_M} {h0 : Nat} {f0 : Option Nat} {f1 : Int32} {f2 : Bool} {f3 : Int32} (h_h0 : M h0 = some (.inr (49, [va_rf f0, .int f1, .int (mm_b f2), .int f3]))) : mm_C l Z yJ18_length (ws_ yJ18_length cJ18_length 1 (some .int)) { frames := 0, cells := 0, slots := 0, locals := 0 } [.ref h0] M (fun v M' => v = some (.int f3) ∧ M' = M) mm_nx := by
  refine mm_ofW (cc := cJ18_length) (maxL := 1) (ret := (some .int)) (by decide) rfl (Nat.le_of_ble_eq_true rfl) ?_
  intro p e s m below meth c A ls hx hb hr hlk hml hown hmn hts htab hE hST hA hM hS hl
  replace hl : lv_has ls 1 [(0, .ref h0)] := hl
  refine lv_aload_n hx hb dJ18_length_0 rfl (lv_at hl 0 rfl) ?_
  refine va_get (D := Z.1) (ci := 49) (v := .int f3) (C := RJ19) (T := TJ19) (N := 4) hx hb hts in_J19 hown hE.1 (hM.at h_h0) 0 rfl mm_cJ19 3 (by decide) (hts _ q1321) (fun _ h9 => h9) rfl dJ18_length_1 ?_
  exact mm_reti hx hb hr hlk hM hS ⟨rfl, rfl⟩ dJ18_length_4 (Nat.le_of_ble_eq_true rfl) (Nat.le_of_ble_eq_true rfl)
set_option maxHeartbeats 4000000 in
set_option maxRecDepth 100000 in
theorem c_J19_length (l : Launch) (Z : mm_G) {M : mm_M} {h0 : Nat} {f0 : Option Nat} {f1 : Int32} {f2 : Bool} {f3 : Int32} (h_h0 : M h0 = some (.inr (49, [va_rf f0, .int f1, .int (mm_b f2), .int f3]))) : mm_C l Z yJ19_length (ws_ yJ19_length cJ19_length 1 (some .int)) { frames := 1, cells := 0, slots := 0, locals := 20 } [.ref h0] M (fun v M' => v = some (.int f3) ∧ M' = M) mm_nx := by
  refine mm_ofW (cc := cJ19_length) (maxL := 1) (ret := (some .int)) (by decide) rfl (Nat.le_of_ble_eq_true rfl) ?_
  intro p e s m below meth c A ls hx hb hr hlk hml hown hmn hts htab hE hST hA hM hS hl
  replace hl : lv_has ls 1 [(0, .ref h0)] := hl
  refine lv_aload_n hx hb dJ19_length_0 rfl (lv_at hl 0 rfl) ?_
  refine mm_callSU (As := []) (rest := []) ⟨hx, hb, hml, hown, hts⟩ hE hST hA (c_J18_length l Z (M := M) (h0 := h0) (f0 := f0) (f1 := f1) (f2 := f2) (f3 := f3) h_h0) (va_cwSU 0 hts (lw_app (lw_in _ [1485, 1481, 1330, 1480, 92] (by decide +kernel) (by decide +kernel)) (lw_meth q1486)) rfl rfl rfl (by decide +kernel) ⟨(Nat.le_of_ble_eq_true rfl), (Nat.le_of_ble_eq_true rfl)⟩) hM hS mm_cJ19 h_h0 rfl hl.1 (Nat.le_of_ble_eq_true rfl) dJ19_length_1 rfl ⟨(Nat.le_of_ble_eq_true rfl), (Nat.le_of_ble_eq_true rfl)⟩ (fun _ _ _ _ _ _ h9 => h9.elim) (fun v_1 M_2 H locs hp_3 hM hS => ?_)
  obtain ⟨rfl, eM_2⟩ := hp_3
  rw [eM_2] at hM
  exact mm_reti hx hb hr hlk hM hS ⟨rfl, rfl⟩ dJ19_length_4 (Nat.le_of_ble_eq_true rfl) (Nat.le_of_ble_eq_true rfl)
set_option maxHeartbeats 4000000 in
set_option maxRecDepth 100000 in
theorem c_J2_init (l : Launch) (Z : mm_G) {M : mm_M} {h0 : Nat} (h_h0 : M h0 = some (.inr (41, [.int 0, .null, .int 0]))) : mm_C l Z yJ2_init (ws_ yJ2_init cJ2_init 1 none) { frames := 3, cells := 0, slots := 0, locals := 52 } [.ref h0] M (fun v M' => v = none ∧ M' = mm_U M h0 (.inr (41, [.int 0, .ref (Z.2.2.1 2), .int 0]))) mm_nx := by
  refine mm_ofW (cc := cJ2_init) (maxL := 1) (ret := none) (by decide) rfl (Nat.le_of_ble_eq_true rfl) ?_
  intro p e s m below meth c A ls hx hb hr hlk hml hown hmn hts htab hE hST hA hM hS hl
  replace hl : lv_has ls 1 [(0, .ref h0)] := hl
  refine lv_aload_n hx hb dJ2_init_0 rfl (lv_at hl 0 rfl) ?_
  refine mm_callI (As := []) (rest := []) ⟨hx, hb, hml, hown, hts⟩ hE hST hA (c_J1_init l Z (M := M) (h0 := h0) h_h0) (cwI (maxL := 1) 0 hts (lw_meth q136) rfl rfl rfl (hts _ q52) (hts _ q134) (hts _ q135) rfl (by decide +kernel) ⟨(Nat.le_of_ble_eq_true rfl), (Nat.le_of_ble_eq_true rfl)⟩) hM hS rfl hl.1 (Nat.le_of_ble_eq_true rfl) dJ2_init_1 rfl ⟨(Nat.le_of_ble_eq_true rfl), (Nat.le_of_ble_eq_true rfl)⟩ (fun _ _ _ _ _ _ h9 => h9.elim) (fun v_1 M_2 H locs hp_3 hM hS => ?_)
  obtain ⟨rfl, eM_2⟩ := hp_3
  rw [eM_2] at hM
  replace hM : mm_P Z.1 mm_cl A (mm_U M h0 (.inr (41, [.int 0, .null, .int 0]))) H := hM
  have hc_4 : (mm_U M h0 (.inr (41, [.int 0, .null, .int 0]))) h0 = some (.inr (41, [.int 0, .null, .int 0])) := mm_U_eq
  obtain ⟨M_5, eM_5⟩ : ∃ z, z = mm_U M h0 (.inr (41, [.int 0, .null, .int 0])) := ⟨_, rfl⟩
  rw [← eM_5] at hM hc_4
  refine lv_aload_n hx hb dJ2_init_4 rfl (lv_at hl 0 rfl) ?_
  refine va_gets hx hb (hST.1 _ (List.mem_of_getElem? (i := 2) rfl)) hS hown (hts _ q141) (fun _ h9 => h9) dJ2_init_5 ?_
  refine mm_put (D := Z.1) (ci := 41) (v := .ref (Z.2.2.1 2)) (ty := .array (.object "java/lang/Object")) (C := RJ2) (T := TJ2) (N := 3) hx hb hts in_J2 tyJ2 tyJ2_ok nmJ2 hown hE.1 hM hS hc_4 mm_cJ2 1 (by decide) (hts _ q143) (fun _ h9 => h9) rfl (by decide +kernel) rfl rfl (Nat.le_of_ble_eq_true rfl) dJ2_init_8 (fun H locs hM hS => ?_)
  have hM : mm_P Z.1 mm_cl A (mm_U M_5 h0 (.inr (41, [.int 0, .ref (Z.2.2.1 2), .int 0]))) H := hM
  have hc_6 : (mm_U M_5 h0 (.inr (41, [.int 0, .ref (Z.2.2.1 2), .int 0]))) h0 = some (.inr (41, [.int 0, .ref (Z.2.2.1 2), .int 0])) := mm_U_eq
  obtain ⟨M_7, eM_7⟩ : ∃ z, z = mm_U M_5 h0 (.inr (41, [.int 0, .ref (Z.2.2.1 2), .int 0])) := ⟨_, rfl⟩
  rw [← eM_7] at hM hc_6
  exact mm_retv hx hb hr hlk hM hS ⟨rfl, by subst eM_7 eM_5; first | rfl | simp only [mm_U_U]⟩ dJ2_init_11 (Nat.le_of_ble_eq_true rfl) (Nat.le_of_ble_eq_true rfl)
set_option maxHeartbeats 4000000 in
set_option maxRecDepth 100000 in
theorem c_J2_size (l : Launch) (Z : mm_G) {M : mm_M} {h0 : Nat} {f0 : Int32} {f1 : Option Nat} {f2 : Int32} (h_h0 : M h0 = some (.inr (41, [.int f0, va_rf f1, .int f2]))) : mm_C l Z yJ2_size (ws_ yJ2_size cJ2_size 1 (some .int)) { frames := 0, cells := 0, slots := 0, locals := 0 } [.ref h0] M (fun v M' => v = some (.int f2) ∧ M' = M) mm_nx := by
  refine mm_ofW (cc := cJ2_size) (maxL := 1) (ret := (some .int)) (by decide) rfl (Nat.le_of_ble_eq_true rfl) ?_
  intro p e s m below meth c A ls hx hb hr hlk hml hown hmn hts htab hE hST hA hM hS hl
  replace hl : lv_has ls 1 [(0, .ref h0)] := hl
  refine lv_aload_n hx hb dJ2_size_0 rfl (lv_at hl 0 rfl) ?_
  refine va_get (D := Z.1) (ci := 41) (v := .int f2) (C := RJ2) (T := TJ2) (N := 3) hx hb hts in_J2 hown hE.1 (hM.at h_h0) 0 rfl mm_cJ2 2 (by decide) (hts _ q146) (fun _ h9 => h9) rfl dJ2_size_1 ?_
  exact mm_reti hx hb hr hlk hM hS ⟨rfl, rfl⟩ dJ2_size_4 (Nat.le_of_ble_eq_true rfl) (Nat.le_of_ble_eq_true rfl)
set_option maxHeartbeats 4000000 in
set_option maxRecDepth 100000 in
theorem c_X1_init (l : Launch) (Z : mm_G) {M : mm_M} {h0 : Nat} (h_h0 : M h0 = some (.inr (0, [.null, .int 0, .int 0, .null]))) : mm_C l Z yX1_init (ws_ yX1_init cX1_init 1 none) { frames := 4, cells := 1, slots := 3, locals := 72 } [.ref h0] M (fun v M' => ∃ q_2 : Nat, M q_2 = none ∧ v = none ∧ M' = mm_U (mm_U M q_2 (.inr (41, [.int 0, .ref (Z.2.2.1 2), .int 0]))) h0 (.inr (0, [.ref q_2, .int (-1), .int 0, .ref (Z.2.2.2 0)]))) mm_nx := by
  refine mm_ofW (cc := cX1_init) (maxL := 1) (ret := none) (by decide) rfl (Nat.le_of_ble_eq_true rfl) ?_
  intro p e s m below meth c A ls hx hb hr hlk hml hown hmn hts htab hE hST hA hM hS hl
  replace hl : lv_has ls 1 [(0, .ref h0)] := hl
  refine lv_aload_n hx hb dX1_init_0 rfl (lv_at hl 0 rfl) ?_
  refine W.objInit hx hb hown (hts _ q126) (hts _ q127) (hts _ q128) rfl (by rw [hml]; exact hl.1) rfl dX1_init_1 (Nat.le_of_ble_eq_true rfl) (Nat.le_of_ble_eq_true rfl) ?_
  refine W.eq (g2 := F0 m 4 ls []) rfl ?_
  refine lv_aload_n hx hb dX1_init_4 rfl (lv_at hl 0 rfl) ?_
  refine mm_new (D := Z.1) (ci := 41) (fs := mm_f0J2) (C := RJ2) (T := TJ2) (N := 3) hx hb hts in_J2 tyJ2 tyJ2_ok hown (hts _ q129) (hts _ q130) (hts _ q53) hE.1 hM hS hA mm_cJ2 mm_dfJ2 (Nat.le_of_ble_eq_true rfl) (Nat.le_of_ble_eq_true rfl) dX1_init_5 (fun q_2 H nq_1 hM hS => ?_)
  have hM : mm_P Z.1 mm_cl A (mm_U M q_2 (.inr (41, [.int 0, .null, .int 0]))) H := hM
  have ne_3 : h0 ≠ q_2 := (mm_neN h_h0 nq_1)
  have hc_4 : (mm_U M q_2 (.inr (41, [.int 0, .null, .int 0]))) q_2 = some (.inr (41, [.int 0, .null, .int 0])) := mm_U_eq
  have hc_5 : (mm_U M q_2 (.inr (41, [.int 0, .null, .int 0]))) h0 = some (.inr (0, [.null, .int 0, .int 0, .null])) := (mm_U_ne ne_3).trans h_h0
  obtain ⟨M_6, eM_6⟩ : ∃ z, z = mm_U M q_2 (.inr (41, [.int 0, .null, .int 0])) := ⟨_, rfl⟩
  rw [← eM_6] at hM hc_5 hc_4
  refine lv_dup hx hb dX1_init_8 rfl ?_
  refine mm_callI (As := []) (rest := [.ref q_2, .ref h0]) ⟨hx, hb, hml, hown, hts⟩ hE hST hA (c_J2_init l Z (M := M_6) (h0 := q_2) hc_4) (cwI (maxL := 1) 0 hts (lw_meth q133) rfl rfl rfl (hts _ q53) (hts _ q131) (hts _ q132) rfl (by decide +kernel) ⟨(Nat.le_of_ble_eq_true rfl), (Nat.le_of_ble_eq_true rfl)⟩) hM hS rfl hl.1 (Nat.le_of_ble_eq_true rfl) dX1_init_9 rfl ⟨(Nat.le_of_ble_eq_true rfl), (Nat.le_of_ble_eq_true rfl)⟩ (fun _ _ _ _ _ _ h9 => h9.elim) (fun v_7 M_8 H locs hp_9 hM hS => ?_)
  obtain ⟨rfl, eM_8⟩ := hp_9
  rw [eM_8] at hM
  replace hM : mm_P Z.1 mm_cl A (mm_U M_6 q_2 (.inr (41, [.int 0, .ref (Z.2.2.1 2), .int 0]))) H := hM
  have hc_10 : (mm_U M_6 q_2 (.inr (41, [.int 0, .ref (Z.2.2.1 2), .int 0]))) q_2 = some (.inr (41, [.int 0, .ref (Z.2.2.1 2), .int 0])) := mm_U_eq
  have hc_11 : (mm_U M_6 q_2 (.inr (41, [.int 0, .ref (Z.2.2.1 2), .int 0]))) h0 = some (.inr (0, [.null, .int 0, .int 0, .null])) := (mm_U_ne ne_3).trans hc_5
  obtain ⟨M_12, eM_12⟩ : ∃ z, z = mm_U M_6 q_2 (.inr (41, [.int 0, .ref (Z.2.2.1 2), .int 0])) := ⟨_, rfl⟩
  rw [← eM_12] at hM hc_11 hc_10
  refine mm_putF (D := Z.1) (ci := 0) (v := .ref q_2) (ty := .object "java/util/ArrayList") (C := RX1) (T := TX1) (N := 4) hx hb hts in_X1 tyX1 tyX1_ok nmX1 hown hE.1 hM hS hc_11 mm_cX1 0 (by decide) (hts _ q159) (fun _ h9 => h9) rfl hmn rfl (by decide +kernel) rfl rfl (Nat.le_of_ble_eq_true rfl) dX1_init_12 (fun H locs hM hS => ?_)
  have hM : mm_P Z.1 mm_cl A (mm_U M_12 h0 (.inr (0, [.ref q_2, .int 0, .int 0, .null]))) H := hM
  have hc_13 : (mm_U M_12 h0 (.inr (0, [.ref q_2, .int 0, .int 0, .null]))) h0 = some (.inr (0, [.ref q_2, .int 0, .int 0, .null])) := mm_U_eq
  have hc_14 : (mm_U M_12 h0 (.inr (0, [.ref q_2, .int 0, .int 0, .null]))) q_2 = some (.inr (41, [.int 0, .ref (Z.2.2.1 2), .int 0])) := (mm_U_ne (Ne.symm ne_3)).trans hc_10
  obtain ⟨M_15, eM_15⟩ : ∃ z, z = mm_U M_12 h0 (.inr (0, [.ref q_2, .int 0, .int 0, .null])) := ⟨_, rfl⟩
  rw [← eM_15] at hM hc_13 hc_14
  refine lv_aload_n hx hb dX1_init_15 rfl (lv_at hl 0 rfl) ?_
  refine lv_iconst (v := -1) hx hb dX1_init_16 (by decide) ?_
  refine mm_put (D := Z.1) (ci := 0) (v := .int (-1)) (ty := .int) (C := RX1) (T := TX1) (N := 4) hx hb hts in_X1 tyX1 tyX1_ok nmX1 hown hE.1 hM hS hc_13 mm_cX1 1 (by decide) (hts _ q160) (fun _ h9 => h9) rfl (by decide +kernel) rfl rfl (Nat.le_of_ble_eq_true rfl) dX1_init_17 (fun H locs hM hS => ?_)
  have hM : mm_P Z.1 mm_cl A (mm_U M_15 h0 (.inr (0, [.ref q_2, .int (-1), .int 0, .null]))) H := hM
  have hc_16 : (mm_U M_15 h0 (.inr (0, [.ref q_2, .int (-1), .int 0, .null]))) h0 = some (.inr (0, [.ref q_2, .int (-1), .int 0, .null])) := mm_U_eq
  have hc_17 : (mm_U M_15 h0 (.inr (0, [.ref q_2, .int (-1), .int 0, .null]))) q_2 = some (.inr (41, [.int 0, .ref (Z.2.2.1 2), .int 0])) := (mm_U_ne (Ne.symm ne_3)).trans hc_14
  obtain ⟨M_18, eM_18⟩ : ∃ z, z = mm_U M_15 h0 (.inr (0, [.ref q_2, .int (-1), .int 0, .null])) := ⟨_, rfl⟩
  rw [← eM_18] at hM hc_16 hc_17
  refine lv_aload_n hx hb dX1_init_20 rfl (lv_at hl 0 rfl) ?_
  refine va_ldcS hx hb hown (hE.2.2.2.2.2.1 _ (List.mem_of_getElem? (i := 0) rfl)) dX1_init_21 ?_
  refine mm_put (D := Z.1) (ci := 0) (v := .ref (Z.2.2.2 0)) (ty := .object "java/lang/String") (C := RX1) (T := TX1) (N := 4) hx hb hts in_X1 tyX1 tyX1_ok nmX1 hown hE.1 hM hS hc_16 mm_cX1 3 (by decide) (hts _ q162) (fun _ h9 => h9) rfl (by decide +kernel) rfl rfl (Nat.le_of_ble_eq_true rfl) dX1_init_23 (fun H locs hM hS => ?_)
  have hM : mm_P Z.1 mm_cl A (mm_U M_18 h0 (.inr (0, [.ref q_2, .int (-1), .int 0, .ref (Z.2.2.2 0)]))) H := hM
  have hc_19 : (mm_U M_18 h0 (.inr (0, [.ref q_2, .int (-1), .int 0, .ref (Z.2.2.2 0)]))) h0 = some (.inr (0, [.ref q_2, .int (-1), .int 0, .ref (Z.2.2.2 0)])) := mm_U_eq
  have hc_20 : (mm_U M_18 h0 (.inr (0, [.ref q_2, .int (-1), .int 0, .ref (Z.2.2.2 0)]))) q_2 = some (.inr (41, [.int 0, .ref (Z.2.2.1 2), .int 0])) := (mm_U_ne (Ne.symm ne_3)).trans hc_17
  obtain ⟨M_21, eM_21⟩ : ∃ z, z = mm_U M_18 h0 (.inr (0, [.ref q_2, .int (-1), .int 0, .ref (Z.2.2.2 0)])) := ⟨_, rfl⟩
  rw [← eM_21] at hM hc_19 hc_20
  exact mm_retv hx hb hr hlk hM hS ⟨q_2, nq_1, rfl, by subst eM_21 eM_18 eM_15 eM_12 eM_6; (funext z9; simp only [mm_U]; (repeat' split) <;> simp_all)⟩ dX1_init_26 (Nat.le_of_ble_eq_true rfl) (Nat.le_of_ble_eq_true rfl)
set_option maxHeartbeats 4000000 in
set_option maxRecDepth 100000 in
theorem c_X1_errorAt (l : Launch) (Z : mm_G) {M : mm_M} {h0 : Nat} {f0 : Option Nat} {f1 : Int32} {f2 : Int32} {f3 : Option Nat} (h_h0 : M h0 = some (.inr (0, [va_rf f0, .int f1, .int f2, va_rf f3]))) : mm_C l Z yX1_errorAt (ws_ yX1_errorAt cX1_errorAt 1 (some .int)) { frames := 0, cells := 0, slots := 0, locals := 0 } [.ref h0] M (fun v M' => v = some (.int f1) ∧ M' = M) mm_nx := by
  refine mm_ofW (cc := cX1_errorAt) (maxL := 1) (ret := (some .int)) (by decide) rfl (Nat.le_of_ble_eq_true rfl) ?_
  intro p e s m below meth c A ls hx hb hr hlk hml hown hmn hts htab hE hST hA hM hS hl
  replace hl : lv_has ls 1 [(0, .ref h0)] := hl
  refine lv_aload_n hx hb dX1_errorAt_0 rfl (lv_at hl 0 rfl) ?_
  refine va_get (D := Z.1) (ci := 0) (v := .int f1) (C := RX1) (T := TX1) (N := 4) hx hb hts in_X1 hown hE.1 (hM.at h_h0) 0 rfl mm_cX1 1 (by decide) (hts _ q160) (fun _ h9 => h9) rfl dX1_errorAt_1 ?_
  exact mm_reti hx hb hr hlk hM hS ⟨rfl, rfl⟩ dX1_errorAt_4 (Nat.le_of_ble_eq_true rfl) (Nat.le_of_ble_eq_true rfl)
set_option maxHeartbeats 4000000 in
set_option maxRecDepth 100000 in
theorem c_X1_steps (l : Launch) (Z : mm_G) {M : mm_M} {h0 : Nat} {f0 : Option Nat} {f1 : Int32} {f2 : Int32} {f3 : Option Nat} (h_h0 : M h0 = some (.inr (0, [va_rf f0, .int f1, .int f2, va_rf f3]))) : mm_C l Z yX1_steps (ws_ yX1_steps cX1_steps 1 (some .int)) { frames := 0, cells := 0, slots := 0, locals := 0 } [.ref h0] M (fun v M' => v = some (.int f2) ∧ M' = M) mm_nx := by
  refine mm_ofW (cc := cX1_steps) (maxL := 1) (ret := (some .int)) (by decide) rfl (Nat.le_of_ble_eq_true rfl) ?_
  intro p e s m below meth c A ls hx hb hr hlk hml hown hmn hts htab hE hST hA hM hS hl
  replace hl : lv_has ls 1 [(0, .ref h0)] := hl
  refine lv_aload_n hx hb dX1_steps_0 rfl (lv_at hl 0 rfl) ?_
  refine va_get (D := Z.1) (ci := 0) (v := .int f2) (C := RX1) (T := TX1) (N := 4) hx hb hts in_X1 hown hE.1 (hM.at h_h0) 0 rfl mm_cX1 2 (by decide) (hts _ q161) (fun _ h9 => h9) rfl dX1_steps_1 ?_
  exact mm_reti hx hb hr hlk hM hS ⟨rfl, rfl⟩ dX1_steps_4 (Nat.le_of_ble_eq_true rfl) (Nat.le_of_ble_eq_true rfl)
set_option maxHeartbeats 4000000 in
set_option maxRecDepth 100000 in
theorem c_X10_init (l : Launch) (Z : mm_G) {M : mm_M} {h0 : Nat} {x1 : Int32} (h_h0 : M h0 = some (.inr (8, [.null, .null, .null, .null, .int 0]))) : mm_C l Z yX10_init (ws_ yX10_init cX10_init 2 none) { frames := 4, cells := 4, slots := 12, locals := 72 } [.ref h0, .int x1] M (fun v M' => ∃ q_2 q_17 q_39 q_68 : Nat, M q_2 = none ∧ M q_17 = none ∧ M q_39 = none ∧ M q_68 = none ∧ q_17 ≠ q_2 ∧ q_39 ≠ q_2 ∧ q_39 ≠ q_17 ∧ q_68 ≠ q_2 ∧ q_68 ≠ q_17 ∧ q_68 ≠ q_39 ∧ v = none ∧ M' = mm_U (mm_U (mm_U (mm_U (mm_U M q_2 (.inr (41, [.int 0, .ref (Z.2.2.1 2), .int 0]))) q_17 (.inr (41, [.int 0, .ref (Z.2.2.1 2), .int 0]))) q_39 (.inr (41, [.int 0, .ref (Z.2.2.1 2), .int 0]))) q_68 (.inr (41, [.int 0, .ref (Z.2.2.1 2), .int 0]))) h0 (.inr (8, [.ref q_2, .ref q_17, .ref q_39, .ref q_68, .int x1]))) mm_nx := by
  refine mm_ofW (cc := cX10_init) (maxL := 2) (ret := none) (by decide) rfl (Nat.le_of_ble_eq_true rfl) ?_
  intro p e s m below meth c A ls hx hb hr hlk hml hown hmn hts htab hE hST hA hM hS hl
  replace hl : lv_has ls 2 [(0, .ref h0), (1, .int x1)] := hl
  refine lv_aload_n hx hb dX10_init_0 rfl (lv_at hl 0 rfl) ?_
  refine W.objInit hx hb hown (hts _ q682) (hts _ q127) (hts _ q128) rfl (by rw [hml]; exact hl.1) rfl dX10_init_1 (Nat.le_of_ble_eq_true rfl) (Nat.le_of_ble_eq_true rfl) ?_
  refine W.eq (g2 := F0 m 4 ls []) rfl ?_
  refine lv_aload_n hx hb dX10_init_4 rfl (lv_at hl 0 rfl) ?_
  refine mm_new (D := Z.1) (ci := 41) (fs := mm_f0J2) (C := RJ2) (T := TJ2) (N := 3) hx hb hts in_J2 tyJ2 tyJ2_ok hown (hts _ q683) (hts _ q130) (hts _ q53) hE.1 hM hS hA mm_cJ2 mm_dfJ2 (Nat.le_of_ble_eq_true rfl) (Nat.le_of_ble_eq_true rfl) dX10_init_5 (fun q_2 H nq_1 hM hS => ?_)
  have hM : mm_P Z.1 mm_cl A (mm_U M q_2 (.inr (41, [.int 0, .null, .int 0]))) H := hM
  have ne_3 : h0 ≠ q_2 := (mm_neN h_h0 nq_1)
  have hc_4 : (mm_U M q_2 (.inr (41, [.int 0, .null, .int 0]))) q_2 = some (.inr (41, [.int 0, .null, .int 0])) := mm_U_eq
  have hc_5 : (mm_U M q_2 (.inr (41, [.int 0, .null, .int 0]))) h0 = some (.inr (8, [.null, .null, .null, .null, .int 0])) := (mm_U_ne ne_3).trans h_h0
  obtain ⟨M_6, eM_6⟩ : ∃ z, z = mm_U M q_2 (.inr (41, [.int 0, .null, .int 0])) := ⟨_, rfl⟩
  rw [← eM_6] at hM hc_5 hc_4
  refine lv_dup hx hb dX10_init_8 rfl ?_
  refine mm_callI (As := []) (rest := [.ref q_2, .ref h0]) ⟨hx, hb, hml, hown, hts⟩ hE hST hA (c_J2_init l Z (M := M_6) (h0 := q_2) hc_4) (cwI (maxL := 1) 0 hts (lw_meth q133) rfl rfl rfl (hts _ q53) (hts _ q684) (hts _ q132) rfl (by decide +kernel) ⟨(Nat.le_of_ble_eq_true rfl), (Nat.le_of_ble_eq_true rfl)⟩) hM hS rfl hl.1 (Nat.le_of_ble_eq_true rfl) dX10_init_9 rfl ⟨(Nat.le_of_ble_eq_true rfl), (Nat.le_of_ble_eq_true rfl)⟩ (fun _ _ _ _ _ _ h9 => h9.elim) (fun v_7 M_8 H locs hp_9 hM hS => ?_)
  obtain ⟨rfl, eM_8⟩ := hp_9
  rw [eM_8] at hM
  replace hM : mm_P Z.1 mm_cl A (mm_U M_6 q_2 (.inr (41, [.int 0, .ref (Z.2.2.1 2), .int 0]))) H := hM
  have hc_10 : (mm_U M_6 q_2 (.inr (41, [.int 0, .ref (Z.2.2.1 2), .int 0]))) q_2 = some (.inr (41, [.int 0, .ref (Z.2.2.1 2), .int 0])) := mm_U_eq
  have hc_11 : (mm_U M_6 q_2 (.inr (41, [.int 0, .ref (Z.2.2.1 2), .int 0]))) h0 = some (.inr (8, [.null, .null, .null, .null, .int 0])) := (mm_U_ne ne_3).trans hc_5
  obtain ⟨M_12, eM_12⟩ : ∃ z, z = mm_U M_6 q_2 (.inr (41, [.int 0, .ref (Z.2.2.1 2), .int 0])) := ⟨_, rfl⟩
  rw [← eM_12] at hM hc_11 hc_10
  refine mm_putF (D := Z.1) (ci := 8) (v := .ref q_2) (ty := .object "java/util/ArrayList") (C := RX10) (T := TX10) (N := 5) hx hb hts in_X10 tyX10 tyX10_ok nmX10 hown hE.1 hM hS hc_11 mm_cX10 0 (by decide) (hts _ q685) (fun _ h9 => h9) rfl hmn rfl (by decide +kernel) rfl rfl (Nat.le_of_ble_eq_true rfl) dX10_init_12 (fun H locs hM hS => ?_)
  have hM : mm_P Z.1 mm_cl A (mm_U M_12 h0 (.inr (8, [.ref q_2, .null, .null, .null, .int 0]))) H := hM
  have hc_13 : (mm_U M_12 h0 (.inr (8, [.ref q_2, .null, .null, .null, .int 0]))) h0 = some (.inr (8, [.ref q_2, .null, .null, .null, .int 0])) := mm_U_eq
  have hc_14 : (mm_U M_12 h0 (.inr (8, [.ref q_2, .null, .null, .null, .int 0]))) q_2 = some (.inr (41, [.int 0, .ref (Z.2.2.1 2), .int 0])) := (mm_U_ne (Ne.symm ne_3)).trans hc_10
  obtain ⟨M_15, eM_15⟩ : ∃ z, z = mm_U M_12 h0 (.inr (8, [.ref q_2, .null, .null, .null, .int 0])) := ⟨_, rfl⟩
  rw [← eM_15] at hM hc_13 hc_14
  refine lv_aload_n hx hb dX10_init_15 rfl (lv_at hl 0 rfl) ?_
  refine mm_new (D := Z.1) (ci := 41) (fs := mm_f0J2) (C := RJ2) (T := TJ2) (N := 3) hx hb hts in_J2 tyJ2 tyJ2_ok hown (hts _ q683) (hts _ q130) (hts _ q53) hE.1 hM hS hA mm_cJ2 mm_dfJ2 (Nat.le_of_ble_eq_true rfl) (Nat.le_of_ble_eq_true rfl) dX10_init_16 (fun q_17 H nq_16 hM hS => ?_)
  have hM : mm_P Z.1 mm_cl A (mm_U M_15 q_17 (.inr (41, [.int 0, .null, .int 0]))) H := hM
  have ne_18 : h0 ≠ q_17 := (mm_neN hc_13 nq_16)
  have ne_19 : q_2 ≠ q_17 := (mm_neN hc_14 nq_16)
  have nn_20 := (mm_U_none (eM_15 ▸ nq_16)).2
  have nn_21 := (mm_U_none (eM_12 ▸ nn_20)).2
  have nn_22 := (mm_U_none (eM_6 ▸ nn_21)).2
  have hc_23 : (mm_U M_15 q_17 (.inr (41, [.int 0, .null, .int 0]))) q_17 = some (.inr (41, [.int 0, .null, .int 0])) := mm_U_eq
  have hc_24 : (mm_U M_15 q_17 (.inr (41, [.int 0, .null, .int 0]))) h0 = some (.inr (8, [.ref q_2, .null, .null, .null, .int 0])) := (mm_U_ne ne_18).trans hc_13
  have hc_25 : (mm_U M_15 q_17 (.inr (41, [.int 0, .null, .int 0]))) q_2 = some (.inr (41, [.int 0, .ref (Z.2.2.1 2), .int 0])) := (mm_U_ne ne_19).trans hc_14
  obtain ⟨M_26, eM_26⟩ : ∃ z, z = mm_U M_15 q_17 (.inr (41, [.int 0, .null, .int 0])) := ⟨_, rfl⟩
  rw [← eM_26] at hM hc_24 hc_25 hc_23
  refine lv_dup hx hb dX10_init_19 rfl ?_
  refine mm_callI (As := []) (rest := [.ref q_17, .ref h0]) ⟨hx, hb, hml, hown, hts⟩ hE hST hA (c_J2_init l Z (M := M_26) (h0 := q_17) hc_23) (cwI (maxL := 1) 0 hts (lw_meth q133) rfl rfl rfl (hts _ q53) (hts _ q684) (hts _ q132) rfl (by decide +kernel) ⟨(Nat.le_of_ble_eq_true rfl), (Nat.le_of_ble_eq_true rfl)⟩) hM hS rfl hl.1 (Nat.le_of_ble_eq_true rfl) dX10_init_20 rfl ⟨(Nat.le_of_ble_eq_true rfl), (Nat.le_of_ble_eq_true rfl)⟩ (fun _ _ _ _ _ _ h9 => h9.elim) (fun v_27 M_28 H locs hp_29 hM hS => ?_)
  obtain ⟨rfl, eM_28⟩ := hp_29
  rw [eM_28] at hM
  replace hM : mm_P Z.1 mm_cl A (mm_U M_26 q_17 (.inr (41, [.int 0, .ref (Z.2.2.1 2), .int 0]))) H := hM
  have hc_30 : (mm_U M_26 q_17 (.inr (41, [.int 0, .ref (Z.2.2.1 2), .int 0]))) q_17 = some (.inr (41, [.int 0, .ref (Z.2.2.1 2), .int 0])) := mm_U_eq
  have hc_31 : (mm_U M_26 q_17 (.inr (41, [.int 0, .ref (Z.2.2.1 2), .int 0]))) h0 = some (.inr (8, [.ref q_2, .null, .null, .null, .int 0])) := (mm_U_ne ne_18).trans hc_24
  have hc_32 : (mm_U M_26 q_17 (.inr (41, [.int 0, .ref (Z.2.2.1 2), .int 0]))) q_2 = some (.inr (41, [.int 0, .ref (Z.2.2.1 2), .int 0])) := (mm_U_ne ne_19).trans hc_25
  obtain ⟨M_33, eM_33⟩ : ∃ z, z = mm_U M_26 q_17 (.inr (41, [.int 0, .ref (Z.2.2.1 2), .int 0])) := ⟨_, rfl⟩
  rw [← eM_33] at hM hc_31 hc_32 hc_30
  refine mm_putF (D := Z.1) (ci := 8) (v := .ref q_17) (ty := .object "java/util/ArrayList") (C := RX10) (T := TX10) (N := 5) hx hb hts in_X10 tyX10 tyX10_ok nmX10 hown hE.1 hM hS hc_31 mm_cX10 1 (by decide) (hts _ q686) (fun _ h9 => h9) rfl hmn rfl (by decide +kernel) rfl rfl (Nat.le_of_ble_eq_true rfl) dX10_init_23 (fun H locs hM hS => ?_)
  have hM : mm_P Z.1 mm_cl A (mm_U M_33 h0 (.inr (8, [.ref q_2, .ref q_17, .null, .null, .int 0]))) H := hM
  have hc_34 : (mm_U M_33 h0 (.inr (8, [.ref q_2, .ref q_17, .null, .null, .int 0]))) h0 = some (.inr (8, [.ref q_2, .ref q_17, .null, .null, .int 0])) := mm_U_eq
  have hc_35 : (mm_U M_33 h0 (.inr (8, [.ref q_2, .ref q_17, .null, .null, .int 0]))) q_2 = some (.inr (41, [.int 0, .ref (Z.2.2.1 2), .int 0])) := (mm_U_ne (Ne.symm ne_3)).trans hc_32
  have hc_36 : (mm_U M_33 h0 (.inr (8, [.ref q_2, .ref q_17, .null, .null, .int 0]))) q_17 = some (.inr (41, [.int 0, .ref (Z.2.2.1 2), .int 0])) := (mm_U_ne (Ne.symm ne_18)).trans hc_30
  obtain ⟨M_37, eM_37⟩ : ∃ z, z = mm_U M_33 h0 (.inr (8, [.ref q_2, .ref q_17, .null, .null, .int 0])) := ⟨_, rfl⟩
  rw [← eM_37] at hM hc_34 hc_35 hc_36
  refine lv_aload_n hx hb dX10_init_26 rfl (lv_at hl 0 rfl) ?_
  refine mm_new (D := Z.1) (ci := 41) (fs := mm_f0J2) (C := RJ2) (T := TJ2) (N := 3) hx hb hts in_J2 tyJ2 tyJ2_ok hown (hts _ q683) (hts _ q130) (hts _ q53) hE.1 hM hS hA mm_cJ2 mm_dfJ2 (Nat.le_of_ble_eq_true rfl) (Nat.le_of_ble_eq_true rfl) dX10_init_27 (fun q_39 H nq_38 hM hS => ?_)
  have hM : mm_P Z.1 mm_cl A (mm_U M_37 q_39 (.inr (41, [.int 0, .null, .int 0]))) H := hM
  have ne_40 : h0 ≠ q_39 := (mm_neN hc_34 nq_38)
  have ne_41 : q_2 ≠ q_39 := (mm_neN hc_35 nq_38)
  have ne_42 : q_17 ≠ q_39 := (mm_neN hc_36 nq_38)
  have nn_43 := (mm_U_none (eM_37 ▸ nq_38)).2
  have nn_44 := (mm_U_none (eM_33 ▸ nn_43)).2
  have nn_45 := (mm_U_none (eM_26 ▸ nn_44)).2
  have nn_46 := (mm_U_none (eM_15 ▸ nn_45)).2
  have nn_47 := (mm_U_none (eM_12 ▸ nn_46)).2
  have nn_48 := (mm_U_none (eM_6 ▸ nn_47)).2
  have hc_49 : (mm_U M_37 q_39 (.inr (41, [.int 0, .null, .int 0]))) q_39 = some (.inr (41, [.int 0, .null, .int 0])) := mm_U_eq
  have hc_50 : (mm_U M_37 q_39 (.inr (41, [.int 0, .null, .int 0]))) h0 = some (.inr (8, [.ref q_2, .ref q_17, .null, .null, .int 0])) := (mm_U_ne ne_40).trans hc_34
  have hc_51 : (mm_U M_37 q_39 (.inr (41, [.int 0, .null, .int 0]))) q_2 = some (.inr (41, [.int 0, .ref (Z.2.2.1 2), .int 0])) := (mm_U_ne ne_41).trans hc_35
  have hc_52 : (mm_U M_37 q_39 (.inr (41, [.int 0, .null, .int 0]))) q_17 = some (.inr (41, [.int 0, .ref (Z.2.2.1 2), .int 0])) := (mm_U_ne ne_42).trans hc_36
  obtain ⟨M_53, eM_53⟩ : ∃ z, z = mm_U M_37 q_39 (.inr (41, [.int 0, .null, .int 0])) := ⟨_, rfl⟩
  rw [← eM_53] at hM hc_50 hc_51 hc_52 hc_49
  refine lv_dup hx hb dX10_init_30 rfl ?_
  refine mm_callI (As := []) (rest := [.ref q_39, .ref h0]) ⟨hx, hb, hml, hown, hts⟩ hE hST hA (c_J2_init l Z (M := M_53) (h0 := q_39) hc_49) (cwI (maxL := 1) 0 hts (lw_meth q133) rfl rfl rfl (hts _ q53) (hts _ q684) (hts _ q132) rfl (by decide +kernel) ⟨(Nat.le_of_ble_eq_true rfl), (Nat.le_of_ble_eq_true rfl)⟩) hM hS rfl hl.1 (Nat.le_of_ble_eq_true rfl) dX10_init_31 rfl ⟨(Nat.le_of_ble_eq_true rfl), (Nat.le_of_ble_eq_true rfl)⟩ (fun _ _ _ _ _ _ h9 => h9.elim) (fun v_54 M_55 H locs hp_56 hM hS => ?_)
  obtain ⟨rfl, eM_55⟩ := hp_56
  rw [eM_55] at hM
  replace hM : mm_P Z.1 mm_cl A (mm_U M_53 q_39 (.inr (41, [.int 0, .ref (Z.2.2.1 2), .int 0]))) H := hM
  have hc_57 : (mm_U M_53 q_39 (.inr (41, [.int 0, .ref (Z.2.2.1 2), .int 0]))) q_39 = some (.inr (41, [.int 0, .ref (Z.2.2.1 2), .int 0])) := mm_U_eq
  have hc_58 : (mm_U M_53 q_39 (.inr (41, [.int 0, .ref (Z.2.2.1 2), .int 0]))) h0 = some (.inr (8, [.ref q_2, .ref q_17, .null, .null, .int 0])) := (mm_U_ne ne_40).trans hc_50
  have hc_59 : (mm_U M_53 q_39 (.inr (41, [.int 0, .ref (Z.2.2.1 2), .int 0]))) q_2 = some (.inr (41, [.int 0, .ref (Z.2.2.1 2), .int 0])) := (mm_U_ne ne_41).trans hc_51
  have hc_60 : (mm_U M_53 q_39 (.inr (41, [.int 0, .ref (Z.2.2.1 2), .int 0]))) q_17 = some (.inr (41, [.int 0, .ref (Z.2.2.1 2), .int 0])) := (mm_U_ne ne_42).trans hc_52
  obtain ⟨M_61, eM_61⟩ : ∃ z, z = mm_U M_53 q_39 (.inr (41, [.int 0, .ref (Z.2.2.1 2), .int 0])) := ⟨_, rfl⟩
  rw [← eM_61] at hM hc_58 hc_59 hc_60 hc_57
  refine mm_putF (D := Z.1) (ci := 8) (v := .ref q_39) (ty := .object "java/util/ArrayList") (C := RX10) (T := TX10) (N := 5) hx hb hts in_X10 tyX10 tyX10_ok nmX10 hown hE.1 hM hS hc_58 mm_cX10 2 (by decide) (hts _ q687) (fun _ h9 => h9) rfl hmn rfl (by decide +kernel) rfl rfl (Nat.le_of_ble_eq_true rfl) dX10_init_34 (fun H locs hM hS => ?_)
  have hM : mm_P Z.1 mm_cl A (mm_U M_61 h0 (.inr (8, [.ref q_2, .ref q_17, .ref q_39, .null, .int 0]))) H := hM
  have hc_62 : (mm_U M_61 h0 (.inr (8, [.ref q_2, .ref q_17, .ref q_39, .null, .int 0]))) h0 = some (.inr (8, [.ref q_2, .ref q_17, .ref q_39, .null, .int 0])) := mm_U_eq
  have hc_63 : (mm_U M_61 h0 (.inr (8, [.ref q_2, .ref q_17, .ref q_39, .null, .int 0]))) q_2 = some (.inr (41, [.int 0, .ref (Z.2.2.1 2), .int 0])) := (mm_U_ne (Ne.symm ne_3)).trans hc_59
  have hc_64 : (mm_U M_61 h0 (.inr (8, [.ref q_2, .ref q_17, .ref q_39, .null, .int 0]))) q_17 = some (.inr (41, [.int 0, .ref (Z.2.2.1 2), .int 0])) := (mm_U_ne (Ne.symm ne_18)).trans hc_60
  have hc_65 : (mm_U M_61 h0 (.inr (8, [.ref q_2, .ref q_17, .ref q_39, .null, .int 0]))) q_39 = some (.inr (41, [.int 0, .ref (Z.2.2.1 2), .int 0])) := (mm_U_ne (Ne.symm ne_40)).trans hc_57
  obtain ⟨M_66, eM_66⟩ : ∃ z, z = mm_U M_61 h0 (.inr (8, [.ref q_2, .ref q_17, .ref q_39, .null, .int 0])) := ⟨_, rfl⟩
  rw [← eM_66] at hM hc_62 hc_63 hc_64 hc_65
  refine lv_aload_n hx hb dX10_init_37 rfl (lv_at hl 0 rfl) ?_
  refine mm_new (D := Z.1) (ci := 41) (fs := mm_f0J2) (C := RJ2) (T := TJ2) (N := 3) hx hb hts in_J2 tyJ2 tyJ2_ok hown (hts _ q683) (hts _ q130) (hts _ q53) hE.1 hM hS hA mm_cJ2 mm_dfJ2 (Nat.le_of_ble_eq_true rfl) (Nat.le_of_ble_eq_true rfl) dX10_init_38 (fun q_68 H nq_67 hM hS => ?_)
  have hM : mm_P Z.1 mm_cl A (mm_U M_66 q_68 (.inr (41, [.int 0, .null, .int 0]))) H := hM
  have ne_69 : h0 ≠ q_68 := (mm_neN hc_62 nq_67)
  have ne_70 : q_2 ≠ q_68 := (mm_neN hc_63 nq_67)
  have ne_71 : q_17 ≠ q_68 := (mm_neN hc_64 nq_67)
  have ne_72 : q_39 ≠ q_68 := (mm_neN hc_65 nq_67)
  have nn_73 := (mm_U_none (eM_66 ▸ nq_67)).2
  have nn_74 := (mm_U_none (eM_61 ▸ nn_73)).2
  have nn_75 := (mm_U_none (eM_53 ▸ nn_74)).2
  have nn_76 := (mm_U_none (eM_37 ▸ nn_75)).2
  have nn_77 := (mm_U_none (eM_33 ▸ nn_76)).2
  have nn_78 := (mm_U_none (eM_26 ▸ nn_77)).2
  have nn_79 := (mm_U_none (eM_15 ▸ nn_78)).2
  have nn_80 := (mm_U_none (eM_12 ▸ nn_79)).2
  have nn_81 := (mm_U_none (eM_6 ▸ nn_80)).2
  have hc_82 : (mm_U M_66 q_68 (.inr (41, [.int 0, .null, .int 0]))) q_68 = some (.inr (41, [.int 0, .null, .int 0])) := mm_U_eq
  have hc_83 : (mm_U M_66 q_68 (.inr (41, [.int 0, .null, .int 0]))) h0 = some (.inr (8, [.ref q_2, .ref q_17, .ref q_39, .null, .int 0])) := (mm_U_ne ne_69).trans hc_62
  have hc_84 : (mm_U M_66 q_68 (.inr (41, [.int 0, .null, .int 0]))) q_2 = some (.inr (41, [.int 0, .ref (Z.2.2.1 2), .int 0])) := (mm_U_ne ne_70).trans hc_63
  have hc_85 : (mm_U M_66 q_68 (.inr (41, [.int 0, .null, .int 0]))) q_17 = some (.inr (41, [.int 0, .ref (Z.2.2.1 2), .int 0])) := (mm_U_ne ne_71).trans hc_64
  have hc_86 : (mm_U M_66 q_68 (.inr (41, [.int 0, .null, .int 0]))) q_39 = some (.inr (41, [.int 0, .ref (Z.2.2.1 2), .int 0])) := (mm_U_ne ne_72).trans hc_65
  obtain ⟨M_87, eM_87⟩ : ∃ z, z = mm_U M_66 q_68 (.inr (41, [.int 0, .null, .int 0])) := ⟨_, rfl⟩
  rw [← eM_87] at hM hc_83 hc_84 hc_85 hc_86 hc_82
  refine lv_dup hx hb dX10_init_41 rfl ?_
  refine mm_callI (As := []) (rest := [.ref q_68, .ref h0]) ⟨hx, hb, hml, hown, hts⟩ hE hST hA (c_J2_init l Z (M := M_87) (h0 := q_68) hc_82) (cwI (maxL := 1) 0 hts (lw_meth q133) rfl rfl rfl (hts _ q53) (hts _ q684) (hts _ q132) rfl (by decide +kernel) ⟨(Nat.le_of_ble_eq_true rfl), (Nat.le_of_ble_eq_true rfl)⟩) hM hS rfl hl.1 (Nat.le_of_ble_eq_true rfl) dX10_init_42 rfl ⟨(Nat.le_of_ble_eq_true rfl), (Nat.le_of_ble_eq_true rfl)⟩ (fun _ _ _ _ _ _ h9 => h9.elim) (fun v_88 M_89 H locs hp_90 hM hS => ?_)
  obtain ⟨rfl, eM_89⟩ := hp_90
  rw [eM_89] at hM
  replace hM : mm_P Z.1 mm_cl A (mm_U M_87 q_68 (.inr (41, [.int 0, .ref (Z.2.2.1 2), .int 0]))) H := hM
  have hc_91 : (mm_U M_87 q_68 (.inr (41, [.int 0, .ref (Z.2.2.1 2), .int 0]))) q_68 = some (.inr (41, [.int 0, .ref (Z.2.2.1 2), .int 0])) := mm_U_eq
  have hc_92 : (mm_U M_87 q_68 (.inr (41, [.int 0, .ref (Z.2.2.1 2), .int 0]))) h0 = some (.inr (8, [.ref q_2, .ref q_17, .ref q_39, .null, .int 0])) := (mm_U_ne ne_69).trans hc_83
  have hc_93 : (mm_U M_87 q_68 (.inr (41, [.int 0, .ref (Z.2.2.1 2), .int 0]))) q_2 = some (.inr (41, [.int 0, .ref (Z.2.2.1 2), .int 0])) := (mm_U_ne ne_70).trans hc_84
  have hc_94 : (mm_U M_87 q_68 (.inr (41, [.int 0, .ref (Z.2.2.1 2), .int 0]))) q_17 = some (.inr (41, [.int 0, .ref (Z.2.2.1 2), .int 0])) := (mm_U_ne ne_71).trans hc_85
  have hc_95 : (mm_U M_87 q_68 (.inr (41, [.int 0, .ref (Z.2.2.1 2), .int 0]))) q_39 = some (.inr (41, [.int 0, .ref (Z.2.2.1 2), .int 0])) := (mm_U_ne ne_72).trans hc_86
  obtain ⟨M_96, eM_96⟩ : ∃ z, z = mm_U M_87 q_68 (.inr (41, [.int 0, .ref (Z.2.2.1 2), .int 0])) := ⟨_, rfl⟩
  rw [← eM_96] at hM hc_92 hc_93 hc_94 hc_95 hc_91
  refine mm_putF (D := Z.1) (ci := 8) (v := .ref q_68) (ty := .object "java/util/ArrayList") (C := RX10) (T := TX10) (N := 5) hx hb hts in_X10 tyX10 tyX10_ok nmX10 hown hE.1 hM hS hc_92 mm_cX10 3 (by decide) (hts _ q688) (fun _ h9 => h9) rfl hmn rfl (by decide +kernel) rfl rfl (Nat.le_of_ble_eq_true rfl) dX10_init_45 (fun H locs hM hS => ?_)
  have hM : mm_P Z.1 mm_cl A (mm_U M_96 h0 (.inr (8, [.ref q_2, .ref q_17, .ref q_39, .ref q_68, .int 0]))) H := hM
  have hc_97 : (mm_U M_96 h0 (.inr (8, [.ref q_2, .ref q_17, .ref q_39, .ref q_68, .int 0]))) h0 = some (.inr (8, [.ref q_2, .ref q_17, .ref q_39, .ref q_68, .int 0])) := mm_U_eq
  have hc_98 : (mm_U M_96 h0 (.inr (8, [.ref q_2, .ref q_17, .ref q_39, .ref q_68, .int 0]))) q_2 = some (.inr (41, [.int 0, .ref (Z.2.2.1 2), .int 0])) := (mm_U_ne (Ne.symm ne_3)).trans hc_93
  have hc_99 : (mm_U M_96 h0 (.inr (8, [.ref q_2, .ref q_17, .ref q_39, .ref q_68, .int 0]))) q_17 = some (.inr (41, [.int 0, .ref (Z.2.2.1 2), .int 0])) := (mm_U_ne (Ne.symm ne_18)).trans hc_94
  have hc_100 : (mm_U M_96 h0 (.inr (8, [.ref q_2, .ref q_17, .ref q_39, .ref q_68, .int 0]))) q_39 = some (.inr (41, [.int 0, .ref (Z.2.2.1 2), .int 0])) := (mm_U_ne (Ne.symm ne_40)).trans hc_95
  have hc_101 : (mm_U M_96 h0 (.inr (8, [.ref q_2, .ref q_17, .ref q_39, .ref q_68, .int 0]))) q_68 = some (.inr (41, [.int 0, .ref (Z.2.2.1 2), .int 0])) := (mm_U_ne (Ne.symm ne_69)).trans hc_91
  obtain ⟨M_102, eM_102⟩ : ∃ z, z = mm_U M_96 h0 (.inr (8, [.ref q_2, .ref q_17, .ref q_39, .ref q_68, .int 0])) := ⟨_, rfl⟩
  rw [← eM_102] at hM hc_97 hc_98 hc_99 hc_100 hc_101
  refine lv_aload_n hx hb dX10_init_48 rfl (lv_at hl 0 rfl) ?_
  refine lv_iload_n hx hb dX10_init_49 rfl (lv_at hl 1 rfl) ?_
  refine mm_putF (D := Z.1) (ci := 8) (v := .int x1) (ty := .int) (C := RX10) (T := TX10) (N := 5) hx hb hts in_X10 tyX10 tyX10_ok nmX10 hown hE.1 hM hS hc_97 mm_cX10 4 (by decide) (hts _ q689) (fun _ h9 => h9) rfl hmn rfl (by decide +kernel) rfl rfl (Nat.le_of_ble_eq_true rfl) dX10_init_50 (fun H locs hM hS => ?_)
  have hM : mm_P Z.1 mm_cl A (mm_U M_102 h0 (.inr (8, [.ref q_2, .ref q_17, .ref q_39, .ref q_68, .int x1]))) H := hM
  have hc_103 : (mm_U M_102 h0 (.inr (8, [.ref q_2, .ref q_17, .ref q_39, .ref q_68, .int x1]))) h0 = some (.inr (8, [.ref q_2, .ref q_17, .ref q_39, .ref q_68, .int x1])) := mm_U_eq
  have hc_104 : (mm_U M_102 h0 (.inr (8, [.ref q_2, .ref q_17, .ref q_39, .ref q_68, .int x1]))) q_2 = some (.inr (41, [.int 0, .ref (Z.2.2.1 2), .int 0])) := (mm_U_ne (Ne.symm ne_3)).trans hc_98
  have hc_105 : (mm_U M_102 h0 (.inr (8, [.ref q_2, .ref q_17, .ref q_39, .ref q_68, .int x1]))) q_17 = some (.inr (41, [.int 0, .ref (Z.2.2.1 2), .int 0])) := (mm_U_ne (Ne.symm ne_18)).trans hc_99
  have hc_106 : (mm_U M_102 h0 (.inr (8, [.ref q_2, .ref q_17, .ref q_39, .ref q_68, .int x1]))) q_39 = some (.inr (41, [.int 0, .ref (Z.2.2.1 2), .int 0])) := (mm_U_ne (Ne.symm ne_40)).trans hc_100
  have hc_107 : (mm_U M_102 h0 (.inr (8, [.ref q_2, .ref q_17, .ref q_39, .ref q_68, .int x1]))) q_68 = some (.inr (41, [.int 0, .ref (Z.2.2.1 2), .int 0])) := (mm_U_ne (Ne.symm ne_69)).trans hc_101
  obtain ⟨M_108, eM_108⟩ : ∃ z, z = mm_U M_102 h0 (.inr (8, [.ref q_2, .ref q_17, .ref q_39, .ref q_68, .int x1])) := ⟨_, rfl⟩
  rw [← eM_108] at hM hc_103 hc_104 hc_105 hc_106 hc_107
  exact mm_retv hx hb hr hlk hM hS ⟨q_2, q_17, q_39, q_68, nq_1, nn_22, nn_48, nn_81, (Ne.symm ne_19), (Ne.symm ne_41), (Ne.symm ne_42), (Ne.symm ne_70), (Ne.symm ne_71), (Ne.symm ne_72), rfl, by subst eM_108 eM_102 eM_96 eM_87 eM_66 eM_61 eM_53 eM_37 eM_33 eM_26 eM_15 eM_12 eM_6; (funext z9; simp only [mm_U]; (repeat' split) <;> simp_all)⟩ dX10_init_53 (Nat.le_of_ble_eq_true rfl) (Nat.le_of_ble_eq_true rfl)
set_option maxHeartbeats 4000000 in
set_option maxRecDepth 100000 in
theorem c_X11_isLike (l : Launch) (Z : mm_G) {M : mm_M} {h0 : Nat} {f0 : Option Nat} {f1 : Int32} {f2 : Bool} (h_h0 : M h0 = some (.inr (9, [va_rf f0, .int f1, .int (mm_b f2)]))) : mm_C l Z yX11_isLike (ws_ yX11_isLike cX11_isLike 1 (some .boolean)) { frames := 0, cells := 0, slots := 0, locals := 0 } [.ref h0] M (fun v M' => v = some (.int (mm_b f2)) ∧ M' = M) mm_nx := by
  refine mm_ofW (cc := cX11_isLike) (maxL := 1) (ret := (some .boolean)) (by decide) rfl (Nat.le_of_ble_eq_true rfl) ?_
  intro p e s m below meth c A ls hx hb hr hlk hml hown hmn hts htab hE hST hA hM hS hl
  replace hl : lv_has ls 1 [(0, .ref h0)] := hl
  refine lv_aload_n hx hb dX11_isLike_0 rfl (lv_at hl 0 rfl) ?_
  refine va_get (D := Z.1) (ci := 9) (v := .int (mm_b f2)) (C := RX11) (T := TX11) (N := 3) hx hb hts in_X11 hown hE.1 (hM.at h_h0) 0 rfl mm_cX11 2 (by decide) (hts _ q813) (fun _ h9 => h9) rfl dX11_isLike_1 ?_
  exact mm_retz hx hb hr (mm_b_nar _) hlk hM hS ⟨rfl, rfl⟩ dX11_isLike_4 (Nat.le_of_ble_eq_true rfl) (Nat.le_of_ble_eq_true rfl)
set_option maxHeartbeats 4000000 in
set_option maxRecDepth 100000 in
theorem c_X11_lacking (l : Launch) (Z : mm_G) {M : mm_M} {h0 : Nat} {f0 : Option Nat} {f1 : Int32} {f2 : Bool} (h_h0 : M h0 = some (.inr (9, [va_rf f0, .int f1, .int (mm_b f2)]))) : mm_C l Z yX11_lacking (ws_ yX11_lacking cX11_lacking 1 (some .int)) { frames := 0, cells := 0, slots := 0, locals := 0 } [.ref h0] M (fun v M' => v = some (.int 0) ∧ M' = M) mm_nx := by
  refine mm_ofW (cc := cX11_lacking) (maxL := 1) (ret := (some .int)) (by decide) rfl (Nat.le_of_ble_eq_true rfl) ?_
  intro p e s m below meth c A ls hx hb hr hlk hml hown hmn hts htab hE hST hA hM hS hl
  replace hl : lv_has ls 1 [(0, .ref h0)] := hl
  refine lv_iconst (v := 0) hx hb dX11_lacking_0 (by decide) ?_
  exact mm_reti hx hb hr hlk hM hS ⟨rfl, rfl⟩ dX11_lacking_1 (Nat.le_of_ble_eq_true rfl) (Nat.le_of_ble_eq_true rfl)
set_option maxHeartbeats 4000000 in
set_option maxRecDepth 100000 in
theorem c_X13_now (l : Launch) (Z : mm_G) {M : mm_M} {h0 : Nat}  : mm_C l Z yX13_now (ws_ yX13_now cX13_now 1 (some (.object "RowenTongue$Row"))) { frames := 0, cells := 0, slots := 0, locals := 0 } [.ref h0] M (fun v M' => v = some (.ref h0) ∧ M' = M) mm_nx := by
  refine mm_ofW (cc := cX13_now) (maxL := 1) (ret := (some (.object "RowenTongue$Row"))) (by decide) rfl (Nat.le_of_ble_eq_true rfl) ?_
  intro p e s m below meth c A ls hx hb hr hlk hml hown hmn hts htab hE hST hA hM hS hl
  replace hl : lv_has ls 1 [(0, .ref h0)] := hl
  refine lv_aload_n hx hb dX13_now_0 rfl (lv_at hl 0 rfl) ?_
  exact mm_reta hx hb hr (Or.inl ⟨_, rfl⟩) (Or.inr ⟨_, rfl⟩) hlk hM hS ⟨rfl, rfl⟩ dX13_now_1 (Nat.le_of_ble_eq_true rfl) (Nat.le_of_ble_eq_true rfl)
set_option maxHeartbeats 4000000 in
set_option maxRecDepth 100000 in
theorem c_X13_init (l : Launch) (Z : mm_G) {M : mm_M} {h0 : Nat}  : mm_C l Z yX13_init (ws_ yX13_init cX13_init 1 none) { frames := 1, cells := 0, slots := 0, locals := 12 } [.ref h0] M (fun v M' => v = none ∧ M' = M) mm_nx := by
  refine mm_ofW (cc := cX13_init) (maxL := 1) (ret := none) (by decide) rfl (Nat.le_of_ble_eq_true rfl) ?_
  intro p e s m below meth c A ls hx hb hr hlk hml hown hmn hts htab hE hST hA hM hS hl
  replace hl : lv_has ls 1 [(0, .ref h0)] := hl
  refine lv_aload_n hx hb dX13_init_0 rfl (lv_at hl 0 rfl) ?_
  refine W.objInit hx hb hown (hts _ q889) (hts _ q127) (hts _ q128) rfl (by rw [hml]; exact hl.1) rfl dX13_init_1 (Nat.le_of_ble_eq_true rfl) (Nat.le_of_ble_eq_true rfl) ?_
  refine W.eq (g2 := F0 m 4 ls []) rfl ?_
  exact mm_retv hx hb hr hlk hM hS ⟨rfl, rfl⟩ dX13_init_4 (Nat.le_of_ble_eq_true rfl) (Nat.le_of_ble_eq_true rfl)
set_option maxHeartbeats 4000000 in
set_option maxRecDepth 100000 in
theorem c_X14_init (l : Launch) (Z : mm_G) {M : mm_M} {h0 : Nat} {x1 : Int32} {x2 : Option Nat} {x3 : Option Nat} (h_h0 : M h0 = some (.inr (11, [.int 0, .null, .null]))) : mm_C l Z yX14_init (ws_ yX14_init cX14_init 4 none) { frames := 2, cells := 0, slots := 0, locals := 32 } [.ref h0, .int x1, va_rf x2, va_rf x3] M (fun v M' => v = none ∧ M' = mm_U M h0 (.inr (11, [.int x1, va_rf x2, va_rf x3]))) mm_nx := by
  refine mm_ofW (cc := cX14_init) (maxL := 4) (ret := none) (by decide) rfl (by simp [lg_sl, mm_cat_o, mm_cat_r, mm_cat_i, mm_cat_l, mm_cat_n]) ?_
  intro p e s m below meth c A ls hx hb hr hlk hml hown hmn hts htab hE hST hA hM hS hl
  replace hl : lv_has ls 4 [(0, .ref h0), (1, .int x1), (2, va_rf x2), (3, va_rf x3)] := by simpa [lv_args, mm_cat_o, mm_cat_r, mm_cat_i, mm_cat_l, mm_cat_n] using hl
  refine lv_aload_n hx hb dX14_init_0 rfl (lv_at hl 0 rfl) ?_
  refine mm_callIN (As := []) (rest := []) ⟨hx, hb, hml, hown, hts⟩ hE hST hA (c_X13_init l Z (M := M) (h0 := h0) ) ⟨va_cnB 0 hts (lw_meth q888) rfl rfl rfl (hE.2.1 _ q886 rfl) (hts _ q80) (by decide +kernel) ⟨(Nat.le_of_ble_eq_true rfl), (Nat.le_of_ble_eq_true rfl)⟩, rfl, hts _ q887⟩ hM hS rfl hl.1 (Nat.le_of_ble_eq_true rfl) dX14_init_1 rfl ⟨(Nat.le_of_ble_eq_true rfl), (Nat.le_of_ble_eq_true rfl)⟩ (fun _ _ _ _ _ _ h9 => h9.elim) (fun v_1 M_2 H locs hp_3 hM hS => ?_)
  obtain ⟨rfl, eM_2⟩ := hp_3
  rw [eM_2] at hM
  refine lv_aload_n hx hb dX14_init_4 rfl (lv_at hl 0 rfl) ?_
  refine lv_iload_n hx hb dX14_init_5 rfl (lv_at hl 1 rfl) ?_
  refine mm_putF (D := Z.1) (ci := 11) (v := .int x1) (ty := .int) (C := RX14) (T := TX14) (N := 3) hx hb hts in_X14 tyX14 tyX14_ok nmX14 hown hE.1 hM hS h_h0 mm_cX14 0 (by decide) (hts _ q890) (fun _ h9 => h9) rfl hmn rfl (by decide +kernel) rfl rfl (Nat.le_of_ble_eq_true rfl) dX14_init_6 (fun H locs hM hS => ?_)
  have hM : mm_P Z.1 mm_cl A (mm_U M h0 (.inr (11, [.int x1, .null, .null]))) H := hM
  have hc_4 : (mm_U M h0 (.inr (11, [.int x1, .null, .null]))) h0 = some (.inr (11, [.int x1, .null, .null])) := mm_U_eq
  obtain ⟨M_5, eM_5⟩ : ∃ z, z = mm_U M h0 (.inr (11, [.int x1, .null, .null])) := ⟨_, rfl⟩
  rw [← eM_5] at hM hc_4
  refine lv_aload_n hx hb dX14_init_9 rfl (lv_at hl 0 rfl) ?_
  refine mm_aload_n hx hb dX14_init_10 rfl (lv_at hl 2 rfl) ?_
  refine mm_putF (D := Z.1) (ci := 11) (v := va_rf x2) (ty := .object "RowenTongue$Type") (C := RX14) (T := TX14) (N := 3) hx hb hts in_X14 tyX14 tyX14_ok nmX14 hown hE.1 hM hS hc_4 mm_cX14 1 (by decide) (hts _ q894) (fun _ h9 => h9) rfl hmn rfl (by decide +kernel) (mm_nar_oo _ _) (mm_fit_oo _ _) (Nat.le_of_ble_eq_true rfl) dX14_init_11 (fun H locs hM hS => ?_)
  have hM : mm_P Z.1 mm_cl A (mm_U M_5 h0 (.inr (11, [.int x1, va_rf x2, .null]))) H := hM
  have hc_6 : (mm_U M_5 h0 (.inr (11, [.int x1, va_rf x2, .null]))) h0 = some (.inr (11, [.int x1, va_rf x2, .null])) := mm_U_eq
  obtain ⟨M_7, eM_7⟩ : ∃ z, z = mm_U M_5 h0 (.inr (11, [.int x1, va_rf x2, .null])) := ⟨_, rfl⟩
  rw [← eM_7] at hM hc_6
  refine lv_aload_n hx hb dX14_init_14 rfl (lv_at hl 0 rfl) ?_
  refine mm_aload_n hx hb dX14_init_15 rfl (lv_at hl 3 rfl) ?_
  refine mm_putF (D := Z.1) (ci := 11) (v := va_rf x3) (ty := .object "RowenTongue$Row") (C := RX14) (T := TX14) (N := 3) hx hb hts in_X14 tyX14 tyX14_ok nmX14 hown hE.1 hM hS hc_6 mm_cX14 2 (by decide) (hts _ q898) (fun _ h9 => h9) rfl hmn rfl (by decide +kernel) (mm_nar_oo _ _) (mm_fit_oo _ _) (Nat.le_of_ble_eq_true rfl) dX14_init_16 (fun H locs hM hS => ?_)
  have hM : mm_P Z.1 mm_cl A (mm_U M_7 h0 (.inr (11, [.int x1, va_rf x2, va_rf x3]))) H := hM
  have hc_8 : (mm_U M_7 h0 (.inr (11, [.int x1, va_rf x2, va_rf x3]))) h0 = some (.inr (11, [.int x1, va_rf x2, va_rf x3])) := mm_U_eq
  obtain ⟨M_9, eM_9⟩ : ∃ z, z = mm_U M_7 h0 (.inr (11, [.int x1, va_rf x2, va_rf x3])) := ⟨_, rfl⟩
  rw [← eM_9] at hM hc_8
  exact mm_retv hx hb hr hlk hM hS ⟨rfl, by subst eM_9 eM_7 eM_5; first | rfl | simp only [mm_U_U]⟩ dX14_init_19 (Nat.le_of_ble_eq_true rfl) (Nat.le_of_ble_eq_true rfl)
set_option maxHeartbeats 4000000 in
set_option maxRecDepth 100000 in
theorem c_X15_init (l : Launch) (Z : mm_G) {M : mm_M} {h0 : Nat} {x1 : Int32} {x2 : Bool} {x3 : Int32} (h_h0 : M h0 = some (.inr (12, [.null, .int 0, .int 0, .int 0]))) : mm_C l Z yX15_init (ws_ yX15_init cX15_init 4 none) { frames := 2, cells := 0, slots := 0, locals := 32 } [.ref h0, .int x1, .int (mm_b x2), .int x3] M (fun v M' => v = none ∧ M' = mm_U M h0 (.inr (12, [.null, .int x1, .int (mm_b x2), .int x3]))) mm_nx := by
  refine mm_ofW (cc := cX15_init) (maxL := 4) (ret := none) (by decide) rfl (Nat.le_of_ble_eq_true rfl) ?_
  intro p e s m below meth c A ls hx hb hr hlk hml hown hmn hts htab hE hST hA hM hS hl
  replace hl : lv_has ls 4 [(0, .ref h0), (1, .int x1), (2, .int (mm_b x2)), (3, .int x3)] := hl
  refine lv_aload_n hx hb dX15_init_0 rfl (lv_at hl 0 rfl) ?_
  refine mm_callIN (As := []) (rest := []) ⟨hx, hb, hml, hown, hts⟩ hE hST hA (c_X13_init l Z (M := M) (h0 := h0) ) ⟨va_cnB 0 hts (lw_meth q888) rfl rfl rfl (hE.2.1 _ q919 rfl) (hts _ q80) (by decide +kernel) ⟨(Nat.le_of_ble_eq_true rfl), (Nat.le_of_ble_eq_true rfl)⟩, rfl, hts _ q887⟩ hM hS rfl hl.1 (Nat.le_of_ble_eq_true rfl) dX15_init_1 rfl ⟨(Nat.le_of_ble_eq_true rfl), (Nat.le_of_ble_eq_true rfl)⟩ (fun _ _ _ _ _ _ h9 => h9.elim) (fun v_1 M_2 H locs hp_3 hM hS => ?_)
  obtain ⟨rfl, eM_2⟩ := hp_3
  rw [eM_2] at hM
  refine lv_aload_n hx hb dX15_init_4 rfl (lv_at hl 0 rfl) ?_
  refine lv_iload_n hx hb dX15_init_5 rfl (lv_at hl 1 rfl) ?_
  refine mm_put (D := Z.1) (ci := 12) (v := .int x1) (ty := .int) (C := RX15) (T := TX15) (N := 4) hx hb hts in_X15 tyX15 tyX15_ok nmX15 hown hE.1 hM hS h_h0 mm_cX15 1 (by decide) (hts _ q922) (fun _ h9 => h9) rfl (by decide +kernel) rfl rfl (Nat.le_of_ble_eq_true rfl) dX15_init_6 (fun H locs hM hS => ?_)
  have hM : mm_P Z.1 mm_cl A (mm_U M h0 (.inr (12, [.null, .int x1, .int 0, .int 0]))) H := hM
  have hc_4 : (mm_U M h0 (.inr (12, [.null, .int x1, .int 0, .int 0]))) h0 = some (.inr (12, [.null, .int x1, .int 0, .int 0])) := mm_U_eq
  obtain ⟨M_5, eM_5⟩ : ∃ z, z = mm_U M h0 (.inr (12, [.null, .int x1, .int 0, .int 0])) := ⟨_, rfl⟩
  rw [← eM_5] at hM hc_4
  refine lv_aload_n hx hb dX15_init_9 rfl (lv_at hl 0 rfl) ?_
  refine lv_iload_n hx hb dX15_init_10 rfl (lv_at hl 2 rfl) ?_
  refine mm_put (D := Z.1) (ci := 12) (v := .int (mm_b x2)) (ty := .boolean) (C := RX15) (T := TX15) (N := 4) hx hb hts in_X15 tyX15 tyX15_ok nmX15 hown hE.1 hM hS hc_4 mm_cX15 2 (by decide) (hts _ q927) (fun _ h9 => h9) rfl (by decide +kernel) (mm_b_nar _) (mm_b_fit _) (Nat.le_of_ble_eq_true rfl) dX15_init_11 (fun H locs hM hS => ?_)
  have hM : mm_P Z.1 mm_cl A (mm_U M_5 h0 (.inr (12, [.null, .int x1, .int (mm_b x2), .int 0]))) H := hM
  have hc_6 : (mm_U M_5 h0 (.inr (12, [.null, .int x1, .int (mm_b x2), .int 0]))) h0 = some (.inr (12, [.null, .int x1, .int (mm_b x2), .int 0])) := mm_U_eq
  obtain ⟨M_7, eM_7⟩ : ∃ z, z = mm_U M_5 h0 (.inr (12, [.null, .int x1, .int (mm_b x2), .int 0])) := ⟨_, rfl⟩
  rw [← eM_7] at hM hc_6
  refine lv_aload_n hx hb dX15_init_14 rfl (lv_at hl 0 rfl) ?_
  refine lv_iload_n hx hb dX15_init_15 rfl (lv_at hl 3 rfl) ?_
  refine mm_putF (D := Z.1) (ci := 12) (v := .int x3) (ty := .int) (C := RX15) (T := TX15) (N := 4) hx hb hts in_X15 tyX15 tyX15_ok nmX15 hown hE.1 hM hS hc_6 mm_cX15 3 (by decide) (hts _ q931) (fun _ h9 => h9) rfl hmn rfl (by decide +kernel) rfl rfl (Nat.le_of_ble_eq_true rfl) dX15_init_16 (fun H locs hM hS => ?_)
  have hM : mm_P Z.1 mm_cl A (mm_U M_7 h0 (.inr (12, [.null, .int x1, .int (mm_b x2), .int x3]))) H := hM
  have hc_8 : (mm_U M_7 h0 (.inr (12, [.null, .int x1, .int (mm_b x2), .int x3]))) h0 = some (.inr (12, [.null, .int x1, .int (mm_b x2), .int x3])) := mm_U_eq
  obtain ⟨M_9, eM_9⟩ : ∃ z, z = mm_U M_7 h0 (.inr (12, [.null, .int x1, .int (mm_b x2), .int x3])) := ⟨_, rfl⟩
  rw [← eM_9] at hM hc_8
  exact mm_retv hx hb hr hlk hM hS ⟨rfl, by subst eM_9 eM_7 eM_5; first | rfl | simp only [mm_U_U]⟩ dX15_init_19 (Nat.le_of_ble_eq_true rfl) (Nat.le_of_ble_eq_true rfl)
set_option maxHeartbeats 4000000 in
set_option maxRecDepth 100000 in
theorem c_X15_isLike (l : Launch) (Z : mm_G) {M : mm_M} {h0 : Nat} {f0 : Option Nat} {f1 : Int32} {f2 : Bool} {f3 : Int32} (h_h0 : M h0 = some (.inr (12, [va_rf f0, .int f1, .int (mm_b f2), .int f3]))) : mm_C l Z yX15_isLike (ws_ yX15_isLike cX15_isLike 1 (some .boolean)) { frames := 0, cells := 0, slots := 0, locals := 0 } [.ref h0] M (fun v M' => v = some (.int (mm_b f2)) ∧ M' = M) mm_nx := by
  refine mm_ofW (cc := cX15_isLike) (maxL := 1) (ret := (some .boolean)) (by decide) rfl (Nat.le_of_ble_eq_true rfl) ?_
  intro p e s m below meth c A ls hx hb hr hlk hml hown hmn hts htab hE hST hA hM hS hl
  replace hl : lv_has ls 1 [(0, .ref h0)] := hl
  refine lv_aload_n hx hb dX15_isLike_0 rfl (lv_at hl 0 rfl) ?_
  refine va_get (D := Z.1) (ci := 12) (v := .int (mm_b f2)) (C := RX15) (T := TX15) (N := 4) hx hb hts in_X15 hown hE.1 (hM.at h_h0) 0 rfl mm_cX15 2 (by decide) (hts _ q927) (fun _ h9 => h9) rfl dX15_isLike_1 ?_
  exact mm_retz hx hb hr (mm_b_nar _) hlk hM hS ⟨rfl, rfl⟩ dX15_isLike_4 (Nat.le_of_ble_eq_true rfl) (Nat.le_of_ble_eq_true rfl)
set_option maxHeartbeats 4000000 in
set_option maxRecDepth 100000 in
theorem c_X15_lacking (l : Launch) (Z : mm_G) {M : mm_M} {h0 : Nat} {f0 : Option Nat} {f1 : Int32} {f2 : Bool} {f3 : Int32} (h_h0 : M h0 = some (.inr (12, [va_rf f0, .int f1, .int (mm_b f2), .int f3]))) : mm_C l Z yX15_lacking (ws_ yX15_lacking cX15_lacking 1 (some .int)) { frames := 0, cells := 0, slots := 0, locals := 0 } [.ref h0] M (fun v M' => v = some (.int f3) ∧ M' = M) mm_nx := by
  refine mm_ofW (cc := cX15_lacking) (maxL := 1) (ret := (some .int)) (by decide) rfl (Nat.le_of_ble_eq_true rfl) ?_
  intro p e s m below meth c A ls hx hb hr hlk hml hown hmn hts htab hE hST hA hM hS hl
  replace hl : lv_has ls 1 [(0, .ref h0)] := hl
  refine lv_aload_n hx hb dX15_lacking_0 rfl (lv_at hl 0 rfl) ?_
  refine va_get (D := Z.1) (ci := 12) (v := .int f3) (C := RX15) (T := TX15) (N := 4) hx hb hts in_X15 hown hE.1 (hM.at h_h0) 0 rfl mm_cX15 3 (by decide) (hts _ q931) (fun _ h9 => h9) rfl dX15_lacking_1 ?_
  exact mm_reti hx hb hr hlk hM hS ⟨rfl, rfl⟩ dX15_lacking_4 (Nat.le_of_ble_eq_true rfl) (Nat.le_of_ble_eq_true rfl)
set_option maxHeartbeats 4000000 in
set_option maxRecDepth 100000 in
theorem c_X16_init (l : Launch) (Z : mm_G) {M : mm_M} {h0 : Nat} {x1 : Option Nat} {x2 : Int32} (h_h0 : M h0 = some (.inr (13, [.null, .int 0]))) : mm_C l Z yX16_init (ws_ yX16_init cX16_init 3 none) { frames := 1, cells := 0, slots := 0, locals := 12 } [.ref h0, va_rf x1, .int x2] M (fun v M' => v = none ∧ M' = mm_U M h0 (.inr (13, [va_rf x1, .int x2]))) mm_nx := by
  refine mm_ofW (cc := cX16_init) (maxL := 3) (ret := none) (by decide) rfl (by simp [lg_sl, mm_cat_o, mm_cat_r, mm_cat_i, mm_cat_l, mm_cat_n]) ?_
  intro p e s m below meth c A ls hx hb hr hlk hml hown hmn hts htab hE hST hA hM hS hl
  replace hl : lv_has ls 3 [(0, .ref h0), (1, va_rf x1), (2, .int x2)] := by simpa [lv_args, mm_cat_o, mm_cat_r, mm_cat_i, mm_cat_l, mm_cat_n] using hl
  refine lv_aload_n hx hb dX16_init_0 rfl (lv_at hl 0 rfl) ?_
  refine W.objInit hx hb hown (hts _ q999) (hts _ q127) (hts _ q128) rfl (by rw [hml]; exact hl.1) rfl dX16_init_1 (Nat.le_of_ble_eq_true rfl) (Nat.le_of_ble_eq_true rfl) ?_
  refine W.eq (g2 := F0 m 4 ls []) rfl ?_
  refine lv_aload_n hx hb dX16_init_4 rfl (lv_at hl 0 rfl) ?_
  refine mm_aload_n hx hb dX16_init_5 rfl (lv_at hl 1 rfl) ?_
  refine mm_putF (D := Z.1) (ci := 13) (v := va_rf x1) (ty := .object "RowenTongue$OpenRow") (C := RX16) (T := TX16) (N := 2) hx hb hts in_X16 tyX16 tyX16_ok nmX16 hown hE.1 hM hS h_h0 mm_cX16 0 (by decide) (hts _ q1000) (fun _ h9 => h9) rfl hmn rfl (by decide +kernel) (mm_nar_oo _ _) (mm_fit_oo _ _) (Nat.le_of_ble_eq_true rfl) dX16_init_6 (fun H locs hM hS => ?_)
  have hM : mm_P Z.1 mm_cl A (mm_U M h0 (.inr (13, [va_rf x1, .int 0]))) H := hM
  have hc_1 : (mm_U M h0 (.inr (13, [va_rf x1, .int 0]))) h0 = some (.inr (13, [va_rf x1, .int 0])) := mm_U_eq
  obtain ⟨M_2, eM_2⟩ : ∃ z, z = mm_U M h0 (.inr (13, [va_rf x1, .int 0])) := ⟨_, rfl⟩
  rw [← eM_2] at hM hc_1
  refine lv_aload_n hx hb dX16_init_9 rfl (lv_at hl 0 rfl) ?_
  refine lv_iload_n hx hb dX16_init_10 rfl (lv_at hl 2 rfl) ?_
  refine mm_putF (D := Z.1) (ci := 13) (v := .int x2) (ty := .int) (C := RX16) (T := TX16) (N := 2) hx hb hts in_X16 tyX16 tyX16_ok nmX16 hown hE.1 hM hS hc_1 mm_cX16 1 (by decide) (hts _ q1004) (fun _ h9 => h9) rfl hmn rfl (by decide +kernel) rfl rfl (Nat.le_of_ble_eq_true rfl) dX16_init_11 (fun H locs hM hS => ?_)
  have hM : mm_P Z.1 mm_cl A (mm_U M_2 h0 (.inr (13, [va_rf x1, .int x2]))) H := hM
  have hc_3 : (mm_U M_2 h0 (.inr (13, [va_rf x1, .int x2]))) h0 = some (.inr (13, [va_rf x1, .int x2])) := mm_U_eq
  obtain ⟨M_4, eM_4⟩ : ∃ z, z = mm_U M_2 h0 (.inr (13, [va_rf x1, .int x2])) := ⟨_, rfl⟩
  rw [← eM_4] at hM hc_3
  exact mm_retv hx hb hr hlk hM hS ⟨rfl, by subst eM_4 eM_2; first | rfl | simp only [mm_U_U]⟩ dX16_init_14 (Nat.le_of_ble_eq_true rfl) (Nat.le_of_ble_eq_true rfl)
set_option maxHeartbeats 4000000 in
set_option maxRecDepth 100000 in
theorem c_X17_init (l : Launch) (Z : mm_G) {M : mm_M} {h0 : Nat} {x1 : Int32} {x2 : Option Nat} {x3 : Option Nat} {x4 : Option Nat} (h_h0 : M h0 = some (.inr (14, [.int 0, .null, .null, .null]))) : mm_C l Z yX17_init (ws_ yX17_init cX17_init 5 none) { frames := 1, cells := 0, slots := 0, locals := 12 } [.ref h0, .int x1, va_rf x2, va_rf x3, va_rf x4] M (fun v M' => v = none ∧ M' = mm_U M h0 (.inr (14, [.int x1, va_rf x2, va_rf x3, va_rf x4]))) mm_nx := by
  refine mm_ofW (cc := cX17_init) (maxL := 5) (ret := none) (by decide) rfl (by simp [lg_sl, mm_cat_o, mm_cat_r, mm_cat_i, mm_cat_l, mm_cat_n]) ?_
  intro p e s m below meth c A ls hx hb hr hlk hml hown hmn hts htab hE hST hA hM hS hl
  replace hl : lv_has ls 5 [(0, .ref h0), (1, .int x1), (2, va_rf x2), (3, va_rf x3), (4, va_rf x4)] := by simpa [lv_args, mm_cat_o, mm_cat_r, mm_cat_i, mm_cat_l, mm_cat_n] using hl
  refine lv_aload_n hx hb dX17_init_0 rfl (lv_at hl 0 rfl) ?_
  refine W.objInit hx hb hown (hts _ q1025) (hts _ q127) (hts _ q128) rfl (by rw [hml]; exact hl.1) rfl dX17_init_1 (Nat.le_of_ble_eq_true rfl) (Nat.le_of_ble_eq_true rfl) ?_
  refine W.eq (g2 := F0 m 4 ls []) rfl ?_
  refine lv_aload_n hx hb dX17_init_4 rfl (lv_at hl 0 rfl) ?_
  refine lv_iload_n hx hb dX17_init_5 rfl (lv_at hl 1 rfl) ?_
  refine mm_putF (D := Z.1) (ci := 14) (v := .int x1) (ty := .int) (C := RX17) (T := TX17) (N := 4) hx hb hts in_X17 tyX17 tyX17_ok nmX17 hown hE.1 hM hS h_h0 mm_cX17 0 (by decide) (hts _ q1026) (fun _ h9 => h9) rfl hmn rfl (by decide +kernel) rfl rfl (Nat.le_of_ble_eq_true rfl) dX17_init_6 (fun H locs hM hS => ?_)
  have hM : mm_P Z.1 mm_cl A (mm_U M h0 (.inr (14, [.int x1, .null, .null, .null]))) H := hM
  have hc_1 : (mm_U M h0 (.inr (14, [.int x1, .null, .null, .null]))) h0 = some (.inr (14, [.int x1, .null, .null, .null])) := mm_U_eq
  obtain ⟨M_2, eM_2⟩ : ∃ z, z = mm_U M h0 (.inr (14, [.int x1, .null, .null, .null])) := ⟨_, rfl⟩
  rw [← eM_2] at hM hc_1
  refine lv_aload_n hx hb dX17_init_9 rfl (lv_at hl 0 rfl) ?_
  refine mm_aload_n hx hb dX17_init_10 rfl (lv_at hl 2 rfl) ?_
  refine mm_putF (D := Z.1) (ci := 14) (v := va_rf x2) (ty := .object "RowenTongue$Type") (C := RX17) (T := TX17) (N := 4) hx hb hts in_X17 tyX17 tyX17_ok nmX17 hown hE.1 hM hS hc_1 mm_cX17 1 (by decide) (hts _ q1028) (fun _ h9 => h9) rfl hmn rfl (by decide +kernel) (mm_nar_oo _ _) (mm_fit_oo _ _) (Nat.le_of_ble_eq_true rfl) dX17_init_11 (fun H locs hM hS => ?_)
  have hM : mm_P Z.1 mm_cl A (mm_U M_2 h0 (.inr (14, [.int x1, va_rf x2, .null, .null]))) H := hM
  have hc_3 : (mm_U M_2 h0 (.inr (14, [.int x1, va_rf x2, .null, .null]))) h0 = some (.inr (14, [.int x1, va_rf x2, .null, .null])) := mm_U_eq
  obtain ⟨M_4, eM_4⟩ : ∃ z, z = mm_U M_2 h0 (.inr (14, [.int x1, va_rf x2, .null, .null])) := ⟨_, rfl⟩
  rw [← eM_4] at hM hc_3
  refine lv_aload_n hx hb dX17_init_14 rfl (lv_at hl 0 rfl) ?_
  refine mm_aload_n hx hb dX17_init_15 rfl (lv_at hl 3 rfl) ?_
  refine mm_putF (D := Z.1) (ci := 14) (v := va_rf x3) (ty := .object "java/util/ArrayList") (C := RX17) (T := TX17) (N := 4) hx hb hts in_X17 tyX17 tyX17_ok nmX17 hown hE.1 hM hS hc_3 mm_cX17 2 (by decide) (hts _ q1030) (fun _ h9 => h9) rfl hmn rfl (by decide +kernel) (mm_nar_oo _ _) (mm_fit_oo _ _) (Nat.le_of_ble_eq_true rfl) dX17_init_16 (fun H locs hM hS => ?_)
  have hM : mm_P Z.1 mm_cl A (mm_U M_4 h0 (.inr (14, [.int x1, va_rf x2, va_rf x3, .null]))) H := hM
  have hc_5 : (mm_U M_4 h0 (.inr (14, [.int x1, va_rf x2, va_rf x3, .null]))) h0 = some (.inr (14, [.int x1, va_rf x2, va_rf x3, .null])) := mm_U_eq
  obtain ⟨M_6, eM_6⟩ : ∃ z, z = mm_U M_4 h0 (.inr (14, [.int x1, va_rf x2, va_rf x3, .null])) := ⟨_, rfl⟩
  rw [← eM_6] at hM hc_5
  refine lv_aload_n hx hb dX17_init_19 rfl (lv_at hl 0 rfl) ?_
  refine mm_aload hx hb dX17_init_20 (lv_at hl 4 rfl) ?_
  refine mm_putF (D := Z.1) (ci := 14) (v := va_rf x4) (ty := .object "RowenTongue$Known") (C := RX17) (T := TX17) (N := 4) hx hb hts in_X17 tyX17 tyX17_ok nmX17 hown hE.1 hM hS hc_5 mm_cX17 3 (by decide) (hts _ q1032) (fun _ h9 => h9) rfl hmn rfl (by decide +kernel) (mm_nar_oo _ _) (mm_fit_oo _ _) (Nat.le_of_ble_eq_true rfl) dX17_init_22 (fun H locs hM hS => ?_)
  have hM : mm_P Z.1 mm_cl A (mm_U M_6 h0 (.inr (14, [.int x1, va_rf x2, va_rf x3, va_rf x4]))) H := hM
  have hc_7 : (mm_U M_6 h0 (.inr (14, [.int x1, va_rf x2, va_rf x3, va_rf x4]))) h0 = some (.inr (14, [.int x1, va_rf x2, va_rf x3, va_rf x4])) := mm_U_eq
  obtain ⟨M_8, eM_8⟩ : ∃ z, z = mm_U M_6 h0 (.inr (14, [.int x1, va_rf x2, va_rf x3, va_rf x4])) := ⟨_, rfl⟩
  rw [← eM_8] at hM hc_7
  exact mm_retv hx hb hr hlk hM hS ⟨rfl, by subst eM_8 eM_6 eM_4 eM_2; first | rfl | simp only [mm_U_U]⟩ dX17_init_25 (Nat.le_of_ble_eq_true rfl) (Nat.le_of_ble_eq_true rfl)
set_option maxHeartbeats 4000000 in
set_option maxRecDepth 100000 in
theorem c_X18_init (l : Launch) (Z : mm_G) {M : mm_M} {h0 : Nat} {x1 : Option Nat} {x2 : Option Nat} {x3 : Int32} (h_h0 : M h0 = some (.inr (15, [.null, .null, .int 0]))) : mm_C l Z yX18_init (ws_ yX18_init cX18_init 4 none) { frames := 1, cells := 0, slots := 0, locals := 12 } [.ref h0, va_rf x1, va_rf x2, .int x3] M (fun v M' => v = none ∧ M' = mm_U M h0 (.inr (15, [va_rf x1, va_rf x2, .int x3]))) mm_nx := by
  refine mm_ofW (cc := cX18_init) (maxL := 4) (ret := none) (by decide) rfl (by simp [lg_sl, mm_cat_o, mm_cat_r, mm_cat_i, mm_cat_l, mm_cat_n]) ?_
  intro p e s m below meth c A ls hx hb hr hlk hml hown hmn hts htab hE hST hA hM hS hl
  replace hl : lv_has ls 4 [(0, .ref h0), (1, va_rf x1), (2, va_rf x2), (3, .int x3)] := by simpa [lv_args, mm_cat_o, mm_cat_r, mm_cat_i, mm_cat_l, mm_cat_n] using hl
  refine lv_aload_n hx hb dX18_init_0 rfl (lv_at hl 0 rfl) ?_
  refine W.objInit hx hb hown (hts _ q1068) (hts _ q127) (hts _ q128) rfl (by rw [hml]; exact hl.1) rfl dX18_init_1 (Nat.le_of_ble_eq_true rfl) (Nat.le_of_ble_eq_true rfl) ?_
  refine W.eq (g2 := F0 m 4 ls []) rfl ?_
  refine lv_aload_n hx hb dX18_init_4 rfl (lv_at hl 0 rfl) ?_
  refine mm_aload_n hx hb dX18_init_5 rfl (lv_at hl 1 rfl) ?_
  refine mm_putF (D := Z.1) (ci := 15) (v := va_rf x1) (ty := .object "RowenTongue$Open") (C := RX18) (T := TX18) (N := 3) hx hb hts in_X18 tyX18 tyX18_ok nmX18 hown hE.1 hM hS h_h0 mm_cX18 0 (by decide) (hts _ q1069) (fun _ h9 => h9) rfl hmn rfl (by decide +kernel) (mm_nar_oo _ _) (mm_fit_oo _ _) (Nat.le_of_ble_eq_true rfl) dX18_init_6 (fun H locs hM hS => ?_)
  have hM : mm_P Z.1 mm_cl A (mm_U M h0 (.inr (15, [va_rf x1, .null, .int 0]))) H := hM
  have hc_1 : (mm_U M h0 (.inr (15, [va_rf x1, .null, .int 0]))) h0 = some (.inr (15, [va_rf x1, .null, .int 0])) := mm_U_eq
  obtain ⟨M_2, eM_2⟩ : ∃ z, z = mm_U M h0 (.inr (15, [va_rf x1, .null, .int 0])) := ⟨_, rfl⟩
  rw [← eM_2] at hM hc_1
  refine lv_aload_n hx hb dX18_init_9 rfl (lv_at hl 0 rfl) ?_
  refine mm_aload_n hx hb dX18_init_10 rfl (lv_at hl 2 rfl) ?_
  refine mm_putF (D := Z.1) (ci := 15) (v := va_rf x2) (ty := .object "RowenTongue$OpenRow") (C := RX18) (T := TX18) (N := 3) hx hb hts in_X18 tyX18 tyX18_ok nmX18 hown hE.1 hM hS hc_1 mm_cX18 1 (by decide) (hts _ q1070) (fun _ h9 => h9) rfl hmn rfl (by decide +kernel) (mm_nar_oo _ _) (mm_fit_oo _ _) (Nat.le_of_ble_eq_true rfl) dX18_init_11 (fun H locs hM hS => ?_)
  have hM : mm_P Z.1 mm_cl A (mm_U M_2 h0 (.inr (15, [va_rf x1, va_rf x2, .int 0]))) H := hM
  have hc_3 : (mm_U M_2 h0 (.inr (15, [va_rf x1, va_rf x2, .int 0]))) h0 = some (.inr (15, [va_rf x1, va_rf x2, .int 0])) := mm_U_eq
  obtain ⟨M_4, eM_4⟩ : ∃ z, z = mm_U M_2 h0 (.inr (15, [va_rf x1, va_rf x2, .int 0])) := ⟨_, rfl⟩
  rw [← eM_4] at hM hc_3
  refine lv_aload_n hx hb dX18_init_14 rfl (lv_at hl 0 rfl) ?_
  refine lv_iload_n hx hb dX18_init_15 rfl (lv_at hl 3 rfl) ?_
  refine mm_putF (D := Z.1) (ci := 15) (v := .int x3) (ty := .int) (C := RX18) (T := TX18) (N := 3) hx hb hts in_X18 tyX18 tyX18_ok nmX18 hown hE.1 hM hS hc_3 mm_cX18 2 (by decide) (hts _ q1071) (fun _ h9 => h9) rfl hmn rfl (by decide +kernel) rfl rfl (Nat.le_of_ble_eq_true rfl) dX18_init_16 (fun H locs hM hS => ?_)
  have hM : mm_P Z.1 mm_cl A (mm_U M_4 h0 (.inr (15, [va_rf x1, va_rf x2, .int x3]))) H := hM
  have hc_5 : (mm_U M_4 h0 (.inr (15, [va_rf x1, va_rf x2, .int x3]))) h0 = some (.inr (15, [va_rf x1, va_rf x2, .int x3])) := mm_U_eq
  obtain ⟨M_6, eM_6⟩ : ∃ z, z = mm_U M_4 h0 (.inr (15, [va_rf x1, va_rf x2, .int x3])) := ⟨_, rfl⟩
  rw [← eM_6] at hM hc_5
  exact mm_retv hx hb hr hlk hM hS ⟨rfl, by subst eM_6 eM_4 eM_2; first | rfl | simp only [mm_U_U]⟩ dX18_init_19 (Nat.le_of_ble_eq_true rfl) (Nat.le_of_ble_eq_true rfl)
set_option maxHeartbeats 4000000 in
set_option maxRecDepth 100000 in
theorem c_X19_at (l : Launch) (Z : mm_G) {M : mm_M} {h0 : Nat} {x1 : Option Nat}  : mm_C l Z yX19_at (ws_ yX19_at cX19_at 2 none) { frames := 0, cells := 0, slots := 0, locals := 0 } [.ref h0, va_rf x1] M (fun v M' => v = none ∧ M' = M) mm_nx := by
  refine mm_ofW (cc := cX19_at) (maxL := 2) (ret := none) (by decide) rfl (by simp [lg_sl, mm_cat_o, mm_cat_r, mm_cat_i, mm_cat_l, mm_cat_n]) ?_
  intro p e s m below meth c A ls hx hb hr hlk hml hown hmn hts htab hE hST hA hM hS hl
  replace hl : lv_has ls 2 [(0, .ref h0), (1, va_rf x1)] := by simpa [lv_args, mm_cat_o, mm_cat_r, mm_cat_i, mm_cat_l, mm_cat_n] using hl
  exact mm_retv hx hb hr hlk hM hS ⟨rfl, rfl⟩ dX19_at_0 (Nat.le_of_ble_eq_true rfl) (Nat.le_of_ble_eq_true rfl)
set_option maxHeartbeats 4000000 in
set_option maxRecDepth 100000 in
theorem c_X2_thrown (l : Launch) (Z : mm_G) {M : mm_M} {h0 : Nat} {f0 : Int32} {f1 : Option Nat} {f2 : Option Nat} {f3 : Option Nat} {f4 : Option Nat} {f5 : Option Nat} {f6 : Option Nat} {f7 : Int32} {f8 : Int32} {f9 : Option Nat} {f10 : Int32} {f11 : Int32} {f12 : Int32} {f13 : Option Nat} {f14 : Int32} {f15 : Bool} {f16 : Int64} (h_h0 : M h0 = some (.inr (1, [.int f0, va_rf f1, va_rf f2, va_rf f3, va_rf f4, va_rf f5, va_rf f6, .int f7, .int f8, va_rf f9, .int f10, .int f11, .int f12, va_rf f13, .int f14, .int (mm_b f15), .long f16]))) : mm_C l Z yX2_thrown (ws_ yX2_thrown cX2_thrown 1 (some .int)) { frames := 0, cells := 0, slots := 0, locals := 0 } [.ref h0] M (fun v M' => v = some (.int f10) ∧ M' = M) mm_nx := by
  refine mm_ofW (cc := cX2_thrown) (maxL := 1) (ret := (some .int)) (by decide) rfl (Nat.le_of_ble_eq_true rfl) ?_
  intro p e s m below meth c A ls hx hb hr hlk hml hown hmn hts htab hE hST hA hM hS hl
  replace hl : lv_has ls 1 [(0, .ref h0)] := hl
  refine lv_aload_n hx hb dX2_thrown_0 rfl (lv_at hl 0 rfl) ?_
  refine va_get (D := Z.1) (ci := 1) (v := .int f10) (C := RX2) (T := TX2) (N := 17) hx hb hts in_X2 hown hE.1 (hM.at h_h0) 0 rfl mm_cX2 10 (by decide) (hts _ q2388) (fun _ h9 => h9) rfl dX2_thrown_1 ?_
  exact mm_reti hx hb hr hlk hM hS ⟨rfl, rfl⟩ dX2_thrown_4 (Nat.le_of_ble_eq_true rfl) (Nat.le_of_ble_eq_true rfl)
set_option maxHeartbeats 4000000 in
set_option maxRecDepth 100000 in
theorem c_X2_terms (l : Launch) (Z : mm_G) {M : mm_M} {h0 : Nat} {f0 : Int32} {f1 : Option Nat} {f2 : Option Nat} {f3 : Option Nat} {f4 : Option Nat} {f5 : Option Nat} {f6 : Option Nat} {f7 : Int32} {f8 : Int32} {f9 : Option Nat} {f10 : Int32} {f11 : Int32} {f12 : Int32} {f13 : Option Nat} {f14 : Int32} {f15 : Bool} {f16 : Int64} (h_h0 : M h0 = some (.inr (1, [.int f0, va_rf f1, va_rf f2, va_rf f3, va_rf f4, va_rf f5, va_rf f6, .int f7, .int f8, va_rf f9, .int f10, .int f11, .int f12, va_rf f13, .int f14, .int (mm_b f15), .long f16]))) : mm_C l Z yX2_terms (ws_ yX2_terms cX2_terms 1 (some .int)) { frames := 0, cells := 0, slots := 0, locals := 0 } [.ref h0] M (fun v M' => v = some (.int f0) ∧ M' = mm_U M h0 (.inr (1, [.int f0, va_rf f1, va_rf f2, va_rf f3, va_rf f4, va_rf f5, va_rf f6, .int f7, .int f8, va_rf f9, .int 0, .int f11, .int f12, va_rf f13, .int f14, .int (mm_b f15), .long f16]))) mm_nx := by
  refine mm_ofW (cc := cX2_terms) (maxL := 1) (ret := (some .int)) (by decide) rfl (Nat.le_of_ble_eq_true rfl) ?_
  intro p e s m below meth c A ls hx hb hr hlk hml hown hmn hts htab hE hST hA hM hS hl
  replace hl : lv_has ls 1 [(0, .ref h0)] := hl
  refine lv_aload_n hx hb dX2_terms_0 rfl (lv_at hl 0 rfl) ?_
  refine lv_iconst (v := 0) hx hb dX2_terms_1 (by decide) ?_
  refine mm_put (D := Z.1) (ci := 1) (v := .int 0) (ty := .int) (C := RX2) (T := TX2) (N := 17) hx hb hts in_X2 tyX2 tyX2_ok nmX2 hown hE.1 hM hS h_h0 mm_cX2 10 (by decide) (hts _ q2388) (fun _ h9 => h9) rfl (by decide +kernel) rfl rfl (Nat.le_of_ble_eq_true rfl) dX2_terms_2 (fun H locs hM hS => ?_)
  have hM : mm_P Z.1 mm_cl A (mm_U M h0 (.inr (1, [.int f0, va_rf f1, va_rf f2, va_rf f3, va_rf f4, va_rf f5, va_rf f6, .int f7, .int f8, va_rf f9, .int 0, .int f11, .int f12, va_rf f13, .int f14, .int (mm_b f15), .long f16]))) H := hM
  have hc_1 : (mm_U M h0 (.inr (1, [.int f0, va_rf f1, va_rf f2, va_rf f3, va_rf f4, va_rf f5, va_rf f6, .int f7, .int f8, va_rf f9, .int 0, .int f11, .int f12, va_rf f13, .int f14, .int (mm_b f15), .long f16]))) h0 = some (.inr (1, [.int f0, va_rf f1, va_rf f2, va_rf f3, va_rf f4, va_rf f5, va_rf f6, .int f7, .int f8, va_rf f9, .int 0, .int f11, .int f12, va_rf f13, .int f14, .int (mm_b f15), .long f16])) := mm_U_eq
  obtain ⟨M_2, eM_2⟩ : ∃ z, z = mm_U M h0 (.inr (1, [.int f0, va_rf f1, va_rf f2, va_rf f3, va_rf f4, va_rf f5, va_rf f6, .int f7, .int f8, va_rf f9, .int 0, .int f11, .int f12, va_rf f13, .int f14, .int (mm_b f15), .long f16])) := ⟨_, rfl⟩
  rw [← eM_2] at hM hc_1
  refine lv_aload_n hx hb dX2_terms_5 rfl (lv_at hl 0 rfl) ?_
  refine va_get (D := Z.1) (ci := 1) (v := .int f0) (C := RX2) (T := TX2) (N := 17) hx hb hts in_X2 hown hE.1 (hM.at hc_1) 0 rfl mm_cX2 0 (by decide) (hts _ q2378) (fun _ h9 => h9) rfl dX2_terms_6 ?_
  exact mm_reti hx hb hr hlk hM hS ⟨rfl, by subst eM_2; first | rfl | simp only [mm_U_U]⟩ dX2_terms_9 (Nat.le_of_ble_eq_true rfl) (Nat.le_of_ble_eq_true rfl)
set_option maxHeartbeats 4000000 in
set_option maxRecDepth 100000 in
theorem c_X2_nextStamp (l : Launch) (Z : mm_G) {M : mm_M} {h0 : Nat} {f0 : Int32} {f1 : Option Nat} {f2 : Option Nat} {f3 : Option Nat} {f4 : Option Nat} {f5 : Option Nat} {f6 : Option Nat} {f7 : Int32} {f8 : Int32} {f9 : Option Nat} {f10 : Int32} {f11 : Int32} {f12 : Int32} {f13 : Option Nat} {f14 : Int32} {f15 : Bool} {f16 : Int64} (h_h0 : M h0 = some (.inr (1, [.int f0, va_rf f1, va_rf f2, va_rf f3, va_rf f4, va_rf f5, va_rf f6, .int f7, .int f8, va_rf f9, .int f10, .int f11, .int f12, va_rf f13, .int f14, .int (mm_b f15), .long f16]))) : mm_C l Z yX2_nextStamp (ws_ yX2_nextStamp cX2_nextStamp 1 (some .long)) { frames := 0, cells := 0, slots := 0, locals := 0 } [.ref h0] M (fun v M' => v = some (.long (f16 + 1)) ∧ M' = mm_U M h0 (.inr (1, [.int f0, va_rf f1, va_rf f2, va_rf f3, va_rf f4, va_rf f5, va_rf f6, .int f7, .int f8, va_rf f9, .int f10, .int f11, .int f12, va_rf f13, .int f14, .int (mm_b f15), .long (f16 + 1)]))) mm_nx := by
  refine mm_ofW (cc := cX2_nextStamp) (maxL := 1) (ret := (some .long)) (by decide) rfl (Nat.le_of_ble_eq_true rfl) ?_
  intro p e s m below meth c A ls hx hb hr hlk hml hown hmn hts htab hE hST hA hM hS hl
  replace hl : lv_has ls 1 [(0, .ref h0)] := hl
  refine lv_aload_n hx hb dX2_nextStamp_0 rfl (lv_at hl 0 rfl) ?_
  refine lv_dup hx hb dX2_nextStamp_1 rfl ?_
  refine va_get (D := Z.1) (ci := 1) (v := .long f16) (C := RX2) (T := TX2) (N := 17) hx hb hts in_X2 hown hE.1 (hM.at h_h0) 0 rfl mm_cX2 16 (by decide) (hts _ q2394) (fun _ h9 => h9) rfl dX2_nextStamp_2 ?_
  refine lv_lconst (v := 1) hx hb dX2_nextStamp_5 rfl ?_
  refine lv_ladd hx hb dX2_nextStamp_6 ?_
  refine mm_put (D := Z.1) (ci := 1) (v := .long (f16 + 1)) (ty := .long) (C := RX2) (T := TX2) (N := 17) hx hb hts in_X2 tyX2 tyX2_ok nmX2 hown hE.1 hM hS h_h0 mm_cX2 16 (by decide) (hts _ q2394) (fun _ h9 => h9) rfl (by decide +kernel) rfl rfl (Nat.le_of_ble_eq_true rfl) dX2_nextStamp_7 (fun H locs hM hS => ?_)
  have hM : mm_P Z.1 mm_cl A (mm_U M h0 (.inr (1, [.int f0, va_rf f1, va_rf f2, va_rf f3, va_rf f4, va_rf f5, va_rf f6, .int f7, .int f8, va_rf f9, .int f10, .int f11, .int f12, va_rf f13, .int f14, .int (mm_b f15), .long (f16 + 1)]))) H := hM
  have hc_1 : (mm_U M h0 (.inr (1, [.int f0, va_rf f1, va_rf f2, va_rf f3, va_rf f4, va_rf f5, va_rf f6, .int f7, .int f8, va_rf f9, .int f10, .int f11, .int f12, va_rf f13, .int f14, .int (mm_b f15), .long (f16 + 1)]))) h0 = some (.inr (1, [.int f0, va_rf f1, va_rf f2, va_rf f3, va_rf f4, va_rf f5, va_rf f6, .int f7, .int f8, va_rf f9, .int f10, .int f11, .int f12, va_rf f13, .int f14, .int (mm_b f15), .long (f16 + 1)])) := mm_U_eq
  obtain ⟨M_2, eM_2⟩ : ∃ z, z = mm_U M h0 (.inr (1, [.int f0, va_rf f1, va_rf f2, va_rf f3, va_rf f4, va_rf f5, va_rf f6, .int f7, .int f8, va_rf f9, .int f10, .int f11, .int f12, va_rf f13, .int f14, .int (mm_b f15), .long (f16 + 1)])) := ⟨_, rfl⟩
  rw [← eM_2] at hM hc_1
  refine lv_aload_n hx hb dX2_nextStamp_10 rfl (lv_at hl 0 rfl) ?_
  refine va_get (D := Z.1) (ci := 1) (v := .long (f16 + 1)) (C := RX2) (T := TX2) (N := 17) hx hb hts in_X2 hown hE.1 (hM.at hc_1) 0 rfl mm_cX2 16 (by decide) (hts _ q2394) (fun _ h9 => h9) rfl dX2_nextStamp_11 ?_
  exact mm_retl hx hb hr hlk hM hS ⟨rfl, by subst eM_2; first | rfl | simp only [mm_U_U]⟩ dX2_nextStamp_14 (Nat.le_of_ble_eq_true rfl) (Nat.le_of_ble_eq_true rfl)
set_option maxHeartbeats 4000000 in
set_option maxRecDepth 100000 in
theorem c_X2_errorAt (l : Launch) (Z : mm_G) {M : mm_M} {h0 : Nat} {f0 : Int32} {f1 : Option Nat} {f2 : Option Nat} {f3 : Option Nat} {f4 : Option Nat} {f5 : Option Nat} {f6 : Option Nat} {f7 : Int32} {f8 : Int32} {f9 : Option Nat} {f10 : Int32} {f11 : Int32} {f12 : Int32} {f13 : Option Nat} {f14 : Int32} {f15 : Bool} {f16 : Int64} (h_h0 : M h0 = some (.inr (1, [.int f0, va_rf f1, va_rf f2, va_rf f3, va_rf f4, va_rf f5, va_rf f6, .int f7, .int f8, va_rf f9, .int f10, .int f11, .int f12, va_rf f13, .int f14, .int (mm_b f15), .long f16]))) : mm_C l Z yX2_errorAt (ws_ yX2_errorAt cX2_errorAt 1 (some .int)) { frames := 0, cells := 0, slots := 0, locals := 0 } [.ref h0] M (fun v M' => v = some (.int f7) ∧ M' = mm_U M h0 (.inr (1, [.int f0, va_rf f1, va_rf f2, va_rf f3, va_rf f4, va_rf f5, va_rf f6, .int f7, .int f8, va_rf f9, .int 0, .int f11, .int f12, va_rf f13, .int f14, .int (mm_b f15), .long f16]))) mm_nx := by
  refine mm_ofW (cc := cX2_errorAt) (maxL := 1) (ret := (some .int)) (by decide) rfl (Nat.le_of_ble_eq_true rfl) ?_
  intro p e s m below meth c A ls hx hb hr hlk hml hown hmn hts htab hE hST hA hM hS hl
  replace hl : lv_has ls 1 [(0, .ref h0)] := hl
  refine lv_aload_n hx hb dX2_errorAt_0 rfl (lv_at hl 0 rfl) ?_
  refine lv_iconst (v := 0) hx hb dX2_errorAt_1 (by decide) ?_
  refine mm_put (D := Z.1) (ci := 1) (v := .int 0) (ty := .int) (C := RX2) (T := TX2) (N := 17) hx hb hts in_X2 tyX2 tyX2_ok nmX2 hown hE.1 hM hS h_h0 mm_cX2 10 (by decide) (hts _ q2388) (fun _ h9 => h9) rfl (by decide +kernel) rfl rfl (Nat.le_of_ble_eq_true rfl) dX2_errorAt_2 (fun H locs hM hS => ?_)
  have hM : mm_P Z.1 mm_cl A (mm_U M h0 (.inr (1, [.int f0, va_rf f1, va_rf f2, va_rf f3, va_rf f4, va_rf f5, va_rf f6, .int f7, .int f8, va_rf f9, .int 0, .int f11, .int f12, va_rf f13, .int f14, .int (mm_b f15), .long f16]))) H := hM
  have hc_1 : (mm_U M h0 (.inr (1, [.int f0, va_rf f1, va_rf f2, va_rf f3, va_rf f4, va_rf f5, va_rf f6, .int f7, .int f8, va_rf f9, .int 0, .int f11, .int f12, va_rf f13, .int f14, .int (mm_b f15), .long f16]))) h0 = some (.inr (1, [.int f0, va_rf f1, va_rf f2, va_rf f3, va_rf f4, va_rf f5, va_rf f6, .int f7, .int f8, va_rf f9, .int 0, .int f11, .int f12, va_rf f13, .int f14, .int (mm_b f15), .long f16])) := mm_U_eq
  obtain ⟨M_2, eM_2⟩ : ∃ z, z = mm_U M h0 (.inr (1, [.int f0, va_rf f1, va_rf f2, va_rf f3, va_rf f4, va_rf f5, va_rf f6, .int f7, .int f8, va_rf f9, .int 0, .int f11, .int f12, va_rf f13, .int f14, .int (mm_b f15), .long f16])) := ⟨_, rfl⟩
  rw [← eM_2] at hM hc_1
  refine lv_aload_n hx hb dX2_errorAt_5 rfl (lv_at hl 0 rfl) ?_
  refine va_get (D := Z.1) (ci := 1) (v := .int f7) (C := RX2) (T := TX2) (N := 17) hx hb hts in_X2 hown hE.1 (hM.at hc_1) 0 rfl mm_cX2 7 (by decide) (hts _ q2385) (fun _ h9 => h9) rfl dX2_errorAt_6 ?_
  exact mm_reti hx hb hr hlk hM hS ⟨rfl, by subst eM_2; first | rfl | simp only [mm_U_U]⟩ dX2_errorAt_9 (Nat.le_of_ble_eq_true rfl) (Nat.le_of_ble_eq_true rfl)
set_option maxHeartbeats 4000000 in
set_option maxRecDepth 100000 in
theorem c_X2_steps (l : Launch) (Z : mm_G) {M : mm_M} {h0 : Nat} {f0 : Int32} {f1 : Option Nat} {f2 : Option Nat} {f3 : Option Nat} {f4 : Option Nat} {f5 : Option Nat} {f6 : Option Nat} {f7 : Int32} {f8 : Int32} {f9 : Option Nat} {f10 : Int32} {f11 : Int32} {f12 : Int32} {f13 : Option Nat} {f14 : Int32} {f15 : Bool} {f16 : Int64} (h_h0 : M h0 = some (.inr (1, [.int f0, va_rf f1, va_rf f2, va_rf f3, va_rf f4, va_rf f5, va_rf f6, .int f7, .int f8, va_rf f9, .int f10, .int f11, .int f12, va_rf f13, .int f14, .int (mm_b f15), .long f16]))) : mm_C l Z yX2_steps (ws_ yX2_steps cX2_steps 1 (some .int)) { frames := 0, cells := 0, slots := 0, locals := 0 } [.ref h0] M (fun v M' => v = some (.int f8) ∧ M' = mm_U M h0 (.inr (1, [.int f0, va_rf f1, va_rf f2, va_rf f3, va_rf f4, va_rf f5, va_rf f6, .int f7, .int f8, va_rf f9, .int 0, .int f11, .int f12, va_rf f13, .int f14, .int (mm_b f15), .long f16]))) mm_nx := by
  refine mm_ofW (cc := cX2_steps) (maxL := 1) (ret := (some .int)) (by decide) rfl (Nat.le_of_ble_eq_true rfl) ?_
  intro p e s m below meth c A ls hx hb hr hlk hml hown hmn hts htab hE hST hA hM hS hl
  replace hl : lv_has ls 1 [(0, .ref h0)] := hl
  refine lv_aload_n hx hb dX2_steps_0 rfl (lv_at hl 0 rfl) ?_
  refine lv_iconst (v := 0) hx hb dX2_steps_1 (by decide) ?_
  refine mm_put (D := Z.1) (ci := 1) (v := .int 0) (ty := .int) (C := RX2) (T := TX2) (N := 17) hx hb hts in_X2 tyX2 tyX2_ok nmX2 hown hE.1 hM hS h_h0 mm_cX2 10 (by decide) (hts _ q2388) (fun _ h9 => h9) rfl (by decide +kernel) rfl rfl (Nat.le_of_ble_eq_true rfl) dX2_steps_2 (fun H locs hM hS => ?_)
  have hM : mm_P Z.1 mm_cl A (mm_U M h0 (.inr (1, [.int f0, va_rf f1, va_rf f2, va_rf f3, va_rf f4, va_rf f5, va_rf f6, .int f7, .int f8, va_rf f9, .int 0, .int f11, .int f12, va_rf f13, .int f14, .int (mm_b f15), .long f16]))) H := hM
  have hc_1 : (mm_U M h0 (.inr (1, [.int f0, va_rf f1, va_rf f2, va_rf f3, va_rf f4, va_rf f5, va_rf f6, .int f7, .int f8, va_rf f9, .int 0, .int f11, .int f12, va_rf f13, .int f14, .int (mm_b f15), .long f16]))) h0 = some (.inr (1, [.int f0, va_rf f1, va_rf f2, va_rf f3, va_rf f4, va_rf f5, va_rf f6, .int f7, .int f8, va_rf f9, .int 0, .int f11, .int f12, va_rf f13, .int f14, .int (mm_b f15), .long f16])) := mm_U_eq
  obtain ⟨M_2, eM_2⟩ : ∃ z, z = mm_U M h0 (.inr (1, [.int f0, va_rf f1, va_rf f2, va_rf f3, va_rf f4, va_rf f5, va_rf f6, .int f7, .int f8, va_rf f9, .int 0, .int f11, .int f12, va_rf f13, .int f14, .int (mm_b f15), .long f16])) := ⟨_, rfl⟩
  rw [← eM_2] at hM hc_1
  refine lv_aload_n hx hb dX2_steps_5 rfl (lv_at hl 0 rfl) ?_
  refine va_get (D := Z.1) (ci := 1) (v := .int f8) (C := RX2) (T := TX2) (N := 17) hx hb hts in_X2 hown hE.1 (hM.at hc_1) 0 rfl mm_cX2 8 (by decide) (hts _ q2386) (fun _ h9 => h9) rfl dX2_steps_6 ?_
  exact mm_reti hx hb hr hlk hM hS ⟨rfl, by subst eM_2; first | rfl | simp only [mm_U_U]⟩ dX2_steps_9 (Nat.le_of_ble_eq_true rfl) (Nat.le_of_ble_eq_true rfl)
set_option maxHeartbeats 4000000 in
set_option maxRecDepth 100000 in
theorem c_X21_init (l : Launch) (Z : mm_G) {M : mm_M} {h0 : Nat} (h_h0 : M h0 = some (.inr (50, []))) : mm_C l Z yX21_init (ws_ yX21_init cX21_init 1 none) { frames := 1, cells := 0, slots := 0, locals := 12 } [.ref h0] M (fun v M' => v = none ∧ M' = M) mm_nx := by
  refine mm_ofW (cc := cX21_init) (maxL := 1) (ret := none) (by decide) rfl (Nat.le_of_ble_eq_true rfl) ?_
  intro p e s m below meth c A ls hx hb hr hlk hml hown hmn hts htab hE hST hA hM hS hl
  replace hl : lv_has ls 1 [(0, .ref h0)] := hl
  refine lv_aload_n hx hb dX21_init_0 rfl (lv_at hl 0 rfl) ?_
  refine W.objInit hx hb hown (hts _ q1185) (hts _ q127) (hts _ q128) rfl (by rw [hml]; exact hl.1) rfl dX21_init_1 (Nat.le_of_ble_eq_true rfl) (Nat.le_of_ble_eq_true rfl) ?_
  refine W.eq (g2 := F0 m 4 ls []) rfl ?_
  exact mm_retv hx hb hr hlk hM hS ⟨rfl, rfl⟩ dX21_init_4 (Nat.le_of_ble_eq_true rfl) (Nat.le_of_ble_eq_true rfl)
set_option maxHeartbeats 4000000 in
set_option maxRecDepth 100000 in
theorem c_X23_init (l : Launch) (Z : mm_G) {M : mm_M} {h0 : Nat} {x1 : Int32} (h_h0 : M h0 = some (.inr (18, [.null, .int 0]))) : mm_C l Z yX23_init (ws_ yX23_init cX23_init 2 none) { frames := 4, cells := 1, slots := 3, locals := 72 } [.ref h0, .int x1] M (fun v M' => ∃ q_2 : Nat, M q_2 = none ∧ v = none ∧ M' = mm_U (mm_U M q_2 (.inr (41, [.int 0, .ref (Z.2.2.1 2), .int 0]))) h0 (.inr (18, [.ref q_2, .int x1]))) mm_nx := by
  refine mm_ofW (cc := cX23_init) (maxL := 2) (ret := none) (by decide) rfl (Nat.le_of_ble_eq_true rfl) ?_
  intro p e s m below meth c A ls hx hb hr hlk hml hown hmn hts htab hE hST hA hM hS hl
  replace hl : lv_has ls 2 [(0, .ref h0), (1, .int x1)] := hl
  refine lv_aload_n hx hb dX23_init_0 rfl (lv_at hl 0 rfl) ?_
  refine W.objInit hx hb hown (hts _ q1265) (hts _ q127) (hts _ q128) rfl (by rw [hml]; exact hl.1) rfl dX23_init_1 (Nat.le_of_ble_eq_true rfl) (Nat.le_of_ble_eq_true rfl) ?_
  refine W.eq (g2 := F0 m 4 ls []) rfl ?_
  refine lv_aload_n hx hb dX23_init_4 rfl (lv_at hl 0 rfl) ?_
  refine mm_new (D := Z.1) (ci := 41) (fs := mm_f0J2) (C := RJ2) (T := TJ2) (N := 3) hx hb hts in_J2 tyJ2 tyJ2_ok hown (hts _ q1266) (hts _ q130) (hts _ q53) hE.1 hM hS hA mm_cJ2 mm_dfJ2 (Nat.le_of_ble_eq_true rfl) (Nat.le_of_ble_eq_true rfl) dX23_init_5 (fun q_2 H nq_1 hM hS => ?_)
  have hM : mm_P Z.1 mm_cl A (mm_U M q_2 (.inr (41, [.int 0, .null, .int 0]))) H := hM
  have ne_3 : h0 ≠ q_2 := (mm_neN h_h0 nq_1)
  have hc_4 : (mm_U M q_2 (.inr (41, [.int 0, .null, .int 0]))) q_2 = some (.inr (41, [.int 0, .null, .int 0])) := mm_U_eq
  have hc_5 : (mm_U M q_2 (.inr (41, [.int 0, .null, .int 0]))) h0 = some (.inr (18, [.null, .int 0])) := (mm_U_ne ne_3).trans h_h0
  obtain ⟨M_6, eM_6⟩ : ∃ z, z = mm_U M q_2 (.inr (41, [.int 0, .null, .int 0])) := ⟨_, rfl⟩
  rw [← eM_6] at hM hc_5 hc_4
  refine lv_dup hx hb dX23_init_8 rfl ?_
  refine mm_callI (As := []) (rest := [.ref q_2, .ref h0]) ⟨hx, hb, hml, hown, hts⟩ hE hST hA (c_J2_init l Z (M := M_6) (h0 := q_2) hc_4) (cwI (maxL := 1) 0 hts (lw_meth q133) rfl rfl rfl (hts _ q53) (hts _ q1267) (hts _ q132) rfl (by decide +kernel) ⟨(Nat.le_of_ble_eq_true rfl), (Nat.le_of_ble_eq_true rfl)⟩) hM hS rfl hl.1 (Nat.le_of_ble_eq_true rfl) dX23_init_9 rfl ⟨(Nat.le_of_ble_eq_true rfl), (Nat.le_of_ble_eq_true rfl)⟩ (fun _ _ _ _ _ _ h9 => h9.elim) (fun v_7 M_8 H locs hp_9 hM hS => ?_)
  obtain ⟨rfl, eM_8⟩ := hp_9
  rw [eM_8] at hM
  replace hM : mm_P Z.1 mm_cl A (mm_U M_6 q_2 (.inr (41, [.int 0, .ref (Z.2.2.1 2), .int 0]))) H := hM
  have hc_10 : (mm_U M_6 q_2 (.inr (41, [.int 0, .ref (Z.2.2.1 2), .int 0]))) q_2 = some (.inr (41, [.int 0, .ref (Z.2.2.1 2), .int 0])) := mm_U_eq
  have hc_11 : (mm_U M_6 q_2 (.inr (41, [.int 0, .ref (Z.2.2.1 2), .int 0]))) h0 = some (.inr (18, [.null, .int 0])) := (mm_U_ne ne_3).trans hc_5
  obtain ⟨M_12, eM_12⟩ : ∃ z, z = mm_U M_6 q_2 (.inr (41, [.int 0, .ref (Z.2.2.1 2), .int 0])) := ⟨_, rfl⟩
  rw [← eM_12] at hM hc_11 hc_10
  refine mm_putF (D := Z.1) (ci := 18) (v := .ref q_2) (ty := .object "java/util/ArrayList") (C := RX23) (T := TX23) (N := 2) hx hb hts in_X23 tyX23 tyX23_ok nmX23 hown hE.1 hM hS hc_11 mm_cX23 0 (by decide) (hts _ q1268) (fun _ h9 => h9) rfl hmn rfl (by decide +kernel) rfl rfl (Nat.le_of_ble_eq_true rfl) dX23_init_12 (fun H locs hM hS => ?_)
  have hM : mm_P Z.1 mm_cl A (mm_U M_12 h0 (.inr (18, [.ref q_2, .int 0]))) H := hM
  have hc_13 : (mm_U M_12 h0 (.inr (18, [.ref q_2, .int 0]))) h0 = some (.inr (18, [.ref q_2, .int 0])) := mm_U_eq
  have hc_14 : (mm_U M_12 h0 (.inr (18, [.ref q_2, .int 0]))) q_2 = some (.inr (41, [.int 0, .ref (Z.2.2.1 2), .int 0])) := (mm_U_ne (Ne.symm ne_3)).trans hc_10
  obtain ⟨M_15, eM_15⟩ : ∃ z, z = mm_U M_12 h0 (.inr (18, [.ref q_2, .int 0])) := ⟨_, rfl⟩
  rw [← eM_15] at hM hc_13 hc_14
  refine lv_aload_n hx hb dX23_init_15 rfl (lv_at hl 0 rfl) ?_
  refine lv_iload_n hx hb dX23_init_16 rfl (lv_at hl 1 rfl) ?_
  refine mm_putF (D := Z.1) (ci := 18) (v := .int x1) (ty := .int) (C := RX23) (T := TX23) (N := 2) hx hb hts in_X23 tyX23 tyX23_ok nmX23 hown hE.1 hM hS hc_13 mm_cX23 1 (by decide) (hts _ q1270) (fun _ h9 => h9) rfl hmn rfl (by decide +kernel) rfl rfl (Nat.le_of_ble_eq_true rfl) dX23_init_17 (fun H locs hM hS => ?_)
  have hM : mm_P Z.1 mm_cl A (mm_U M_15 h0 (.inr (18, [.ref q_2, .int x1]))) H := hM
  have hc_16 : (mm_U M_15 h0 (.inr (18, [.ref q_2, .int x1]))) h0 = some (.inr (18, [.ref q_2, .int x1])) := mm_U_eq
  have hc_17 : (mm_U M_15 h0 (.inr (18, [.ref q_2, .int x1]))) q_2 = some (.inr (41, [.int 0, .ref (Z.2.2.1 2), .int 0])) := (mm_U_ne (Ne.symm ne_3)).trans hc_14
  obtain ⟨M_18, eM_18⟩ : ∃ z, z = mm_U M_15 h0 (.inr (18, [.ref q_2, .int x1])) := ⟨_, rfl⟩
  rw [← eM_18] at hM hc_16 hc_17
  exact mm_retv hx hb hr hlk hM hS ⟨q_2, nq_1, rfl, by subst eM_18 eM_15 eM_12 eM_6; (funext z9; simp only [mm_U]; (repeat' split) <;> simp_all)⟩ dX23_init_20 (Nat.le_of_ble_eq_true rfl) (Nat.le_of_ble_eq_true rfl)
set_option maxHeartbeats 4000000 in
set_option maxRecDepth 100000 in
theorem c_X24_init (l : Launch) (Z : mm_G) {M : mm_M} {h0 : Nat} {x1 : Option Nat} {x2 : Option Nat} {x3 : Option Nat} {x4 : Option Nat} (h_h0 : M h0 = some (.inr (19, [.null, .null, .null, .null, .null]))) : mm_C l Z yX24_init (ws_ yX24_init cX24_init 5 none) { frames := 1, cells := 0, slots := 0, locals := 12 } [.ref h0, va_rf x1, va_rf x2, va_rf x3, va_rf x4] M (fun v M' => v = none ∧ M' = mm_U M h0 (.inr (19, [va_rf x1, va_rf x2, va_rf x3, va_rf x4, .null]))) mm_nx := by
  refine mm_ofW (cc := cX24_init) (maxL := 5) (ret := none) (by decide) rfl (by simp [lg_sl, mm_cat_o, mm_cat_r, mm_cat_i, mm_cat_l, mm_cat_n]) ?_
  intro p e s m below meth c A ls hx hb hr hlk hml hown hmn hts htab hE hST hA hM hS hl
  replace hl : lv_has ls 5 [(0, .ref h0), (1, va_rf x1), (2, va_rf x2), (3, va_rf x3), (4, va_rf x4)] := by simpa [lv_args, mm_cat_o, mm_cat_r, mm_cat_i, mm_cat_l, mm_cat_n] using hl
  refine lv_aload_n hx hb dX24_init_0 rfl (lv_at hl 0 rfl) ?_
  refine W.objInit hx hb hown (hts _ q1563) (hts _ q127) (hts _ q128) rfl (by rw [hml]; exact hl.1) rfl dX24_init_1 (Nat.le_of_ble_eq_true rfl) (Nat.le_of_ble_eq_true rfl) ?_
  refine W.eq (g2 := F0 m 4 ls []) rfl ?_
  refine lv_aload_n hx hb dX24_init_4 rfl (lv_at hl 0 rfl) ?_
  refine mm_aload hx hb dX24_init_5 (lv_at hl 4 rfl) ?_
  refine mm_putF (D := Z.1) (ci := 19) (v := va_rf x4) (ty := .array (.int)) (C := RX24) (T := TX24) (N := 5) hx hb hts in_X24 tyX24 tyX24_ok nmX24 hown hE.1 hM hS h_h0 mm_cX24 3 (by decide) (hts _ q1570) (fun _ h9 => h9) rfl hmn rfl (by decide +kernel) (mm_nar_oa _ _) (mm_fit_oa _ _) (Nat.le_of_ble_eq_true rfl) dX24_init_7 (fun H locs hM hS => ?_)
  have hM : mm_P Z.1 mm_cl A (mm_U M h0 (.inr (19, [.null, .null, .null, va_rf x4, .null]))) H := hM
  have hc_1 : (mm_U M h0 (.inr (19, [.null, .null, .null, va_rf x4, .null]))) h0 = some (.inr (19, [.null, .null, .null, va_rf x4, .null])) := mm_U_eq
  obtain ⟨M_2, eM_2⟩ : ∃ z, z = mm_U M h0 (.inr (19, [.null, .null, .null, va_rf x4, .null])) := ⟨_, rfl⟩
  rw [← eM_2] at hM hc_1
  refine lv_aload_n hx hb dX24_init_10 rfl (lv_at hl 0 rfl) ?_
  refine mm_aload_n hx hb dX24_init_11 rfl (lv_at hl 1 rfl) ?_
  refine mm_putF (D := Z.1) (ci := 19) (v := va_rf x1) (ty := .object "RowenTongue$Type") (C := RX24) (T := TX24) (N := 5) hx hb hts in_X24 tyX24 tyX24_ok nmX24 hown hE.1 hM hS hc_1 mm_cX24 0 (by decide) (hts _ q1564) (fun _ h9 => h9) rfl hmn rfl (by decide +kernel) (mm_nar_oo _ _) (mm_fit_oo _ _) (Nat.le_of_ble_eq_true rfl) dX24_init_12 (fun H locs hM hS => ?_)
  have hM : mm_P Z.1 mm_cl A (mm_U M_2 h0 (.inr (19, [va_rf x1, .null, .null, va_rf x4, .null]))) H := hM
  have hc_3 : (mm_U M_2 h0 (.inr (19, [va_rf x1, .null, .null, va_rf x4, .null]))) h0 = some (.inr (19, [va_rf x1, .null, .null, va_rf x4, .null])) := mm_U_eq
  obtain ⟨M_4, eM_4⟩ : ∃ z, z = mm_U M_2 h0 (.inr (19, [va_rf x1, .null, .null, va_rf x4, .null])) := ⟨_, rfl⟩
  rw [← eM_4] at hM hc_3
  refine lv_aload_n hx hb dX24_init_15 rfl (lv_at hl 0 rfl) ?_
  refine mm_aload_n hx hb dX24_init_16 rfl (lv_at hl 2 rfl) ?_
  refine mm_putF (D := Z.1) (ci := 19) (v := va_rf x2) (ty := .object "RowenTongue$Code") (C := RX24) (T := TX24) (N := 5) hx hb hts in_X24 tyX24 tyX24_ok nmX24 hown hE.1 hM hS hc_3 mm_cX24 1 (by decide) (hts _ q1566) (fun _ h9 => h9) rfl hmn rfl (by decide +kernel) (mm_nar_oo _ _) (mm_fit_oo _ _) (Nat.le_of_ble_eq_true rfl) dX24_init_17 (fun H locs hM hS => ?_)
  have hM : mm_P Z.1 mm_cl A (mm_U M_4 h0 (.inr (19, [va_rf x1, va_rf x2, .null, va_rf x4, .null]))) H := hM
  have hc_5 : (mm_U M_4 h0 (.inr (19, [va_rf x1, va_rf x2, .null, va_rf x4, .null]))) h0 = some (.inr (19, [va_rf x1, va_rf x2, .null, va_rf x4, .null])) := mm_U_eq
  obtain ⟨M_6, eM_6⟩ : ∃ z, z = mm_U M_4 h0 (.inr (19, [va_rf x1, va_rf x2, .null, va_rf x4, .null])) := ⟨_, rfl⟩
  rw [← eM_6] at hM hc_5
  refine lv_aload_n hx hb dX24_init_20 rfl (lv_at hl 0 rfl) ?_
  refine mm_aload_n hx hb dX24_init_21 rfl (lv_at hl 3 rfl) ?_
  refine mm_putF (D := Z.1) (ci := 19) (v := va_rf x3) (ty := .object "RowenTongue$Wrong") (C := RX24) (T := TX24) (N := 5) hx hb hts in_X24 tyX24 tyX24_ok nmX24 hown hE.1 hM hS hc_5 mm_cX24 2 (by decide) (hts _ q1568) (fun _ h9 => h9) rfl hmn rfl (by decide +kernel) (mm_nar_oo _ _) (mm_fit_oo _ _) (Nat.le_of_ble_eq_true rfl) dX24_init_22 (fun H locs hM hS => ?_)
  have hM : mm_P Z.1 mm_cl A (mm_U M_6 h0 (.inr (19, [va_rf x1, va_rf x2, va_rf x3, va_rf x4, .null]))) H := hM
  have hc_7 : (mm_U M_6 h0 (.inr (19, [va_rf x1, va_rf x2, va_rf x3, va_rf x4, .null]))) h0 = some (.inr (19, [va_rf x1, va_rf x2, va_rf x3, va_rf x4, .null])) := mm_U_eq
  obtain ⟨M_8, eM_8⟩ : ∃ z, z = mm_U M_6 h0 (.inr (19, [va_rf x1, va_rf x2, va_rf x3, va_rf x4, .null])) := ⟨_, rfl⟩
  rw [← eM_8] at hM hc_7
  exact mm_retv hx hb hr hlk hM hS ⟨rfl, by subst eM_8 eM_6 eM_4 eM_2; first | rfl | simp only [mm_U_U]⟩ dX24_init_25 (Nat.le_of_ble_eq_true rfl) (Nat.le_of_ble_eq_true rfl)
set_option maxHeartbeats 4000000 in
set_option maxRecDepth 100000 in
theorem c_X25_init (l : Launch) (Z : mm_G) {M : mm_M} {h0 : Nat} {x1 : Int32} (h_h0 : M h0 = some (.inr (20, [.int 0, .null, .null, .null, .null, .int 0, .long 0, .null]))) : mm_C l Z yX25_init (ws_ yX25_init cX25_init 2 none) { frames := 1, cells := 0, slots := 0, locals := 12 } [.ref h0, .int x1] M (fun v M' => v = none ∧ M' = mm_U M h0 (.inr (20, [.int x1, .null, .null, .null, .null, .int 0, .long 0, .null]))) mm_nx := by
  refine mm_ofW (cc := cX25_init) (maxL := 2) (ret := none) (by decide) rfl (Nat.le_of_ble_eq_true rfl) ?_
  intro p e s m below meth c A ls hx hb hr hlk hml hown hmn hts htab hE hST hA hM hS hl
  replace hl : lv_has ls 2 [(0, .ref h0), (1, .int x1)] := hl
  refine lv_aload_n hx hb dX25_init_0 rfl (lv_at hl 0 rfl) ?_
  refine W.objInit hx hb hown (hts _ q2502) (hts _ q127) (hts _ q128) rfl (by rw [hml]; exact hl.1) rfl dX25_init_1 (Nat.le_of_ble_eq_true rfl) (Nat.le_of_ble_eq_true rfl) ?_
  refine W.eq (g2 := F0 m 4 ls []) rfl ?_
  refine lv_aload_n hx hb dX25_init_4 rfl (lv_at hl 0 rfl) ?_
  refine lv_iload_n hx hb dX25_init_5 rfl (lv_at hl 1 rfl) ?_
  refine mm_putF (D := Z.1) (ci := 20) (v := .int x1) (ty := .int) (C := RX25) (T := TX25) (N := 8) hx hb hts in_X25 tyX25 tyX25_ok nmX25 hown hE.1 hM hS h_h0 mm_cX25 0 (by decide) (hts _ q2503) (fun _ h9 => h9) rfl hmn rfl (by decide +kernel) rfl rfl (Nat.le_of_ble_eq_true rfl) dX25_init_6 (fun H locs hM hS => ?_)
  have hM : mm_P Z.1 mm_cl A (mm_U M h0 (.inr (20, [.int x1, .null, .null, .null, .null, .int 0, .long 0, .null]))) H := hM
  have hc_1 : (mm_U M h0 (.inr (20, [.int x1, .null, .null, .null, .null, .int 0, .long 0, .null]))) h0 = some (.inr (20, [.int x1, .null, .null, .null, .null, .int 0, .long 0, .null])) := mm_U_eq
  obtain ⟨M_2, eM_2⟩ : ∃ z, z = mm_U M h0 (.inr (20, [.int x1, .null, .null, .null, .null, .int 0, .long 0, .null])) := ⟨_, rfl⟩
  rw [← eM_2] at hM hc_1
  exact mm_retv hx hb hr hlk hM hS ⟨rfl, by subst eM_2; first | rfl | simp only [mm_U_U]⟩ dX25_init_9 (Nat.le_of_ble_eq_true rfl) (Nat.le_of_ble_eq_true rfl)
set_option maxHeartbeats 4000000 in
set_option maxRecDepth 100000 in
theorem c_X27_init (l : Launch) (Z : mm_G) {M : mm_M} {h0 : Nat} {x1 : Int32} (h_h0 : M h0 = some (.inr (22, [.int 0, .null, .int 0, .null, .null, .int 0, .int 0]))) : mm_C l Z yX27_init (ws_ yX27_init cX27_init 2 none) { frames := 1, cells := 0, slots := 0, locals := 12 } [.ref h0, .int x1] M (fun v M' => v = none ∧ M' = mm_U M h0 (.inr (22, [.int x1, .null, .int 0, .null, .null, .int 0, .int 0]))) mm_nx := by
  refine mm_ofW (cc := cX27_init) (maxL := 2) (ret := none) (by decide) rfl (Nat.le_of_ble_eq_true rfl) ?_
  intro p e s m below meth c A ls hx hb hr hlk hml hown hmn hts htab hE hST hA hM hS hl
  replace hl : lv_has ls 2 [(0, .ref h0), (1, .int x1)] := hl
  refine lv_aload_n hx hb dX27_init_0 rfl (lv_at hl 0 rfl) ?_
  refine W.objInit hx hb hown (hts _ q2575) (hts _ q127) (hts _ q128) rfl (by rw [hml]; exact hl.1) rfl dX27_init_1 (Nat.le_of_ble_eq_true rfl) (Nat.le_of_ble_eq_true rfl) ?_
  refine W.eq (g2 := F0 m 4 ls []) rfl ?_
  refine lv_aload_n hx hb dX27_init_4 rfl (lv_at hl 0 rfl) ?_
  refine lv_iload_n hx hb dX27_init_5 rfl (lv_at hl 1 rfl) ?_
  refine mm_putF (D := Z.1) (ci := 22) (v := .int x1) (ty := .int) (C := RX27) (T := TX27) (N := 7) hx hb hts in_X27 tyX27 tyX27_ok nmX27 hown hE.1 hM hS h_h0 mm_cX27 0 (by decide) (hts _ q2576) (fun _ h9 => h9) rfl hmn rfl (by decide +kernel) rfl rfl (Nat.le_of_ble_eq_true rfl) dX27_init_6 (fun H locs hM hS => ?_)
  have hM : mm_P Z.1 mm_cl A (mm_U M h0 (.inr (22, [.int x1, .null, .int 0, .null, .null, .int 0, .int 0]))) H := hM
  have hc_1 : (mm_U M h0 (.inr (22, [.int x1, .null, .int 0, .null, .null, .int 0, .int 0]))) h0 = some (.inr (22, [.int x1, .null, .int 0, .null, .null, .int 0, .int 0])) := mm_U_eq
  obtain ⟨M_2, eM_2⟩ : ∃ z, z = mm_U M h0 (.inr (22, [.int x1, .null, .int 0, .null, .null, .int 0, .int 0])) := ⟨_, rfl⟩
  rw [← eM_2] at hM hc_1
  exact mm_retv hx hb hr hlk hM hS ⟨rfl, by subst eM_2; first | rfl | simp only [mm_U_U]⟩ dX27_init_9 (Nat.le_of_ble_eq_true rfl) (Nat.le_of_ble_eq_true rfl)
set_option maxHeartbeats 4000000 in
set_option maxRecDepth 100000 in
theorem c_X28_init (l : Launch) (Z : mm_G) {M : mm_M} {h0 : Nat} {x1 : Int32} {x2 : Option Nat} {x3 : Option Nat} (h_h0 : M h0 = some (.inr (23, [.int 0, .null, .null, .null, .null]))) : mm_C l Z yX28_init (ws_ yX28_init cX28_init 4 none) { frames := 4, cells := 2, slots := 6, locals := 72 } [.ref h0, .int x1, va_rf x2, va_rf x3] M (fun v M' => ∃ q_2 q_17 : Nat, M q_2 = none ∧ M q_17 = none ∧ q_17 ≠ q_2 ∧ v = none ∧ M' = mm_U (mm_U (mm_U M q_2 (.inr (41, [.int 0, .ref (Z.2.2.1 2), .int 0]))) q_17 (.inr (41, [.int 0, .ref (Z.2.2.1 2), .int 0]))) h0 (.inr (23, [.int x1, va_rf x2, .ref q_2, .ref q_17, va_rf x3]))) mm_nx := by
  refine mm_ofW (cc := cX28_init) (maxL := 4) (ret := none) (by decide) rfl (by simp [lg_sl, mm_cat_o, mm_cat_r, mm_cat_i, mm_cat_l, mm_cat_n]) ?_
  intro p e s m below meth c A ls hx hb hr hlk hml hown hmn hts htab hE hST hA hM hS hl
  replace hl : lv_has ls 4 [(0, .ref h0), (1, .int x1), (2, va_rf x2), (3, va_rf x3)] := by simpa [lv_args, mm_cat_o, mm_cat_r, mm_cat_i, mm_cat_l, mm_cat_n] using hl
  refine lv_aload_n hx hb dX28_init_0 rfl (lv_at hl 0 rfl) ?_
  refine W.objInit hx hb hown (hts _ q2630) (hts _ q127) (hts _ q128) rfl (by rw [hml]; exact hl.1) rfl dX28_init_1 (Nat.le_of_ble_eq_true rfl) (Nat.le_of_ble_eq_true rfl) ?_
  refine W.eq (g2 := F0 m 4 ls []) rfl ?_
  refine lv_aload_n hx hb dX28_init_4 rfl (lv_at hl 0 rfl) ?_
  refine mm_new (D := Z.1) (ci := 41) (fs := mm_f0J2) (C := RJ2) (T := TJ2) (N := 3) hx hb hts in_J2 tyJ2 tyJ2_ok hown (hts _ q2631) (hts _ q130) (hts _ q53) hE.1 hM hS hA mm_cJ2 mm_dfJ2 (Nat.le_of_ble_eq_true rfl) (Nat.le_of_ble_eq_true rfl) dX28_init_5 (fun q_2 H nq_1 hM hS => ?_)
  have hM : mm_P Z.1 mm_cl A (mm_U M q_2 (.inr (41, [.int 0, .null, .int 0]))) H := hM
  have ne_3 : h0 ≠ q_2 := (mm_neN h_h0 nq_1)
  have hc_4 : (mm_U M q_2 (.inr (41, [.int 0, .null, .int 0]))) q_2 = some (.inr (41, [.int 0, .null, .int 0])) := mm_U_eq
  have hc_5 : (mm_U M q_2 (.inr (41, [.int 0, .null, .int 0]))) h0 = some (.inr (23, [.int 0, .null, .null, .null, .null])) := (mm_U_ne ne_3).trans h_h0
  obtain ⟨M_6, eM_6⟩ : ∃ z, z = mm_U M q_2 (.inr (41, [.int 0, .null, .int 0])) := ⟨_, rfl⟩
  rw [← eM_6] at hM hc_5 hc_4
  refine lv_dup hx hb dX28_init_8 rfl ?_
  refine mm_callI (As := []) (rest := [.ref q_2, .ref h0]) ⟨hx, hb, hml, hown, hts⟩ hE hST hA (c_J2_init l Z (M := M_6) (h0 := q_2) hc_4) (cwI (maxL := 1) 0 hts (lw_meth q133) rfl rfl rfl (hts _ q53) (hts _ q2632) (hts _ q132) rfl (by decide +kernel) ⟨(Nat.le_of_ble_eq_true rfl), (Nat.le_of_ble_eq_true rfl)⟩) hM hS rfl hl.1 (Nat.le_of_ble_eq_true rfl) dX28_init_9 rfl ⟨(Nat.le_of_ble_eq_true rfl), (Nat.le_of_ble_eq_true rfl)⟩ (fun _ _ _ _ _ _ h9 => h9.elim) (fun v_7 M_8 H locs hp_9 hM hS => ?_)
  obtain ⟨rfl, eM_8⟩ := hp_9
  rw [eM_8] at hM
  replace hM : mm_P Z.1 mm_cl A (mm_U M_6 q_2 (.inr (41, [.int 0, .ref (Z.2.2.1 2), .int 0]))) H := hM
  have hc_10 : (mm_U M_6 q_2 (.inr (41, [.int 0, .ref (Z.2.2.1 2), .int 0]))) q_2 = some (.inr (41, [.int 0, .ref (Z.2.2.1 2), .int 0])) := mm_U_eq
  have hc_11 : (mm_U M_6 q_2 (.inr (41, [.int 0, .ref (Z.2.2.1 2), .int 0]))) h0 = some (.inr (23, [.int 0, .null, .null, .null, .null])) := (mm_U_ne ne_3).trans hc_5
  obtain ⟨M_12, eM_12⟩ : ∃ z, z = mm_U M_6 q_2 (.inr (41, [.int 0, .ref (Z.2.2.1 2), .int 0])) := ⟨_, rfl⟩
  rw [← eM_12] at hM hc_11 hc_10
  refine mm_putF (D := Z.1) (ci := 23) (v := .ref q_2) (ty := .object "java/util/ArrayList") (C := RX28) (T := TX28) (N := 5) hx hb hts in_X28 tyX28 tyX28_ok nmX28 hown hE.1 hM hS hc_11 mm_cX28 2 (by decide) (hts _ q2637) (fun _ h9 => h9) rfl hmn rfl (by decide +kernel) rfl rfl (Nat.le_of_ble_eq_true rfl) dX28_init_12 (fun H locs hM hS => ?_)
  have hM : mm_P Z.1 mm_cl A (mm_U M_12 h0 (.inr (23, [.int 0, .null, .ref q_2, .null, .null]))) H := hM
  have hc_13 : (mm_U M_12 h0 (.inr (23, [.int 0, .null, .ref q_2, .null, .null]))) h0 = some (.inr (23, [.int 0, .null, .ref q_2, .null, .null])) := mm_U_eq
  have hc_14 : (mm_U M_12 h0 (.inr (23, [.int 0, .null, .ref q_2, .null, .null]))) q_2 = some (.inr (41, [.int 0, .ref (Z.2.2.1 2), .int 0])) := (mm_U_ne (Ne.symm ne_3)).trans hc_10
  obtain ⟨M_15, eM_15⟩ : ∃ z, z = mm_U M_12 h0 (.inr (23, [.int 0, .null, .ref q_2, .null, .null])) := ⟨_, rfl⟩
  rw [← eM_15] at hM hc_13 hc_14
  refine lv_aload_n hx hb dX28_init_15 rfl (lv_at hl 0 rfl) ?_
  refine mm_new (D := Z.1) (ci := 41) (fs := mm_f0J2) (C := RJ2) (T := TJ2) (N := 3) hx hb hts in_J2 tyJ2 tyJ2_ok hown (hts _ q2631) (hts _ q130) (hts _ q53) hE.1 hM hS hA mm_cJ2 mm_dfJ2 (Nat.le_of_ble_eq_true rfl) (Nat.le_of_ble_eq_true rfl) dX28_init_16 (fun q_17 H nq_16 hM hS => ?_)
  have hM : mm_P Z.1 mm_cl A (mm_U M_15 q_17 (.inr (41, [.int 0, .null, .int 0]))) H := hM
  have ne_18 : h0 ≠ q_17 := (mm_neN hc_13 nq_16)
  have ne_19 : q_2 ≠ q_17 := (mm_neN hc_14 nq_16)
  have nn_20 := (mm_U_none (eM_15 ▸ nq_16)).2
  have nn_21 := (mm_U_none (eM_12 ▸ nn_20)).2
  have nn_22 := (mm_U_none (eM_6 ▸ nn_21)).2
  have hc_23 : (mm_U M_15 q_17 (.inr (41, [.int 0, .null, .int 0]))) q_17 = some (.inr (41, [.int 0, .null, .int 0])) := mm_U_eq
  have hc_24 : (mm_U M_15 q_17 (.inr (41, [.int 0, .null, .int 0]))) h0 = some (.inr (23, [.int 0, .null, .ref q_2, .null, .null])) := (mm_U_ne ne_18).trans hc_13
  have hc_25 : (mm_U M_15 q_17 (.inr (41, [.int 0, .null, .int 0]))) q_2 = some (.inr (41, [.int 0, .ref (Z.2.2.1 2), .int 0])) := (mm_U_ne ne_19).trans hc_14
  obtain ⟨M_26, eM_26⟩ : ∃ z, z = mm_U M_15 q_17 (.inr (41, [.int 0, .null, .int 0])) := ⟨_, rfl⟩
  rw [← eM_26] at hM hc_24 hc_25 hc_23
  refine lv_dup hx hb dX28_init_19 rfl ?_
  refine mm_callI (As := []) (rest := [.ref q_17, .ref h0]) ⟨hx, hb, hml, hown, hts⟩ hE hST hA (c_J2_init l Z (M := M_26) (h0 := q_17) hc_23) (cwI (maxL := 1) 0 hts (lw_meth q133) rfl rfl rfl (hts _ q53) (hts _ q2632) (hts _ q132) rfl (by decide +kernel) ⟨(Nat.le_of_ble_eq_true rfl), (Nat.le_of_ble_eq_true rfl)⟩) hM hS rfl hl.1 (Nat.le_of_ble_eq_true rfl) dX28_init_20 rfl ⟨(Nat.le_of_ble_eq_true rfl), (Nat.le_of_ble_eq_true rfl)⟩ (fun _ _ _ _ _ _ h9 => h9.elim) (fun v_27 M_28 H locs hp_29 hM hS => ?_)
  obtain ⟨rfl, eM_28⟩ := hp_29
  rw [eM_28] at hM
  replace hM : mm_P Z.1 mm_cl A (mm_U M_26 q_17 (.inr (41, [.int 0, .ref (Z.2.2.1 2), .int 0]))) H := hM
  have hc_30 : (mm_U M_26 q_17 (.inr (41, [.int 0, .ref (Z.2.2.1 2), .int 0]))) q_17 = some (.inr (41, [.int 0, .ref (Z.2.2.1 2), .int 0])) := mm_U_eq
  have hc_31 : (mm_U M_26 q_17 (.inr (41, [.int 0, .ref (Z.2.2.1 2), .int 0]))) h0 = some (.inr (23, [.int 0, .null, .ref q_2, .null, .null])) := (mm_U_ne ne_18).trans hc_24
  have hc_32 : (mm_U M_26 q_17 (.inr (41, [.int 0, .ref (Z.2.2.1 2), .int 0]))) q_2 = some (.inr (41, [.int 0, .ref (Z.2.2.1 2), .int 0])) := (mm_U_ne ne_19).trans hc_25
  obtain ⟨M_33, eM_33⟩ : ∃ z, z = mm_U M_26 q_17 (.inr (41, [.int 0, .ref (Z.2.2.1 2), .int 0])) := ⟨_, rfl⟩
  rw [← eM_33] at hM hc_31 hc_32 hc_30
  refine mm_putF (D := Z.1) (ci := 23) (v := .ref q_17) (ty := .object "java/util/ArrayList") (C := RX28) (T := TX28) (N := 5) hx hb hts in_X28 tyX28 tyX28_ok nmX28 hown hE.1 hM hS hc_31 mm_cX28 3 (by decide) (hts _ q2639) (fun _ h9 => h9) rfl hmn rfl (by decide +kernel) rfl rfl (Nat.le_of_ble_eq_true rfl) dX28_init_23 (fun H locs hM hS => ?_)
  have hM : mm_P Z.1 mm_cl A (mm_U M_33 h0 (.inr (23, [.int 0, .null, .ref q_2, .ref q_17, .null]))) H := hM
  have hc_34 : (mm_U M_33 h0 (.inr (23, [.int 0, .null, .ref q_2, .ref q_17, .null]))) h0 = some (.inr (23, [.int 0, .null, .ref q_2, .ref q_17, .null])) := mm_U_eq
  have hc_35 : (mm_U M_33 h0 (.inr (23, [.int 0, .null, .ref q_2, .ref q_17, .null]))) q_2 = some (.inr (41, [.int 0, .ref (Z.2.2.1 2), .int 0])) := (mm_U_ne (Ne.symm ne_3)).trans hc_32
  have hc_36 : (mm_U M_33 h0 (.inr (23, [.int 0, .null, .ref q_2, .ref q_17, .null]))) q_17 = some (.inr (41, [.int 0, .ref (Z.2.2.1 2), .int 0])) := (mm_U_ne (Ne.symm ne_18)).trans hc_30
  obtain ⟨M_37, eM_37⟩ : ∃ z, z = mm_U M_33 h0 (.inr (23, [.int 0, .null, .ref q_2, .ref q_17, .null])) := ⟨_, rfl⟩
  rw [← eM_37] at hM hc_34 hc_35 hc_36
  refine lv_aload_n hx hb dX28_init_26 rfl (lv_at hl 0 rfl) ?_
  refine lv_iload_n hx hb dX28_init_27 rfl (lv_at hl 1 rfl) ?_
  refine mm_putF (D := Z.1) (ci := 23) (v := .int x1) (ty := .int) (C := RX28) (T := TX28) (N := 5) hx hb hts in_X28 tyX28 tyX28_ok nmX28 hown hE.1 hM hS hc_34 mm_cX28 0 (by decide) (hts _ q2633) (fun _ h9 => h9) rfl hmn rfl (by decide +kernel) rfl rfl (Nat.le_of_ble_eq_true rfl) dX28_init_28 (fun H locs hM hS => ?_)
  have hM : mm_P Z.1 mm_cl A (mm_U M_37 h0 (.inr (23, [.int x1, .null, .ref q_2, .ref q_17, .null]))) H := hM
  have hc_38 : (mm_U M_37 h0 (.inr (23, [.int x1, .null, .ref q_2, .ref q_17, .null]))) h0 = some (.inr (23, [.int x1, .null, .ref q_2, .ref q_17, .null])) := mm_U_eq
  have hc_39 : (mm_U M_37 h0 (.inr (23, [.int x1, .null, .ref q_2, .ref q_17, .null]))) q_2 = some (.inr (41, [.int 0, .ref (Z.2.2.1 2), .int 0])) := (mm_U_ne (Ne.symm ne_3)).trans hc_35
  have hc_40 : (mm_U M_37 h0 (.inr (23, [.int x1, .null, .ref q_2, .ref q_17, .null]))) q_17 = some (.inr (41, [.int 0, .ref (Z.2.2.1 2), .int 0])) := (mm_U_ne (Ne.symm ne_18)).trans hc_36
  obtain ⟨M_41, eM_41⟩ : ∃ z, z = mm_U M_37 h0 (.inr (23, [.int x1, .null, .ref q_2, .ref q_17, .null])) := ⟨_, rfl⟩
  rw [← eM_41] at hM hc_38 hc_39 hc_40
  refine lv_aload_n hx hb dX28_init_31 rfl (lv_at hl 0 rfl) ?_
  refine mm_aload_n hx hb dX28_init_32 rfl (lv_at hl 2 rfl) ?_
  refine mm_putF (D := Z.1) (ci := 23) (v := va_rf x2) (ty := .object "RowenTongueModel$Type") (C := RX28) (T := TX28) (N := 5) hx hb hts in_X28 tyX28 tyX28_ok nmX28 hown hE.1 hM hS hc_38 mm_cX28 1 (by decide) (hts _ q2635) (fun _ h9 => h9) rfl hmn rfl (by decide +kernel) (mm_nar_oo _ _) (mm_fit_oo _ _) (Nat.le_of_ble_eq_true rfl) dX28_init_33 (fun H locs hM hS => ?_)
  have hM : mm_P Z.1 mm_cl A (mm_U M_41 h0 (.inr (23, [.int x1, va_rf x2, .ref q_2, .ref q_17, .null]))) H := hM
  have hc_42 : (mm_U M_41 h0 (.inr (23, [.int x1, va_rf x2, .ref q_2, .ref q_17, .null]))) h0 = some (.inr (23, [.int x1, va_rf x2, .ref q_2, .ref q_17, .null])) := mm_U_eq
  have hc_43 : (mm_U M_41 h0 (.inr (23, [.int x1, va_rf x2, .ref q_2, .ref q_17, .null]))) q_2 = some (.inr (41, [.int 0, .ref (Z.2.2.1 2), .int 0])) := (mm_U_ne (Ne.symm ne_3)).trans hc_39
  have hc_44 : (mm_U M_41 h0 (.inr (23, [.int x1, va_rf x2, .ref q_2, .ref q_17, .null]))) q_17 = some (.inr (41, [.int 0, .ref (Z.2.2.1 2), .int 0])) := (mm_U_ne (Ne.symm ne_18)).trans hc_40
  obtain ⟨M_45, eM_45⟩ : ∃ z, z = mm_U M_41 h0 (.inr (23, [.int x1, va_rf x2, .ref q_2, .ref q_17, .null])) := ⟨_, rfl⟩
  rw [← eM_45] at hM hc_42 hc_43 hc_44
  refine lv_aload_n hx hb dX28_init_36 rfl (lv_at hl 0 rfl) ?_
  refine mm_aload_n hx hb dX28_init_37 rfl (lv_at hl 3 rfl) ?_
  refine mm_putF (D := Z.1) (ci := 23) (v := va_rf x3) (ty := .object "RowenTongueModel$Known") (C := RX28) (T := TX28) (N := 5) hx hb hts in_X28 tyX28 tyX28_ok nmX28 hown hE.1 hM hS hc_42 mm_cX28 4 (by decide) (hts _ q2641) (fun _ h9 => h9) rfl hmn rfl (by decide +kernel) (mm_nar_oo _ _) (mm_fit_oo _ _) (Nat.le_of_ble_eq_true rfl) dX28_init_38 (fun H locs hM hS => ?_)
  have hM : mm_P Z.1 mm_cl A (mm_U M_45 h0 (.inr (23, [.int x1, va_rf x2, .ref q_2, .ref q_17, va_rf x3]))) H := hM
  have hc_46 : (mm_U M_45 h0 (.inr (23, [.int x1, va_rf x2, .ref q_2, .ref q_17, va_rf x3]))) h0 = some (.inr (23, [.int x1, va_rf x2, .ref q_2, .ref q_17, va_rf x3])) := mm_U_eq
  have hc_47 : (mm_U M_45 h0 (.inr (23, [.int x1, va_rf x2, .ref q_2, .ref q_17, va_rf x3]))) q_2 = some (.inr (41, [.int 0, .ref (Z.2.2.1 2), .int 0])) := (mm_U_ne (Ne.symm ne_3)).trans hc_43
  have hc_48 : (mm_U M_45 h0 (.inr (23, [.int x1, va_rf x2, .ref q_2, .ref q_17, va_rf x3]))) q_17 = some (.inr (41, [.int 0, .ref (Z.2.2.1 2), .int 0])) := (mm_U_ne (Ne.symm ne_18)).trans hc_44
  obtain ⟨M_49, eM_49⟩ : ∃ z, z = mm_U M_45 h0 (.inr (23, [.int x1, va_rf x2, .ref q_2, .ref q_17, va_rf x3])) := ⟨_, rfl⟩
  rw [← eM_49] at hM hc_46 hc_47 hc_48
  exact mm_retv hx hb hr hlk hM hS ⟨q_2, q_17, nq_1, nn_22, (Ne.symm ne_19), rfl, by subst eM_49 eM_45 eM_41 eM_37 eM_33 eM_26 eM_15 eM_12 eM_6; (funext z9; simp only [mm_U]; (repeat' split) <;> simp_all)⟩ dX28_init_41 (Nat.le_of_ble_eq_true rfl) (Nat.le_of_ble_eq_true rfl)
set_option maxHeartbeats 4000000 in
set_option maxRecDepth 100000 in
theorem c_X30_init (l : Launch) (Z : mm_G) {M : mm_M} {h0 : Nat} (h_h0 : M h0 = some (.inr (25, [.int 0]))) : mm_C l Z yX30_init (ws_ yX30_init cX30_init 1 none) { frames := 1, cells := 0, slots := 0, locals := 12 } [.ref h0] M (fun v M' => v = none ∧ M' = M) mm_nx := by
  refine mm_ofW (cc := cX30_init) (maxL := 1) (ret := none) (by decide) rfl (Nat.le_of_ble_eq_true rfl) ?_
  intro p e s m below meth c A ls hx hb hr hlk hml hown hmn hts htab hE hST hA hM hS hl
  replace hl : lv_has ls 1 [(0, .ref h0)] := hl
  refine lv_aload_n hx hb dX30_init_0 rfl (lv_at hl 0 rfl) ?_
  refine W.objInit hx hb hown (hts _ q1792) (hts _ q127) (hts _ q128) rfl (by rw [hml]; exact hl.1) rfl dX30_init_1 (Nat.le_of_ble_eq_true rfl) (Nat.le_of_ble_eq_true rfl) ?_
  refine W.eq (g2 := F0 m 4 ls []) rfl ?_
  exact mm_retv hx hb hr hlk hM hS ⟨rfl, rfl⟩ dX30_init_4 (Nat.le_of_ble_eq_true rfl) (Nat.le_of_ble_eq_true rfl)
set_option maxHeartbeats 4000000 in
set_option maxRecDepth 100000 in
theorem c_X32_init (l : Launch) (Z : mm_G) {M : mm_M} {h0 : Nat}  : mm_C l Z yX32_init (ws_ yX32_init cX32_init 1 none) { frames := 1, cells := 0, slots := 0, locals := 12 } [.ref h0] M (fun v M' => v = none ∧ M' = M) mm_nx := by
  refine mm_ofW (cc := cX32_init) (maxL := 1) (ret := none) (by decide) rfl (Nat.le_of_ble_eq_true rfl) ?_
  intro p e s m below meth c A ls hx hb hr hlk hml hown hmn hts htab hE hST hA hM hS hl
  replace hl : lv_has ls 1 [(0, .ref h0)] := hl
  refine lv_aload_n hx hb dX32_init_0 rfl (lv_at hl 0 rfl) ?_
  refine W.objInit hx hb hown (hts _ q1831) (hts _ q127) (hts _ q128) rfl (by rw [hml]; exact hl.1) rfl dX32_init_1 (Nat.le_of_ble_eq_true rfl) (Nat.le_of_ble_eq_true rfl) ?_
  refine W.eq (g2 := F0 m 4 ls []) rfl ?_
  exact mm_retv hx hb hr hlk hM hS ⟨rfl, rfl⟩ dX32_init_4 (Nat.le_of_ble_eq_true rfl) (Nat.le_of_ble_eq_true rfl)
set_option maxHeartbeats 4000000 in
set_option maxRecDepth 100000 in
theorem c_X33_init (l : Launch) (Z : mm_G) {M : mm_M} {h0 : Nat} {x1 : Int32} (h_h0 : M h0 = some (.inr (27, [.int 0]))) : mm_C l Z yX33_init (ws_ yX33_init cX33_init 2 none) { frames := 2, cells := 0, slots := 0, locals := 32 } [.ref h0, .int x1] M (fun v M' => v = none ∧ M' = mm_U M h0 (.inr (27, [.int x1]))) mm_nx := by
  refine mm_ofW (cc := cX33_init) (maxL := 2) (ret := none) (by decide) rfl (Nat.le_of_ble_eq_true rfl) ?_
  intro p e s m below meth c A ls hx hb hr hlk hml hown hmn hts htab hE hST hA hM hS hl
  replace hl : lv_has ls 2 [(0, .ref h0), (1, .int x1)] := hl
  refine lv_aload_n hx hb dX33_init_0 rfl (lv_at hl 0 rfl) ?_
  refine mm_callIN (As := []) (rest := []) ⟨hx, hb, hml, hown, hts⟩ hE hST hA (c_X32_init l Z (M := M) (h0 := h0) ) ⟨va_cnB 0 hts (lw_meth q1830) rfl rfl rfl (hE.2.1 _ q1828 rfl) (hts _ q105) (by decide +kernel) ⟨(Nat.le_of_ble_eq_true rfl), (Nat.le_of_ble_eq_true rfl)⟩, rfl, hts _ q1829⟩ hM hS rfl hl.1 (Nat.le_of_ble_eq_true rfl) dX33_init_1 rfl ⟨(Nat.le_of_ble_eq_true rfl), (Nat.le_of_ble_eq_true rfl)⟩ (fun _ _ _ _ _ _ h9 => h9.elim) (fun v_1 M_2 H locs hp_3 hM hS => ?_)
  obtain ⟨rfl, eM_2⟩ := hp_3
  rw [eM_2] at hM
  refine lv_aload_n hx hb dX33_init_4 rfl (lv_at hl 0 rfl) ?_
  refine lv_iload_n hx hb dX33_init_5 rfl (lv_at hl 1 rfl) ?_
  refine mm_putF (D := Z.1) (ci := 27) (v := .int x1) (ty := .int) (C := RX33) (T := TX33) (N := 1) hx hb hts in_X33 tyX33 tyX33_ok nmX33 hown hE.1 hM hS h_h0 mm_cX33 0 (by decide) (hts _ q1832) (fun _ h9 => h9) rfl hmn rfl (by decide +kernel) rfl rfl (Nat.le_of_ble_eq_true rfl) dX33_init_6 (fun H locs hM hS => ?_)
  have hM : mm_P Z.1 mm_cl A (mm_U M h0 (.inr (27, [.int x1]))) H := hM
  have hc_4 : (mm_U M h0 (.inr (27, [.int x1]))) h0 = some (.inr (27, [.int x1])) := mm_U_eq
  obtain ⟨M_5, eM_5⟩ : ∃ z, z = mm_U M h0 (.inr (27, [.int x1])) := ⟨_, rfl⟩
  rw [← eM_5] at hM hc_4
  exact mm_retv hx hb hr hlk hM hS ⟨rfl, by subst eM_5; first | rfl | simp only [mm_U_U]⟩ dX33_init_9 (Nat.le_of_ble_eq_true rfl) (Nat.le_of_ble_eq_true rfl)
set_option maxHeartbeats 4000000 in
set_option maxRecDepth 100000 in
theorem c_X34_init (l : Launch) (Z : mm_G) {M : mm_M} {h0 : Nat} {x1 : Int32} {x2 : Option Nat} {x3 : Option Nat} (h_h0 : M h0 = some (.inr (28, [.int 0, .null, .null]))) : mm_C l Z yX34_init (ws_ yX34_init cX34_init 4 none) { frames := 2, cells := 0, slots := 0, locals := 32 } [.ref h0, .int x1, va_rf x2, va_rf x3] M (fun v M' => v = none ∧ M' = mm_U M h0 (.inr (28, [.int x1, va_rf x2, va_rf x3]))) mm_nx := by
  refine mm_ofW (cc := cX34_init) (maxL := 4) (ret := none) (by decide) rfl (by simp [lg_sl, mm_cat_o, mm_cat_r, mm_cat_i, mm_cat_l, mm_cat_n]) ?_
  intro p e s m below meth c A ls hx hb hr hlk hml hown hmn hts htab hE hST hA hM hS hl
  replace hl : lv_has ls 4 [(0, .ref h0), (1, .int x1), (2, va_rf x2), (3, va_rf x3)] := by simpa [lv_args, mm_cat_o, mm_cat_r, mm_cat_i, mm_cat_l, mm_cat_n] using hl
  refine lv_aload_n hx hb dX34_init_0 rfl (lv_at hl 0 rfl) ?_
  refine mm_callIN (As := []) (rest := []) ⟨hx, hb, hml, hown, hts⟩ hE hST hA (c_X32_init l Z (M := M) (h0 := h0) ) ⟨va_cnB 0 hts (lw_meth q1830) rfl rfl rfl (hE.2.1 _ q1842 rfl) (hts _ q105) (by decide +kernel) ⟨(Nat.le_of_ble_eq_true rfl), (Nat.le_of_ble_eq_true rfl)⟩, rfl, hts _ q1829⟩ hM hS rfl hl.1 (Nat.le_of_ble_eq_true rfl) dX34_init_1 rfl ⟨(Nat.le_of_ble_eq_true rfl), (Nat.le_of_ble_eq_true rfl)⟩ (fun _ _ _ _ _ _ h9 => h9.elim) (fun v_1 M_2 H locs hp_3 hM hS => ?_)
  obtain ⟨rfl, eM_2⟩ := hp_3
  rw [eM_2] at hM
  refine lv_aload_n hx hb dX34_init_4 rfl (lv_at hl 0 rfl) ?_
  refine lv_iload_n hx hb dX34_init_5 rfl (lv_at hl 1 rfl) ?_
  refine mm_putF (D := Z.1) (ci := 28) (v := .int x1) (ty := .int) (C := RX34) (T := TX34) (N := 3) hx hb hts in_X34 tyX34 tyX34_ok nmX34 hown hE.1 hM hS h_h0 mm_cX34 0 (by decide) (hts _ q1843) (fun _ h9 => h9) rfl hmn rfl (by decide +kernel) rfl rfl (Nat.le_of_ble_eq_true rfl) dX34_init_6 (fun H locs hM hS => ?_)
  have hM : mm_P Z.1 mm_cl A (mm_U M h0 (.inr (28, [.int x1, .null, .null]))) H := hM
  have hc_4 : (mm_U M h0 (.inr (28, [.int x1, .null, .null]))) h0 = some (.inr (28, [.int x1, .null, .null])) := mm_U_eq
  obtain ⟨M_5, eM_5⟩ : ∃ z, z = mm_U M h0 (.inr (28, [.int x1, .null, .null])) := ⟨_, rfl⟩
  rw [← eM_5] at hM hc_4
  refine lv_aload_n hx hb dX34_init_9 rfl (lv_at hl 0 rfl) ?_
  refine mm_aload_n hx hb dX34_init_10 rfl (lv_at hl 2 rfl) ?_
  refine mm_putF (D := Z.1) (ci := 28) (v := va_rf x2) (ty := .object "RowenTongue$Term") (C := RX34) (T := TX34) (N := 3) hx hb hts in_X34 tyX34 tyX34_ok nmX34 hown hE.1 hM hS hc_4 mm_cX34 1 (by decide) (hts _ q1845) (fun _ h9 => h9) rfl hmn rfl (by decide +kernel) (mm_nar_oo _ _) (mm_fit_oo _ _) (Nat.le_of_ble_eq_true rfl) dX34_init_11 (fun H locs hM hS => ?_)
  have hM : mm_P Z.1 mm_cl A (mm_U M_5 h0 (.inr (28, [.int x1, va_rf x2, .null]))) H := hM
  have hc_6 : (mm_U M_5 h0 (.inr (28, [.int x1, va_rf x2, .null]))) h0 = some (.inr (28, [.int x1, va_rf x2, .null])) := mm_U_eq
  obtain ⟨M_7, eM_7⟩ : ∃ z, z = mm_U M_5 h0 (.inr (28, [.int x1, va_rf x2, .null])) := ⟨_, rfl⟩
  rw [← eM_7] at hM hc_6
  refine lv_aload_n hx hb dX34_init_14 rfl (lv_at hl 0 rfl) ?_
  refine mm_aload_n hx hb dX34_init_15 rfl (lv_at hl 3 rfl) ?_
  refine mm_putF (D := Z.1) (ci := 28) (v := va_rf x3) (ty := .object "RowenTongue$Scope") (C := RX34) (T := TX34) (N := 3) hx hb hts in_X34 tyX34 tyX34_ok nmX34 hown hE.1 hM hS hc_6 mm_cX34 2 (by decide) (hts _ q1847) (fun _ h9 => h9) rfl hmn rfl (by decide +kernel) (mm_nar_oo _ _) (mm_fit_oo _ _) (Nat.le_of_ble_eq_true rfl) dX34_init_16 (fun H locs hM hS => ?_)
  have hM : mm_P Z.1 mm_cl A (mm_U M_7 h0 (.inr (28, [.int x1, va_rf x2, va_rf x3]))) H := hM
  have hc_8 : (mm_U M_7 h0 (.inr (28, [.int x1, va_rf x2, va_rf x3]))) h0 = some (.inr (28, [.int x1, va_rf x2, va_rf x3])) := mm_U_eq
  obtain ⟨M_9, eM_9⟩ : ∃ z, z = mm_U M_7 h0 (.inr (28, [.int x1, va_rf x2, va_rf x3])) := ⟨_, rfl⟩
  rw [← eM_9] at hM hc_8
  exact mm_retv hx hb hr hlk hM hS ⟨rfl, by subst eM_9 eM_7 eM_5; first | rfl | simp only [mm_U_U]⟩ dX34_init_19 (Nat.le_of_ble_eq_true rfl) (Nat.le_of_ble_eq_true rfl)
set_option maxHeartbeats 4000000 in
set_option maxRecDepth 100000 in
theorem c_X34_parts (l : Launch) (Z : mm_G) {M : mm_M} {h0 : Nat} {x1 : Option Nat} {f0 : Int32} {f1 : Option Nat} {f2 : Option Nat} (h_h0 : M h0 = some (.inr (28, [.int f0, va_rf f1, va_rf f2]))) : mm_C l Z yX34_parts (ws_ yX34_parts cX34_parts 2 (some (.object "java/util/ArrayList"))) { frames := 0, cells := 0, slots := 0, locals := 0 } [.ref h0, va_rf x1] M (fun v M' => v = some (.null) ∧ M' = M) mm_nx := by
  refine mm_ofW (cc := cX34_parts) (maxL := 2) (ret := (some (.object "java/util/ArrayList"))) (by decide) rfl (by simp [lg_sl, mm_cat_o, mm_cat_r, mm_cat_i, mm_cat_l, mm_cat_n]) ?_
  intro p e s m below meth c A ls hx hb hr hlk hml hown hmn hts htab hE hST hA hM hS hl
  replace hl : lv_has ls 2 [(0, .ref h0), (1, va_rf x1)] := by simpa [lv_args, mm_cat_o, mm_cat_r, mm_cat_i, mm_cat_l, mm_cat_n] using hl
  refine lv_null hx hb dX34_parts_0 ?_
  exact mm_reta hx hb hr (Or.inl ⟨_, rfl⟩) (Or.inl rfl) hlk hM hS ⟨rfl, rfl⟩ dX34_parts_1 (Nat.le_of_ble_eq_true rfl) (Nat.le_of_ble_eq_true rfl)
set_option maxHeartbeats 4000000 in
set_option maxRecDepth 100000 in
theorem c_X35_init (l : Launch) (Z : mm_G) {M : mm_M} {h0 : Nat} {x1 : Int32} {x2 : Option Nat} {x3 : Option Nat} {x4 : Option Nat} (h_h0 : M h0 = some (.inr (29, [.int 0, .null, .null, .null]))) : mm_C l Z yX35_init (ws_ yX35_init cX35_init 5 none) { frames := 1, cells := 0, slots := 0, locals := 12 } [.ref h0, .int x1, va_rf x2, va_rf x3, va_rf x4] M (fun v M' => v = none ∧ M' = mm_U M h0 (.inr (29, [.int x1, va_rf x2, va_rf x3, va_rf x4]))) mm_nx := by
  refine mm_ofW (cc := cX35_init) (maxL := 5) (ret := none) (by decide) rfl (by simp [lg_sl, mm_cat_o, mm_cat_r, mm_cat_i, mm_cat_l, mm_cat_n]) ?_
  intro p e s m below meth c A ls hx hb hr hlk hml hown hmn hts htab hE hST hA hM hS hl
  replace hl : lv_has ls 5 [(0, .ref h0), (1, .int x1), (2, va_rf x2), (3, va_rf x3), (4, va_rf x4)] := by simpa [lv_args, mm_cat_o, mm_cat_r, mm_cat_i, mm_cat_l, mm_cat_n] using hl
  refine lv_aload_n hx hb dX35_init_0 rfl (lv_at hl 0 rfl) ?_
  refine W.objInit hx hb hown (hts _ q1862) (hts _ q127) (hts _ q128) rfl (by rw [hml]; exact hl.1) rfl dX35_init_1 (Nat.le_of_ble_eq_true rfl) (Nat.le_of_ble_eq_true rfl) ?_
  refine W.eq (g2 := F0 m 4 ls []) rfl ?_
  refine lv_aload_n hx hb dX35_init_4 rfl (lv_at hl 0 rfl) ?_
  refine lv_iload_n hx hb dX35_init_5 rfl (lv_at hl 1 rfl) ?_
  refine mm_putF (D := Z.1) (ci := 29) (v := .int x1) (ty := .int) (C := RX35) (T := TX35) (N := 4) hx hb hts in_X35 tyX35 tyX35_ok nmX35 hown hE.1 hM hS h_h0 mm_cX35 0 (by decide) (hts _ q1863) (fun _ h9 => h9) rfl hmn rfl (by decide +kernel) rfl rfl (Nat.le_of_ble_eq_true rfl) dX35_init_6 (fun H locs hM hS => ?_)
  have hM : mm_P Z.1 mm_cl A (mm_U M h0 (.inr (29, [.int x1, .null, .null, .null]))) H := hM
  have hc_1 : (mm_U M h0 (.inr (29, [.int x1, .null, .null, .null]))) h0 = some (.inr (29, [.int x1, .null, .null, .null])) := mm_U_eq
  obtain ⟨M_2, eM_2⟩ : ∃ z, z = mm_U M h0 (.inr (29, [.int x1, .null, .null, .null])) := ⟨_, rfl⟩
  rw [← eM_2] at hM hc_1
  refine lv_aload_n hx hb dX35_init_9 rfl (lv_at hl 0 rfl) ?_
  refine mm_aload_n hx hb dX35_init_10 rfl (lv_at hl 2 rfl) ?_
  refine mm_putF (D := Z.1) (ci := 29) (v := va_rf x2) (ty := .object "RowenTongue$Value") (C := RX35) (T := TX35) (N := 4) hx hb hts in_X35 tyX35 tyX35_ok nmX35 hown hE.1 hM hS hc_1 mm_cX35 1 (by decide) (hts _ q1865) (fun _ h9 => h9) rfl hmn rfl (by decide +kernel) (mm_nar_oo _ _) (mm_fit_oo _ _) (Nat.le_of_ble_eq_true rfl) dX35_init_11 (fun H locs hM hS => ?_)
  have hM : mm_P Z.1 mm_cl A (mm_U M_2 h0 (.inr (29, [.int x1, va_rf x2, .null, .null]))) H := hM
  have hc_3 : (mm_U M_2 h0 (.inr (29, [.int x1, va_rf x2, .null, .null]))) h0 = some (.inr (29, [.int x1, va_rf x2, .null, .null])) := mm_U_eq
  obtain ⟨M_4, eM_4⟩ : ∃ z, z = mm_U M_2 h0 (.inr (29, [.int x1, va_rf x2, .null, .null])) := ⟨_, rfl⟩
  rw [← eM_4] at hM hc_3
  refine lv_aload_n hx hb dX35_init_14 rfl (lv_at hl 0 rfl) ?_
  refine mm_aload_n hx hb dX35_init_15 rfl (lv_at hl 3 rfl) ?_
  refine mm_putF (D := Z.1) (ci := 29) (v := va_rf x3) (ty := .object "RowenTongue$Term") (C := RX35) (T := TX35) (N := 4) hx hb hts in_X35 tyX35 tyX35_ok nmX35 hown hE.1 hM hS hc_3 mm_cX35 2 (by decide) (hts _ q1867) (fun _ h9 => h9) rfl hmn rfl (by decide +kernel) (mm_nar_oo _ _) (mm_fit_oo _ _) (Nat.le_of_ble_eq_true rfl) dX35_init_16 (fun H locs hM hS => ?_)
  have hM : mm_P Z.1 mm_cl A (mm_U M_4 h0 (.inr (29, [.int x1, va_rf x2, va_rf x3, .null]))) H := hM
  have hc_5 : (mm_U M_4 h0 (.inr (29, [.int x1, va_rf x2, va_rf x3, .null]))) h0 = some (.inr (29, [.int x1, va_rf x2, va_rf x3, .null])) := mm_U_eq
  obtain ⟨M_6, eM_6⟩ : ∃ z, z = mm_U M_4 h0 (.inr (29, [.int x1, va_rf x2, va_rf x3, .null])) := ⟨_, rfl⟩
  rw [← eM_6] at hM hc_5
  refine lv_aload_n hx hb dX35_init_19 rfl (lv_at hl 0 rfl) ?_
  refine mm_aload hx hb dX35_init_20 (lv_at hl 4 rfl) ?_
  refine mm_putF (D := Z.1) (ci := 29) (v := va_rf x4) (ty := .object "RowenTongue$Scope") (C := RX35) (T := TX35) (N := 4) hx hb hts in_X35 tyX35 tyX35_ok nmX35 hown hE.1 hM hS hc_5 mm_cX35 3 (by decide) (hts _ q1869) (fun _ h9 => h9) rfl hmn rfl (by decide +kernel) (mm_nar_oo _ _) (mm_fit_oo _ _) (Nat.le_of_ble_eq_true rfl) dX35_init_22 (fun H locs hM hS => ?_)
  have hM : mm_P Z.1 mm_cl A (mm_U M_6 h0 (.inr (29, [.int x1, va_rf x2, va_rf x3, va_rf x4]))) H := hM
  have hc_7 : (mm_U M_6 h0 (.inr (29, [.int x1, va_rf x2, va_rf x3, va_rf x4]))) h0 = some (.inr (29, [.int x1, va_rf x2, va_rf x3, va_rf x4])) := mm_U_eq
  obtain ⟨M_8, eM_8⟩ : ∃ z, z = mm_U M_6 h0 (.inr (29, [.int x1, va_rf x2, va_rf x3, va_rf x4])) := ⟨_, rfl⟩
  rw [← eM_8] at hM hc_7
  exact mm_retv hx hb hr hlk hM hS ⟨rfl, by subst eM_8 eM_6 eM_4 eM_2; first | rfl | simp only [mm_U_U]⟩ dX35_init_25 (Nat.le_of_ble_eq_true rfl) (Nat.le_of_ble_eq_true rfl)
set_option maxHeartbeats 4000000 in
set_option maxRecDepth 100000 in
theorem c_X37_init (l : Launch) (Z : mm_G) {M : mm_M} {h0 : Nat} {x1 : Int32} {x2 : Option Nat} (h_h0 : M h0 = some (.inr (31, [.int 0, .null]))) : mm_C l Z yX37_init (ws_ yX37_init cX37_init 3 none) { frames := 2, cells := 0, slots := 0, locals := 32 } [.ref h0, .int x1, va_rf x2] M (fun v M' => v = none ∧ M' = mm_U M h0 (.inr (31, [.int x1, va_rf x2]))) mm_nx := by
  refine mm_ofW (cc := cX37_init) (maxL := 3) (ret := none) (by decide) rfl (by simp [lg_sl, mm_cat_o, mm_cat_r, mm_cat_i, mm_cat_l, mm_cat_n]) ?_
  intro p e s m below meth c A ls hx hb hr hlk hml hown hmn hts htab hE hST hA hM hS hl
  replace hl : lv_has ls 3 [(0, .ref h0), (1, .int x1), (2, va_rf x2)] := by simpa [lv_args, mm_cat_o, mm_cat_r, mm_cat_i, mm_cat_l, mm_cat_n] using hl
  refine lv_aload_n hx hb dX37_init_0 rfl (lv_at hl 0 rfl) ?_
  refine mm_callIN (As := []) (rest := []) ⟨hx, hb, hml, hown, hts⟩ hE hST hA (c_X32_init l Z (M := M) (h0 := h0) ) ⟨va_cnB 0 hts (lw_meth q1830) rfl rfl rfl (hE.2.1 _ q1940 rfl) (hts _ q105) (by decide +kernel) ⟨(Nat.le_of_ble_eq_true rfl), (Nat.le_of_ble_eq_true rfl)⟩, rfl, hts _ q1829⟩ hM hS rfl hl.1 (Nat.le_of_ble_eq_true rfl) dX37_init_1 rfl ⟨(Nat.le_of_ble_eq_true rfl), (Nat.le_of_ble_eq_true rfl)⟩ (fun _ _ _ _ _ _ h9 => h9.elim) (fun v_1 M_2 H locs hp_3 hM hS => ?_)
  obtain ⟨rfl, eM_2⟩ := hp_3
  rw [eM_2] at hM
  refine lv_aload_n hx hb dX37_init_4 rfl (lv_at hl 0 rfl) ?_
  refine lv_iload_n hx hb dX37_init_5 rfl (lv_at hl 1 rfl) ?_
  refine mm_putF (D := Z.1) (ci := 31) (v := .int x1) (ty := .int) (C := RX37) (T := TX37) (N := 2) hx hb hts in_X37 tyX37 tyX37_ok nmX37 hown hE.1 hM hS h_h0 mm_cX37 0 (by decide) (hts _ q1941) (fun _ h9 => h9) rfl hmn rfl (by decide +kernel) rfl rfl (Nat.le_of_ble_eq_true rfl) dX37_init_6 (fun H locs hM hS => ?_)
  have hM : mm_P Z.1 mm_cl A (mm_U M h0 (.inr (31, [.int x1, .null]))) H := hM
  have hc_4 : (mm_U M h0 (.inr (31, [.int x1, .null]))) h0 = some (.inr (31, [.int x1, .null])) := mm_U_eq
  obtain ⟨M_5, eM_5⟩ : ∃ z, z = mm_U M h0 (.inr (31, [.int x1, .null])) := ⟨_, rfl⟩
  rw [← eM_5] at hM hc_4
  refine lv_aload_n hx hb dX37_init_9 rfl (lv_at hl 0 rfl) ?_
  refine mm_aload_n hx hb dX37_init_10 rfl (lv_at hl 2 rfl) ?_
  refine mm_putF (D := Z.1) (ci := 31) (v := va_rf x2) (ty := .object "RowenTongue$Value") (C := RX37) (T := TX37) (N := 2) hx hb hts in_X37 tyX37 tyX37_ok nmX37 hown hE.1 hM hS hc_4 mm_cX37 1 (by decide) (hts _ q1943) (fun _ h9 => h9) rfl hmn rfl (by decide +kernel) (mm_nar_oo _ _) (mm_fit_oo _ _) (Nat.le_of_ble_eq_true rfl) dX37_init_11 (fun H locs hM hS => ?_)
  have hM : mm_P Z.1 mm_cl A (mm_U M_5 h0 (.inr (31, [.int x1, va_rf x2]))) H := hM
  have hc_6 : (mm_U M_5 h0 (.inr (31, [.int x1, va_rf x2]))) h0 = some (.inr (31, [.int x1, va_rf x2])) := mm_U_eq
  obtain ⟨M_7, eM_7⟩ : ∃ z, z = mm_U M_5 h0 (.inr (31, [.int x1, va_rf x2])) := ⟨_, rfl⟩
  rw [← eM_7] at hM hc_6
  exact mm_retv hx hb hr hlk hM hS ⟨rfl, by subst eM_7 eM_5; first | rfl | simp only [mm_U_U]⟩ dX37_init_14 (Nat.le_of_ble_eq_true rfl) (Nat.le_of_ble_eq_true rfl)
set_option maxHeartbeats 4000000 in
set_option maxRecDepth 100000 in
theorem c_X38_init (l : Launch) (Z : mm_G) {M : mm_M} {h0 : Nat} (h_h0 : M h0 = some (.inr (32, [.int 0, .int 0, .null, .null, .null]))) : mm_C l Z yX38_init (ws_ yX38_init cX38_init 1 none) { frames := 1, cells := 0, slots := 0, locals := 12 } [.ref h0] M (fun v M' => v = none ∧ M' = M) mm_nx := by
  refine mm_ofW (cc := cX38_init) (maxL := 1) (ret := none) (by decide) rfl (Nat.le_of_ble_eq_true rfl) ?_
  intro p e s m below meth c A ls hx hb hr hlk hml hown hmn hts htab hE hST hA hM hS hl
  replace hl : lv_has ls 1 [(0, .ref h0)] := hl
  refine lv_aload_n hx hb dX38_init_0 rfl (lv_at hl 0 rfl) ?_
  refine W.objInit hx hb hown (hts _ q2781) (hts _ q127) (hts _ q128) rfl (by rw [hml]; exact hl.1) rfl dX38_init_1 (Nat.le_of_ble_eq_true rfl) (Nat.le_of_ble_eq_true rfl) ?_
  refine W.eq (g2 := F0 m 4 ls []) rfl ?_
  exact mm_retv hx hb hr hlk hM hS ⟨rfl, rfl⟩ dX38_init_4 (Nat.le_of_ble_eq_true rfl) (Nat.le_of_ble_eq_true rfl)
set_option maxHeartbeats 4000000 in
set_option maxRecDepth 100000 in
theorem c_X39_init (l : Launch) (Z : mm_G) {M : mm_M} {h0 : Nat} {x1 : Int32} {x2 : Option Nat} {x3 : Int32} {x4 : Option Nat} (h_h0 : M h0 = some (.inr (33, [.int 0, .null, .int 0, .null]))) : mm_C l Z yX39_init (ws_ yX39_init cX39_init 5 none) { frames := 1, cells := 0, slots := 0, locals := 12 } [.ref h0, .int x1, va_rf x2, .int x3, va_rf x4] M (fun v M' => v = none ∧ M' = mm_U M h0 (.inr (33, [.int x1, va_rf x2, .int x3, va_rf x4]))) mm_nx := by
  refine mm_ofW (cc := cX39_init) (maxL := 5) (ret := none) (by decide) rfl (by simp [lg_sl, mm_cat_o, mm_cat_r, mm_cat_i, mm_cat_l, mm_cat_n]) ?_
  intro p e s m below meth c A ls hx hb hr hlk hml hown hmn hts htab hE hST hA hM hS hl
  replace hl : lv_has ls 5 [(0, .ref h0), (1, .int x1), (2, va_rf x2), (3, .int x3), (4, va_rf x4)] := by simpa [lv_args, mm_cat_o, mm_cat_r, mm_cat_i, mm_cat_l, mm_cat_n] using hl
  refine lv_aload_n hx hb dX39_init_0 rfl (lv_at hl 0 rfl) ?_
  refine W.objInit hx hb hown (hts _ q2803) (hts _ q127) (hts _ q128) rfl (by rw [hml]; exact hl.1) rfl dX39_init_1 (Nat.le_of_ble_eq_true rfl) (Nat.le_of_ble_eq_true rfl) ?_
  refine W.eq (g2 := F0 m 4 ls []) rfl ?_
  refine lv_aload_n hx hb dX39_init_4 rfl (lv_at hl 0 rfl) ?_
  refine lv_iload_n hx hb dX39_init_5 rfl (lv_at hl 1 rfl) ?_
  refine mm_putF (D := Z.1) (ci := 33) (v := .int x1) (ty := .int) (C := RX39) (T := TX39) (N := 4) hx hb hts in_X39 tyX39 tyX39_ok nmX39 hown hE.1 hM hS h_h0 mm_cX39 0 (by decide) (hts _ q2804) (fun _ h9 => h9) rfl hmn rfl (by decide +kernel) rfl rfl (Nat.le_of_ble_eq_true rfl) dX39_init_6 (fun H locs hM hS => ?_)
  have hM : mm_P Z.1 mm_cl A (mm_U M h0 (.inr (33, [.int x1, .null, .int 0, .null]))) H := hM
  have hc_1 : (mm_U M h0 (.inr (33, [.int x1, .null, .int 0, .null]))) h0 = some (.inr (33, [.int x1, .null, .int 0, .null])) := mm_U_eq
  obtain ⟨M_2, eM_2⟩ : ∃ z, z = mm_U M h0 (.inr (33, [.int x1, .null, .int 0, .null])) := ⟨_, rfl⟩
  rw [← eM_2] at hM hc_1
  refine lv_aload_n hx hb dX39_init_9 rfl (lv_at hl 0 rfl) ?_
  refine mm_aload_n hx hb dX39_init_10 rfl (lv_at hl 2 rfl) ?_
  refine mm_putF (D := Z.1) (ci := 33) (v := va_rf x2) (ty := .object "RowenTongueModel$Value") (C := RX39) (T := TX39) (N := 4) hx hb hts in_X39 tyX39 tyX39_ok nmX39 hown hE.1 hM hS hc_1 mm_cX39 1 (by decide) (hts _ q2806) (fun _ h9 => h9) rfl hmn rfl (by decide +kernel) (mm_nar_oo _ _) (mm_fit_oo _ _) (Nat.le_of_ble_eq_true rfl) dX39_init_11 (fun H locs hM hS => ?_)
  have hM : mm_P Z.1 mm_cl A (mm_U M_2 h0 (.inr (33, [.int x1, va_rf x2, .int 0, .null]))) H := hM
  have hc_3 : (mm_U M_2 h0 (.inr (33, [.int x1, va_rf x2, .int 0, .null]))) h0 = some (.inr (33, [.int x1, va_rf x2, .int 0, .null])) := mm_U_eq
  obtain ⟨M_4, eM_4⟩ : ∃ z, z = mm_U M_2 h0 (.inr (33, [.int x1, va_rf x2, .int 0, .null])) := ⟨_, rfl⟩
  rw [← eM_4] at hM hc_3
  refine lv_aload_n hx hb dX39_init_14 rfl (lv_at hl 0 rfl) ?_
  refine lv_iload_n hx hb dX39_init_15 rfl (lv_at hl 3 rfl) ?_
  refine mm_putF (D := Z.1) (ci := 33) (v := .int x3) (ty := .int) (C := RX39) (T := TX39) (N := 4) hx hb hts in_X39 tyX39 tyX39_ok nmX39 hown hE.1 hM hS hc_3 mm_cX39 2 (by decide) (hts _ q2808) (fun _ h9 => h9) rfl hmn rfl (by decide +kernel) rfl rfl (Nat.le_of_ble_eq_true rfl) dX39_init_16 (fun H locs hM hS => ?_)
  have hM : mm_P Z.1 mm_cl A (mm_U M_4 h0 (.inr (33, [.int x1, va_rf x2, .int x3, .null]))) H := hM
  have hc_5 : (mm_U M_4 h0 (.inr (33, [.int x1, va_rf x2, .int x3, .null]))) h0 = some (.inr (33, [.int x1, va_rf x2, .int x3, .null])) := mm_U_eq
  obtain ⟨M_6, eM_6⟩ : ∃ z, z = mm_U M_4 h0 (.inr (33, [.int x1, va_rf x2, .int x3, .null])) := ⟨_, rfl⟩
  rw [← eM_6] at hM hc_5
  refine lv_aload_n hx hb dX39_init_19 rfl (lv_at hl 0 rfl) ?_
  refine mm_aload hx hb dX39_init_20 (lv_at hl 4 rfl) ?_
  refine mm_putF (D := Z.1) (ci := 33) (v := va_rf x4) (ty := .object "RowenTongueModel$Bound") (C := RX39) (T := TX39) (N := 4) hx hb hts in_X39 tyX39 tyX39_ok nmX39 hown hE.1 hM hS hc_5 mm_cX39 3 (by decide) (hts _ q2810) (fun _ h9 => h9) rfl hmn rfl (by decide +kernel) (mm_nar_oo _ _) (mm_fit_oo _ _) (Nat.le_of_ble_eq_true rfl) dX39_init_22 (fun H locs hM hS => ?_)
  have hM : mm_P Z.1 mm_cl A (mm_U M_6 h0 (.inr (33, [.int x1, va_rf x2, .int x3, va_rf x4]))) H := hM
  have hc_7 : (mm_U M_6 h0 (.inr (33, [.int x1, va_rf x2, .int x3, va_rf x4]))) h0 = some (.inr (33, [.int x1, va_rf x2, .int x3, va_rf x4])) := mm_U_eq
  obtain ⟨M_8, eM_8⟩ : ∃ z, z = mm_U M_6 h0 (.inr (33, [.int x1, va_rf x2, .int x3, va_rf x4])) := ⟨_, rfl⟩
  rw [← eM_8] at hM hc_7
  exact mm_retv hx hb hr hlk hM hS ⟨rfl, by subst eM_8 eM_6 eM_4 eM_2; first | rfl | simp only [mm_U_U]⟩ dX39_init_25 (Nat.le_of_ble_eq_true rfl) (Nat.le_of_ble_eq_true rfl)
set_option maxHeartbeats 4000000 in
set_option maxRecDepth 100000 in
theorem c_X40_init (l : Launch) (Z : mm_G) {M : mm_M} {h0 : Nat} (h_h0 : M h0 = some (.inr (34, [.int 0]))) : mm_C l Z yX40_init (ws_ yX40_init cX40_init 1 none) { frames := 1, cells := 0, slots := 0, locals := 12 } [.ref h0] M (fun v M' => v = none ∧ M' = M) mm_nx := by
  refine mm_ofW (cc := cX40_init) (maxL := 1) (ret := none) (by decide) rfl (Nat.le_of_ble_eq_true rfl) ?_
  intro p e s m below meth c A ls hx hb hr hlk hml hown hmn hts htab hE hST hA hM hS hl
  replace hl : lv_has ls 1 [(0, .ref h0)] := hl
  refine lv_aload_n hx hb dX40_init_0 rfl (lv_at hl 0 rfl) ?_
  refine W.objInit hx hb hown (hts _ q2004) (hts _ q127) (hts _ q128) rfl (by rw [hml]; exact hl.1) rfl dX40_init_1 (Nat.le_of_ble_eq_true rfl) (Nat.le_of_ble_eq_true rfl) ?_
  refine W.eq (g2 := F0 m 4 ls []) rfl ?_
  exact mm_retv hx hb hr hlk hM hS ⟨rfl, rfl⟩ dX40_init_4 (Nat.le_of_ble_eq_true rfl) (Nat.le_of_ble_eq_true rfl)
set_option maxHeartbeats 4000000 in
set_option maxRecDepth 100000 in
theorem c_X41_init (l : Launch) (Z : mm_G) {M : mm_M} {h0 : Nat}  : mm_C l Z yX41_init (ws_ yX41_init cX41_init 1 none) { frames := 1, cells := 0, slots := 0, locals := 12 } [.ref h0] M (fun v M' => v = none ∧ M' = M) mm_nx := by
  refine mm_ofW (cc := cX41_init) (maxL := 1) (ret := none) (by decide) rfl (Nat.le_of_ble_eq_true rfl) ?_
  intro p e s m below meth c A ls hx hb hr hlk hml hown hmn hts htab hE hST hA hM hS hl
  replace hl : lv_has ls 1 [(0, .ref h0)] := hl
  refine lv_aload_n hx hb dX41_init_0 rfl (lv_at hl 0 rfl) ?_
  refine W.objInit hx hb hown (hts _ q2092) (hts _ q127) (hts _ q128) rfl (by rw [hml]; exact hl.1) rfl dX41_init_1 (Nat.le_of_ble_eq_true rfl) (Nat.le_of_ble_eq_true rfl) ?_
  refine W.eq (g2 := F0 m 4 ls []) rfl ?_
  exact mm_retv hx hb hr hlk hM hS ⟨rfl, rfl⟩ dX41_init_4 (Nat.le_of_ble_eq_true rfl) (Nat.le_of_ble_eq_true rfl)
set_option maxHeartbeats 4000000 in
set_option maxRecDepth 100000 in
theorem c_X42_init (l : Launch) (Z : mm_G) {M : mm_M} {h0 : Nat} {x1 : Int32} (h_h0 : M h0 = some (.inr (35, [.int 0]))) : mm_C l Z yX42_init (ws_ yX42_init cX42_init 2 none) { frames := 2, cells := 0, slots := 0, locals := 32 } [.ref h0, .int x1] M (fun v M' => v = none ∧ M' = mm_U M h0 (.inr (35, [.int x1]))) mm_nx := by
  refine mm_ofW (cc := cX42_init) (maxL := 2) (ret := none) (by decide) rfl (Nat.le_of_ble_eq_true rfl) ?_
  intro p e s m below meth c A ls hx hb hr hlk hml hown hmn hts htab hE hST hA hM hS hl
  replace hl : lv_has ls 2 [(0, .ref h0), (1, .int x1)] := hl
  refine lv_aload_n hx hb dX42_init_0 rfl (lv_at hl 0 rfl) ?_
  refine mm_callIN (As := []) (rest := []) ⟨hx, hb, hml, hown, hts⟩ hE hST hA (c_X41_init l Z (M := M) (h0 := h0) ) ⟨va_cnB 0 hts (lw_meth q2091) rfl rfl rfl (hE.2.1 _ q2089 rfl) (hts _ q114) (by decide +kernel) ⟨(Nat.le_of_ble_eq_true rfl), (Nat.le_of_ble_eq_true rfl)⟩, rfl, hts _ q2090⟩ hM hS rfl hl.1 (Nat.le_of_ble_eq_true rfl) dX42_init_1 rfl ⟨(Nat.le_of_ble_eq_true rfl), (Nat.le_of_ble_eq_true rfl)⟩ (fun _ _ _ _ _ _ h9 => h9.elim) (fun v_1 M_2 H locs hp_3 hM hS => ?_)
  obtain ⟨rfl, eM_2⟩ := hp_3
  rw [eM_2] at hM
  refine lv_aload_n hx hb dX42_init_4 rfl (lv_at hl 0 rfl) ?_
  refine lv_iload_n hx hb dX42_init_5 rfl (lv_at hl 1 rfl) ?_
  refine mm_putF (D := Z.1) (ci := 35) (v := .int x1) (ty := .int) (C := RX42) (T := TX42) (N := 1) hx hb hts in_X42 tyX42 tyX42_ok nmX42 hown hE.1 hM hS h_h0 mm_cX42 0 (by decide) (hts _ q2093) (fun _ h9 => h9) rfl hmn rfl (by decide +kernel) rfl rfl (Nat.le_of_ble_eq_true rfl) dX42_init_6 (fun H locs hM hS => ?_)
  have hM : mm_P Z.1 mm_cl A (mm_U M h0 (.inr (35, [.int x1]))) H := hM
  have hc_4 : (mm_U M h0 (.inr (35, [.int x1]))) h0 = some (.inr (35, [.int x1])) := mm_U_eq
  obtain ⟨M_5, eM_5⟩ : ∃ z, z = mm_U M h0 (.inr (35, [.int x1])) := ⟨_, rfl⟩
  rw [← eM_5] at hM hc_4
  exact mm_retv hx hb hr hlk hM hS ⟨rfl, by subst eM_5; first | rfl | simp only [mm_U_U]⟩ dX42_init_9 (Nat.le_of_ble_eq_true rfl) (Nat.le_of_ble_eq_true rfl)
set_option maxHeartbeats 4000000 in
set_option maxRecDepth 100000 in
theorem c_X43_init (l : Launch) (Z : mm_G) {M : mm_M} {h0 : Nat} (h_h0 : M h0 = some (.inr (36, [.null]))) : mm_C l Z yX43_init (ws_ yX43_init cX43_init 1 none) { frames := 4, cells := 1, slots := 3, locals := 72 } [.ref h0] M (fun v M' => ∃ q_5 : Nat, M q_5 = none ∧ v = none ∧ M' = mm_U (mm_U M q_5 (.inr (41, [.int 0, .ref (Z.2.2.1 2), .int 0]))) h0 (.inr (36, [.ref q_5]))) mm_nx := by
  refine mm_ofW (cc := cX43_init) (maxL := 1) (ret := none) (by decide) rfl (Nat.le_of_ble_eq_true rfl) ?_
  intro p e s m below meth c A ls hx hb hr hlk hml hown hmn hts htab hE hST hA hM hS hl
  replace hl : lv_has ls 1 [(0, .ref h0)] := hl
  refine lv_aload_n hx hb dX43_init_0 rfl (lv_at hl 0 rfl) ?_
  refine mm_callIN (As := []) (rest := []) ⟨hx, hb, hml, hown, hts⟩ hE hST hA (c_X41_init l Z (M := M) (h0 := h0) ) ⟨va_cnB 0 hts (lw_meth q2091) rfl rfl rfl (hE.2.1 _ q2103 rfl) (hts _ q114) (by decide +kernel) ⟨(Nat.le_of_ble_eq_true rfl), (Nat.le_of_ble_eq_true rfl)⟩, rfl, hts _ q2090⟩ hM hS rfl hl.1 (Nat.le_of_ble_eq_true rfl) dX43_init_1 rfl ⟨(Nat.le_of_ble_eq_true rfl), (Nat.le_of_ble_eq_true rfl)⟩ (fun _ _ _ _ _ _ h9 => h9.elim) (fun v_1 M_2 H locs hp_3 hM hS => ?_)
  obtain ⟨rfl, eM_2⟩ := hp_3
  rw [eM_2] at hM
  refine lv_aload_n hx hb dX43_init_4 rfl (lv_at hl 0 rfl) ?_
  refine mm_new (D := Z.1) (ci := 41) (fs := mm_f0J2) (C := RJ2) (T := TJ2) (N := 3) hx hb hts in_J2 tyJ2 tyJ2_ok hown (hts _ q2104) (hts _ q130) (hts _ q53) hE.1 hM hS hA mm_cJ2 mm_dfJ2 (Nat.le_of_ble_eq_true rfl) (Nat.le_of_ble_eq_true rfl) dX43_init_5 (fun q_5 H nq_4 hM hS => ?_)
  have hM : mm_P Z.1 mm_cl A (mm_U M q_5 (.inr (41, [.int 0, .null, .int 0]))) H := hM
  have ne_6 : h0 ≠ q_5 := (mm_neN h_h0 nq_4)
  have hc_7 : (mm_U M q_5 (.inr (41, [.int 0, .null, .int 0]))) q_5 = some (.inr (41, [.int 0, .null, .int 0])) := mm_U_eq
  have hc_8 : (mm_U M q_5 (.inr (41, [.int 0, .null, .int 0]))) h0 = some (.inr (36, [.null])) := (mm_U_ne ne_6).trans h_h0
  obtain ⟨M_9, eM_9⟩ : ∃ z, z = mm_U M q_5 (.inr (41, [.int 0, .null, .int 0])) := ⟨_, rfl⟩
  rw [← eM_9] at hM hc_8 hc_7
  refine lv_dup hx hb dX43_init_8 rfl ?_
  refine mm_callI (As := []) (rest := [.ref q_5, .ref h0]) ⟨hx, hb, hml, hown, hts⟩ hE hST hA (c_J2_init l Z (M := M_9) (h0 := q_5) hc_7) (cwI (maxL := 1) 0 hts (lw_meth q133) rfl rfl rfl (hts _ q53) (hts _ q2105) (hts _ q132) rfl (by decide +kernel) ⟨(Nat.le_of_ble_eq_true rfl), (Nat.le_of_ble_eq_true rfl)⟩) hM hS rfl hl.1 (Nat.le_of_ble_eq_true rfl) dX43_init_9 rfl ⟨(Nat.le_of_ble_eq_true rfl), (Nat.le_of_ble_eq_true rfl)⟩ (fun _ _ _ _ _ _ h9 => h9.elim) (fun v_10 M_11 H locs hp_12 hM hS => ?_)
  obtain ⟨rfl, eM_11⟩ := hp_12
  rw [eM_11] at hM
  replace hM : mm_P Z.1 mm_cl A (mm_U M_9 q_5 (.inr (41, [.int 0, .ref (Z.2.2.1 2), .int 0]))) H := hM
  have hc_13 : (mm_U M_9 q_5 (.inr (41, [.int 0, .ref (Z.2.2.1 2), .int 0]))) q_5 = some (.inr (41, [.int 0, .ref (Z.2.2.1 2), .int 0])) := mm_U_eq
  have hc_14 : (mm_U M_9 q_5 (.inr (41, [.int 0, .ref (Z.2.2.1 2), .int 0]))) h0 = some (.inr (36, [.null])) := (mm_U_ne ne_6).trans hc_8
  obtain ⟨M_15, eM_15⟩ : ∃ z, z = mm_U M_9 q_5 (.inr (41, [.int 0, .ref (Z.2.2.1 2), .int 0])) := ⟨_, rfl⟩
  rw [← eM_15] at hM hc_14 hc_13
  refine mm_putF (D := Z.1) (ci := 36) (v := .ref q_5) (ty := .object "java/util/ArrayList") (C := RX43) (T := TX43) (N := 1) hx hb hts in_X43 tyX43 tyX43_ok nmX43 hown hE.1 hM hS hc_14 mm_cX43 0 (by decide) (hts _ q2106) (fun _ h9 => h9) rfl hmn rfl (by decide +kernel) rfl rfl (Nat.le_of_ble_eq_true rfl) dX43_init_12 (fun H locs hM hS => ?_)
  have hM : mm_P Z.1 mm_cl A (mm_U M_15 h0 (.inr (36, [.ref q_5]))) H := hM
  have hc_16 : (mm_U M_15 h0 (.inr (36, [.ref q_5]))) h0 = some (.inr (36, [.ref q_5])) := mm_U_eq
  have hc_17 : (mm_U M_15 h0 (.inr (36, [.ref q_5]))) q_5 = some (.inr (41, [.int 0, .ref (Z.2.2.1 2), .int 0])) := (mm_U_ne (Ne.symm ne_6)).trans hc_13
  obtain ⟨M_18, eM_18⟩ : ∃ z, z = mm_U M_15 h0 (.inr (36, [.ref q_5])) := ⟨_, rfl⟩
  rw [← eM_18] at hM hc_16 hc_17
  exact mm_retv hx hb hr hlk hM hS ⟨q_5, nq_4, rfl, by subst eM_18 eM_15 eM_9; (funext z9; simp only [mm_U]; (repeat' split) <;> simp_all)⟩ dX43_init_15 (Nat.le_of_ble_eq_true rfl) (Nat.le_of_ble_eq_true rfl)
set_option maxHeartbeats 4000000 in
set_option maxRecDepth 100000 in
theorem c_X44_init (l : Launch) (Z : mm_G) {M : mm_M} {h0 : Nat} {x1 : Option Nat} {x2 : Int32} {x3 : Option Nat} (h_h0 : M h0 = some (.inr (37, [.null, .int 0, .null]))) : mm_C l Z yX44_init (ws_ yX44_init cX44_init 4 none) { frames := 1, cells := 0, slots := 0, locals := 12 } [.ref h0, va_rf x1, .int x2, va_rf x3] M (fun v M' => v = none ∧ M' = mm_U M h0 (.inr (37, [va_rf x1, .int x2, va_rf x3]))) mm_nx := by
  refine mm_ofW (cc := cX44_init) (maxL := 4) (ret := none) (by decide) rfl (by simp [lg_sl, mm_cat_o, mm_cat_r, mm_cat_i, mm_cat_l, mm_cat_n]) ?_
  intro p e s m below meth c A ls hx hb hr hlk hml hown hmn hts htab hE hST hA hM hS hl
  replace hl : lv_has ls 4 [(0, .ref h0), (1, va_rf x1), (2, .int x2), (3, va_rf x3)] := by simpa [lv_args, mm_cat_o, mm_cat_r, mm_cat_i, mm_cat_l, mm_cat_n] using hl
  refine lv_aload_n hx hb dX44_init_0 rfl (lv_at hl 0 rfl) ?_
  refine W.objInit hx hb hown (hts _ q2127) (hts _ q127) (hts _ q128) rfl (by rw [hml]; exact hl.1) rfl dX44_init_1 (Nat.le_of_ble_eq_true rfl) (Nat.le_of_ble_eq_true rfl) ?_
  refine W.eq (g2 := F0 m 4 ls []) rfl ?_
  refine lv_aload_n hx hb dX44_init_4 rfl (lv_at hl 0 rfl) ?_
  refine mm_aload_n hx hb dX44_init_5 rfl (lv_at hl 1 rfl) ?_
  refine mm_putF (D := Z.1) (ci := 37) (v := va_rf x1) (ty := .object "RowenTongue$Place") (C := RX44) (T := TX44) (N := 3) hx hb hts in_X44 tyX44 tyX44_ok nmX44 hown hE.1 hM hS h_h0 mm_cX44 0 (by decide) (hts _ q2128) (fun _ h9 => h9) rfl hmn rfl (by decide +kernel) (mm_nar_oo _ _) (mm_fit_oo _ _) (Nat.le_of_ble_eq_true rfl) dX44_init_6 (fun H locs hM hS => ?_)
  have hM : mm_P Z.1 mm_cl A (mm_U M h0 (.inr (37, [va_rf x1, .int 0, .null]))) H := hM
  have hc_1 : (mm_U M h0 (.inr (37, [va_rf x1, .int 0, .null]))) h0 = some (.inr (37, [va_rf x1, .int 0, .null])) := mm_U_eq
  obtain ⟨M_2, eM_2⟩ : ∃ z, z = mm_U M h0 (.inr (37, [va_rf x1, .int 0, .null])) := ⟨_, rfl⟩
  rw [← eM_2] at hM hc_1
  refine lv_aload_n hx hb dX44_init_9 rfl (lv_at hl 0 rfl) ?_
  refine lv_iload_n hx hb dX44_init_10 rfl (lv_at hl 2 rfl) ?_
  refine mm_putF (D := Z.1) (ci := 37) (v := .int x2) (ty := .int) (C := RX44) (T := TX44) (N := 3) hx hb hts in_X44 tyX44 tyX44_ok nmX44 hown hE.1 hM hS hc_1 mm_cX44 1 (by decide) (hts _ q2130) (fun _ h9 => h9) rfl hmn rfl (by decide +kernel) rfl rfl (Nat.le_of_ble_eq_true rfl) dX44_init_11 (fun H locs hM hS => ?_)
  have hM : mm_P Z.1 mm_cl A (mm_U M_2 h0 (.inr (37, [va_rf x1, .int x2, .null]))) H := hM
  have hc_3 : (mm_U M_2 h0 (.inr (37, [va_rf x1, .int x2, .null]))) h0 = some (.inr (37, [va_rf x1, .int x2, .null])) := mm_U_eq
  obtain ⟨M_4, eM_4⟩ : ∃ z, z = mm_U M_2 h0 (.inr (37, [va_rf x1, .int x2, .null])) := ⟨_, rfl⟩
  rw [← eM_4] at hM hc_3
  refine lv_aload_n hx hb dX44_init_14 rfl (lv_at hl 0 rfl) ?_
  refine mm_aload_n hx hb dX44_init_15 rfl (lv_at hl 3 rfl) ?_
  refine mm_putF (D := Z.1) (ci := 37) (v := va_rf x3) (ty := .object "RowenTongue$Slot") (C := RX44) (T := TX44) (N := 3) hx hb hts in_X44 tyX44 tyX44_ok nmX44 hown hE.1 hM hS hc_3 mm_cX44 2 (by decide) (hts _ q2133) (fun _ h9 => h9) rfl hmn rfl (by decide +kernel) (mm_nar_oo _ _) (mm_fit_oo _ _) (Nat.le_of_ble_eq_true rfl) dX44_init_16 (fun H locs hM hS => ?_)
  have hM : mm_P Z.1 mm_cl A (mm_U M_4 h0 (.inr (37, [va_rf x1, .int x2, va_rf x3]))) H := hM
  have hc_5 : (mm_U M_4 h0 (.inr (37, [va_rf x1, .int x2, va_rf x3]))) h0 = some (.inr (37, [va_rf x1, .int x2, va_rf x3])) := mm_U_eq
  obtain ⟨M_6, eM_6⟩ : ∃ z, z = mm_U M_4 h0 (.inr (37, [va_rf x1, .int x2, va_rf x3])) := ⟨_, rfl⟩
  rw [← eM_6] at hM hc_5
  exact mm_retv hx hb hr hlk hM hS ⟨rfl, by subst eM_6 eM_4 eM_2; first | rfl | simp only [mm_U_U]⟩ dX44_init_19 (Nat.le_of_ble_eq_true rfl) (Nat.le_of_ble_eq_true rfl)
set_option maxHeartbeats 4000000 in
set_option maxRecDepth 100000 in
theorem c_X45_init (l : Launch) (Z : mm_G) {M : mm_M} {h0 : Nat} {x1 : Int32} {x2 : Option Nat} {x3 : Option Nat} {x4 : Option Nat} {x5 : Bool} {x6 : Option Nat} {x7 : Option Nat} (h_h0 : M h0 = some (.inr (38, [.int 0, .null, .null, .null, .int 0, .null, .null, .null, .null]))) : mm_C l Z yX45_init (ws_ yX45_init cX45_init 8 none) { frames := 1, cells := 0, slots := 0, locals := 12 } [.ref h0, .int x1, va_rf x2, va_rf x3, va_rf x4, .int (mm_b x5), va_rf x6, va_rf x7] M (fun v M' => v = none ∧ M' = mm_U M h0 (.inr (38, [.int x1, va_rf x2, va_rf x3, va_rf x4, .int (mm_b x5), va_rf x6, va_rf x7, .null, .null]))) mm_nx := by
  refine mm_ofW (cc := cX45_init) (maxL := 8) (ret := none) (by decide) rfl (by simp [lg_sl, mm_cat_o, mm_cat_r, mm_cat_i, mm_cat_l, mm_cat_n]) ?_
  intro p e s m below meth c A ls hx hb hr hlk hml hown hmn hts htab hE hST hA hM hS hl
  replace hl : lv_has ls 8 [(0, .ref h0), (1, .int x1), (2, va_rf x2), (3, va_rf x3), (4, va_rf x4), (5, .int (mm_b x5)), (6, va_rf x6), (7, va_rf x7)] := by simpa [lv_args, mm_cat_o, mm_cat_r, mm_cat_i, mm_cat_l, mm_cat_n] using hl
  refine lv_aload_n hx hb dX45_init_0 rfl (lv_at hl 0 rfl) ?_
  refine W.objInit hx hb hown (hts _ q2164) (hts _ q127) (hts _ q128) rfl (by rw [hml]; exact hl.1) rfl dX45_init_1 (Nat.le_of_ble_eq_true rfl) (Nat.le_of_ble_eq_true rfl) ?_
  refine W.eq (g2 := F0 m 4 ls []) rfl ?_
  refine lv_aload_n hx hb dX45_init_4 rfl (lv_at hl 0 rfl) ?_
  refine lv_iload_n hx hb dX45_init_5 rfl (lv_at hl 1 rfl) ?_
  refine mm_putF (D := Z.1) (ci := 38) (v := .int x1) (ty := .int) (C := RX45) (T := TX45) (N := 9) hx hb hts in_X45 tyX45 tyX45_ok nmX45 hown hE.1 hM hS h_h0 mm_cX45 0 (by decide) (hts _ q2165) (fun _ h9 => h9) rfl hmn rfl (by decide +kernel) rfl rfl (Nat.le_of_ble_eq_true rfl) dX45_init_6 (fun H locs hM hS => ?_)
  have hM : mm_P Z.1 mm_cl A (mm_U M h0 (.inr (38, [.int x1, .null, .null, .null, .int 0, .null, .null, .null, .null]))) H := hM
  have hc_1 : (mm_U M h0 (.inr (38, [.int x1, .null, .null, .null, .int 0, .null, .null, .null, .null]))) h0 = some (.inr (38, [.int x1, .null, .null, .null, .int 0, .null, .null, .null, .null])) := mm_U_eq
  obtain ⟨M_2, eM_2⟩ : ∃ z, z = mm_U M h0 (.inr (38, [.int x1, .null, .null, .null, .int 0, .null, .null, .null, .null])) := ⟨_, rfl⟩
  rw [← eM_2] at hM hc_1
  refine lv_aload_n hx hb dX45_init_9 rfl (lv_at hl 0 rfl) ?_
  refine mm_aload_n hx hb dX45_init_10 rfl (lv_at hl 2 rfl) ?_
  refine mm_putF (D := Z.1) (ci := 38) (v := va_rf x2) (ty := .object "RowenTongue$Thing") (C := RX45) (T := TX45) (N := 9) hx hb hts in_X45 tyX45 tyX45_ok nmX45 hown hE.1 hM hS hc_1 mm_cX45 1 (by decide) (hts _ q2167) (fun _ h9 => h9) rfl hmn rfl (by decide +kernel) (mm_nar_oo _ _) (mm_fit_oo _ _) (Nat.le_of_ble_eq_true rfl) dX45_init_11 (fun H locs hM hS => ?_)
  have hM : mm_P Z.1 mm_cl A (mm_U M_2 h0 (.inr (38, [.int x1, va_rf x2, .null, .null, .int 0, .null, .null, .null, .null]))) H := hM
  have hc_3 : (mm_U M_2 h0 (.inr (38, [.int x1, va_rf x2, .null, .null, .int 0, .null, .null, .null, .null]))) h0 = some (.inr (38, [.int x1, va_rf x2, .null, .null, .int 0, .null, .null, .null, .null])) := mm_U_eq
  obtain ⟨M_4, eM_4⟩ : ∃ z, z = mm_U M_2 h0 (.inr (38, [.int x1, va_rf x2, .null, .null, .int 0, .null, .null, .null, .null])) := ⟨_, rfl⟩
  rw [← eM_4] at hM hc_3
  refine lv_aload_n hx hb dX45_init_14 rfl (lv_at hl 0 rfl) ?_
  refine mm_aload_n hx hb dX45_init_15 rfl (lv_at hl 3 rfl) ?_
  refine mm_putF (D := Z.1) (ci := 38) (v := va_rf x3) (ty := .object "RowenTongue$Code") (C := RX45) (T := TX45) (N := 9) hx hb hts in_X45 tyX45 tyX45_ok nmX45 hown hE.1 hM hS hc_3 mm_cX45 2 (by decide) (hts _ q2169) (fun _ h9 => h9) rfl hmn rfl (by decide +kernel) (mm_nar_oo _ _) (mm_fit_oo _ _) (Nat.le_of_ble_eq_true rfl) dX45_init_16 (fun H locs hM hS => ?_)
  have hM : mm_P Z.1 mm_cl A (mm_U M_4 h0 (.inr (38, [.int x1, va_rf x2, va_rf x3, .null, .int 0, .null, .null, .null, .null]))) H := hM
  have hc_5 : (mm_U M_4 h0 (.inr (38, [.int x1, va_rf x2, va_rf x3, .null, .int 0, .null, .null, .null, .null]))) h0 = some (.inr (38, [.int x1, va_rf x2, va_rf x3, .null, .int 0, .null, .null, .null, .null])) := mm_U_eq
  obtain ⟨M_6, eM_6⟩ : ∃ z, z = mm_U M_4 h0 (.inr (38, [.int x1, va_rf x2, va_rf x3, .null, .int 0, .null, .null, .null, .null])) := ⟨_, rfl⟩
  rw [← eM_6] at hM hc_5
  refine lv_aload_n hx hb dX45_init_19 rfl (lv_at hl 0 rfl) ?_
  refine mm_aload hx hb dX45_init_20 (lv_at hl 4 rfl) ?_
  refine mm_putF (D := Z.1) (ci := 38) (v := va_rf x4) (ty := .object "java/util/ArrayList") (C := RX45) (T := TX45) (N := 9) hx hb hts in_X45 tyX45 tyX45_ok nmX45 hown hE.1 hM hS hc_5 mm_cX45 3 (by decide) (hts _ q2171) (fun _ h9 => h9) rfl hmn rfl (by decide +kernel) (mm_nar_oo _ _) (mm_fit_oo _ _) (Nat.le_of_ble_eq_true rfl) dX45_init_22 (fun H locs hM hS => ?_)
  have hM : mm_P Z.1 mm_cl A (mm_U M_6 h0 (.inr (38, [.int x1, va_rf x2, va_rf x3, va_rf x4, .int 0, .null, .null, .null, .null]))) H := hM
  have hc_7 : (mm_U M_6 h0 (.inr (38, [.int x1, va_rf x2, va_rf x3, va_rf x4, .int 0, .null, .null, .null, .null]))) h0 = some (.inr (38, [.int x1, va_rf x2, va_rf x3, va_rf x4, .int 0, .null, .null, .null, .null])) := mm_U_eq
  obtain ⟨M_8, eM_8⟩ : ∃ z, z = mm_U M_6 h0 (.inr (38, [.int x1, va_rf x2, va_rf x3, va_rf x4, .int 0, .null, .null, .null, .null])) := ⟨_, rfl⟩
  rw [← eM_8] at hM hc_7
  refine lv_aload_n hx hb dX45_init_25 rfl (lv_at hl 0 rfl) ?_
  refine lv_iload hx hb dX45_init_26 (lv_at hl 5 rfl) ?_
  refine mm_putF (D := Z.1) (ci := 38) (v := .int (mm_b x5)) (ty := .boolean) (C := RX45) (T := TX45) (N := 9) hx hb hts in_X45 tyX45 tyX45_ok nmX45 hown hE.1 hM hS hc_7 mm_cX45 4 (by decide) (hts _ q2173) (fun _ h9 => h9) rfl hmn rfl (by decide +kernel) (mm_b_nar _) (mm_b_fit _) (Nat.le_of_ble_eq_true rfl) dX45_init_28 (fun H locs hM hS => ?_)
  have hM : mm_P Z.1 mm_cl A (mm_U M_8 h0 (.inr (38, [.int x1, va_rf x2, va_rf x3, va_rf x4, .int (mm_b x5), .null, .null, .null, .null]))) H := hM
  have hc_9 : (mm_U M_8 h0 (.inr (38, [.int x1, va_rf x2, va_rf x3, va_rf x4, .int (mm_b x5), .null, .null, .null, .null]))) h0 = some (.inr (38, [.int x1, va_rf x2, va_rf x3, va_rf x4, .int (mm_b x5), .null, .null, .null, .null])) := mm_U_eq
  obtain ⟨M_10, eM_10⟩ : ∃ z, z = mm_U M_8 h0 (.inr (38, [.int x1, va_rf x2, va_rf x3, va_rf x4, .int (mm_b x5), .null, .null, .null, .null])) := ⟨_, rfl⟩
  rw [← eM_10] at hM hc_9
  refine lv_aload_n hx hb dX45_init_31 rfl (lv_at hl 0 rfl) ?_
  refine mm_aload hx hb dX45_init_32 (lv_at hl 6 rfl) ?_
  refine mm_putF (D := Z.1) (ci := 38) (v := va_rf x6) (ty := .object "RowenTongue$Slot") (C := RX45) (T := TX45) (N := 9) hx hb hts in_X45 tyX45 tyX45_ok nmX45 hown hE.1 hM hS hc_9 mm_cX45 5 (by decide) (hts _ q2174) (fun _ h9 => h9) rfl hmn rfl (by decide +kernel) (mm_nar_oo _ _) (mm_fit_oo _ _) (Nat.le_of_ble_eq_true rfl) dX45_init_34 (fun H locs hM hS => ?_)
  have hM : mm_P Z.1 mm_cl A (mm_U M_10 h0 (.inr (38, [.int x1, va_rf x2, va_rf x3, va_rf x4, .int (mm_b x5), va_rf x6, .null, .null, .null]))) H := hM
  have hc_11 : (mm_U M_10 h0 (.inr (38, [.int x1, va_rf x2, va_rf x3, va_rf x4, .int (mm_b x5), va_rf x6, .null, .null, .null]))) h0 = some (.inr (38, [.int x1, va_rf x2, va_rf x3, va_rf x4, .int (mm_b x5), va_rf x6, .null, .null, .null])) := mm_U_eq
  obtain ⟨M_12, eM_12⟩ : ∃ z, z = mm_U M_10 h0 (.inr (38, [.int x1, va_rf x2, va_rf x3, va_rf x4, .int (mm_b x5), va_rf x6, .null, .null, .null])) := ⟨_, rfl⟩
  rw [← eM_12] at hM hc_11
  refine lv_aload_n hx hb dX45_init_37 rfl (lv_at hl 0 rfl) ?_
  refine mm_aload hx hb dX45_init_38 (lv_at hl 7 rfl) ?_
  refine mm_putF (D := Z.1) (ci := 38) (v := va_rf x7) (ty := .object "RowenTongue$Bind") (C := RX45) (T := TX45) (N := 9) hx hb hts in_X45 tyX45 tyX45_ok nmX45 hown hE.1 hM hS hc_11 mm_cX45 6 (by decide) (hts _ q2176) (fun _ h9 => h9) rfl hmn rfl (by decide +kernel) (mm_nar_oo _ _) (mm_fit_oo _ _) (Nat.le_of_ble_eq_true rfl) dX45_init_40 (fun H locs hM hS => ?_)
  have hM : mm_P Z.1 mm_cl A (mm_U M_12 h0 (.inr (38, [.int x1, va_rf x2, va_rf x3, va_rf x4, .int (mm_b x5), va_rf x6, va_rf x7, .null, .null]))) H := hM
  have hc_13 : (mm_U M_12 h0 (.inr (38, [.int x1, va_rf x2, va_rf x3, va_rf x4, .int (mm_b x5), va_rf x6, va_rf x7, .null, .null]))) h0 = some (.inr (38, [.int x1, va_rf x2, va_rf x3, va_rf x4, .int (mm_b x5), va_rf x6, va_rf x7, .null, .null])) := mm_U_eq
  obtain ⟨M_14, eM_14⟩ : ∃ z, z = mm_U M_12 h0 (.inr (38, [.int x1, va_rf x2, va_rf x3, va_rf x4, .int (mm_b x5), va_rf x6, va_rf x7, .null, .null])) := ⟨_, rfl⟩
  rw [← eM_14] at hM hc_13
  exact mm_retv hx hb hr hlk hM hS ⟨rfl, by subst eM_14 eM_12 eM_10 eM_8 eM_6 eM_4 eM_2; first | rfl | simp only [mm_U_U]⟩ dX45_init_43 (Nat.le_of_ble_eq_true rfl) (Nat.le_of_ble_eq_true rfl)
set_option maxHeartbeats 4000000 in
set_option maxRecDepth 100000 in
theorem c_X46_init (l : Launch) (Z : mm_G) {M : mm_M} {h0 : Nat} {x1 : Option Nat} {x2 : Option Nat} {x3 : Option Nat} (h_h0 : M h0 = some (.inr (39, [.null, .null, .null]))) : mm_C l Z yX46_init (ws_ yX46_init cX46_init 4 none) { frames := 2, cells := 0, slots := 0, locals := 32 } [.ref h0, va_rf x1, va_rf x2, va_rf x3] M (fun v M' => v = none ∧ M' = mm_U M h0 (.inr (39, [va_rf x1, va_rf x2, va_rf x3]))) mm_nx := by
  refine mm_ofW (cc := cX46_init) (maxL := 4) (ret := none) (by decide) rfl (by simp [lg_sl, mm_cat_o, mm_cat_r, mm_cat_i, mm_cat_l, mm_cat_n]) ?_
  intro p e s m below meth c A ls hx hb hr hlk hml hown hmn hts htab hE hST hA hM hS hl
  replace hl : lv_has ls 4 [(0, .ref h0), (1, va_rf x1), (2, va_rf x2), (3, va_rf x3)] := by simpa [lv_args, mm_cat_o, mm_cat_r, mm_cat_i, mm_cat_l, mm_cat_n] using hl
  refine lv_aload_n hx hb dX46_init_0 rfl (lv_at hl 0 rfl) ?_
  refine mm_callIN (As := []) (rest := []) ⟨hx, hb, hml, hown, hts⟩ hE hST hA (c_X41_init l Z (M := M) (h0 := h0) ) ⟨va_cnB 0 hts (lw_meth q2091) rfl rfl rfl (hE.2.1 _ q2212 rfl) (hts _ q114) (by decide +kernel) ⟨(Nat.le_of_ble_eq_true rfl), (Nat.le_of_ble_eq_true rfl)⟩, rfl, hts _ q2090⟩ hM hS rfl hl.1 (Nat.le_of_ble_eq_true rfl) dX46_init_1 rfl ⟨(Nat.le_of_ble_eq_true rfl), (Nat.le_of_ble_eq_true rfl)⟩ (fun _ _ _ _ _ _ h9 => h9.elim) (fun v_1 M_2 H locs hp_3 hM hS => ?_)
  obtain ⟨rfl, eM_2⟩ := hp_3
  rw [eM_2] at hM
  refine lv_aload_n hx hb dX46_init_4 rfl (lv_at hl 0 rfl) ?_
  refine mm_aload_n hx hb dX46_init_5 rfl (lv_at hl 1 rfl) ?_
  refine mm_putF (D := Z.1) (ci := 39) (v := va_rf x1) (ty := .object "RowenTongue$Code") (C := RX46) (T := TX46) (N := 3) hx hb hts in_X46 tyX46 tyX46_ok nmX46 hown hE.1 hM hS h_h0 mm_cX46 0 (by decide) (hts _ q2213) (fun _ h9 => h9) rfl hmn rfl (by decide +kernel) (mm_nar_oo _ _) (mm_fit_oo _ _) (Nat.le_of_ble_eq_true rfl) dX46_init_6 (fun H locs hM hS => ?_)
  have hM : mm_P Z.1 mm_cl A (mm_U M h0 (.inr (39, [va_rf x1, .null, .null]))) H := hM
  have hc_4 : (mm_U M h0 (.inr (39, [va_rf x1, .null, .null]))) h0 = some (.inr (39, [va_rf x1, .null, .null])) := mm_U_eq
  obtain ⟨M_5, eM_5⟩ : ∃ z, z = mm_U M h0 (.inr (39, [va_rf x1, .null, .null])) := ⟨_, rfl⟩
  rw [← eM_5] at hM hc_4
  refine lv_aload_n hx hb dX46_init_9 rfl (lv_at hl 0 rfl) ?_
  refine mm_aload_n hx hb dX46_init_10 rfl (lv_at hl 2 rfl) ?_
  refine mm_putF (D := Z.1) (ci := 39) (v := va_rf x2) (ty := .object "RowenTongue$Bind") (C := RX46) (T := TX46) (N := 3) hx hb hts in_X46 tyX46 tyX46_ok nmX46 hown hE.1 hM hS hc_4 mm_cX46 1 (by decide) (hts _ q2215) (fun _ h9 => h9) rfl hmn rfl (by decide +kernel) (mm_nar_oo _ _) (mm_fit_oo _ _) (Nat.le_of_ble_eq_true rfl) dX46_init_11 (fun H locs hM hS => ?_)
  have hM : mm_P Z.1 mm_cl A (mm_U M_5 h0 (.inr (39, [va_rf x1, va_rf x2, .null]))) H := hM
  have hc_6 : (mm_U M_5 h0 (.inr (39, [va_rf x1, va_rf x2, .null]))) h0 = some (.inr (39, [va_rf x1, va_rf x2, .null])) := mm_U_eq
  obtain ⟨M_7, eM_7⟩ : ∃ z, z = mm_U M_5 h0 (.inr (39, [va_rf x1, va_rf x2, .null])) := ⟨_, rfl⟩
  rw [← eM_7] at hM hc_6
  refine lv_aload_n hx hb dX46_init_14 rfl (lv_at hl 0 rfl) ?_
  refine mm_aload_n hx hb dX46_init_15 rfl (lv_at hl 3 rfl) ?_
  refine mm_putF (D := Z.1) (ci := 39) (v := va_rf x3) (ty := .object "RowenTongue$Slot") (C := RX46) (T := TX46) (N := 3) hx hb hts in_X46 tyX46 tyX46_ok nmX46 hown hE.1 hM hS hc_6 mm_cX46 2 (by decide) (hts _ q2217) (fun _ h9 => h9) rfl hmn rfl (by decide +kernel) (mm_nar_oo _ _) (mm_fit_oo _ _) (Nat.le_of_ble_eq_true rfl) dX46_init_16 (fun H locs hM hS => ?_)
  have hM : mm_P Z.1 mm_cl A (mm_U M_7 h0 (.inr (39, [va_rf x1, va_rf x2, va_rf x3]))) H := hM
  have hc_8 : (mm_U M_7 h0 (.inr (39, [va_rf x1, va_rf x2, va_rf x3]))) h0 = some (.inr (39, [va_rf x1, va_rf x2, va_rf x3])) := mm_U_eq
  obtain ⟨M_9, eM_9⟩ : ∃ z, z = mm_U M_7 h0 (.inr (39, [va_rf x1, va_rf x2, va_rf x3])) := ⟨_, rfl⟩
  rw [← eM_9] at hM hc_8
  exact mm_retv hx hb hr hlk hM hS ⟨rfl, by subst eM_9 eM_7 eM_5; first | rfl | simp only [mm_U_U]⟩ dX46_init_19 (Nat.le_of_ble_eq_true rfl) (Nat.le_of_ble_eq_true rfl)
set_option maxHeartbeats 4000000 in
set_option maxRecDepth 100000 in
theorem c_X46_isSame (l : Launch) (Z : mm_G) {M : mm_M} {h0 : Nat} {x1 : Option Nat} {f0 : Option Nat} {f1 : Option Nat} {f2 : Option Nat} (h_h0 : M h0 = some (.inr (39, [va_rf f0, va_rf f1, va_rf f2]))) : mm_C l Z yX46_isSame (ws_ yX46_isSame cX46_isSame 2 (some .boolean)) { frames := 0, cells := 0, slots := 0, locals := 0 } [.ref h0, va_rf x1] M (fun v M' => v = some (.int 0) ∧ M' = M) mm_nx := by
  refine mm_ofW (cc := cX46_isSame) (maxL := 2) (ret := (some .boolean)) (by decide) rfl (by simp [lg_sl, mm_cat_o, mm_cat_r, mm_cat_i, mm_cat_l, mm_cat_n]) ?_
  intro p e s m below meth c A ls hx hb hr hlk hml hown hmn hts htab hE hST hA hM hS hl
  replace hl : lv_has ls 2 [(0, .ref h0), (1, va_rf x1)] := by simpa [lv_args, mm_cat_o, mm_cat_r, mm_cat_i, mm_cat_l, mm_cat_n] using hl
  refine lv_iconst (v := 0) hx hb dX46_isSame_0 (by decide) ?_
  exact mm_retz hx hb hr rfl hlk hM hS ⟨rfl, rfl⟩ dX46_isSame_1 (Nat.le_of_ble_eq_true rfl) (Nat.le_of_ble_eq_true rfl)
set_option maxHeartbeats 4000000 in
set_option maxRecDepth 100000 in
theorem c_X47_init (l : Launch) (Z : mm_G) {M : mm_M} {h0 : Nat} {x1 : Int32} {x2 : Option Nat} (h_h0 : M h0 = some (.inr (40, [.int 0, .null]))) : mm_C l Z yX47_init (ws_ yX47_init cX47_init 3 none) { frames := 2, cells := 0, slots := 0, locals := 32 } [.ref h0, .int x1, va_rf x2] M (fun v M' => v = none ∧ M' = mm_U M h0 (.inr (40, [.int x1, va_rf x2]))) mm_nx := by
  refine mm_ofW (cc := cX47_init) (maxL := 3) (ret := none) (by decide) rfl (by simp [lg_sl, mm_cat_o, mm_cat_r, mm_cat_i, mm_cat_l, mm_cat_n]) ?_
  intro p e s m below meth c A ls hx hb hr hlk hml hown hmn hts htab hE hST hA hM hS hl
  replace hl : lv_has ls 3 [(0, .ref h0), (1, .int x1), (2, va_rf x2)] := by simpa [lv_args, mm_cat_o, mm_cat_r, mm_cat_i, mm_cat_l, mm_cat_n] using hl
  refine lv_aload_n hx hb dX47_init_0 rfl (lv_at hl 0 rfl) ?_
  refine mm_callIN (As := []) (rest := []) ⟨hx, hb, hml, hown, hts⟩ hE hST hA (c_X41_init l Z (M := M) (h0 := h0) ) ⟨va_cnB 0 hts (lw_meth q2091) rfl rfl rfl (hE.2.1 _ q2244 rfl) (hts _ q114) (by decide +kernel) ⟨(Nat.le_of_ble_eq_true rfl), (Nat.le_of_ble_eq_true rfl)⟩, rfl, hts _ q2090⟩ hM hS rfl hl.1 (Nat.le_of_ble_eq_true rfl) dX47_init_1 rfl ⟨(Nat.le_of_ble_eq_true rfl), (Nat.le_of_ble_eq_true rfl)⟩ (fun _ _ _ _ _ _ h9 => h9.elim) (fun v_1 M_2 H locs hp_3 hM hS => ?_)
  obtain ⟨rfl, eM_2⟩ := hp_3
  rw [eM_2] at hM
  refine lv_aload_n hx hb dX47_init_4 rfl (lv_at hl 0 rfl) ?_
  refine lv_iload_n hx hb dX47_init_5 rfl (lv_at hl 1 rfl) ?_
  refine mm_putF (D := Z.1) (ci := 40) (v := .int x1) (ty := .int) (C := RX47) (T := TX47) (N := 2) hx hb hts in_X47 tyX47 tyX47_ok nmX47 hown hE.1 hM hS h_h0 mm_cX47 0 (by decide) (hts _ q2245) (fun _ h9 => h9) rfl hmn rfl (by decide +kernel) rfl rfl (Nat.le_of_ble_eq_true rfl) dX47_init_6 (fun H locs hM hS => ?_)
  have hM : mm_P Z.1 mm_cl A (mm_U M h0 (.inr (40, [.int x1, .null]))) H := hM
  have hc_4 : (mm_U M h0 (.inr (40, [.int x1, .null]))) h0 = some (.inr (40, [.int x1, .null])) := mm_U_eq
  obtain ⟨M_5, eM_5⟩ : ∃ z, z = mm_U M h0 (.inr (40, [.int x1, .null])) := ⟨_, rfl⟩
  rw [← eM_5] at hM hc_4
  refine lv_aload_n hx hb dX47_init_9 rfl (lv_at hl 0 rfl) ?_
  refine mm_aload_n hx hb dX47_init_10 rfl (lv_at hl 2 rfl) ?_
  refine mm_putF (D := Z.1) (ci := 40) (v := va_rf x2) (ty := .object "RowenTongue$Thing") (C := RX47) (T := TX47) (N := 2) hx hb hts in_X47 tyX47 tyX47_ok nmX47 hown hE.1 hM hS hc_4 mm_cX47 1 (by decide) (hts _ q2247) (fun _ h9 => h9) rfl hmn rfl (by decide +kernel) (mm_nar_oo _ _) (mm_fit_oo _ _) (Nat.le_of_ble_eq_true rfl) dX47_init_11 (fun H locs hM hS => ?_)
  have hM : mm_P Z.1 mm_cl A (mm_U M_5 h0 (.inr (40, [.int x1, va_rf x2]))) H := hM
  have hc_6 : (mm_U M_5 h0 (.inr (40, [.int x1, va_rf x2]))) h0 = some (.inr (40, [.int x1, va_rf x2])) := mm_U_eq
  obtain ⟨M_7, eM_7⟩ : ∃ z, z = mm_U M_5 h0 (.inr (40, [.int x1, va_rf x2])) := ⟨_, rfl⟩
  rw [← eM_7] at hM hc_6
  exact mm_retv hx hb hr hlk hM hS ⟨rfl, by subst eM_7 eM_5; first | rfl | simp only [mm_U_U]⟩ dX47_init_14 (Nat.le_of_ble_eq_true rfl) (Nat.le_of_ble_eq_true rfl)
set_option maxHeartbeats 4000000 in
set_option maxRecDepth 100000 in
theorem c_X5_init (l : Launch) (Z : mm_G) {M : mm_M} {h0 : Nat} {x1 : Option Nat} {x2 : Option Nat} (h_h0 : M h0 = some (.inr (4, [.null, .null]))) : mm_C l Z yX5_init (ws_ yX5_init cX5_init 3 none) { frames := 1, cells := 0, slots := 0, locals := 12 } [.ref h0, va_rf x1, va_rf x2] M (fun v M' => v = none ∧ M' = mm_U M h0 (.inr (4, [va_rf x1, va_rf x2]))) mm_nx := by
  refine mm_ofW (cc := cX5_init) (maxL := 3) (ret := none) (by decide) rfl (by simp [lg_sl, mm_cat_o, mm_cat_r, mm_cat_i, mm_cat_l, mm_cat_n]) ?_
  intro p e s m below meth c A ls hx hb hr hlk hml hown hmn hts htab hE hST hA hM hS hl
  replace hl : lv_has ls 3 [(0, .ref h0), (1, va_rf x1), (2, va_rf x2)] := by simpa [lv_args, mm_cat_o, mm_cat_r, mm_cat_i, mm_cat_l, mm_cat_n] using hl
  refine lv_aload_n hx hb dX5_init_0 rfl (lv_at hl 0 rfl) ?_
  refine W.objInit hx hb hown (hts _ q594) (hts _ q127) (hts _ q128) rfl (by rw [hml]; exact hl.1) rfl dX5_init_1 (Nat.le_of_ble_eq_true rfl) (Nat.le_of_ble_eq_true rfl) ?_
  refine W.eq (g2 := F0 m 4 ls []) rfl ?_
  refine lv_aload_n hx hb dX5_init_4 rfl (lv_at hl 0 rfl) ?_
  refine mm_aload_n hx hb dX5_init_5 rfl (lv_at hl 1 rfl) ?_
  refine mm_putF (D := Z.1) (ci := 4) (v := va_rf x1) (ty := .object "RowenTongue$Type") (C := RX5) (T := TX5) (N := 2) hx hb hts in_X5 tyX5 tyX5_ok nmX5 hown hE.1 hM hS h_h0 mm_cX5 0 (by decide) (hts _ q595) (fun _ h9 => h9) rfl hmn rfl (by decide +kernel) (mm_nar_oo _ _) (mm_fit_oo _ _) (Nat.le_of_ble_eq_true rfl) dX5_init_6 (fun H locs hM hS => ?_)
  have hM : mm_P Z.1 mm_cl A (mm_U M h0 (.inr (4, [va_rf x1, .null]))) H := hM
  have hc_1 : (mm_U M h0 (.inr (4, [va_rf x1, .null]))) h0 = some (.inr (4, [va_rf x1, .null])) := mm_U_eq
  obtain ⟨M_2, eM_2⟩ : ∃ z, z = mm_U M h0 (.inr (4, [va_rf x1, .null])) := ⟨_, rfl⟩
  rw [← eM_2] at hM hc_1
  refine lv_aload_n hx hb dX5_init_9 rfl (lv_at hl 0 rfl) ?_
  refine mm_aload_n hx hb dX5_init_10 rfl (lv_at hl 2 rfl) ?_
  refine mm_putF (D := Z.1) (ci := 4) (v := va_rf x2) (ty := .object "RowenTongue$Code") (C := RX5) (T := TX5) (N := 2) hx hb hts in_X5 tyX5 tyX5_ok nmX5 hown hE.1 hM hS hc_1 mm_cX5 1 (by decide) (hts _ q598) (fun _ h9 => h9) rfl hmn rfl (by decide +kernel) (mm_nar_oo _ _) (mm_fit_oo _ _) (Nat.le_of_ble_eq_true rfl) dX5_init_11 (fun H locs hM hS => ?_)
  have hM : mm_P Z.1 mm_cl A (mm_U M_2 h0 (.inr (4, [va_rf x1, va_rf x2]))) H := hM
  have hc_3 : (mm_U M_2 h0 (.inr (4, [va_rf x1, va_rf x2]))) h0 = some (.inr (4, [va_rf x1, va_rf x2])) := mm_U_eq
  obtain ⟨M_4, eM_4⟩ : ∃ z, z = mm_U M_2 h0 (.inr (4, [va_rf x1, va_rf x2])) := ⟨_, rfl⟩
  rw [← eM_4] at hM hc_3
  exact mm_retv hx hb hr hlk hM hS ⟨rfl, by subst eM_4 eM_2; first | rfl | simp only [mm_U_U]⟩ dX5_init_14 (Nat.le_of_ble_eq_true rfl) (Nat.le_of_ble_eq_true rfl)
set_option maxHeartbeats 4000000 in
set_option maxRecDepth 100000 in
theorem c_X6_init (l : Launch) (Z : mm_G) {M : mm_M} {h0 : Nat} {x1 : Option Nat} {x2 : Int32} {x3 : Option Nat} {x4 : Option Nat} {x5 : Option Nat} (h_h0 : M h0 = some (.inr (5, [.null, .int 0, .null, .null, .null]))) : mm_C l Z yX6_init (ws_ yX6_init cX6_init 6 none) { frames := 1, cells := 0, slots := 0, locals := 12 } [.ref h0, va_rf x1, .int x2, va_rf x3, va_rf x4, va_rf x5] M (fun v M' => v = none ∧ M' = mm_U M h0 (.inr (5, [va_rf x1, .int x2, va_rf x3, va_rf x4, va_rf x5]))) mm_nx := by
  refine mm_ofW (cc := cX6_init) (maxL := 6) (ret := none) (by decide) rfl (by simp [lg_sl, mm_cat_o, mm_cat_r, mm_cat_i, mm_cat_l, mm_cat_n]) ?_
  intro p e s m below meth c A ls hx hb hr hlk hml hown hmn hts htab hE hST hA hM hS hl
  replace hl : lv_has ls 6 [(0, .ref h0), (1, va_rf x1), (2, .int x2), (3, va_rf x3), (4, va_rf x4), (5, va_rf x5)] := by simpa [lv_args, mm_cat_o, mm_cat_r, mm_cat_i, mm_cat_l, mm_cat_n] using hl
  refine lv_aload_n hx hb dX6_init_0 rfl (lv_at hl 0 rfl) ?_
  refine W.objInit hx hb hown (hts _ q569) (hts _ q127) (hts _ q128) rfl (by rw [hml]; exact hl.1) rfl dX6_init_1 (Nat.le_of_ble_eq_true rfl) (Nat.le_of_ble_eq_true rfl) ?_
  refine W.eq (g2 := F0 m 4 ls []) rfl ?_
  refine lv_aload_n hx hb dX6_init_4 rfl (lv_at hl 0 rfl) ?_
  refine mm_aload_n hx hb dX6_init_5 rfl (lv_at hl 1 rfl) ?_
  refine mm_putF (D := Z.1) (ci := 5) (v := va_rf x1) (ty := .object "java/lang/String") (C := RX6) (T := TX6) (N := 5) hx hb hts in_X6 tyX6 tyX6_ok nmX6 hown hE.1 hM hS h_h0 mm_cX6 0 (by decide) (hts _ q570) (fun _ h9 => h9) rfl hmn rfl (by decide +kernel) (mm_nar_oo _ _) (mm_fit_oo _ _) (Nat.le_of_ble_eq_true rfl) dX6_init_6 (fun H locs hM hS => ?_)
  have hM : mm_P Z.1 mm_cl A (mm_U M h0 (.inr (5, [va_rf x1, .int 0, .null, .null, .null]))) H := hM
  have hc_1 : (mm_U M h0 (.inr (5, [va_rf x1, .int 0, .null, .null, .null]))) h0 = some (.inr (5, [va_rf x1, .int 0, .null, .null, .null])) := mm_U_eq
  obtain ⟨M_2, eM_2⟩ : ∃ z, z = mm_U M h0 (.inr (5, [va_rf x1, .int 0, .null, .null, .null])) := ⟨_, rfl⟩
  rw [← eM_2] at hM hc_1
  refine lv_aload_n hx hb dX6_init_9 rfl (lv_at hl 0 rfl) ?_
  refine lv_iload_n hx hb dX6_init_10 rfl (lv_at hl 2 rfl) ?_
  refine mm_putF (D := Z.1) (ci := 5) (v := .int x2) (ty := .int) (C := RX6) (T := TX6) (N := 5) hx hb hts in_X6 tyX6 tyX6_ok nmX6 hown hE.1 hM hS hc_1 mm_cX6 1 (by decide) (hts _ q572) (fun _ h9 => h9) rfl hmn rfl (by decide +kernel) rfl rfl (Nat.le_of_ble_eq_true rfl) dX6_init_11 (fun H locs hM hS => ?_)
  have hM : mm_P Z.1 mm_cl A (mm_U M_2 h0 (.inr (5, [va_rf x1, .int x2, .null, .null, .null]))) H := hM
  have hc_3 : (mm_U M_2 h0 (.inr (5, [va_rf x1, .int x2, .null, .null, .null]))) h0 = some (.inr (5, [va_rf x1, .int x2, .null, .null, .null])) := mm_U_eq
  obtain ⟨M_4, eM_4⟩ : ∃ z, z = mm_U M_2 h0 (.inr (5, [va_rf x1, .int x2, .null, .null, .null])) := ⟨_, rfl⟩
  rw [← eM_4] at hM hc_3
  refine lv_aload_n hx hb dX6_init_14 rfl (lv_at hl 0 rfl) ?_
  refine mm_aload_n hx hb dX6_init_15 rfl (lv_at hl 3 rfl) ?_
  refine mm_putF (D := Z.1) (ci := 5) (v := va_rf x3) (ty := .object "RowenTongue$Row") (C := RX6) (T := TX6) (N := 5) hx hb hts in_X6 tyX6 tyX6_ok nmX6 hown hE.1 hM hS hc_3 mm_cX6 2 (by decide) (hts _ q574) (fun _ h9 => h9) rfl hmn rfl (by decide +kernel) (mm_nar_oo _ _) (mm_fit_oo _ _) (Nat.le_of_ble_eq_true rfl) dX6_init_16 (fun H locs hM hS => ?_)
  have hM : mm_P Z.1 mm_cl A (mm_U M_4 h0 (.inr (5, [va_rf x1, .int x2, va_rf x3, .null, .null]))) H := hM
  have hc_5 : (mm_U M_4 h0 (.inr (5, [va_rf x1, .int x2, va_rf x3, .null, .null]))) h0 = some (.inr (5, [va_rf x1, .int x2, va_rf x3, .null, .null])) := mm_U_eq
  obtain ⟨M_6, eM_6⟩ : ∃ z, z = mm_U M_4 h0 (.inr (5, [va_rf x1, .int x2, va_rf x3, .null, .null])) := ⟨_, rfl⟩
  rw [← eM_6] at hM hc_5
  refine lv_aload_n hx hb dX6_init_19 rfl (lv_at hl 0 rfl) ?_
  refine mm_aload hx hb dX6_init_20 (lv_at hl 4 rfl) ?_
  refine mm_putF (D := Z.1) (ci := 5) (v := va_rf x4) (ty := .object "java/util/ArrayList") (C := RX6) (T := TX6) (N := 5) hx hb hts in_X6 tyX6 tyX6_ok nmX6 hown hE.1 hM hS hc_5 mm_cX6 3 (by decide) (hts _ q576) (fun _ h9 => h9) rfl hmn rfl (by decide +kernel) (mm_nar_oo _ _) (mm_fit_oo _ _) (Nat.le_of_ble_eq_true rfl) dX6_init_22 (fun H locs hM hS => ?_)
  have hM : mm_P Z.1 mm_cl A (mm_U M_6 h0 (.inr (5, [va_rf x1, .int x2, va_rf x3, va_rf x4, .null]))) H := hM
  have hc_7 : (mm_U M_6 h0 (.inr (5, [va_rf x1, .int x2, va_rf x3, va_rf x4, .null]))) h0 = some (.inr (5, [va_rf x1, .int x2, va_rf x3, va_rf x4, .null])) := mm_U_eq
  obtain ⟨M_8, eM_8⟩ : ∃ z, z = mm_U M_6 h0 (.inr (5, [va_rf x1, .int x2, va_rf x3, va_rf x4, .null])) := ⟨_, rfl⟩
  rw [← eM_8] at hM hc_7
  refine lv_aload_n hx hb dX6_init_25 rfl (lv_at hl 0 rfl) ?_
  refine mm_aload hx hb dX6_init_26 (lv_at hl 5 rfl) ?_
  refine mm_putF (D := Z.1) (ci := 5) (v := va_rf x5) (ty := .array (.object "RowenTongue$Code")) (C := RX6) (T := TX6) (N := 5) hx hb hts in_X6 tyX6 tyX6_ok nmX6 hown hE.1 hM hS hc_7 mm_cX6 4 (by decide) (hts _ q578) (fun _ h9 => h9) rfl hmn rfl (by decide +kernel) (mm_nar_oa _ _) (mm_fit_oa _ _) (Nat.le_of_ble_eq_true rfl) dX6_init_28 (fun H locs hM hS => ?_)
  have hM : mm_P Z.1 mm_cl A (mm_U M_8 h0 (.inr (5, [va_rf x1, .int x2, va_rf x3, va_rf x4, va_rf x5]))) H := hM
  have hc_9 : (mm_U M_8 h0 (.inr (5, [va_rf x1, .int x2, va_rf x3, va_rf x4, va_rf x5]))) h0 = some (.inr (5, [va_rf x1, .int x2, va_rf x3, va_rf x4, va_rf x5])) := mm_U_eq
  obtain ⟨M_10, eM_10⟩ : ∃ z, z = mm_U M_8 h0 (.inr (5, [va_rf x1, .int x2, va_rf x3, va_rf x4, va_rf x5])) := ⟨_, rfl⟩
  rw [← eM_10] at hM hc_9
  exact mm_retv hx hb hr hlk hM hS ⟨rfl, by subst eM_10 eM_8 eM_6 eM_4 eM_2; first | rfl | simp only [mm_U_U]⟩ dX6_init_31 (Nat.le_of_ble_eq_true rfl) (Nat.le_of_ble_eq_true rfl)
set_option maxHeartbeats 4000000 in
set_option maxRecDepth 100000 in
theorem c_X7_init (l : Launch) (Z : mm_G) {M : mm_M} {h0 : Nat}  : mm_C l Z yX7_init (ws_ yX7_init cX7_init 1 none) { frames := 1, cells := 0, slots := 0, locals := 12 } [.ref h0] M (fun v M' => v = none ∧ M' = M) mm_nx := by
  refine mm_ofW (cc := cX7_init) (maxL := 1) (ret := none) (by decide) rfl (Nat.le_of_ble_eq_true rfl) ?_
  intro p e s m below meth c A ls hx hb hr hlk hml hown hmn hts htab hE hST hA hM hS hl
  replace hl : lv_has ls 1 [(0, .ref h0)] := hl
  refine lv_aload_n hx hb dX7_init_0 rfl (lv_at hl 0 rfl) ?_
  refine W.objInit hx hb hown (hts _ q616) (hts _ q127) (hts _ q128) rfl (by rw [hml]; exact hl.1) rfl dX7_init_1 (Nat.le_of_ble_eq_true rfl) (Nat.le_of_ble_eq_true rfl) ?_
  refine W.eq (g2 := F0 m 4 ls []) rfl ?_
  exact mm_retv hx hb hr hlk hM hS ⟨rfl, rfl⟩ dX7_init_4 (Nat.le_of_ble_eq_true rfl) (Nat.le_of_ble_eq_true rfl)
set_option maxHeartbeats 4000000 in
set_option maxRecDepth 100000 in
theorem c_X7_now (l : Launch) (Z : mm_G) {M : mm_M} {h0 : Nat}  : mm_C l Z yX7_now (ws_ yX7_now cX7_now 1 (some (.object "RowenTongue$Type"))) { frames := 0, cells := 0, slots := 0, locals := 0 } [.ref h0] M (fun v M' => v = some (.ref h0) ∧ M' = M) mm_nx := by
  refine mm_ofW (cc := cX7_now) (maxL := 1) (ret := (some (.object "RowenTongue$Type"))) (by decide) rfl (Nat.le_of_ble_eq_true rfl) ?_
  intro p e s m below meth c A ls hx hb hr hlk hml hown hmn hts htab hE hST hA hM hS hl
  replace hl : lv_has ls 1 [(0, .ref h0)] := hl
  refine lv_aload_n hx hb dX7_now_0 rfl (lv_at hl 0 rfl) ?_
  exact mm_reta hx hb hr (Or.inl ⟨_, rfl⟩) (Or.inr ⟨_, rfl⟩) hlk hM hS ⟨rfl, rfl⟩ dX7_now_1 (Nat.le_of_ble_eq_true rfl) (Nat.le_of_ble_eq_true rfl)
set_option maxHeartbeats 4000000 in
set_option maxRecDepth 100000 in
theorem c_X8_init (l : Launch) (Z : mm_G) {M : mm_M} {h0 : Nat} {x1 : Bool} {x2 : Option Nat} (h_h0 : M h0 = some (.inr (6, [.int 0, .null, .null, .null, .null]))) : mm_C l Z yX8_init (ws_ yX8_init cX8_init 3 none) { frames := 2, cells := 0, slots := 0, locals := 32 } [.ref h0, .int (mm_b x1), va_rf x2] M (fun v M' => v = none ∧ M' = mm_U M h0 (.inr (6, [.int (mm_b x1), va_rf x2, .null, .null, .null]))) mm_nx := by
  refine mm_ofW (cc := cX8_init) (maxL := 3) (ret := none) (by decide) rfl (by simp [lg_sl, mm_cat_o, mm_cat_r, mm_cat_i, mm_cat_l, mm_cat_n]) ?_
  intro p e s m below meth c A ls hx hb hr hlk hml hown hmn hts htab hE hST hA hM hS hl
  replace hl : lv_has ls 3 [(0, .ref h0), (1, .int (mm_b x1)), (2, va_rf x2)] := by simpa [lv_args, mm_cat_o, mm_cat_r, mm_cat_i, mm_cat_l, mm_cat_n] using hl
  refine lv_aload_n hx hb dX8_init_0 rfl (lv_at hl 0 rfl) ?_
  refine mm_callIN (As := []) (rest := []) ⟨hx, hb, hml, hown, hts⟩ hE hST hA (c_X7_init l Z (M := M) (h0 := h0) ) ⟨va_cnB 0 hts (lw_meth q615) rfl rfl rfl (hE.2.1 _ q613 rfl) (hts _ q73) (by decide +kernel) ⟨(Nat.le_of_ble_eq_true rfl), (Nat.le_of_ble_eq_true rfl)⟩, rfl, hts _ q614⟩ hM hS rfl hl.1 (Nat.le_of_ble_eq_true rfl) dX8_init_1 rfl ⟨(Nat.le_of_ble_eq_true rfl), (Nat.le_of_ble_eq_true rfl)⟩ (fun _ _ _ _ _ _ h9 => h9.elim) (fun v_1 M_2 H locs hp_3 hM hS => ?_)
  obtain ⟨rfl, eM_2⟩ := hp_3
  rw [eM_2] at hM
  refine lv_aload_n hx hb dX8_init_4 rfl (lv_at hl 0 rfl) ?_
  refine lv_iload_n hx hb dX8_init_5 rfl (lv_at hl 1 rfl) ?_
  refine mm_putF (D := Z.1) (ci := 6) (v := .int (mm_b x1)) (ty := .boolean) (C := RX8) (T := TX8) (N := 5) hx hb hts in_X8 tyX8 tyX8_ok nmX8 hown hE.1 hM hS h_h0 mm_cX8 0 (by decide) (hts _ q617) (fun _ h9 => h9) rfl hmn rfl (by decide +kernel) (mm_b_nar _) (mm_b_fit _) (Nat.le_of_ble_eq_true rfl) dX8_init_6 (fun H locs hM hS => ?_)
  have hM : mm_P Z.1 mm_cl A (mm_U M h0 (.inr (6, [.int (mm_b x1), .null, .null, .null, .null]))) H := hM
  have hc_4 : (mm_U M h0 (.inr (6, [.int (mm_b x1), .null, .null, .null, .null]))) h0 = some (.inr (6, [.int (mm_b x1), .null, .null, .null, .null])) := mm_U_eq
  obtain ⟨M_5, eM_5⟩ : ∃ z, z = mm_U M h0 (.inr (6, [.int (mm_b x1), .null, .null, .null, .null])) := ⟨_, rfl⟩
  rw [← eM_5] at hM hc_4
  refine lv_aload_n hx hb dX8_init_9 rfl (lv_at hl 0 rfl) ?_
  refine mm_aload_n hx hb dX8_init_10 rfl (lv_at hl 2 rfl) ?_
  refine mm_putF (D := Z.1) (ci := 6) (v := va_rf x2) (ty := .object "RowenTongue$Row") (C := RX8) (T := TX8) (N := 5) hx hb hts in_X8 tyX8 tyX8_ok nmX8 hown hE.1 hM hS hc_4 mm_cX8 1 (by decide) (hts _ q621) (fun _ h9 => h9) rfl hmn rfl (by decide +kernel) (mm_nar_oo _ _) (mm_fit_oo _ _) (Nat.le_of_ble_eq_true rfl) dX8_init_11 (fun H locs hM hS => ?_)
  have hM : mm_P Z.1 mm_cl A (mm_U M_5 h0 (.inr (6, [.int (mm_b x1), va_rf x2, .null, .null, .null]))) H := hM
  have hc_6 : (mm_U M_5 h0 (.inr (6, [.int (mm_b x1), va_rf x2, .null, .null, .null]))) h0 = some (.inr (6, [.int (mm_b x1), va_rf x2, .null, .null, .null])) := mm_U_eq
  obtain ⟨M_7, eM_7⟩ : ∃ z, z = mm_U M_5 h0 (.inr (6, [.int (mm_b x1), va_rf x2, .null, .null, .null])) := ⟨_, rfl⟩
  rw [← eM_7] at hM hc_6
  exact mm_retv hx hb hr hlk hM hS ⟨rfl, by subst eM_7 eM_5; first | rfl | simp only [mm_U_U]⟩ dX8_init_14 (Nat.le_of_ble_eq_true rfl) (Nat.le_of_ble_eq_true rfl)
set_option maxHeartbeats 4000000 in
set_option maxRecDepth 100000 in
theorem c_X11_init (l : Launch) (Z : mm_G) {M : mm_M} {h0 : Nat} {x1 : Int32} {x2 : Bool} (h_h0 : M h0 = some (.inr (9, [.null, .int 0, .int 0]))) : mm_C l Z yX11_init (ws_ yX11_init cX11_init 3 none) { frames := 2, cells := 0, slots := 0, locals := 32 } [.ref h0, .int x1, .int (mm_b x2)] M (fun v M' => v = none ∧ M' = mm_U M h0 (.inr (9, [.null, .int x1, .int (mm_b x2)]))) mm_nx := by
  refine mm_ofW (cc := cX11_init) (maxL := 3) (ret := none) (by decide) rfl (Nat.le_of_ble_eq_true rfl) ?_
  intro p e s m below meth c A ls hx hb hr hlk hml hown hmn hts htab hE hST hA hM hS hl
  replace hl : lv_has ls 3 [(0, .ref h0), (1, .int x1), (2, .int (mm_b x2))] := hl
  refine lv_aload_n hx hb dX11_init_0 rfl (lv_at hl 0 rfl) ?_
  refine mm_callIN (As := []) (rest := []) ⟨hx, hb, hml, hown, hts⟩ hE hST hA (c_X7_init l Z (M := M) (h0 := h0) ) ⟨va_cnB 0 hts (lw_meth q615) rfl rfl rfl (hE.2.1 _ q805 rfl) (hts _ q73) (by decide +kernel) ⟨(Nat.le_of_ble_eq_true rfl), (Nat.le_of_ble_eq_true rfl)⟩, rfl, hts _ q614⟩ hM hS rfl hl.1 (Nat.le_of_ble_eq_true rfl) dX11_init_1 rfl ⟨(Nat.le_of_ble_eq_true rfl), (Nat.le_of_ble_eq_true rfl)⟩ (fun _ _ _ _ _ _ h9 => h9.elim) (fun v_1 M_2 H locs hp_3 hM hS => ?_)
  obtain ⟨rfl, eM_2⟩ := hp_3
  rw [eM_2] at hM
  refine lv_aload_n hx hb dX11_init_4 rfl (lv_at hl 0 rfl) ?_
  refine lv_iload_n hx hb dX11_init_5 rfl (lv_at hl 1 rfl) ?_
  refine mm_put (D := Z.1) (ci := 9) (v := .int x1) (ty := .int) (C := RX11) (T := TX11) (N := 3) hx hb hts in_X11 tyX11 tyX11_ok nmX11 hown hE.1 hM hS h_h0 mm_cX11 1 (by decide) (hts _ q808) (fun _ h9 => h9) rfl (by decide +kernel) rfl rfl (Nat.le_of_ble_eq_true rfl) dX11_init_6 (fun H locs hM hS => ?_)
  have hM : mm_P Z.1 mm_cl A (mm_U M h0 (.inr (9, [.null, .int x1, .int 0]))) H := hM
  have hc_4 : (mm_U M h0 (.inr (9, [.null, .int x1, .int 0]))) h0 = some (.inr (9, [.null, .int x1, .int 0])) := mm_U_eq
  obtain ⟨M_5, eM_5⟩ : ∃ z, z = mm_U M h0 (.inr (9, [.null, .int x1, .int 0])) := ⟨_, rfl⟩
  rw [← eM_5] at hM hc_4
  refine lv_aload_n hx hb dX11_init_9 rfl (lv_at hl 0 rfl) ?_
  refine lv_iload_n hx hb dX11_init_10 rfl (lv_at hl 2 rfl) ?_
  refine mm_put (D := Z.1) (ci := 9) (v := .int (mm_b x2)) (ty := .boolean) (C := RX11) (T := TX11) (N := 3) hx hb hts in_X11 tyX11 tyX11_ok nmX11 hown hE.1 hM hS hc_4 mm_cX11 2 (by decide) (hts _ q813) (fun _ h9 => h9) rfl (by decide +kernel) (mm_b_nar _) (mm_b_fit _) (Nat.le_of_ble_eq_true rfl) dX11_init_11 (fun H locs hM hS => ?_)
  have hM : mm_P Z.1 mm_cl A (mm_U M_5 h0 (.inr (9, [.null, .int x1, .int (mm_b x2)]))) H := hM
  have hc_6 : (mm_U M_5 h0 (.inr (9, [.null, .int x1, .int (mm_b x2)]))) h0 = some (.inr (9, [.null, .int x1, .int (mm_b x2)])) := mm_U_eq
  obtain ⟨M_7, eM_7⟩ : ∃ z, z = mm_U M_5 h0 (.inr (9, [.null, .int x1, .int (mm_b x2)])) := ⟨_, rfl⟩
  rw [← eM_7] at hM hc_6
  exact mm_retv hx hb hr hlk hM hS ⟨rfl, by subst eM_7 eM_5; first | rfl | simp only [mm_U_U]⟩ dX11_init_14 (Nat.le_of_ble_eq_true rfl) (Nat.le_of_ble_eq_true rfl)
set_option maxHeartbeats 4000000 in
set_option maxRecDepth 100000 in
theorem c_X12_init (l : Launch) (Z : mm_G) {M : mm_M} {h0 : Nat} {x1 : Option Nat} {x2 : Option Nat} (h_h0 : M h0 = some (.inr (10, [.null, .null, .null, .null, .null]))) : mm_C l Z yX12_init (ws_ yX12_init cX12_init 3 none) { frames := 2, cells := 0, slots := 0, locals := 32 } [.ref h0, va_rf x1, va_rf x2] M (fun v M' => v = none ∧ M' = mm_U M h0 (.inr (10, [va_rf x1, va_rf x2, .null, .null, .null]))) mm_nx := by
  refine mm_ofW (cc := cX12_init) (maxL := 3) (ret := none) (by decide) rfl (by simp [lg_sl, mm_cat_o, mm_cat_r, mm_cat_i, mm_cat_l, mm_cat_n]) ?_
  intro p e s m below meth c A ls hx hb hr hlk hml hown hmn hts htab hE hST hA hM hS hl
  replace hl : lv_has ls 3 [(0, .ref h0), (1, va_rf x1), (2, va_rf x2)] := by simpa [lv_args, mm_cat_o, mm_cat_r, mm_cat_i, mm_cat_l, mm_cat_n] using hl
  refine lv_aload_n hx hb dX12_init_0 rfl (lv_at hl 0 rfl) ?_
  refine mm_callIN (As := []) (rest := []) ⟨hx, hb, hml, hown, hts⟩ hE hST hA (c_X7_init l Z (M := M) (h0 := h0) ) ⟨va_cnB 0 hts (lw_meth q615) rfl rfl rfl (hE.2.1 _ q836 rfl) (hts _ q73) (by decide +kernel) ⟨(Nat.le_of_ble_eq_true rfl), (Nat.le_of_ble_eq_true rfl)⟩, rfl, hts _ q614⟩ hM hS rfl hl.1 (Nat.le_of_ble_eq_true rfl) dX12_init_1 rfl ⟨(Nat.le_of_ble_eq_true rfl), (Nat.le_of_ble_eq_true rfl)⟩ (fun _ _ _ _ _ _ h9 => h9.elim) (fun v_1 M_2 H locs hp_3 hM hS => ?_)
  obtain ⟨rfl, eM_2⟩ := hp_3
  rw [eM_2] at hM
  refine lv_aload_n hx hb dX12_init_4 rfl (lv_at hl 0 rfl) ?_
  refine mm_aload_n hx hb dX12_init_5 rfl (lv_at hl 1 rfl) ?_
  refine mm_putF (D := Z.1) (ci := 10) (v := va_rf x1) (ty := .object "RowenTongue$Type") (C := RX12) (T := TX12) (N := 5) hx hb hts in_X12 tyX12 tyX12_ok nmX12 hown hE.1 hM hS h_h0 mm_cX12 0 (by decide) (hts _ q837) (fun _ h9 => h9) rfl hmn rfl (by decide +kernel) (mm_nar_oo _ _) (mm_fit_oo _ _) (Nat.le_of_ble_eq_true rfl) dX12_init_6 (fun H locs hM hS => ?_)
  have hM : mm_P Z.1 mm_cl A (mm_U M h0 (.inr (10, [va_rf x1, .null, .null, .null, .null]))) H := hM
  have hc_4 : (mm_U M h0 (.inr (10, [va_rf x1, .null, .null, .null, .null]))) h0 = some (.inr (10, [va_rf x1, .null, .null, .null, .null])) := mm_U_eq
  obtain ⟨M_5, eM_5⟩ : ∃ z, z = mm_U M h0 (.inr (10, [va_rf x1, .null, .null, .null, .null])) := ⟨_, rfl⟩
  rw [← eM_5] at hM hc_4
  refine lv_aload_n hx hb dX12_init_9 rfl (lv_at hl 0 rfl) ?_
  refine mm_aload_n hx hb dX12_init_10 rfl (lv_at hl 2 rfl) ?_
  refine mm_putF (D := Z.1) (ci := 10) (v := va_rf x2) (ty := .object "RowenTongue$Type") (C := RX12) (T := TX12) (N := 5) hx hb hts in_X12 tyX12 tyX12_ok nmX12 hown hE.1 hM hS hc_4 mm_cX12 1 (by decide) (hts _ q842) (fun _ h9 => h9) rfl hmn rfl (by decide +kernel) (mm_nar_oo _ _) (mm_fit_oo _ _) (Nat.le_of_ble_eq_true rfl) dX12_init_11 (fun H locs hM hS => ?_)
  have hM : mm_P Z.1 mm_cl A (mm_U M_5 h0 (.inr (10, [va_rf x1, va_rf x2, .null, .null, .null]))) H := hM
  have hc_6 : (mm_U M_5 h0 (.inr (10, [va_rf x1, va_rf x2, .null, .null, .null]))) h0 = some (.inr (10, [va_rf x1, va_rf x2, .null, .null, .null])) := mm_U_eq
  obtain ⟨M_7, eM_7⟩ : ∃ z, z = mm_U M_5 h0 (.inr (10, [va_rf x1, va_rf x2, .null, .null, .null])) := ⟨_, rfl⟩
  rw [← eM_7] at hM hc_6
  exact mm_retv hx hb hr hlk hM hS ⟨rfl, by subst eM_7 eM_5; first | rfl | simp only [mm_U_U]⟩ dX12_init_14 (Nat.le_of_ble_eq_true rfl) (Nat.le_of_ble_eq_true rfl)
set_option maxHeartbeats 4000000 in
set_option maxRecDepth 100000 in
theorem c_X2_lacking (l : Launch) (Z : mm_G) {M : mm_M} {x1 : Int32}  : mm_C l Z yX2_lacking (ws_ yX2_lacking cX2_lacking 2 (some (.object "RowenTongueModel$Row"))) { frames := 2, cells := 1, slots := 7, locals := 33 } [.int x1] M (fun v M' => ∃ q_2 : Nat, M q_2 = none ∧ v = some (.ref q_2) ∧ M' = mm_U M q_2 (.inr (22, [.int 0, .null, .int 0, .null, .null, .int x1, .int 0]))) mm_nx := by
  refine mm_ofW (cc := cX2_lacking) (maxL := 2) (ret := (some (.object "RowenTongueModel$Row"))) (by decide) rfl (Nat.le_of_ble_eq_true rfl) ?_
  intro p e s m below meth c A ls hx hb hr hlk hml hown hmn hts htab hE hST hA hM hS hl
  replace hl : lv_has ls 2 [(0, .int x1)] := hl
  refine mm_new (D := Z.1) (ci := 22) (fs := mm_f0X27) (C := RX27) (T := TX27) (N := 7) hx hb hts in_X27 tyX27 tyX27_ok hown (hts _ q2561) (hts _ q2571) (hts _ q100) hE.1 hM hS hA mm_cX27 mm_dfX27 (Nat.le_of_ble_eq_true rfl) (Nat.le_of_ble_eq_true rfl) dX2_lacking_0 (fun q_2 H nq_1 hM hS => ?_)
  have hM : mm_P Z.1 mm_cl A (mm_U M q_2 (.inr (22, [.int 0, .null, .int 0, .null, .null, .int 0, .int 0]))) H := hM
  have hc_3 : (mm_U M q_2 (.inr (22, [.int 0, .null, .int 0, .null, .null, .int 0, .int 0]))) q_2 = some (.inr (22, [.int 0, .null, .int 0, .null, .null, .int 0, .int 0])) := mm_U_eq
  obtain ⟨M_4, eM_4⟩ : ∃ z, z = mm_U M q_2 (.inr (22, [.int 0, .null, .int 0, .null, .null, .int 0, .int 0])) := ⟨_, rfl⟩
  rw [← eM_4] at hM hc_3
  refine lv_dup hx hb dX2_lacking_3 rfl ?_
  refine lv_iconst (v := 0) hx hb dX2_lacking_4 (by decide) ?_
  refine mm_callI (As := [.int 0]) (rest := [.ref q_2]) ⟨hx, hb, hml, hown, hts⟩ hE hST hA (c_X27_init l Z (M := M_4) (h0 := q_2) (x1 := 0) hc_3) (cwI (maxL := 2) 1 hts (lw_meth q2574) rfl rfl rfl (hts _ q100) (hts _ q2572) (hts _ q2573) rfl (by decide +kernel) ⟨(Nat.le_of_ble_eq_true rfl), (Nat.le_of_ble_eq_true rfl)⟩) hM hS rfl hl.1 (Nat.le_of_ble_eq_true rfl) dX2_lacking_5 rfl ⟨(Nat.le_of_ble_eq_true rfl), (Nat.le_of_ble_eq_true rfl)⟩ (fun _ _ _ _ _ _ h9 => h9.elim) (fun v_5 M_6 H locs hp_7 hM hS => ?_)
  obtain ⟨rfl, eM_6⟩ := hp_7
  rw [eM_6] at hM
  replace hM : mm_P Z.1 mm_cl A (mm_U M_4 q_2 (.inr (22, [.int 0, .null, .int 0, .null, .null, .int 0, .int 0]))) H := hM
  have hc_8 : (mm_U M_4 q_2 (.inr (22, [.int 0, .null, .int 0, .null, .null, .int 0, .int 0]))) q_2 = some (.inr (22, [.int 0, .null, .int 0, .null, .null, .int 0, .int 0])) := mm_U_eq
  obtain ⟨M_9, eM_9⟩ : ∃ z, z = mm_U M_4 q_2 (.inr (22, [.int 0, .null, .int 0, .null, .null, .int 0, .int 0])) := ⟨_, rfl⟩
  rw [← eM_9] at hM hc_8
  refine lv_astore_n hx hb dX2_lacking_8 rfl hl (by decide) rfl (fun ls hl => ?_)
  replace hl : lv_has ls 2 [(1, .ref q_2), (0, .int x1)] := hl
  refine lv_aload_n hx hb dX2_lacking_9 rfl (lv_at hl 0 rfl) ?_
  refine lv_iload_n hx hb dX2_lacking_10 rfl (lv_at hl 1 rfl) ?_
  refine mm_put (D := Z.1) (ci := 22) (v := .int x1) (ty := .int) (C := RX27) (T := TX27) (N := 7) hx hb hts in_X27 tyX27 tyX27_ok nmX27 hown hE.1 hM hS hc_8 mm_cX27 5 (by decide) (hts _ q2583) (fun _ h9 => h9) rfl (by decide +kernel) rfl rfl (Nat.le_of_ble_eq_true rfl) dX2_lacking_11 (fun H locs hM hS => ?_)
  have hM : mm_P Z.1 mm_cl A (mm_U M_9 q_2 (.inr (22, [.int 0, .null, .int 0, .null, .null, .int x1, .int 0]))) H := hM
  have hc_10 : (mm_U M_9 q_2 (.inr (22, [.int 0, .null, .int 0, .null, .null, .int x1, .int 0]))) q_2 = some (.inr (22, [.int 0, .null, .int 0, .null, .null, .int x1, .int 0])) := mm_U_eq
  obtain ⟨M_11, eM_11⟩ : ∃ z, z = mm_U M_9 q_2 (.inr (22, [.int 0, .null, .int 0, .null, .null, .int x1, .int 0])) := ⟨_, rfl⟩
  rw [← eM_11] at hM hc_10
  refine lv_aload_n hx hb dX2_lacking_14 rfl (lv_at hl 0 rfl) ?_
  exact mm_reta hx hb hr (Or.inl ⟨_, rfl⟩) (Or.inr ⟨_, rfl⟩) hlk hM hS ⟨q_2, nq_1, rfl, by subst eM_11 eM_9 eM_4; (funext z9; simp only [mm_U]; (repeat' split) <;> simp_all)⟩ dX2_lacking_15 (Nat.le_of_ble_eq_true rfl) (Nat.le_of_ble_eq_true rfl)
set_option maxHeartbeats 4000000 in
set_option maxRecDepth 100000 in
theorem c_X2_function (l : Launch) (Z : mm_G) {M : mm_M} {x1 : Option Nat} {x2 : Option Nat}  : mm_C l Z yX2_function (ws_ yX2_function cX2_function 3 (some (.object "RowenTongueModel$Type"))) { frames := 2, cells := 1, slots := 8, locals := 33 } [va_rf x1, va_rf x2] M (fun v M' => ∃ q_2 : Nat, M q_2 = none ∧ v = some (.ref q_2) ∧ M' = mm_U M q_2 (.inr (20, [.int 2, .null, va_rf x1, va_rf x2, .null, .int 0, .long 0, .null]))) mm_nx := by
  refine mm_ofW (cc := cX2_function) (maxL := 3) (ret := (some (.object "RowenTongueModel$Type"))) (by decide) rfl (by simp [lg_sl, mm_cat_o, mm_cat_r, mm_cat_i, mm_cat_l, mm_cat_n]) ?_
  intro p e s m below meth c A ls hx hb hr hlk hml hown hmn hts htab hE hST hA hM hS hl
  replace hl : lv_has ls 3 [(0, va_rf x1), (1, va_rf x2)] := by simpa [lv_args, mm_cat_o, mm_cat_r, mm_cat_i, mm_cat_l, mm_cat_n] using hl
  refine mm_new (D := Z.1) (ci := 20) (fs := mm_f0X25) (C := RX25) (T := TX25) (N := 8) hx hb hts in_X25 tyX25 tyX25_ok hown (hts _ q2497) (hts _ q2498) (hts _ q98) hE.1 hM hS hA mm_cX25 mm_dfX25 (Nat.le_of_ble_eq_true rfl) (Nat.le_of_ble_eq_true rfl) dX2_function_0 (fun q_2 H nq_1 hM hS => ?_)
  have hM : mm_P Z.1 mm_cl A (mm_U M q_2 (.inr (20, [.int 0, .null, .null, .null, .null, .int 0, .long 0, .null]))) H := hM
  have hc_3 : (mm_U M q_2 (.inr (20, [.int 0, .null, .null, .null, .null, .int 0, .long 0, .null]))) q_2 = some (.inr (20, [.int 0, .null, .null, .null, .null, .int 0, .long 0, .null])) := mm_U_eq
  obtain ⟨M_4, eM_4⟩ : ∃ z, z = mm_U M q_2 (.inr (20, [.int 0, .null, .null, .null, .null, .int 0, .long 0, .null])) := ⟨_, rfl⟩
  rw [← eM_4] at hM hc_3
  refine lv_dup hx hb dX2_function_3 rfl ?_
  refine lv_iconst (v := 2) hx hb dX2_function_4 (by decide) ?_
  refine mm_callI (As := [.int 2]) (rest := [.ref q_2]) ⟨hx, hb, hml, hown, hts⟩ hE hST hA (c_X25_init l Z (M := M_4) (h0 := q_2) (x1 := 2) hc_3) (cwI (maxL := 2) 1 hts (lw_meth q2501) rfl rfl rfl (hts _ q98) (hts _ q2499) (hts _ q2500) rfl (by decide +kernel) ⟨(Nat.le_of_ble_eq_true rfl), (Nat.le_of_ble_eq_true rfl)⟩) hM hS rfl hl.1 (Nat.le_of_ble_eq_true rfl) dX2_function_5 rfl ⟨(Nat.le_of_ble_eq_true rfl), (Nat.le_of_ble_eq_true rfl)⟩ (fun _ _ _ _ _ _ h9 => h9.elim) (fun v_5 M_6 H locs hp_7 hM hS => ?_)
  obtain ⟨rfl, eM_6⟩ := hp_7
  rw [eM_6] at hM
  replace hM : mm_P Z.1 mm_cl A (mm_U M_4 q_2 (.inr (20, [.int 2, .null, .null, .null, .null, .int 0, .long 0, .null]))) H := hM
  have hc_8 : (mm_U M_4 q_2 (.inr (20, [.int 2, .null, .null, .null, .null, .int 0, .long 0, .null]))) q_2 = some (.inr (20, [.int 2, .null, .null, .null, .null, .int 0, .long 0, .null])) := mm_U_eq
  obtain ⟨M_9, eM_9⟩ : ∃ z, z = mm_U M_4 q_2 (.inr (20, [.int 2, .null, .null, .null, .null, .int 0, .long 0, .null])) := ⟨_, rfl⟩
  rw [← eM_9] at hM hc_8
  refine lv_astore_n (lv' := [(2, .ref q_2), (0, va_rf x1), (1, va_rf x2)]) hx hb dX2_function_8 rfl hl (by decide) (by simp [mm_cat_o, mm_cat_r, mm_cat_i, mm_cat_n, mm_cat_l] <;> decide) (fun ls hl => ?_)
  refine lv_aload_n hx hb dX2_function_9 rfl (lv_at hl 0 rfl) ?_
  refine mm_aload_n hx hb dX2_function_10 rfl (lv_at hl 1 rfl) ?_
  refine mm_put (D := Z.1) (ci := 20) (v := va_rf x1) (ty := .object "RowenTongueModel$Type") (C := RX25) (T := TX25) (N := 8) hx hb hts in_X25 tyX25 tyX25_ok nmX25 hown hE.1 hM hS hc_8 mm_cX25 2 (by decide) (hts _ q2507) (fun _ h9 => h9) rfl (by decide +kernel) (mm_nar_oo _ _) (mm_fit_oo _ _) (Nat.le_of_ble_eq_true rfl) dX2_function_11 (fun H locs hM hS => ?_)
  have hM : mm_P Z.1 mm_cl A (mm_U M_9 q_2 (.inr (20, [.int 2, .null, va_rf x1, .null, .null, .int 0, .long 0, .null]))) H := hM
  have hc_10 : (mm_U M_9 q_2 (.inr (20, [.int 2, .null, va_rf x1, .null, .null, .int 0, .long 0, .null]))) q_2 = some (.inr (20, [.int 2, .null, va_rf x1, .null, .null, .int 0, .long 0, .null])) := mm_U_eq
  obtain ⟨M_11, eM_11⟩ : ∃ z, z = mm_U M_9 q_2 (.inr (20, [.int 2, .null, va_rf x1, .null, .null, .int 0, .long 0, .null])) := ⟨_, rfl⟩
  rw [← eM_11] at hM hc_10
  refine lv_aload_n hx hb dX2_function_14 rfl (lv_at hl 0 rfl) ?_
  refine mm_aload_n hx hb dX2_function_15 rfl (lv_at hl 2 rfl) ?_
  refine mm_put (D := Z.1) (ci := 20) (v := va_rf x2) (ty := .object "RowenTongueModel$Type") (C := RX25) (T := TX25) (N := 8) hx hb hts in_X25 tyX25 tyX25_ok nmX25 hown hE.1 hM hS hc_10 mm_cX25 3 (by decide) (hts _ q2508) (fun _ h9 => h9) rfl (by decide +kernel) (mm_nar_oo _ _) (mm_fit_oo _ _) (Nat.le_of_ble_eq_true rfl) dX2_function_16 (fun H locs hM hS => ?_)
  have hM : mm_P Z.1 mm_cl A (mm_U M_11 q_2 (.inr (20, [.int 2, .null, va_rf x1, va_rf x2, .null, .int 0, .long 0, .null]))) H := hM
  have hc_12 : (mm_U M_11 q_2 (.inr (20, [.int 2, .null, va_rf x1, va_rf x2, .null, .int 0, .long 0, .null]))) q_2 = some (.inr (20, [.int 2, .null, va_rf x1, va_rf x2, .null, .int 0, .long 0, .null])) := mm_U_eq
  obtain ⟨M_13, eM_13⟩ : ∃ z, z = mm_U M_11 q_2 (.inr (20, [.int 2, .null, va_rf x1, va_rf x2, .null, .int 0, .long 0, .null])) := ⟨_, rfl⟩
  rw [← eM_13] at hM hc_12
  refine lv_aload_n hx hb dX2_function_19 rfl (lv_at hl 0 rfl) ?_
  exact mm_reta hx hb hr (Or.inl ⟨_, rfl⟩) (Or.inr ⟨_, rfl⟩) hlk hM hS ⟨q_2, nq_1, rfl, by subst eM_13 eM_11 eM_9 eM_4; (funext z9; simp only [mm_U]; (repeat' split) <;> simp_all)⟩ dX2_function_20 (Nat.le_of_ble_eq_true rfl) (Nat.le_of_ble_eq_true rfl)
set_option maxHeartbeats 4000000 in
set_option maxRecDepth 100000 in
theorem c_X2_row (l : Launch) (Z : mm_G) {M : mm_M} {x1 : Int32} {x2 : Option Nat} {x3 : Option Nat}  : mm_C l Z yX2_row (ws_ yX2_row cX2_row 4 (some (.object "RowenTongueModel$Row"))) { frames := 2, cells := 1, slots := 7, locals := 33 } [.int x1, va_rf x2, va_rf x3] M (fun v M' => ∃ q_2 : Nat, M q_2 = none ∧ v = some (.ref q_2) ∧ M' = mm_U M q_2 (.inr (22, [.int 2, .null, .int x1, va_rf x2, va_rf x3, .int 0, .int 0]))) mm_nx := by
  refine mm_ofW (cc := cX2_row) (maxL := 4) (ret := (some (.object "RowenTongueModel$Row"))) (by decide) rfl (by simp [lg_sl, mm_cat_o, mm_cat_r, mm_cat_i, mm_cat_l, mm_cat_n]) ?_
  intro p e s m below meth c A ls hx hb hr hlk hml hown hmn hts htab hE hST hA hM hS hl
  replace hl : lv_has ls 4 [(0, .int x1), (1, va_rf x2), (2, va_rf x3)] := by simpa [lv_args, mm_cat_o, mm_cat_r, mm_cat_i, mm_cat_l, mm_cat_n] using hl
  refine mm_new (D := Z.1) (ci := 22) (fs := mm_f0X27) (C := RX27) (T := TX27) (N := 7) hx hb hts in_X27 tyX27 tyX27_ok hown (hts _ q2561) (hts _ q2571) (hts _ q100) hE.1 hM hS hA mm_cX27 mm_dfX27 (Nat.le_of_ble_eq_true rfl) (Nat.le_of_ble_eq_true rfl) dX2_row_0 (fun q_2 H nq_1 hM hS => ?_)
  have hM : mm_P Z.1 mm_cl A (mm_U M q_2 (.inr (22, [.int 0, .null, .int 0, .null, .null, .int 0, .int 0]))) H := hM
  have hc_3 : (mm_U M q_2 (.inr (22, [.int 0, .null, .int 0, .null, .null, .int 0, .int 0]))) q_2 = some (.inr (22, [.int 0, .null, .int 0, .null, .null, .int 0, .int 0])) := mm_U_eq
  obtain ⟨M_4, eM_4⟩ : ∃ z, z = mm_U M q_2 (.inr (22, [.int 0, .null, .int 0, .null, .null, .int 0, .int 0])) := ⟨_, rfl⟩
  rw [← eM_4] at hM hc_3
  refine lv_dup hx hb dX2_row_3 rfl ?_
  refine lv_iconst (v := 2) hx hb dX2_row_4 (by decide) ?_
  refine mm_callI (As := [.int 2]) (rest := [.ref q_2]) ⟨hx, hb, hml, hown, hts⟩ hE hST hA (c_X27_init l Z (M := M_4) (h0 := q_2) (x1 := 2) hc_3) (cwI (maxL := 2) 1 hts (lw_meth q2574) rfl rfl rfl (hts _ q100) (hts _ q2572) (hts _ q2573) rfl (by decide +kernel) ⟨(Nat.le_of_ble_eq_true rfl), (Nat.le_of_ble_eq_true rfl)⟩) hM hS rfl hl.1 (Nat.le_of_ble_eq_true rfl) dX2_row_5 rfl ⟨(Nat.le_of_ble_eq_true rfl), (Nat.le_of_ble_eq_true rfl)⟩ (fun _ _ _ _ _ _ h9 => h9.elim) (fun v_5 M_6 H locs hp_7 hM hS => ?_)
  obtain ⟨rfl, eM_6⟩ := hp_7
  rw [eM_6] at hM
  replace hM : mm_P Z.1 mm_cl A (mm_U M_4 q_2 (.inr (22, [.int 2, .null, .int 0, .null, .null, .int 0, .int 0]))) H := hM
  have hc_8 : (mm_U M_4 q_2 (.inr (22, [.int 2, .null, .int 0, .null, .null, .int 0, .int 0]))) q_2 = some (.inr (22, [.int 2, .null, .int 0, .null, .null, .int 0, .int 0])) := mm_U_eq
  obtain ⟨M_9, eM_9⟩ : ∃ z, z = mm_U M_4 q_2 (.inr (22, [.int 2, .null, .int 0, .null, .null, .int 0, .int 0])) := ⟨_, rfl⟩
  rw [← eM_9] at hM hc_8
  refine lv_astore_n (lv' := [(3, .ref q_2), (0, .int x1), (1, va_rf x2), (2, va_rf x3)]) hx hb dX2_row_8 rfl hl (by decide) (by simp [mm_cat_o, mm_cat_r, mm_cat_i, mm_cat_n, mm_cat_l] <;> decide) (fun ls hl => ?_)
  refine lv_aload_n hx hb dX2_row_9 rfl (lv_at hl 0 rfl) ?_
  refine lv_iload_n hx hb dX2_row_10 rfl (lv_at hl 1 rfl) ?_
  refine mm_put (D := Z.1) (ci := 22) (v := .int x1) (ty := .int) (C := RX27) (T := TX27) (N := 7) hx hb hts in_X27 tyX27 tyX27_ok nmX27 hown hE.1 hM hS hc_8 mm_cX27 2 (by decide) (hts _ q2580) (fun _ h9 => h9) rfl (by decide +kernel) rfl rfl (Nat.le_of_ble_eq_true rfl) dX2_row_11 (fun H locs hM hS => ?_)
  have hM : mm_P Z.1 mm_cl A (mm_U M_9 q_2 (.inr (22, [.int 2, .null, .int x1, .null, .null, .int 0, .int 0]))) H := hM
  have hc_10 : (mm_U M_9 q_2 (.inr (22, [.int 2, .null, .int x1, .null, .null, .int 0, .int 0]))) q_2 = some (.inr (22, [.int 2, .null, .int x1, .null, .null, .int 0, .int 0])) := mm_U_eq
  obtain ⟨M_11, eM_11⟩ : ∃ z, z = mm_U M_9 q_2 (.inr (22, [.int 2, .null, .int x1, .null, .null, .int 0, .int 0])) := ⟨_, rfl⟩
  rw [← eM_11] at hM hc_10
  refine lv_aload_n hx hb dX2_row_14 rfl (lv_at hl 0 rfl) ?_
  refine mm_aload_n hx hb dX2_row_15 rfl (lv_at hl 2 rfl) ?_
  refine mm_put (D := Z.1) (ci := 22) (v := va_rf x2) (ty := .object "RowenTongueModel$Type") (C := RX27) (T := TX27) (N := 7) hx hb hts in_X27 tyX27 tyX27_ok nmX27 hown hE.1 hM hS hc_10 mm_cX27 3 (by decide) (hts _ q2581) (fun _ h9 => h9) rfl (by decide +kernel) (mm_nar_oo _ _) (mm_fit_oo _ _) (Nat.le_of_ble_eq_true rfl) dX2_row_16 (fun H locs hM hS => ?_)
  have hM : mm_P Z.1 mm_cl A (mm_U M_11 q_2 (.inr (22, [.int 2, .null, .int x1, va_rf x2, .null, .int 0, .int 0]))) H := hM
  have hc_12 : (mm_U M_11 q_2 (.inr (22, [.int 2, .null, .int x1, va_rf x2, .null, .int 0, .int 0]))) q_2 = some (.inr (22, [.int 2, .null, .int x1, va_rf x2, .null, .int 0, .int 0])) := mm_U_eq
  obtain ⟨M_13, eM_13⟩ : ∃ z, z = mm_U M_11 q_2 (.inr (22, [.int 2, .null, .int x1, va_rf x2, .null, .int 0, .int 0])) := ⟨_, rfl⟩
  rw [← eM_13] at hM hc_12
  refine lv_aload_n hx hb dX2_row_19 rfl (lv_at hl 0 rfl) ?_
  refine mm_aload_n hx hb dX2_row_20 rfl (lv_at hl 3 rfl) ?_
  refine mm_put (D := Z.1) (ci := 22) (v := va_rf x3) (ty := .object "RowenTongueModel$Row") (C := RX27) (T := TX27) (N := 7) hx hb hts in_X27 tyX27 tyX27_ok nmX27 hown hE.1 hM hS hc_12 mm_cX27 4 (by decide) (hts _ q2582) (fun _ h9 => h9) rfl (by decide +kernel) (mm_nar_oo _ _) (mm_fit_oo _ _) (Nat.le_of_ble_eq_true rfl) dX2_row_21 (fun H locs hM hS => ?_)
  have hM : mm_P Z.1 mm_cl A (mm_U M_13 q_2 (.inr (22, [.int 2, .null, .int x1, va_rf x2, va_rf x3, .int 0, .int 0]))) H := hM
  have hc_14 : (mm_U M_13 q_2 (.inr (22, [.int 2, .null, .int x1, va_rf x2, va_rf x3, .int 0, .int 0]))) q_2 = some (.inr (22, [.int 2, .null, .int x1, va_rf x2, va_rf x3, .int 0, .int 0])) := mm_U_eq
  obtain ⟨M_15, eM_15⟩ : ∃ z, z = mm_U M_13 q_2 (.inr (22, [.int 2, .null, .int x1, va_rf x2, va_rf x3, .int 0, .int 0])) := ⟨_, rfl⟩
  rw [← eM_15] at hM hc_14
  refine lv_aload_n hx hb dX2_row_24 rfl (lv_at hl 0 rfl) ?_
  exact mm_reta hx hb hr (Or.inl ⟨_, rfl⟩) (Or.inr ⟨_, rfl⟩) hlk hM hS ⟨q_2, nq_1, rfl, by subst eM_15 eM_13 eM_11 eM_9 eM_4; (funext z9; simp only [mm_U]; (repeat' split) <;> simp_all)⟩ dX2_row_25 (Nat.le_of_ble_eq_true rfl) (Nat.le_of_ble_eq_true rfl)
set_option maxHeartbeats 4000000 in
set_option maxRecDepth 100000 in
theorem c_X2_of (l : Launch) (Z : mm_G) {M : mm_M} {x1 : Int32} {x2 : Option Nat}  : mm_C l Z yX2_of (ws_ yX2_of cX2_of 3 (some (.object "RowenTongueModel$Type"))) { frames := 2, cells := 1, slots := 8, locals := 33 } [.int x1, va_rf x2] M (fun v M' => ∃ q_2 : Nat, M q_2 = none ∧ v = some (.ref q_2) ∧ M' = mm_U M q_2 (.inr (20, [.int x1, .null, .null, .null, va_rf x2, .int 0, .long 0, .null]))) mm_nx := by
  refine mm_ofW (cc := cX2_of) (maxL := 3) (ret := (some (.object "RowenTongueModel$Type"))) (by decide) rfl (by simp [lg_sl, mm_cat_o, mm_cat_r, mm_cat_i, mm_cat_l, mm_cat_n]) ?_
  intro p e s m below meth c A ls hx hb hr hlk hml hown hmn hts htab hE hST hA hM hS hl
  replace hl : lv_has ls 3 [(0, .int x1), (1, va_rf x2)] := by simpa [lv_args, mm_cat_o, mm_cat_r, mm_cat_i, mm_cat_l, mm_cat_n] using hl
  refine mm_new (D := Z.1) (ci := 20) (fs := mm_f0X25) (C := RX25) (T := TX25) (N := 8) hx hb hts in_X25 tyX25 tyX25_ok hown (hts _ q2497) (hts _ q2498) (hts _ q98) hE.1 hM hS hA mm_cX25 mm_dfX25 (Nat.le_of_ble_eq_true rfl) (Nat.le_of_ble_eq_true rfl) dX2_of_0 (fun q_2 H nq_1 hM hS => ?_)
  have hM : mm_P Z.1 mm_cl A (mm_U M q_2 (.inr (20, [.int 0, .null, .null, .null, .null, .int 0, .long 0, .null]))) H := hM
  have hc_3 : (mm_U M q_2 (.inr (20, [.int 0, .null, .null, .null, .null, .int 0, .long 0, .null]))) q_2 = some (.inr (20, [.int 0, .null, .null, .null, .null, .int 0, .long 0, .null])) := mm_U_eq
  obtain ⟨M_4, eM_4⟩ : ∃ z, z = mm_U M q_2 (.inr (20, [.int 0, .null, .null, .null, .null, .int 0, .long 0, .null])) := ⟨_, rfl⟩
  rw [← eM_4] at hM hc_3
  refine lv_dup hx hb dX2_of_3 rfl ?_
  refine lv_iload_n hx hb dX2_of_4 rfl (lv_at hl 0 rfl) ?_
  refine mm_callI (As := [.int x1]) (rest := [.ref q_2]) ⟨hx, hb, hml, hown, hts⟩ hE hST hA (c_X25_init l Z (M := M_4) (h0 := q_2) (x1 := x1) hc_3) (cwI (maxL := 2) 1 hts (lw_meth q2501) rfl rfl rfl (hts _ q98) (hts _ q2499) (hts _ q2500) rfl (by decide +kernel) ⟨(Nat.le_of_ble_eq_true rfl), (Nat.le_of_ble_eq_true rfl)⟩) hM hS rfl hl.1 (Nat.le_of_ble_eq_true rfl) dX2_of_5 rfl ⟨(Nat.le_of_ble_eq_true rfl), (Nat.le_of_ble_eq_true rfl)⟩ (fun _ _ _ _ _ _ h9 => h9.elim) (fun v_5 M_6 H locs hp_7 hM hS => ?_)
  obtain ⟨rfl, eM_6⟩ := hp_7
  rw [eM_6] at hM
  replace hM : mm_P Z.1 mm_cl A (mm_U M_4 q_2 (.inr (20, [.int x1, .null, .null, .null, .null, .int 0, .long 0, .null]))) H := hM
  have hc_8 : (mm_U M_4 q_2 (.inr (20, [.int x1, .null, .null, .null, .null, .int 0, .long 0, .null]))) q_2 = some (.inr (20, [.int x1, .null, .null, .null, .null, .int 0, .long 0, .null])) := mm_U_eq
  obtain ⟨M_9, eM_9⟩ : ∃ z, z = mm_U M_4 q_2 (.inr (20, [.int x1, .null, .null, .null, .null, .int 0, .long 0, .null])) := ⟨_, rfl⟩
  rw [← eM_9] at hM hc_8
  refine lv_astore_n (lv' := [(2, .ref q_2), (0, .int x1), (1, va_rf x2)]) hx hb dX2_of_8 rfl hl (by decide) (by simp [mm_cat_o, mm_cat_r, mm_cat_i, mm_cat_n, mm_cat_l] <;> decide) (fun ls hl => ?_)
  refine lv_aload_n hx hb dX2_of_9 rfl (lv_at hl 0 rfl) ?_
  refine mm_aload_n hx hb dX2_of_10 rfl (lv_at hl 2 rfl) ?_
  refine mm_put (D := Z.1) (ci := 20) (v := va_rf x2) (ty := .object "RowenTongueModel$Row") (C := RX25) (T := TX25) (N := 8) hx hb hts in_X25 tyX25 tyX25_ok nmX25 hown hE.1 hM hS hc_8 mm_cX25 4 (by decide) (hts _ q2509) (fun _ h9 => h9) rfl (by decide +kernel) (mm_nar_oo _ _) (mm_fit_oo _ _) (Nat.le_of_ble_eq_true rfl) dX2_of_11 (fun H locs hM hS => ?_)
  have hM : mm_P Z.1 mm_cl A (mm_U M_9 q_2 (.inr (20, [.int x1, .null, .null, .null, va_rf x2, .int 0, .long 0, .null]))) H := hM
  have hc_10 : (mm_U M_9 q_2 (.inr (20, [.int x1, .null, .null, .null, va_rf x2, .int 0, .long 0, .null]))) q_2 = some (.inr (20, [.int x1, .null, .null, .null, va_rf x2, .int 0, .long 0, .null])) := mm_U_eq
  obtain ⟨M_11, eM_11⟩ : ∃ z, z = mm_U M_9 q_2 (.inr (20, [.int x1, .null, .null, .null, va_rf x2, .int 0, .long 0, .null])) := ⟨_, rfl⟩
  rw [← eM_11] at hM hc_10
  refine lv_aload_n hx hb dX2_of_14 rfl (lv_at hl 0 rfl) ?_
  exact mm_reta hx hb hr (Or.inl ⟨_, rfl⟩) (Or.inr ⟨_, rfl⟩) hlk hM hS ⟨q_2, nq_1, rfl, by subst eM_11 eM_9 eM_4; (funext z9; simp only [mm_U]; (repeat' split) <;> simp_all)⟩ dX2_of_15 (Nat.le_of_ble_eq_true rfl) (Nat.le_of_ble_eq_true rfl)
set_option maxHeartbeats 4000000 in
set_option maxRecDepth 100000 in
theorem c_X2_value (l : Launch) (Z : mm_G) {M : mm_M} {x1 : Int32} {x2 : Int32}  : mm_C l Z yX2_value (ws_ yX2_value cX2_value 3 (some (.object "RowenTongueModel$Value"))) { frames := 2, cells := 1, slots := 5, locals := 32 } [.int x1, .int x2] M (fun v M' => ∃ q_2 : Nat, M q_2 = none ∧ v = some (.ref q_2) ∧ M' = mm_U M q_2 (.inr (32, [.int x1, .int x2, .null, .null, .null]))) mm_nx := by
  refine mm_ofW (cc := cX2_value) (maxL := 3) (ret := (some (.object "RowenTongueModel$Value"))) (by decide) rfl (Nat.le_of_ble_eq_true rfl) ?_
  intro p e s m below meth c A ls hx hb hr hlk hml hown hmn hts htab hE hST hA hM hS hl
  replace hl : lv_has ls 3 [(0, .int x1), (1, .int x2)] := hl
  refine mm_new (D := Z.1) (ci := 32) (fs := mm_f0X38) (C := RX38) (T := TX38) (N := 5) hx hb hts in_X38 tyX38 tyX38_ok hown (hts _ q2776) (hts _ q2777) (hts _ q111) hE.1 hM hS hA mm_cX38 mm_dfX38 (Nat.le_of_ble_eq_true rfl) (Nat.le_of_ble_eq_true rfl) dX2_value_0 (fun q_2 H nq_1 hM hS => ?_)
  have hM : mm_P Z.1 mm_cl A (mm_U M q_2 (.inr (32, [.int 0, .int 0, .null, .null, .null]))) H := hM
  have hc_3 : (mm_U M q_2 (.inr (32, [.int 0, .int 0, .null, .null, .null]))) q_2 = some (.inr (32, [.int 0, .int 0, .null, .null, .null])) := mm_U_eq
  obtain ⟨M_4, eM_4⟩ : ∃ z, z = mm_U M q_2 (.inr (32, [.int 0, .int 0, .null, .null, .null])) := ⟨_, rfl⟩
  rw [← eM_4] at hM hc_3
  refine lv_dup hx hb dX2_value_3 rfl ?_
  refine mm_callIN (As := []) (rest := [.ref q_2]) ⟨hx, hb, hml, hown, hts⟩ hE hST hA (c_X38_init l Z (M := M_4) (h0 := q_2) hc_3) ⟨va_cnB 0 hts (lw_meth q2780) rfl rfl rfl (hE.2.1 _ q2778 rfl) (hts _ q111) (by decide +kernel) ⟨(Nat.le_of_ble_eq_true rfl), (Nat.le_of_ble_eq_true rfl)⟩, rfl, hts _ q2779⟩ hM hS rfl hl.1 (Nat.le_of_ble_eq_true rfl) dX2_value_4 rfl ⟨(Nat.le_of_ble_eq_true rfl), (Nat.le_of_ble_eq_true rfl)⟩ (fun _ _ _ _ _ _ h9 => h9.elim) (fun v_5 M_6 H locs hp_7 hM hS => ?_)
  obtain ⟨rfl, eM_6⟩ := hp_7
  rw [eM_6] at hM
  refine lv_astore_n hx hb dX2_value_7 rfl hl (by decide) rfl (fun ls hl => ?_)
  replace hl : lv_has ls 3 [(2, .ref q_2), (0, .int x1), (1, .int x2)] := hl
  refine lv_aload_n hx hb dX2_value_8 rfl (lv_at hl 0 rfl) ?_
  refine lv_iload_n hx hb dX2_value_9 rfl (lv_at hl 1 rfl) ?_
  refine mm_put (D := Z.1) (ci := 32) (v := .int x1) (ty := .int) (C := RX38) (T := TX38) (N := 5) hx hb hts in_X38 tyX38 tyX38_ok nmX38 hown hE.1 hM hS hc_3 mm_cX38 0 (by decide) (hts _ q2782) (fun _ h9 => h9) rfl (by decide +kernel) rfl rfl (Nat.le_of_ble_eq_true rfl) dX2_value_10 (fun H locs hM hS => ?_)
  have hM : mm_P Z.1 mm_cl A (mm_U M_4 q_2 (.inr (32, [.int x1, .int 0, .null, .null, .null]))) H := hM
  have hc_8 : (mm_U M_4 q_2 (.inr (32, [.int x1, .int 0, .null, .null, .null]))) q_2 = some (.inr (32, [.int x1, .int 0, .null, .null, .null])) := mm_U_eq
  obtain ⟨M_9, eM_9⟩ : ∃ z, z = mm_U M_4 q_2 (.inr (32, [.int x1, .int 0, .null, .null, .null])) := ⟨_, rfl⟩
  rw [← eM_9] at hM hc_8
  refine lv_aload_n hx hb dX2_value_13 rfl (lv_at hl 0 rfl) ?_
  refine lv_iload_n hx hb dX2_value_14 rfl (lv_at hl 2 rfl) ?_
  refine mm_put (D := Z.1) (ci := 32) (v := .int x2) (ty := .int) (C := RX38) (T := TX38) (N := 5) hx hb hts in_X38 tyX38 tyX38_ok nmX38 hown hE.1 hM hS hc_8 mm_cX38 1 (by decide) (hts _ q2783) (fun _ h9 => h9) rfl (by decide +kernel) rfl rfl (Nat.le_of_ble_eq_true rfl) dX2_value_15 (fun H locs hM hS => ?_)
  have hM : mm_P Z.1 mm_cl A (mm_U M_9 q_2 (.inr (32, [.int x1, .int x2, .null, .null, .null]))) H := hM
  have hc_10 : (mm_U M_9 q_2 (.inr (32, [.int x1, .int x2, .null, .null, .null]))) q_2 = some (.inr (32, [.int x1, .int x2, .null, .null, .null])) := mm_U_eq
  obtain ⟨M_11, eM_11⟩ : ∃ z, z = mm_U M_9 q_2 (.inr (32, [.int x1, .int x2, .null, .null, .null])) := ⟨_, rfl⟩
  rw [← eM_11] at hM hc_10
  refine lv_aload_n hx hb dX2_value_18 rfl (lv_at hl 0 rfl) ?_
  exact mm_reta hx hb hr (Or.inl ⟨_, rfl⟩) (Or.inr ⟨_, rfl⟩) hlk hM hS ⟨q_2, nq_1, rfl, by subst eM_11 eM_9 eM_4; (funext z9; simp only [mm_U]; (repeat' split) <;> simp_all)⟩ dX2_value_19 (Nat.le_of_ble_eq_true rfl) (Nat.le_of_ble_eq_true rfl)
