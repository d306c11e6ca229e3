/-! ===== Within.at, Generalising.at ===== -/
set_option maxRecDepth 100000
set_option maxHeartbeats 4000000 in
set_option maxRecDepth 100000 in
theorem c_X18_at (l : Launch) (Z : mm_G) {M : mm_M} (htr : l.stackTraces = false) {a u : Nat} {op rw9 bd : Option Nat} {lv lu : Int32} {lk : Bool} (ha9 : M a = some (.inr (15, [va_rf op, va_rf rw9, .int lv]))) (hu9 : M u = some (co_E bd lu lk)) : mm_C l Z yX18_at (ws_ yX18_at cX18_at 2 none) { frames := 6, cells := 1, slots := 7, locals := 200 } [.ref a, .ref u] M (fun v M' => ¬ some u = op ∧ v = none ∧ M' = mm_U M u (co_E bd (if lv < lu then lv else lu) lk)) (fun E q M' => some u = op ∧ E = "RowenTongue$Clash" ∧ ∃ ru rs : Option Nat, M q = none ∧ M' = mm_U M q (.inr (16, [.ref q, va_rf ru, va_rf rs, .null, .null, .int 0, .int 3]))) := by
  refine mm_ofW (cc := cX18_at) (maxL := 2) (ret := none) (by decide) rfl (Nat.le_of_ble_eq_true rfl) ?_
  intro p e s m below meth c A ls hx hb hr hlk hml hown hmn hts htab hE hST hA hM hS hl
  replace hl : lv_has ls 2 [(0, .ref a), (1, .ref u)] := hl
  refine lv_aload_n hx hb dX18_at_0 rfl (lv_at hl 1 rfl) ?_
  refine lv_aload_n hx hb dX18_at_1 rfl (lv_at hl 0 rfl) ?_
  refine va_get (D := Z.1) (ci := 15) (v := va_rf op) (C := RX18) (T := TX18) (N := 3) hx hb hts in_X18 hown hE.1 (hM.at ha9) 0 rfl mm_cX18 0 (by decide) (hts _ q1069) (fun _ h9 => h9) rfl dX18_at_2 ?_
  refine lv_acmp_ne (rx := (some u)) (ry := op) (tgt := 17) hx hb dX18_at_5 (by decide) (fun c_1 => ?_) (fun c_1 => ?_)
  · skip
    refine lv_aload_n hx hb dX18_at_17 rfl (lv_at hl 1 rfl) ?_
    refine lv_aload_n hx hb dX18_at_18 rfl (lv_at hl 1 rfl) ?_
    refine va_getN (D := Z.1) (ci := 9) (v := .int lu) (C := RX11) (T := TX11) (N := 3) hx hb hts in_X11 hown hE.1 (hM.at hu9) 0 rfl mm_cX11 1 (by decide) (va_Nw.use rfl (hE.2.1 _ q811 rfl)) (fun _ h9 => h9) rfl dX18_at_19 ?_
    refine lv_aload_n hx hb dX18_at_22 rfl (lv_at hl 0 rfl) ?_
    refine va_get (D := Z.1) (ci := 15) (v := .int lv) (C := RX18) (T := TX18) (N := 3) hx hb hts in_X18 hown hE.1 (hM.at ha9) 0 rfl mm_cX18 2 (by decide) (hts _ q1071) (fun _ h9 => h9) rfl dX18_at_23 ?_
    refine va_mmin hx hb (hml.trans hl.1.symm) hown (hts _ q1126) (hts _ q427) (hts _ q62) (hts _ q428) (Nat.le_of_ble_eq_true rfl) (Nat.le_of_ble_eq_true rfl) (Nat.le_of_ble_eq_true rfl) (Nat.le_of_ble_eq_true rfl) dX18_at_26 ?_
    refine mm_putN (D := Z.1) (ci := 9) (v := .int (if lv < lu then lv else lu)) (ty := .int) (C := RX11) (T := TX11) (N := 3) hx hb hts in_X11 tyX11 tyX11_ok nmX11 hown hE.1 hM hS hu9 mm_cX11 1 (by decide) (va_Nw.use rfl (hE.2.1 _ q811 rfl)) (fun _ h9 => h9) rfl (by decide +kernel) rfl rfl (Nat.le_of_ble_eq_true rfl) dX18_at_29 (fun H locs hM hS => ?_)
    have hM : mm_P Z.1 mm_cl A (mm_U M u (.inr (9, [va_rf bd, .int (if lv < lu then lv else lu), .int (mm_b lk)]))) H := hM
    have hc_2 : (mm_U M u (.inr (9, [va_rf bd, .int (if lv < lu then lv else lu), .int (mm_b lk)]))) u = some (.inr (9, [va_rf bd, .int (if lv < lu then lv else lu), .int (mm_b lk)])) := mm_U_eq
    have hc_3 : (mm_U M u (.inr (9, [va_rf bd, .int (if lv < lu then lv else lu), .int (mm_b lk)]))) a = some (.inr (15, [va_rf op, va_rf rw9, .int lv])) := (mm_U_ne (mm_neC ha9 hu9 (by decide))).trans ha9
    obtain ⟨M_4, eM_4⟩ : ∃ z, z = mm_U M u (.inr (9, [va_rf bd, .int (if lv < lu then lv else lu), .int (mm_b lk)])) := ⟨_, rfl⟩
    rw [← eM_4] at hM hc_3 hc_2
    exact mm_retv hx hb hr hlk hM hS ⟨c_1, rfl, eM_4⟩ dX18_at_32 (Nat.le_of_ble_eq_true rfl) (Nat.le_of_ble_eq_true rfl)
  · skip
    refine mm_newX (D := Z.1) (ci := 16) (fs := mm_f0X20) (C := RX20) (T := TX20) (N := 7) hx hb hts in_X20 tyX20 tyX20_ok hown (hts _ q1107) (hts _ q1108) (hts _ q88) hE.1 hM hS hA mm_cX20 mm_dfX20 (Nat.le_of_ble_eq_true rfl) (Nat.le_of_ble_eq_true rfl) dX18_at_8 (fun q_3 H nq_2 hM hS hFr => ?_)
    have hM : mm_P Z.1 mm_cl A (mm_U M q_3 (.inr (16, [.null, .null, .null, .null, .null, .int 0, .int 0]))) H := hM
    have ne_4 : a ≠ q_3 := (mm_neN ha9 nq_2)
    have ne_5 : u ≠ q_3 := (mm_neN hu9 nq_2)
    have hc_6 : (mm_U M q_3 (.inr (16, [.null, .null, .null, .null, .null, .int 0, .int 0]))) q_3 = some (.inr (16, [.null, .null, .null, .null, .null, .int 0, .int 0])) := mm_U_eq
    have hc_7 : (mm_U M q_3 (.inr (16, [.null, .null, .null, .null, .null, .int 0, .int 0]))) a = some (.inr (15, [va_rf op, va_rf rw9, .int lv])) := (mm_U_ne ne_4).trans ha9
    have hc_8 : (mm_U M q_3 (.inr (16, [.null, .null, .null, .null, .null, .int 0, .int 0]))) u = some (.inr (9, [va_rf bd, .int lu, .int (mm_b lk)])) := (mm_U_ne ne_5).trans hu9
    obtain ⟨M_9, eM_9⟩ : ∃ z, z = mm_U M q_3 (.inr (16, [.null, .null, .null, .null, .null, .int 0, .int 0])) := ⟨_, rfl⟩
    rw [← eM_9] at hM hc_7 hc_8 hc_6
    refine lv_dup hx hb dX18_at_11 rfl ?_
    refine lv_iconst (v := 3) hx hb dX18_at_12 (by decide) ?_
    refine mm_callIK (As := [.int 3]) (rest := [.ref q_3]) ⟨hx, hb, hml, hown, hts⟩ hE hST hA hFr (c_X20_init l Z htr (er := 3) hc_6) (cwI (maxL := 2) 1 hts (lw_meth q1118) rfl rfl rfl (hts _ q88) (hts _ q1116) (hts _ q1117) rfl (by decide +kernel) ⟨(Nat.le_of_ble_eq_true rfl), (Nat.le_of_ble_eq_true rfl)⟩) hM hS rfl hl.1 (Nat.le_of_ble_eq_true rfl) dX18_at_13 rfl ⟨(Nat.le_of_ble_eq_true rfl), (Nat.le_of_ble_eq_true rfl)⟩ (fun _ _ _ _ _ _ h9 => h9.elim) (fun v_10 M_11 H locs hp_12 hM hS => ?_)
    obtain ⟨rfl, ru, rs, eM_11⟩ := hp_12
    rw [eM_11] at hM
    have hc_13 : (mm_U M_9 q_3 (.inr (16, [.ref q_3, va_rf ru, va_rf rs, .null, .null, .int 0, .int 3]))) q_3 = some (.inr (16, [.ref q_3, va_rf ru, va_rf rs, .null, .null, .int 0, .int 3])) := mm_U_eq
    have hc_14 : (mm_U M_9 q_3 (.inr (16, [.ref q_3, va_rf ru, va_rf rs, .null, .null, .int 0, .int 3]))) a = some (.inr (15, [va_rf op, va_rf rw9, .int lv])) := (mm_U_ne ne_4).trans hc_7
    have hc_15 : (mm_U M_9 q_3 (.inr (16, [.ref q_3, va_rf ru, va_rf rs, .null, .null, .int 0, .int 3]))) u = some (.inr (9, [va_rf bd, .int lu, .int (mm_b lk)])) := (mm_U_ne ne_5).trans hc_8
    obtain ⟨M_16, eM_16⟩ : ∃ z, z = mm_U M_9 q_3 (.inr (16, [.ref q_3, va_rf ru, va_rf rs, .null, .null, .int 0, .int 3])) := ⟨_, rfl⟩
    rw [← eM_16] at hM hc_14 hc_15 hc_13
    exact mm_athrow hx hb htab hlk hE hM hS hc_13 mm_cX20 ⟨c_1, rfl, ru, rs, nq_2, by subst eM_16 eM_9; simp only [mm_U_U]⟩ dX18_at_16 (Nat.le_of_ble_eq_true rfl) (Nat.le_of_ble_eq_true rfl)
set_option maxHeartbeats 4000000 in
set_option maxRecDepth 100000 in
theorem c_X18_at_2 (l : Launch) (Z : mm_G) {M : mm_M} (htr : l.stackTraces = false) {a u : Nat} {op rw9 bd : Option Nat} {lv lu : Int32} {lk : Bool} {lc : Int32} (ha9 : M a = some (.inr (15, [va_rf op, va_rf rw9, .int lv]))) (hu9 : M u = some (cr_E bd lu lk lc)) : mm_C l Z yX18_at_2 (ws_ yX18_at_2 cX18_at_2 2 none) { frames := 6, cells := 1, slots := 7, locals := 200 } [.ref a, .ref u] M (fun v M' => ¬ some u = rw9 ∧ v = none ∧ M' = mm_U M u (cr_E bd (if lv < lu then lv else lu) lk lc)) (fun E q M' => some u = rw9 ∧ E = "RowenTongue$Clash" ∧ ∃ ru rs : Option Nat, M q = none ∧ M' = mm_U M q (.inr (16, [.ref q, va_rf ru, va_rf rs, .null, .null, .int 0, .int 3]))) := by
  refine mm_ofW (cc := cX18_at_2) (maxL := 2) (ret := none) (by decide) rfl (Nat.le_of_ble_eq_true rfl) ?_
  intro p e s m below meth c A ls hx hb hr hlk hml hown hmn hts htab hE hST hA hM hS hl
  replace hl : lv_has ls 2 [(0, .ref a), (1, .ref u)] := hl
  refine lv_aload_n hx hb dX18_at_2_0 rfl (lv_at hl 1 rfl) ?_
  refine lv_aload_n hx hb dX18_at_2_1 rfl (lv_at hl 0 rfl) ?_
  refine va_get (D := Z.1) (ci := 15) (v := va_rf rw9) (C := RX18) (T := TX18) (N := 3) hx hb hts in_X18 hown hE.1 (hM.at ha9) 0 rfl mm_cX18 1 (by decide) (hts _ q1070) (fun _ h9 => h9) rfl dX18_at_2_2 ?_
  refine lv_acmp_ne (rx := (some u)) (ry := rw9) (tgt := 17) hx hb dX18_at_2_5 (by decide) (fun c_1 => ?_) (fun c_1 => ?_)
  · skip
    refine lv_aload_n hx hb dX18_at_2_17 rfl (lv_at hl 1 rfl) ?_
    refine lv_aload_n hx hb dX18_at_2_18 rfl (lv_at hl 1 rfl) ?_
    refine va_getN (D := Z.1) (ci := 12) (v := .int lu) (C := RX15) (T := TX15) (N := 4) hx hb hts in_X15 hown hE.1 (hM.at hu9) 0 rfl mm_cX15 1 (by decide) (va_Nw.use rfl (hE.2.1 _ q924 rfl)) (fun _ h9 => h9) rfl dX18_at_2_19 ?_
    refine lv_aload_n hx hb dX18_at_2_22 rfl (lv_at hl 0 rfl) ?_
    refine va_get (D := Z.1) (ci := 15) (v := .int lv) (C := RX18) (T := TX18) (N := 3) hx hb hts in_X18 hown hE.1 (hM.at ha9) 0 rfl mm_cX18 2 (by decide) (hts _ q1071) (fun _ h9 => h9) rfl dX18_at_2_23 ?_
    refine va_mmin hx hb (hml.trans hl.1.symm) hown (hts _ q1126) (hts _ q427) (hts _ q62) (hts _ q428) (Nat.le_of_ble_eq_true rfl) (Nat.le_of_ble_eq_true rfl) (Nat.le_of_ble_eq_true rfl) (Nat.le_of_ble_eq_true rfl) dX18_at_2_26 ?_
    refine mm_putN (D := Z.1) (ci := 12) (v := .int (if lv < lu then lv else lu)) (ty := .int) (C := RX15) (T := TX15) (N := 4) hx hb hts in_X15 tyX15 tyX15_ok nmX15 hown hE.1 hM hS hu9 mm_cX15 1 (by decide) (va_Nw.use rfl (hE.2.1 _ q924 rfl)) (fun _ h9 => h9) rfl (by decide +kernel) rfl rfl (Nat.le_of_ble_eq_true rfl) dX18_at_2_29 (fun H locs hM hS => ?_)
    have hM : mm_P Z.1 mm_cl A (mm_U M u (.inr (12, [va_rf bd, .int (if lv < lu then lv else lu), .int (mm_b lk), .int lc]))) H := hM
    have hc_2 : (mm_U M u (.inr (12, [va_rf bd, .int (if lv < lu then lv else lu), .int (mm_b lk), .int lc]))) u = some (.inr (12, [va_rf bd, .int (if lv < lu then lv else lu), .int (mm_b lk), .int lc])) := mm_U_eq
    have hc_3 : (mm_U M u (.inr (12, [va_rf bd, .int (if lv < lu then lv else lu), .int (mm_b lk), .int lc]))) a = some (.inr (15, [va_rf op, va_rf rw9, .int lv])) := (mm_U_ne (mm_neC ha9 hu9 (by decide))).trans ha9
    obtain ⟨M_4, eM_4⟩ : ∃ z, z = mm_U M u (.inr (12, [va_rf bd, .int (if lv < lu then lv else lu), .int (mm_b lk), .int lc])) := ⟨_, rfl⟩
    rw [← eM_4] at hM hc_3 hc_2
    exact mm_retv hx hb hr hlk hM hS ⟨c_1, rfl, eM_4⟩ dX18_at_2_32 (Nat.le_of_ble_eq_true rfl) (Nat.le_of_ble_eq_true rfl)
  · skip
    refine mm_newX (D := Z.1) (ci := 16) (fs := mm_f0X20) (C := RX20) (T := TX20) (N := 7) hx hb hts in_X20 tyX20 tyX20_ok hown (hts _ q1107) (hts _ q1108) (hts _ q88) hE.1 hM hS hA mm_cX20 mm_dfX20 (Nat.le_of_ble_eq_true rfl) (Nat.le_of_ble_eq_true rfl) dX18_at_2_8 (fun q_3 H nq_2 hM hS hFr => ?_)
    have hM : mm_P Z.1 mm_cl A (mm_U M q_3 (.inr (16, [.null, .null, .null, .null, .null, .int 0, .int 0]))) H := hM
    have ne_4 : a ≠ q_3 := (mm_neN ha9 nq_2)
    have ne_5 : u ≠ q_3 := (mm_neN hu9 nq_2)
    have hc_6 : (mm_U M q_3 (.inr (16, [.null, .null, .null, .null, .null, .int 0, .int 0]))) q_3 = some (.inr (16, [.null, .null, .null, .null, .null, .int 0, .int 0])) := mm_U_eq
    have hc_7 : (mm_U M q_3 (.inr (16, [.null, .null, .null, .null, .null, .int 0, .int 0]))) a = some (.inr (15, [va_rf op, va_rf rw9, .int lv])) := (mm_U_ne ne_4).trans ha9
    have hc_8 : (mm_U M q_3 (.inr (16, [.null, .null, .null, .null, .null, .int 0, .int 0]))) u = some (.inr (12, [va_rf bd, .int lu, .int (mm_b lk), .int lc])) := (mm_U_ne ne_5).trans hu9
    obtain ⟨M_9, eM_9⟩ : ∃ z, z = mm_U M q_3 (.inr (16, [.null, .null, .null, .null, .null, .int 0, .int 0])) := ⟨_, rfl⟩
    rw [← eM_9] at hM hc_7 hc_8 hc_6
    refine lv_dup hx hb dX18_at_2_11 rfl ?_
    refine lv_iconst (v := 3) hx hb dX18_at_2_12 (by decide) ?_
    refine mm_callIK (As := [.int 3]) (rest := [.ref q_3]) ⟨hx, hb, hml, hown, hts⟩ hE hST hA hFr (c_X20_init l Z htr (er := 3) hc_6) (cwI (maxL := 2) 1 hts (lw_meth q1118) rfl rfl rfl (hts _ q88) (hts _ q1116) (hts _ q1117) rfl (by decide +kernel) ⟨(Nat.le_of_ble_eq_true rfl), (Nat.le_of_ble_eq_true rfl)⟩) hM hS rfl hl.1 (Nat.le_of_ble_eq_true rfl) dX18_at_2_13 rfl ⟨(Nat.le_of_ble_eq_true rfl), (Nat.le_of_ble_eq_true rfl)⟩ (fun _ _ _ _ _ _ h9 => h9.elim) (fun v_10 M_11 H locs hp_12 hM hS => ?_)
    obtain ⟨rfl, ru, rs, eM_11⟩ := hp_12
    rw [eM_11] at hM
    have hc_13 : (mm_U M_9 q_3 (.inr (16, [.ref q_3, va_rf ru, va_rf rs, .null, .null, .int 0, .int 3]))) q_3 = some (.inr (16, [.ref q_3, va_rf ru, va_rf rs, .null, .null, .int 0, .int 3])) := mm_U_eq
    have hc_14 : (mm_U M_9 q_3 (.inr (16, [.ref q_3, va_rf ru, va_rf rs, .null, .null, .int 0, .int 3]))) a = some (.inr (15, [va_rf op, va_rf rw9, .int lv])) := (mm_U_ne ne_4).trans hc_7
    have hc_15 : (mm_U M_9 q_3 (.inr (16, [.ref q_3, va_rf ru, va_rf rs, .null, .null, .int 0, .int 3]))) u = some (.inr (12, [va_rf bd, .int lu, .int (mm_b lk), .int lc])) := (mm_U_ne ne_5).trans hc_8
    obtain ⟨M_16, eM_16⟩ : ∃ z, z = mm_U M_9 q_3 (.inr (16, [.ref q_3, va_rf ru, va_rf rs, .null, .null, .int 0, .int 3])) := ⟨_, rfl⟩
    rw [← eM_16] at hM hc_14 hc_15 hc_13
    exact mm_athrow hx hb htab hlk hE hM hS hc_13 mm_cX20 ⟨c_1, rfl, ru, rs, nq_2, by subst eM_16 eM_9; simp only [mm_U_U]⟩ dX18_at_2_16 (Nat.le_of_ble_eq_true rfl) (Nat.le_of_ble_eq_true rfl)
set_option maxHeartbeats 4000000 in
set_option maxRecDepth 100000 in
theorem c_X23_at (l : Launch) (Z : mm_G) {M : mm_M} {a u : Nat} {pl bd : Option Nat} {lv lu : Int32} {lk : Bool} (ha9 : M a = some (.inr (18, [va_rf pl, .int lv]))) (hu9 : M u = some (co_E bd lu lk)) : mm_C l Z yX23_at (ws_ yX23_at cX23_at 2 none) { frames := 0, cells := 0, slots := 0, locals := 0 } [.ref a, .ref u] M (fun v M' => v = none ∧ M' = mm_U M u (co_E bd (if lv < lu then 1048576 else lu) lk)) mm_nx := by
  refine mm_ofW (cc := cX23_at) (maxL := 2) (ret := none) (by decide) rfl (Nat.le_of_ble_eq_true rfl) ?_
  intro p e s m below meth c A ls hx hb hr hlk hml hown hmn hts htab hE hST hA hM hS hl
  replace hl : lv_has ls 2 [(0, .ref a), (1, .ref u)] := hl
  refine lv_aload_n hx hb dX23_at_0 rfl (lv_at hl 1 rfl) ?_
  refine lv_aload_n hx hb dX23_at_1 rfl (lv_at hl 1 rfl) ?_
  refine va_getN (D := Z.1) (ci := 9) (v := .int lu) (C := RX11) (T := TX11) (N := 3) hx hb hts in_X11 hown hE.1 (hM.at hu9) 0 rfl mm_cX11 1 (by decide) (va_Nw.use rfl (hE.2.1 _ q809 rfl)) (fun _ h9 => h9) rfl dX23_at_2 ?_
  refine lv_aload_n hx hb dX23_at_5 rfl (lv_at hl 0 rfl) ?_
  refine va_get (D := Z.1) (ci := 18) (v := .int lv) (C := RX23) (T := TX23) (N := 2) hx hb hts in_X23 hown hE.1 (hM.at ha9) 0 rfl mm_cX23 1 (by decide) (hts _ q1270) (fun _ h9 => h9) rfl dX23_at_6 ?_
  refine lv_icmp_le (tgt := 17) hx hb dX23_at_9 (by decide) (fun c_1 => ?_) (fun c_1 => ?_)
  · have e9 : (if lv < lu then 1048576 else lu) = lu := if_neg (Int32.not_lt.2 c_1)
    refine lv_aload_n hx hb dX23_at_17 rfl (lv_at hl 1 rfl) ?_
    refine va_getN (D := Z.1) (ci := 9) (v := .int lu) (C := RX11) (T := TX11) (N := 3) hx hb hts in_X11 hown hE.1 (hM.at hu9) 0 rfl mm_cX11 1 (by decide) (va_Nw.use rfl (hE.2.1 _ q809 rfl)) (fun _ h9 => h9) rfl dX23_at_18 ?_
    refine mm_putN (D := Z.1) (ci := 9) (v := .int lu) (ty := .int) (C := RX11) (T := TX11) (N := 3) hx hb hts in_X11 tyX11 tyX11_ok nmX11 hown hE.1 hM hS hu9 mm_cX11 1 (by decide) (va_Nw.use rfl (hE.2.1 _ q809 rfl)) (fun _ h9 => h9) rfl (by decide +kernel) rfl rfl (Nat.le_of_ble_eq_true rfl) dX23_at_21 (fun H locs hM hS => ?_)
    have hM : mm_P Z.1 mm_cl A (mm_U M u (.inr (9, [va_rf bd, .int lu, .int (mm_b lk)]))) H := hM
    have hc_2 : (mm_U M u (.inr (9, [va_rf bd, .int lu, .int (mm_b lk)]))) u = some (.inr (9, [va_rf bd, .int lu, .int (mm_b lk)])) := mm_U_eq
    have hc_3 : (mm_U M u (.inr (9, [va_rf bd, .int lu, .int (mm_b lk)]))) a = some (.inr (18, [va_rf pl, .int lv])) := (mm_U_ne (mm_neC ha9 hu9 (by decide))).trans ha9
    obtain ⟨M_4, eM_4⟩ : ∃ z, z = mm_U M u (.inr (9, [va_rf bd, .int lu, .int (mm_b lk)])) := ⟨_, rfl⟩
    rw [← eM_4] at hM hc_3 hc_2
    exact mm_retv hx hb hr hlk hM hS ⟨rfl, by rw [e9]; exact eM_4⟩ dX23_at_24 (Nat.le_of_ble_eq_true rfl) (Nat.le_of_ble_eq_true rfl)
  · have e9 : (if lv < lu then 1048576 else lu) = 1048576 := if_pos (Int32.not_le.1 c_1)
    refine lv_ldc (v := 1048576) hx hb hown (hts _ q1094) dX23_at_12 ?_
    refine lv_goto (tgt := 21) hx hb dX23_at_14 (by decide) ?_
    refine mm_putN (D := Z.1) (ci := 9) (v := .int 1048576) (ty := .int) (C := RX11) (T := TX11) (N := 3) hx hb hts in_X11 tyX11 tyX11_ok nmX11 hown hE.1 hM hS hu9 mm_cX11 1 (by decide) (va_Nw.use rfl (hE.2.1 _ q809 rfl)) (fun _ h9 => h9) rfl (by decide +kernel) rfl rfl (Nat.le_of_ble_eq_true rfl) dX23_at_21 (fun H locs hM hS => ?_)
    have hM : mm_P Z.1 mm_cl A (mm_U M u (.inr (9, [va_rf bd, .int 1048576, .int (mm_b lk)]))) H := hM
    have hc_2 : (mm_U M u (.inr (9, [va_rf bd, .int 1048576, .int (mm_b lk)]))) u = some (.inr (9, [va_rf bd, .int 1048576, .int (mm_b lk)])) := mm_U_eq
    have hc_3 : (mm_U M u (.inr (9, [va_rf bd, .int 1048576, .int (mm_b lk)]))) a = some (.inr (18, [va_rf pl, .int lv])) := (mm_U_ne (mm_neC ha9 hu9 (by decide))).trans ha9
    obtain ⟨M_4, eM_4⟩ : ∃ z, z = mm_U M u (.inr (9, [va_rf bd, .int 1048576, .int (mm_b lk)])) := ⟨_, rfl⟩
    rw [← eM_4] at hM hc_3 hc_2
    exact mm_retv hx hb hr hlk hM hS ⟨rfl, by rw [e9]; exact eM_4⟩ dX23_at_24 (Nat.le_of_ble_eq_true rfl) (Nat.le_of_ble_eq_true rfl)
