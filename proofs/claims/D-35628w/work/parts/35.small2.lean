/-! ===== small methods with casts; goes, isOfTwo ===== -/
set_option maxRecDepth 100000
set_option maxHeartbeats 4000000 in
set_option maxRecDepth 100000 in
theorem c_X30_numberOf (l : Launch) (Z : mm_G) {M : mm_M} {a : Nat} {n : Int32} (ha9 : M a = some (.inr (27, [.int n]))) : mm_C l Z yX30_numberOf (ws_ yX30_numberOf cX30_numberOf 1 (some .int)) { frames := 0, cells := 0, slots := 0, locals := 0 } [.ref a] M (fun v M' => v = some (.int n) ∧ M' = M) mm_nx := by
  refine mm_ofW (cc := cX30_numberOf) (maxL := 1) (ret := (some .int)) (by decide) rfl (Nat.le_of_ble_eq_true rfl) ?_
  intro p e s m below meth c A ls hx hb hr hlk hml hown hmn hts htab hE hST hA hM hS hl
  replace hl : lv_has ls 1 [(0, .ref a)] := hl
  refine lv_aload_n hx hb dX30_numberOf_0 rfl (lv_at hl 0 rfl) ?_
  refine va_castS hx hb hown (hts _ q1823) (hE.1.1 27 _ mm_cX33).2 (mm_recv hE hM mm_cX33 ha9) dX30_numberOf_1 ?_
  refine va_getN (D := Z.1) (ci := 27) (v := .int n) (C := RX33) (T := TX33) (N := 1) hx hb hts in_X33 hown hE.1 (hM.at ha9) 0 rfl mm_cX33 0 (by decide) (va_Nw.use rfl (hE.2.1 _ q1833 rfl)) (fun _ h9 => h9) rfl dX30_numberOf_4 ?_
  exact mm_reti hx hb hr hlk hM hS ⟨rfl, rfl⟩ dX30_numberOf_7 (Nat.le_of_ble_eq_true rfl) (Nat.le_of_ble_eq_true rfl)
set_option maxHeartbeats 4000000 in
set_option maxRecDepth 100000 in
theorem c_X1_sumOf (l : Launch) (Z : mm_G) {M : mm_M} {a : Nat} {n : Int32} (ha9 : M a = some (.inr (35, [.int n]))) : mm_C l Z yX1_sumOf (ws_ yX1_sumOf cX1_sumOf 1 (some .int)) { frames := 0, cells := 0, slots := 0, locals := 0 } [.ref a] M (fun v M' => v = some (.int n) ∧ M' = M) mm_nx := by
  refine mm_ofW (cc := cX1_sumOf) (maxL := 1) (ret := (some .int)) (by decide) rfl (Nat.le_of_ble_eq_true rfl) ?_
  intro p e s m below meth c A ls hx hb hr hlk hml hown hmn hts htab hE hST hA hM hS hl
  replace hl : lv_has ls 1 [(0, .ref a)] := hl
  refine lv_aload_n hx hb dX1_sumOf_0 rfl (lv_at hl 0 rfl) ?_
  refine va_castS hx hb hown (hts _ q2257) (hE.1.1 35 _ mm_cX42).2 (mm_recv hE hM mm_cX42 ha9) dX1_sumOf_1 ?_
  refine va_getN (D := Z.1) (ci := 35) (v := .int n) (C := RX42) (T := TX42) (N := 1) hx hb hts in_X42 hown hE.1 (hM.at ha9) 0 rfl mm_cX42 0 (by decide) (va_Nw.use rfl (hE.2.1 _ q2094 rfl)) (fun _ h9 => h9) rfl dX1_sumOf_4 ?_
  exact mm_reti hx hb hr hlk hM hS ⟨rfl, rfl⟩ dX1_sumOf_7 (Nat.le_of_ble_eq_true rfl) (Nat.le_of_ble_eq_true rfl)
set_option maxHeartbeats 4000000 in
set_option maxRecDepth 100000 in
theorem c_X42_isSame (l : Launch) (Z : mm_G) {M : mm_M} {a b : Nat} {n k : Int32} (ha9 : M a = some (.inr (35, [.int n]))) (hb9 : M b = some (.inr (35, [.int k]))) : mm_C l Z yX42_isSame (ws_ yX42_isSame cX42_isSame 2 (some .boolean)) { frames := 0, cells := 0, slots := 0, locals := 0 } [.ref a, .ref b] M (fun v M' => v = some (.int (mm_b (decide (k = n)))) ∧ M' = M) mm_nx := by
  refine mm_ofW (cc := cX42_isSame) (maxL := 2) (ret := (some .boolean)) (by decide) rfl (Nat.le_of_ble_eq_true rfl) ?_
  intro p e s m below meth c A ls hx hb hr hlk hml hown hmn hts htab hE hST hA hM hS hl
  replace hl : lv_has ls 2 [(0, .ref a), (1, .ref b)] := hl
  refine lv_aload_n hx hb dX42_isSame_0 rfl (lv_at hl 1 rfl) ?_
  refine va_castS hx hb hown (hts _ q2278) (hE.1.1 35 _ mm_cX42).2 (mm_recv hE hM mm_cX42 hb9) dX42_isSame_1 ?_
  refine va_get (D := Z.1) (ci := 35) (v := .int k) (C := RX42) (T := TX42) (N := 1) hx hb hts in_X42 hown hE.1 (hM.at hb9) 0 rfl mm_cX42 0 (by decide) (hts _ q2093) (fun _ h9 => h9) rfl dX42_isSame_4 ?_
  refine lv_aload_n hx hb dX42_isSame_7 rfl (lv_at hl 0 rfl) ?_
  refine va_get (D := Z.1) (ci := 35) (v := .int n) (C := RX42) (T := TX42) (N := 1) hx hb hts in_X42 hown hE.1 (hM.at ha9) 0 rfl mm_cX42 0 (by decide) (hts _ q2093) (fun _ h9 => h9) rfl dX42_isSame_8 ?_
  refine lv_icmp_ne (tgt := 18) hx hb dX42_isSame_11 (by decide) (fun c_1 => ?_) (fun c_1 => ?_)
  · have e9 : decide (k = n) = false := decide_eq_false c_1
    refine lv_iconst (v := 0) hx hb dX42_isSame_18 (by decide) ?_
    exact mm_retz hx hb hr rfl hlk hM hS ⟨by rw [e9]; rfl, rfl⟩ dX42_isSame_19 (Nat.le_of_ble_eq_true rfl) (Nat.le_of_ble_eq_true rfl)
  · have e9 : decide (k = n) = true := decide_eq_true c_1
    refine lv_iconst (v := 1) hx hb dX42_isSame_14 (by decide) ?_
    refine lv_goto (tgt := 19) hx hb dX42_isSame_15 (by decide) ?_
    exact mm_retz hx hb hr rfl hlk hM hS ⟨by rw [e9]; rfl, rfl⟩ dX42_isSame_19 (Nat.le_of_ble_eq_true rfl) (Nat.le_of_ble_eq_true rfl)
set_option maxHeartbeats 4000000 in
set_option maxRecDepth 100000 in
theorem c_X2_isOfTwo (l : Launch) (Z : mm_G) {M : mm_M} {k : Int32} : mm_C l Z yX2_isOfTwo (ws_ yX2_isOfTwo cX2_isOfTwo 1 (some .boolean)) { frames := 0, cells := 0, slots := 0, locals := 0 } [.int k] M (fun v M' => v = some (.int (mm_b (decide (k = 4 ∨ k = 5 ∨ k = 7)))) ∧ M' = M) mm_nx := by
  refine mm_ofW (cc := cX2_isOfTwo) (maxL := 1) (ret := (some .boolean)) (by decide) rfl (Nat.le_of_ble_eq_true rfl) ?_
  intro p e s m below meth c A ls hx hb hr hlk hml hown hmn hts htab hE hST hA hM hS hl
  replace hl : lv_has ls 1 [(0, .int k)] := hl
  refine lv_iload_n hx hb dX2_isOfTwo_0 rfl (lv_at hl 0 rfl) ?_
  refine lv_iconst (v := 4) hx hb dX2_isOfTwo_1 (by decide) ?_
  refine lv_icmp_eq (tgt := 16) hx hb dX2_isOfTwo_2 (by decide) (fun c_1 => ?_) (fun c_1 => ?_)
  · have e9 : decide (k = 4 ∨ k = 5 ∨ k = 7) = true := decide_eq_true (Or.inl c_1)
    refine lv_iconst (v := 1) hx hb dX2_isOfTwo_16 (by decide) ?_
    refine lv_goto (tgt := 21) hx hb dX2_isOfTwo_17 (by decide) ?_
    exact mm_retz hx hb hr rfl hlk hM hS ⟨by rw [e9]; rfl, rfl⟩ dX2_isOfTwo_21 (Nat.le_of_ble_eq_true rfl) (Nat.le_of_ble_eq_true rfl)
  · skip
    refine lv_iload_n hx hb dX2_isOfTwo_5 rfl (lv_at hl 0 rfl) ?_
    refine lv_iconst (v := 5) hx hb dX2_isOfTwo_6 (by decide) ?_
    refine lv_icmp_eq (tgt := 16) hx hb dX2_isOfTwo_7 (by decide) (fun c_2 => ?_) (fun c_2 => ?_)
    · have e9 : decide (k = 4 ∨ k = 5 ∨ k = 7) = true := decide_eq_true (Or.inr (Or.inl c_2))
      refine lv_iconst (v := 1) hx hb dX2_isOfTwo_16 (by decide) ?_
      refine lv_goto (tgt := 21) hx hb dX2_isOfTwo_17 (by decide) ?_
      exact mm_retz hx hb hr rfl hlk hM hS ⟨by rw [e9]; rfl, rfl⟩ dX2_isOfTwo_21 (Nat.le_of_ble_eq_true rfl) (Nat.le_of_ble_eq_true rfl)
    · skip
      refine lv_iload_n hx hb dX2_isOfTwo_10 rfl (lv_at hl 0 rfl) ?_
      refine lv_bipush (v := 7) hx hb dX2_isOfTwo_11 (by decide) ?_
      refine lv_icmp_ne (tgt := 20) hx hb dX2_isOfTwo_13 (by decide) (fun c_3 => ?_) (fun c_3 => ?_)
      · have e9 : decide (k = 4 ∨ k = 5 ∨ k = 7) = false := decide_eq_false (fun q => q.elim c_1 (fun q => q.elim c_2 c_3))
        refine lv_iconst (v := 0) hx hb dX2_isOfTwo_20 (by decide) ?_
        exact mm_retz hx hb hr rfl hlk hM hS ⟨by rw [e9]; rfl, rfl⟩ dX2_isOfTwo_21 (Nat.le_of_ble_eq_true rfl) (Nat.le_of_ble_eq_true rfl)
      · have e9 : decide (k = 4 ∨ k = 5 ∨ k = 7) = true := decide_eq_true (Or.inr (Or.inr c_3))
        refine lv_iconst (v := 1) hx hb dX2_isOfTwo_16 (by decide) ?_
        refine lv_goto (tgt := 21) hx hb dX2_isOfTwo_17 (by decide) ?_
        exact mm_retz hx hb hr rfl hlk hM hS ⟨by rw [e9]; rfl, rfl⟩ dX2_isOfTwo_21 (Nat.le_of_ble_eq_true rfl) (Nat.le_of_ble_eq_true rfl)
set_option maxHeartbeats 4000000 in
set_option maxRecDepth 100000 in
theorem c_X2_goes (l : Launch) (Z : mm_G) {M : mm_M} {a kd wh f1 f2 f3 wg pl : Nat} {tm ea sp th ak wr tk : Int32} {rt : Option Nat} {fa : Bool} {st : Int64} (hm9 : M a = some (md_E tm kd wh f1 f2 f3 wg ea sp rt th ak wr pl tk fa st)) {b1 b2 b3 : Bool} : mm_C l Z yX2_goes (ws_ yX2_goes cX2_goes 4 (some .boolean)) { frames := 0, cells := 0, slots := 0, locals := 0 } [.ref a, .int (mm_b b1), .int (mm_b b2), .int (mm_b b3)] M (fun v M' => v = some (.int (mm_b (b1 && b2 && b3))) ∧ M' = mm_U M a (md_E tm kd wh f1 f2 f3 wg ea sp rt (if b1 = false then 1 else if b2 = false then 2 else if b3 = false then 3 else 0) ak wr pl tk fa st)) mm_nx := by
  refine mm_ofW (cc := cX2_goes) (maxL := 4) (ret := (some .boolean)) (by decide) rfl (Nat.le_of_ble_eq_true rfl) ?_
  intro p e s m below meth c A ls hx hb hr hlk hml hown hmn hts htab hE hST hA hM hS hl
  replace hl : lv_has ls 4 [(0, .ref a), (1, .int (mm_b b1)), (2, .int (mm_b b2)), (3, .int (mm_b b3))] := hl
  cases b1 <;> cases b2 <;> cases b3
  · skip
    refine lv_aload_n hx hb dX2_goes_0 rfl (lv_at hl 0 rfl) ?_
    refine lv_iload_n hx hb dX2_goes_1 rfl (lv_at hl 1 rfl) ?_
    refine lv_if_ne (tgt := 9) hx hb dX2_goes_2 (by decide) (fun h9 => absurd rfl h9) (fun _ => ?_)
    refine lv_iconst (v := 1) hx hb dX2_goes_5 (by decide) ?_
    refine lv_goto (tgt := 26) hx hb dX2_goes_6 (by decide) ?_
    refine mm_put (D := Z.1) (ci := 1) (v := .int 1) (ty := .int) (C := RX2) (T := TX2) (N := 17) hx hb hts in_X2 tyX2 tyX2_ok nmX2 hown hE.1 hM hS hm9 mm_cX2 10 (by decide) (hts _ q2388) (fun _ h9 => h9) rfl (by decide +kernel) rfl rfl (Nat.le_of_ble_eq_true rfl) dX2_goes_26 (fun H locs hM hS => ?_)
    have hM : mm_P Z.1 mm_cl A (mm_U M a (.inr (1, [.int tm, .ref kd, .ref wh, .ref f1, .ref f2, .ref f3, .ref wg, .int ea, .int sp, va_rf rt, .int 1, .int ak, .int wr, .ref pl, .int tk, .int (mm_b fa), .long st]))) H := hM
    have hc_1 : (mm_U M a (.inr (1, [.int tm, .ref kd, .ref wh, .ref f1, .ref f2, .ref f3, .ref wg, .int ea, .int sp, va_rf rt, .int 1, .int ak, .int wr, .ref pl, .int tk, .int (mm_b fa), .long st]))) a = some (.inr (1, [.int tm, .ref kd, .ref wh, .ref f1, .ref f2, .ref f3, .ref wg, .int ea, .int sp, va_rf rt, .int 1, .int ak, .int wr, .ref pl, .int tk, .int (mm_b fa), .long st])) := mm_U_eq
    obtain ⟨M_2, eM_2⟩ : ∃ z, z = mm_U M a (.inr (1, [.int tm, .ref kd, .ref wh, .ref f1, .ref f2, .ref f3, .ref wg, .int ea, .int sp, va_rf rt, .int 1, .int ak, .int wr, .ref pl, .int tk, .int (mm_b fa), .long st])) := ⟨_, rfl⟩
    rw [← eM_2] at hM hc_1
    refine lv_aload_n hx hb dX2_goes_29 rfl (lv_at hl 0 rfl) ?_
    refine va_get (D := Z.1) (ci := 1) (v := .int 1) (C := RX2) (T := TX2) (N := 17) hx hb hts in_X2 hown hE.1 (hM.at hc_1) 0 rfl mm_cX2 10 (by decide) (hts _ q2388) (fun _ h9 => h9) rfl dX2_goes_30 ?_
    refine lv_if_ne (tgt := 40) hx hb dX2_goes_33 (by decide) (fun _ => ?_) (fun h9 => absurd h9 (by decide : (1 : Int32) ≠ 0))
    refine lv_iconst (v := 0) hx hb dX2_goes_40 (by decide) ?_
    exact mm_retz hx hb hr rfl hlk hM hS ⟨rfl, eM_2⟩ dX2_goes_41 (Nat.le_of_ble_eq_true rfl) (Nat.le_of_ble_eq_true rfl)
  · skip
    refine lv_aload_n hx hb dX2_goes_0 rfl (lv_at hl 0 rfl) ?_
    refine lv_iload_n hx hb dX2_goes_1 rfl (lv_at hl 1 rfl) ?_
    refine lv_if_ne (tgt := 9) hx hb dX2_goes_2 (by decide) (fun h9 => absurd rfl h9) (fun _ => ?_)
    refine lv_iconst (v := 1) hx hb dX2_goes_5 (by decide) ?_
    refine lv_goto (tgt := 26) hx hb dX2_goes_6 (by decide) ?_
    refine mm_put (D := Z.1) (ci := 1) (v := .int 1) (ty := .int) (C := RX2) (T := TX2) (N := 17) hx hb hts in_X2 tyX2 tyX2_ok nmX2 hown hE.1 hM hS hm9 mm_cX2 10 (by decide) (hts _ q2388) (fun _ h9 => h9) rfl (by decide +kernel) rfl rfl (Nat.le_of_ble_eq_true rfl) dX2_goes_26 (fun H locs hM hS => ?_)
    have hM : mm_P Z.1 mm_cl A (mm_U M a (.inr (1, [.int tm, .ref kd, .ref wh, .ref f1, .ref f2, .ref f3, .ref wg, .int ea, .int sp, va_rf rt, .int 1, .int ak, .int wr, .ref pl, .int tk, .int (mm_b fa), .long st]))) H := hM
    have hc_1 : (mm_U M a (.inr (1, [.int tm, .ref kd, .ref wh, .ref f1, .ref f2, .ref f3, .ref wg, .int ea, .int sp, va_rf rt, .int 1, .int ak, .int wr, .ref pl, .int tk, .int (mm_b fa), .long st]))) a = some (.inr (1, [.int tm, .ref kd, .ref wh, .ref f1, .ref f2, .ref f3, .ref wg, .int ea, .int sp, va_rf rt, .int 1, .int ak, .int wr, .ref pl, .int tk, .int (mm_b fa), .long st])) := mm_U_eq
    obtain ⟨M_2, eM_2⟩ : ∃ z, z = mm_U M a (.inr (1, [.int tm, .ref kd, .ref wh, .ref f1, .ref f2, .ref f3, .ref wg, .int ea, .int sp, va_rf rt, .int 1, .int ak, .int wr, .ref pl, .int tk, .int (mm_b fa), .long st])) := ⟨_, rfl⟩
    rw [← eM_2] at hM hc_1
    refine lv_aload_n hx hb dX2_goes_29 rfl (lv_at hl 0 rfl) ?_
    refine va_get (D := Z.1) (ci := 1) (v := .int 1) (C := RX2) (T := TX2) (N := 17) hx hb hts in_X2 hown hE.1 (hM.at hc_1) 0 rfl mm_cX2 10 (by decide) (hts _ q2388) (fun _ h9 => h9) rfl dX2_goes_30 ?_
    refine lv_if_ne (tgt := 40) hx hb dX2_goes_33 (by decide) (fun _ => ?_) (fun h9 => absurd h9 (by decide : (1 : Int32) ≠ 0))
    refine lv_iconst (v := 0) hx hb dX2_goes_40 (by decide) ?_
    exact mm_retz hx hb hr rfl hlk hM hS ⟨rfl, eM_2⟩ dX2_goes_41 (Nat.le_of_ble_eq_true rfl) (Nat.le_of_ble_eq_true rfl)
  · skip
    refine lv_aload_n hx hb dX2_goes_0 rfl (lv_at hl 0 rfl) ?_
    refine lv_iload_n hx hb dX2_goes_1 rfl (lv_at hl 1 rfl) ?_
    refine lv_if_ne (tgt := 9) hx hb dX2_goes_2 (by decide) (fun h9 => absurd rfl h9) (fun _ => ?_)
    refine lv_iconst (v := 1) hx hb dX2_goes_5 (by decide) ?_
    refine lv_goto (tgt := 26) hx hb dX2_goes_6 (by decide) ?_
    refine mm_put (D := Z.1) (ci := 1) (v := .int 1) (ty := .int) (C := RX2) (T := TX2) (N := 17) hx hb hts in_X2 tyX2 tyX2_ok nmX2 hown hE.1 hM hS hm9 mm_cX2 10 (by decide) (hts _ q2388) (fun _ h9 => h9) rfl (by decide +kernel) rfl rfl (Nat.le_of_ble_eq_true rfl) dX2_goes_26 (fun H locs hM hS => ?_)
    have hM : mm_P Z.1 mm_cl A (mm_U M a (.inr (1, [.int tm, .ref kd, .ref wh, .ref f1, .ref f2, .ref f3, .ref wg, .int ea, .int sp, va_rf rt, .int 1, .int ak, .int wr, .ref pl, .int tk, .int (mm_b fa), .long st]))) H := hM
    have hc_1 : (mm_U M a (.inr (1, [.int tm, .ref kd, .ref wh, .ref f1, .ref f2, .ref f3, .ref wg, .int ea, .int sp, va_rf rt, .int 1, .int ak, .int wr, .ref pl, .int tk, .int (mm_b fa), .long st]))) a = some (.inr (1, [.int tm, .ref kd, .ref wh, .ref f1, .ref f2, .ref f3, .ref wg, .int ea, .int sp, va_rf rt, .int 1, .int ak, .int wr, .ref pl, .int tk, .int (mm_b fa), .long st])) := mm_U_eq
    obtain ⟨M_2, eM_2⟩ : ∃ z, z = mm_U M a (.inr (1, [.int tm, .ref kd, .ref wh, .ref f1, .ref f2, .ref f3, .ref wg, .int ea, .int sp, va_rf rt, .int 1, .int ak, .int wr, .ref pl, .int tk, .int (mm_b fa), .long st])) := ⟨_, rfl⟩
    rw [← eM_2] at hM hc_1
    refine lv_aload_n hx hb dX2_goes_29 rfl (lv_at hl 0 rfl) ?_
    refine va_get (D := Z.1) (ci := 1) (v := .int 1) (C := RX2) (T := TX2) (N := 17) hx hb hts in_X2 hown hE.1 (hM.at hc_1) 0 rfl mm_cX2 10 (by decide) (hts _ q2388) (fun _ h9 => h9) rfl dX2_goes_30 ?_
    refine lv_if_ne (tgt := 40) hx hb dX2_goes_33 (by decide) (fun _ => ?_) (fun h9 => absurd h9 (by decide : (1 : Int32) ≠ 0))
    refine lv_iconst (v := 0) hx hb dX2_goes_40 (by decide) ?_
    exact mm_retz hx hb hr rfl hlk hM hS ⟨rfl, eM_2⟩ dX2_goes_41 (Nat.le_of_ble_eq_true rfl) (Nat.le_of_ble_eq_true rfl)
  · skip
    refine lv_aload_n hx hb dX2_goes_0 rfl (lv_at hl 0 rfl) ?_
    refine lv_iload_n hx hb dX2_goes_1 rfl (lv_at hl 1 rfl) ?_
    refine lv_if_ne (tgt := 9) hx hb dX2_goes_2 (by decide) (fun h9 => absurd rfl h9) (fun _ => ?_)
    refine lv_iconst (v := 1) hx hb dX2_goes_5 (by decide) ?_
    refine lv_goto (tgt := 26) hx hb dX2_goes_6 (by decide) ?_
    refine mm_put (D := Z.1) (ci := 1) (v := .int 1) (ty := .int) (C := RX2) (T := TX2) (N := 17) hx hb hts in_X2 tyX2 tyX2_ok nmX2 hown hE.1 hM hS hm9 mm_cX2 10 (by decide) (hts _ q2388) (fun _ h9 => h9) rfl (by decide +kernel) rfl rfl (Nat.le_of_ble_eq_true rfl) dX2_goes_26 (fun H locs hM hS => ?_)
    have hM : mm_P Z.1 mm_cl A (mm_U M a (.inr (1, [.int tm, .ref kd, .ref wh, .ref f1, .ref f2, .ref f3, .ref wg, .int ea, .int sp, va_rf rt, .int 1, .int ak, .int wr, .ref pl, .int tk, .int (mm_b fa), .long st]))) H := hM
    have hc_1 : (mm_U M a (.inr (1, [.int tm, .ref kd, .ref wh, .ref f1, .ref f2, .ref f3, .ref wg, .int ea, .int sp, va_rf rt, .int 1, .int ak, .int wr, .ref pl, .int tk, .int (mm_b fa), .long st]))) a = some (.inr (1, [.int tm, .ref kd, .ref wh, .ref f1, .ref f2, .ref f3, .ref wg, .int ea, .int sp, va_rf rt, .int 1, .int ak, .int wr, .ref pl, .int tk, .int (mm_b fa), .long st])) := mm_U_eq
    obtain ⟨M_2, eM_2⟩ : ∃ z, z = mm_U M a (.inr (1, [.int tm, .ref kd, .ref wh, .ref f1, .ref f2, .ref f3, .ref wg, .int ea, .int sp, va_rf rt, .int 1, .int ak, .int wr, .ref pl, .int tk, .int (mm_b fa), .long st])) := ⟨_, rfl⟩
    rw [← eM_2] at hM hc_1
    refine lv_aload_n hx hb dX2_goes_29 rfl (lv_at hl 0 rfl) ?_
    refine va_get (D := Z.1) (ci := 1) (v := .int 1) (C := RX2) (T := TX2) (N := 17) hx hb hts in_X2 hown hE.1 (hM.at hc_1) 0 rfl mm_cX2 10 (by decide) (hts _ q2388) (fun _ h9 => h9) rfl dX2_goes_30 ?_
    refine lv_if_ne (tgt := 40) hx hb dX2_goes_33 (by decide) (fun _ => ?_) (fun h9 => absurd h9 (by decide : (1 : Int32) ≠ 0))
    refine lv_iconst (v := 0) hx hb dX2_goes_40 (by decide) ?_
    exact mm_retz hx hb hr rfl hlk hM hS ⟨rfl, eM_2⟩ dX2_goes_41 (Nat.le_of_ble_eq_true rfl) (Nat.le_of_ble_eq_true rfl)
  · skip
    refine lv_aload_n hx hb dX2_goes_0 rfl (lv_at hl 0 rfl) ?_
    refine lv_iload_n hx hb dX2_goes_1 rfl (lv_at hl 1 rfl) ?_
    refine lv_if_ne (tgt := 9) hx hb dX2_goes_2 (by decide) (fun _ => ?_) (fun h9 => absurd h9 (by decide : mm_b true ≠ 0))
    refine lv_iload_n hx hb dX2_goes_9 rfl (lv_at hl 2 rfl) ?_
    refine lv_if_ne (tgt := 17) hx hb dX2_goes_10 (by decide) (fun h9 => absurd rfl h9) (fun _ => ?_)
    refine lv_iconst (v := 2) hx hb dX2_goes_13 (by decide) ?_
    refine lv_goto (tgt := 26) hx hb dX2_goes_14 (by decide) ?_
    refine mm_put (D := Z.1) (ci := 1) (v := .int 2) (ty := .int) (C := RX2) (T := TX2) (N := 17) hx hb hts in_X2 tyX2 tyX2_ok nmX2 hown hE.1 hM hS hm9 mm_cX2 10 (by decide) (hts _ q2388) (fun _ h9 => h9) rfl (by decide +kernel) rfl rfl (Nat.le_of_ble_eq_true rfl) dX2_goes_26 (fun H locs hM hS => ?_)
    have hM : mm_P Z.1 mm_cl A (mm_U M a (.inr (1, [.int tm, .ref kd, .ref wh, .ref f1, .ref f2, .ref f3, .ref wg, .int ea, .int sp, va_rf rt, .int 2, .int ak, .int wr, .ref pl, .int tk, .int (mm_b fa), .long st]))) H := hM
    have hc_1 : (mm_U M a (.inr (1, [.int tm, .ref kd, .ref wh, .ref f1, .ref f2, .ref f3, .ref wg, .int ea, .int sp, va_rf rt, .int 2, .int ak, .int wr, .ref pl, .int tk, .int (mm_b fa), .long st]))) a = some (.inr (1, [.int tm, .ref kd, .ref wh, .ref f1, .ref f2, .ref f3, .ref wg, .int ea, .int sp, va_rf rt, .int 2, .int ak, .int wr, .ref pl, .int tk, .int (mm_b fa), .long st])) := mm_U_eq
    obtain ⟨M_2, eM_2⟩ : ∃ z, z = mm_U M a (.inr (1, [.int tm, .ref kd, .ref wh, .ref f1, .ref f2, .ref f3, .ref wg, .int ea, .int sp, va_rf rt, .int 2, .int ak, .int wr, .ref pl, .int tk, .int (mm_b fa), .long st])) := ⟨_, rfl⟩
    rw [← eM_2] at hM hc_1
    refine lv_aload_n hx hb dX2_goes_29 rfl (lv_at hl 0 rfl) ?_
    refine va_get (D := Z.1) (ci := 1) (v := .int 2) (C := RX2) (T := TX2) (N := 17) hx hb hts in_X2 hown hE.1 (hM.at hc_1) 0 rfl mm_cX2 10 (by decide) (hts _ q2388) (fun _ h9 => h9) rfl dX2_goes_30 ?_
    refine lv_if_ne (tgt := 40) hx hb dX2_goes_33 (by decide) (fun _ => ?_) (fun h9 => absurd h9 (by decide : (2 : Int32) ≠ 0))
    refine lv_iconst (v := 0) hx hb dX2_goes_40 (by decide) ?_
    exact mm_retz hx hb hr rfl hlk hM hS ⟨rfl, eM_2⟩ dX2_goes_41 (Nat.le_of_ble_eq_true rfl) (Nat.le_of_ble_eq_true rfl)
  · skip
    refine lv_aload_n hx hb dX2_goes_0 rfl (lv_at hl 0 rfl) ?_
    refine lv_iload_n hx hb dX2_goes_1 rfl (lv_at hl 1 rfl) ?_
    refine lv_if_ne (tgt := 9) hx hb dX2_goes_2 (by decide) (fun _ => ?_) (fun h9 => absurd h9 (by decide : mm_b true ≠ 0))
    refine lv_iload_n hx hb dX2_goes_9 rfl (lv_at hl 2 rfl) ?_
    refine lv_if_ne (tgt := 17) hx hb dX2_goes_10 (by decide) (fun h9 => absurd rfl h9) (fun _ => ?_)
    refine lv_iconst (v := 2) hx hb dX2_goes_13 (by decide) ?_
    refine lv_goto (tgt := 26) hx hb dX2_goes_14 (by decide) ?_
    refine mm_put (D := Z.1) (ci := 1) (v := .int 2) (ty := .int) (C := RX2) (T := TX2) (N := 17) hx hb hts in_X2 tyX2 tyX2_ok nmX2 hown hE.1 hM hS hm9 mm_cX2 10 (by decide) (hts _ q2388) (fun _ h9 => h9) rfl (by decide +kernel) rfl rfl (Nat.le_of_ble_eq_true rfl) dX2_goes_26 (fun H locs hM hS => ?_)
    have hM : mm_P Z.1 mm_cl A (mm_U M a (.inr (1, [.int tm, .ref kd, .ref wh, .ref f1, .ref f2, .ref f3, .ref wg, .int ea, .int sp, va_rf rt, .int 2, .int ak, .int wr, .ref pl, .int tk, .int (mm_b fa), .long st]))) H := hM
    have hc_1 : (mm_U M a (.inr (1, [.int tm, .ref kd, .ref wh, .ref f1, .ref f2, .ref f3, .ref wg, .int ea, .int sp, va_rf rt, .int 2, .int ak, .int wr, .ref pl, .int tk, .int (mm_b fa), .long st]))) a = some (.inr (1, [.int tm, .ref kd, .ref wh, .ref f1, .ref f2, .ref f3, .ref wg, .int ea, .int sp, va_rf rt, .int 2, .int ak, .int wr, .ref pl, .int tk, .int (mm_b fa), .long st])) := mm_U_eq
    obtain ⟨M_2, eM_2⟩ : ∃ z, z = mm_U M a (.inr (1, [.int tm, .ref kd, .ref wh, .ref f1, .ref f2, .ref f3, .ref wg, .int ea, .int sp, va_rf rt, .int 2, .int ak, .int wr, .ref pl, .int tk, .int (mm_b fa), .long st])) := ⟨_, rfl⟩
    rw [← eM_2] at hM hc_1
    refine lv_aload_n hx hb dX2_goes_29 rfl (lv_at hl 0 rfl) ?_
    refine va_get (D := Z.1) (ci := 1) (v := .int 2) (C := RX2) (T := TX2) (N := 17) hx hb hts in_X2 hown hE.1 (hM.at hc_1) 0 rfl mm_cX2 10 (by decide) (hts _ q2388) (fun _ h9 => h9) rfl dX2_goes_30 ?_
    refine lv_if_ne (tgt := 40) hx hb dX2_goes_33 (by decide) (fun _ => ?_) (fun h9 => absurd h9 (by decide : (2 : Int32) ≠ 0))
    refine lv_iconst (v := 0) hx hb dX2_goes_40 (by decide) ?_
    exact mm_retz hx hb hr rfl hlk hM hS ⟨rfl, eM_2⟩ dX2_goes_41 (Nat.le_of_ble_eq_true rfl) (Nat.le_of_ble_eq_true rfl)
  · skip
    refine lv_aload_n hx hb dX2_goes_0 rfl (lv_at hl 0 rfl) ?_
    refine lv_iload_n hx hb dX2_goes_1 rfl (lv_at hl 1 rfl) ?_
    refine lv_if_ne (tgt := 9) hx hb dX2_goes_2 (by decide) (fun _ => ?_) (fun h9 => absurd h9 (by decide : mm_b true ≠ 0))
    refine lv_iload_n hx hb dX2_goes_9 rfl (lv_at hl 2 rfl) ?_
    refine lv_if_ne (tgt := 17) hx hb dX2_goes_10 (by decide) (fun _ => ?_) (fun h9 => absurd h9 (by decide : mm_b true ≠ 0))
    refine lv_iload_n hx hb dX2_goes_17 rfl (lv_at hl 3 rfl) ?_
    refine lv_if_ne (tgt := 25) hx hb dX2_goes_18 (by decide) (fun h9 => absurd rfl h9) (fun _ => ?_)
    refine lv_iconst (v := 3) hx hb dX2_goes_21 (by decide) ?_
    refine lv_goto (tgt := 26) hx hb dX2_goes_22 (by decide) ?_
    refine mm_put (D := Z.1) (ci := 1) (v := .int 3) (ty := .int) (C := RX2) (T := TX2) (N := 17) hx hb hts in_X2 tyX2 tyX2_ok nmX2 hown hE.1 hM hS hm9 mm_cX2 10 (by decide) (hts _ q2388) (fun _ h9 => h9) rfl (by decide +kernel) rfl rfl (Nat.le_of_ble_eq_true rfl) dX2_goes_26 (fun H locs hM hS => ?_)
    have hM : mm_P Z.1 mm_cl A (mm_U M a (.inr (1, [.int tm, .ref kd, .ref wh, .ref f1, .ref f2, .ref f3, .ref wg, .int ea, .int sp, va_rf rt, .int 3, .int ak, .int wr, .ref pl, .int tk, .int (mm_b fa), .long st]))) H := hM
    have hc_1 : (mm_U M a (.inr (1, [.int tm, .ref kd, .ref wh, .ref f1, .ref f2, .ref f3, .ref wg, .int ea, .int sp, va_rf rt, .int 3, .int ak, .int wr, .ref pl, .int tk, .int (mm_b fa), .long st]))) a = some (.inr (1, [.int tm, .ref kd, .ref wh, .ref f1, .ref f2, .ref f3, .ref wg, .int ea, .int sp, va_rf rt, .int 3, .int ak, .int wr, .ref pl, .int tk, .int (mm_b fa), .long st])) := mm_U_eq
    obtain ⟨M_2, eM_2⟩ : ∃ z, z = mm_U M a (.inr (1, [.int tm, .ref kd, .ref wh, .ref f1, .ref f2, .ref f3, .ref wg, .int ea, .int sp, va_rf rt, .int 3, .int ak, .int wr, .ref pl, .int tk, .int (mm_b fa), .long st])) := ⟨_, rfl⟩
    rw [← eM_2] at hM hc_1
    refine lv_aload_n hx hb dX2_goes_29 rfl (lv_at hl 0 rfl) ?_
    refine va_get (D := Z.1) (ci := 1) (v := .int 3) (C := RX2) (T := TX2) (N := 17) hx hb hts in_X2 hown hE.1 (hM.at hc_1) 0 rfl mm_cX2 10 (by decide) (hts _ q2388) (fun _ h9 => h9) rfl dX2_goes_30 ?_
    refine lv_if_ne (tgt := 40) hx hb dX2_goes_33 (by decide) (fun _ => ?_) (fun h9 => absurd h9 (by decide : (3 : Int32) ≠ 0))
    refine lv_iconst (v := 0) hx hb dX2_goes_40 (by decide) ?_
    exact mm_retz hx hb hr rfl hlk hM hS ⟨rfl, eM_2⟩ dX2_goes_41 (Nat.le_of_ble_eq_true rfl) (Nat.le_of_ble_eq_true rfl)
  · skip
    refine lv_aload_n hx hb dX2_goes_0 rfl (lv_at hl 0 rfl) ?_
    refine lv_iload_n hx hb dX2_goes_1 rfl (lv_at hl 1 rfl) ?_
    refine lv_if_ne (tgt := 9) hx hb dX2_goes_2 (by decide) (fun _ => ?_) (fun h9 => absurd h9 (by decide : mm_b true ≠ 0))
    refine lv_iload_n hx hb dX2_goes_9 rfl (lv_at hl 2 rfl) ?_
    refine lv_if_ne (tgt := 17) hx hb dX2_goes_10 (by decide) (fun _ => ?_) (fun h9 => absurd h9 (by decide : mm_b true ≠ 0))
    refine lv_iload_n hx hb dX2_goes_17 rfl (lv_at hl 3 rfl) ?_
    refine lv_if_ne (tgt := 25) hx hb dX2_goes_18 (by decide) (fun _ => ?_) (fun h9 => absurd h9 (by decide : mm_b true ≠ 0))
    refine lv_iconst (v := 0) hx hb dX2_goes_25 (by decide) ?_
    refine mm_put (D := Z.1) (ci := 1) (v := .int 0) (ty := .int) (C := RX2) (T := TX2) (N := 17) hx hb hts in_X2 tyX2 tyX2_ok nmX2 hown hE.1 hM hS hm9 mm_cX2 10 (by decide) (hts _ q2388) (fun _ h9 => h9) rfl (by decide +kernel) rfl rfl (Nat.le_of_ble_eq_true rfl) dX2_goes_26 (fun H locs hM hS => ?_)
    have hM : mm_P Z.1 mm_cl A (mm_U M a (.inr (1, [.int tm, .ref kd, .ref wh, .ref f1, .ref f2, .ref f3, .ref wg, .int ea, .int sp, va_rf rt, .int 0, .int ak, .int wr, .ref pl, .int tk, .int (mm_b fa), .long st]))) H := hM
    have hc_1 : (mm_U M a (.inr (1, [.int tm, .ref kd, .ref wh, .ref f1, .ref f2, .ref f3, .ref wg, .int ea, .int sp, va_rf rt, .int 0, .int ak, .int wr, .ref pl, .int tk, .int (mm_b fa), .long st]))) a = some (.inr (1, [.int tm, .ref kd, .ref wh, .ref f1, .ref f2, .ref f3, .ref wg, .int ea, .int sp, va_rf rt, .int 0, .int ak, .int wr, .ref pl, .int tk, .int (mm_b fa), .long st])) := mm_U_eq
    obtain ⟨M_2, eM_2⟩ : ∃ z, z = mm_U M a (.inr (1, [.int tm, .ref kd, .ref wh, .ref f1, .ref f2, .ref f3, .ref wg, .int ea, .int sp, va_rf rt, .int 0, .int ak, .int wr, .ref pl, .int tk, .int (mm_b fa), .long st])) := ⟨_, rfl⟩
    rw [← eM_2] at hM hc_1
    refine lv_aload_n hx hb dX2_goes_29 rfl (lv_at hl 0 rfl) ?_
    refine va_get (D := Z.1) (ci := 1) (v := .int 0) (C := RX2) (T := TX2) (N := 17) hx hb hts in_X2 hown hE.1 (hM.at hc_1) 0 rfl mm_cX2 10 (by decide) (hts _ q2388) (fun _ h9 => h9) rfl dX2_goes_30 ?_
    refine lv_if_ne (tgt := 40) hx hb dX2_goes_33 (by decide) (fun h9 => absurd rfl h9) (fun _ => ?_)
    refine lv_iconst (v := 1) hx hb dX2_goes_36 (by decide) ?_
    refine lv_goto (tgt := 41) hx hb dX2_goes_37 (by decide) ?_
    exact mm_retz hx hb hr rfl hlk hM hS ⟨rfl, eM_2⟩ dX2_goes_41 (Nat.le_of_ble_eq_true rfl) (Nat.le_of_ble_eq_true rfl)
