/-! ===== the model's object: small methods ===== -/
set_option maxRecDepth 100000
/-- the model's object -/
abbrev md_E (tm : Int32) (kd wh f1 f2 f3 wg : Nat) (ea sp : Int32) (rt : Option Nat) (th ak wr : Int32) (pl : Nat) (tk : Int32) (fa : Bool) (st : Int64) : va_E := .inr (1, [.int tm, .ref kd, .ref wh, .ref f1, .ref f2, .ref f3, .ref wg, .int ea, .int sp, va_rf rt, .int th, .int ak, .int wr, .ref pl, .int tk, .int (mm_b fa), .long st])
abbrev ia_E (Z : mm_G) (n : Nat) (f : Nat → Int32) : va_E := .inl (Z.2.1 0, n, .inl f)

set_option maxHeartbeats 4000000 in
set_option maxRecDepth 100000 in
theorem c_X2_isTerm (l : Launch) (Z : mm_G) {M : mm_M} {a kd wh f1 f2 f3 wg pl : Nat} {tm ea sp th ak wr tk : Int32} {rt : Option Nat} {fa : Bool} {st : Int64} (hm9 : M a = some (md_E tm kd wh f1 f2 f3 wg ea sp rt th ak wr pl tk fa st)) {i : Int32} : mm_C l Z yX2_isTerm (ws_ yX2_isTerm cX2_isTerm 2 (some .boolean)) { frames := 1, cells := 0, slots := 0, locals := 40 } [.ref a, .int i] M (fun v M' => v = some (.int (mm_b (decide (0 ≤ i ∧ i ≤ tm - 1)))) ∧ M' = M) mm_nx := by
  refine mm_ofW (cc := cX2_isTerm) (maxL := 2) (ret := (some .boolean)) (by decide) rfl (Nat.le_of_ble_eq_true rfl) ?_
  intro p e s m below meth c A ls hx hb hr hlk hml hown hmn hts htab hE hST hA hM hS hl
  replace hl : lv_has ls 2 [(0, .ref a), (1, .int i)] := hl
  refine lv_iload_n hx hb dX2_isTerm_0 rfl (lv_at hl 1 rfl) ?_
  refine lv_iconst (v := 0) hx hb dX2_isTerm_1 (by decide) ?_
  refine lv_aload_n hx hb dX2_isTerm_2 rfl (lv_at hl 0 rfl) ?_
  refine va_get (D := Z.1) (ci := 1) (v := .int tm) (C := RX2) (T := TX2) (N := 17) hx hb hts in_X2 hown hE.1 (hM.at hm9) 0 rfl mm_cX2 0 (by decide) (hts _ q2378) (fun _ h9 => h9) rfl dX2_isTerm_3 ?_
  refine lv_iconst (v := 1) hx hb dX2_isTerm_6 (by decide) ?_
  refine lv_isub hx hb dX2_isTerm_7 ?_
  refine mm_callS (As := [.int i, .int 0, .int (tm - 1)]) (rest := []) ⟨hx, hb, hml, hown, hts⟩ hE hST hA (c_X2_in l Z) (va_cwS 3 hts (lw_S q2438 q2439 q54 q2440) rfl rfl rfl (by decide +kernel) ⟨(Nat.le_of_ble_eq_true rfl), (Nat.le_of_ble_eq_true rfl)⟩) hM hS rfl hl.1 (Nat.le_of_ble_eq_true rfl) dX2_isTerm_8 rfl ⟨(Nat.le_of_ble_eq_true rfl), (Nat.le_of_ble_eq_true rfl)⟩ (fun _ _ _ _ _ _ h9 => h9.elim) (fun v_1 M_2 H locs hp_3 hM hS => ?_)
  obtain ⟨rfl, eM_2⟩ := hp_3
  rw [eM_2] at hM
  exact mm_retz hx hb hr (mm_b_nar _) hlk hM hS ⟨rfl, rfl⟩ dX2_isTerm_11 (Nat.le_of_ble_eq_true rfl) (Nat.le_of_ble_eq_true rfl)
set_option maxHeartbeats 4000000 in
set_option maxRecDepth 100000 in
theorem c_X2_isOne_n (l : Launch) (Z : mm_G) {M : mm_M} {a kd wh f1 f2 f3 wg pl : Nat} {tm ea sp th ak wr tk : Int32} {rt : Option Nat} {fa : Bool} {st : Int64} (hm9 : M a = some (md_E tm kd wh f1 f2 f3 wg ea sp rt th ak wr pl tk fa st)) {i : Int32} (hi : ¬ (0 ≤ i ∧ i ≤ tm - 1)) : mm_C l Z yX2_isOne (ws_ yX2_isOne cX2_isOne 2 (some .boolean)) { frames := 2, cells := 0, slots := 0, locals := 80 } [.ref a, .int i] M (fun v M' => v = some (.int 0) ∧ M' = M) mm_nx := by
  refine mm_ofW (cc := cX2_isOne) (maxL := 2) (ret := (some .boolean)) (by decide) rfl (Nat.le_of_ble_eq_true rfl) ?_
  intro p e s m below meth c A ls hx hb hr hlk hml hown hmn hts htab hE hST hA hM hS hl
  replace hl : lv_has ls 2 [(0, .ref a), (1, .int i)] := hl
  have e9 : decide (0 ≤ i ∧ i ≤ tm - 1) = false := decide_eq_false hi
  refine lv_aload_n hx hb dX2_isOne_0 rfl (lv_at hl 0 rfl) ?_
  refine lv_iload_n hx hb dX2_isOne_1 rfl (lv_at hl 1 rfl) ?_
  refine mm_callV (As := [.int i]) (rest := []) ⟨hx, hb, hml, hown, hts⟩ hE hST hA (c_X2_isTerm l Z hm9) (cwV 1 hts (lw_V q2464 q2466 qs32 q54 q2467) rfl rfl rfl (by decide +kernel) ⟨(Nat.le_of_ble_eq_true rfl), (Nat.le_of_ble_eq_true rfl)⟩) hM hS mm_cX2 hm9 rfl hl.1 (Nat.le_of_ble_eq_true rfl) dX2_isOne_2 rfl ⟨(Nat.le_of_ble_eq_true rfl), (Nat.le_of_ble_eq_true rfl)⟩ (fun _ _ _ _ _ _ h9 => h9.elim) (fun v_1 M_2 H locs hp_3 hM hS => ?_)
  obtain ⟨rfl, eM_2⟩ := hp_3
  rw [eM_2] at hM
  rw [show (mm_b (decide (0 ≤ i ∧ i ≤ tm - 1)) : Int32) = 0 from by rw [e9]; rfl]
  refine lv_if_eq (tgt := 23) hx hb dX2_isOne_5 (by decide) (fun _ => ?_) (fun h9 => absurd rfl h9)
  refine lv_iconst (v := 0) hx hb dX2_isOne_23 (by decide) ?_
  exact mm_retz hx hb hr rfl hlk hM hS ⟨rfl, rfl⟩ dX2_isOne_24 (Nat.le_of_ble_eq_true rfl) (Nat.le_of_ble_eq_true rfl)
set_option maxHeartbeats 4000000 in
set_option maxRecDepth 100000 in
theorem c_X2_isOne_k (l : Launch) (Z : mm_G) {M : mm_M} {a kd wh f1 f2 f3 wg pl : Nat} {tm ea sp th ak wr tk : Int32} {rt : Option Nat} {fa : Bool} {st : Int64} (hm9 : M a = some (md_E tm kd wh f1 f2 f3 wg ea sp rt th ak wr pl tk fa st)) {k n : Nat} {f : Nat → Int32} (hi : 0 ≤ nI k ∧ nI k ≤ tm - 1) (hk : k < n) (hn : n < 2 ^ 20) (hkd : M kd = some (ia_E Z n f)) : mm_C l Z yX2_isOne (ws_ yX2_isOne cX2_isOne 2 (some .boolean)) { frames := 2, cells := 0, slots := 0, locals := 80 } [.ref a, .int (nI k)] M (fun v M' => v = some (.int (mm_b (decide (f k < 15)))) ∧ M' = M) mm_nx := by
  refine mm_ofW (cc := cX2_isOne) (maxL := 2) (ret := (some .boolean)) (by decide) rfl (Nat.le_of_ble_eq_true rfl) ?_
  intro p e s m below meth c A ls hx hb hr hlk hml hown hmn hts htab hE hST hA hM hS hl
  replace hl : lv_has ls 2 [(0, .ref a), (1, .int (nI k))] := hl
  have e9 : decide (0 ≤ nI k ∧ nI k ≤ tm - 1) = true := decide_eq_true hi
  refine lv_aload_n hx hb dX2_isOne_0 rfl (lv_at hl 0 rfl) ?_
  refine lv_iload_n hx hb dX2_isOne_1 rfl (lv_at hl 1 rfl) ?_
  refine mm_callV (As := [.int (nI k)]) (rest := []) ⟨hx, hb, hml, hown, hts⟩ hE hST hA (c_X2_isTerm l Z hm9) (cwV 1 hts (lw_V q2464 q2466 qs32 q54 q2467) rfl rfl rfl (by decide +kernel) ⟨(Nat.le_of_ble_eq_true rfl), (Nat.le_of_ble_eq_true rfl)⟩) hM hS mm_cX2 hm9 rfl hl.1 (Nat.le_of_ble_eq_true rfl) dX2_isOne_2 rfl ⟨(Nat.le_of_ble_eq_true rfl), (Nat.le_of_ble_eq_true rfl)⟩ (fun _ _ _ _ _ _ h9 => h9.elim) (fun v_1 M_2 H locs hp_3 hM hS => ?_)
  obtain ⟨rfl, eM_2⟩ := hp_3
  rw [eM_2] at hM
  rw [show (mm_b (decide (0 ≤ nI k ∧ nI k ≤ tm - 1)) : Int32) = 1 from by rw [e9]; rfl]
  refine lv_if_eq (tgt := 23) hx hb dX2_isOne_5 (by decide) (fun h9 => absurd h9 (by decide : (1 : Int32) ≠ 0)) (fun _ => ?_)
  refine lv_aload_n hx hb dX2_isOne_8 rfl (lv_at hl 0 rfl) ?_
  refine va_get (D := Z.1) (ci := 1) (v := .ref kd) (C := RX2) (T := TX2) (N := 17) hx hb hts in_X2 hown hE.1 (hM.at hm9) 0 rfl mm_cX2 1 (by decide) (hts _ q2379) (fun _ h9 => h9) rfl dX2_isOne_9 ?_
  refine lv_iload_n hx hb dX2_isOne_12 rfl (lv_at hl 1 rfl) ?_
  refine mm_ialdK (k := k) hx hb hE hM hkd rfl hk (by omega) dX2_isOne_13 ?_
  refine lv_bipush (v := 15) hx hb dX2_isOne_14 (by decide) ?_
  refine lv_icmp_ge (tgt := 23) hx hb dX2_isOne_16 (by decide) (fun c_4 => ?_) (fun c_4 => ?_)
  · have e8 : decide (f k < 15) = false := decide_eq_false (Int32.not_lt.2 c_4)
    refine lv_iconst (v := 0) hx hb dX2_isOne_23 (by decide) ?_
    exact mm_retz hx hb hr rfl hlk hM hS ⟨by rw [e8]; rfl, rfl⟩ dX2_isOne_24 (Nat.le_of_ble_eq_true rfl) (Nat.le_of_ble_eq_true rfl)
  · have e8 : decide (f k < 15) = true := decide_eq_true (Int32.not_le.1 c_4)
    refine lv_iconst (v := 1) hx hb dX2_isOne_19 (by decide) ?_
    refine lv_goto (tgt := 24) hx hb dX2_isOne_20 (by decide) ?_
    exact mm_retz hx hb hr rfl hlk hM hS ⟨by rw [e8]; rfl, rfl⟩ dX2_isOne_24 (Nat.le_of_ble_eq_true rfl) (Nat.le_of_ble_eq_true rfl)
set_option maxHeartbeats 4000000 in
set_option maxRecDepth 100000 in
theorem c_X2_isCases_n (l : Launch) (Z : mm_G) {M : mm_M} {a kd wh f1 f2 f3 wg pl : Nat} {tm ea sp th ak wr tk : Int32} {rt : Option Nat} {fa : Bool} {st : Int64} (hm9 : M a = some (md_E tm kd wh f1 f2 f3 wg ea sp rt th ak wr pl tk fa st)) {i : Int32} (hi : ¬ (0 ≤ i ∧ i ≤ tm - 1)) : mm_C l Z yX2_isCases (ws_ yX2_isCases cX2_isCases 2 (some .boolean)) { frames := 2, cells := 0, slots := 0, locals := 80 } [.ref a, .int i] M (fun v M' => v = some (.int 0) ∧ M' = M) mm_nx := by
  refine mm_ofW (cc := cX2_isCases) (maxL := 2) (ret := (some .boolean)) (by decide) rfl (Nat.le_of_ble_eq_true rfl) ?_
  intro p e s m below meth c A ls hx hb hr hlk hml hown hmn hts htab hE hST hA hM hS hl
  replace hl : lv_has ls 2 [(0, .ref a), (1, .int i)] := hl
  have e9 : decide (0 ≤ i ∧ i ≤ tm - 1) = false := decide_eq_false hi
  refine lv_aload_n hx hb dX2_isCases_0 rfl (lv_at hl 0 rfl) ?_
  refine lv_iload_n hx hb dX2_isCases_1 rfl (lv_at hl 1 rfl) ?_
  refine mm_callV (As := [.int i]) (rest := []) ⟨hx, hb, hml, hown, hts⟩ hE hST hA (c_X2_isTerm l Z hm9) (cwV 1 hts (lw_V q2464 q2466 qs32 q54 q2467) rfl rfl rfl (by decide +kernel) ⟨(Nat.le_of_ble_eq_true rfl), (Nat.le_of_ble_eq_true rfl)⟩) hM hS mm_cX2 hm9 rfl hl.1 (Nat.le_of_ble_eq_true rfl) dX2_isCases_2 rfl ⟨(Nat.le_of_ble_eq_true rfl), (Nat.le_of_ble_eq_true rfl)⟩ (fun _ _ _ _ _ _ h9 => h9.elim) (fun v_1 M_2 H locs hp_3 hM hS => ?_)
  obtain ⟨rfl, eM_2⟩ := hp_3
  rw [eM_2] at hM
  rw [show (mm_b (decide (0 ≤ i ∧ i ≤ tm - 1)) : Int32) = 0 from by rw [e9]; rfl]
  refine lv_if_eq (tgt := 23) hx hb dX2_isCases_5 (by decide) (fun _ => ?_) (fun h9 => absurd rfl h9)
  refine lv_iconst (v := 0) hx hb dX2_isCases_23 (by decide) ?_
  exact mm_retz hx hb hr rfl hlk hM hS ⟨rfl, rfl⟩ dX2_isCases_24 (Nat.le_of_ble_eq_true rfl) (Nat.le_of_ble_eq_true rfl)
set_option maxHeartbeats 4000000 in
set_option maxRecDepth 100000 in
theorem c_X2_isCases_k (l : Launch) (Z : mm_G) {M : mm_M} {a kd wh f1 f2 f3 wg pl : Nat} {tm ea sp th ak wr tk : Int32} {rt : Option Nat} {fa : Bool} {st : Int64} (hm9 : M a = some (md_E tm kd wh f1 f2 f3 wg ea sp rt th ak wr pl tk fa st)) {k n : Nat} {f : Nat → Int32} (hi : 0 ≤ nI k ∧ nI k ≤ tm - 1) (hk : k < n) (hn : n < 2 ^ 20) (hkd : M kd = some (ia_E Z n f)) : mm_C l Z yX2_isCases (ws_ yX2_isCases cX2_isCases 2 (some .boolean)) { frames := 2, cells := 0, slots := 0, locals := 80 } [.ref a, .int (nI k)] M (fun v M' => v = some (.int (mm_b (decide (15 ≤ f k)))) ∧ M' = M) mm_nx := by
  refine mm_ofW (cc := cX2_isCases) (maxL := 2) (ret := (some .boolean)) (by decide) rfl (Nat.le_of_ble_eq_true rfl) ?_
  intro p e s m below meth c A ls hx hb hr hlk hml hown hmn hts htab hE hST hA hM hS hl
  replace hl : lv_has ls 2 [(0, .ref a), (1, .int (nI k))] := hl
  have e9 : decide (0 ≤ nI k ∧ nI k ≤ tm - 1) = true := decide_eq_true hi
  refine lv_aload_n hx hb dX2_isCases_0 rfl (lv_at hl 0 rfl) ?_
  refine lv_iload_n hx hb dX2_isCases_1 rfl (lv_at hl 1 rfl) ?_
  refine mm_callV (As := [.int (nI k)]) (rest := []) ⟨hx, hb, hml, hown, hts⟩ hE hST hA (c_X2_isTerm l Z hm9) (cwV 1 hts (lw_V q2464 q2466 qs32 q54 q2467) rfl rfl rfl (by decide +kernel) ⟨(Nat.le_of_ble_eq_true rfl), (Nat.le_of_ble_eq_true rfl)⟩) hM hS mm_cX2 hm9 rfl hl.1 (Nat.le_of_ble_eq_true rfl) dX2_isCases_2 rfl ⟨(Nat.le_of_ble_eq_true rfl), (Nat.le_of_ble_eq_true rfl)⟩ (fun _ _ _ _ _ _ h9 => h9.elim) (fun v_1 M_2 H locs hp_3 hM hS => ?_)
  obtain ⟨rfl, eM_2⟩ := hp_3
  rw [eM_2] at hM
  rw [show (mm_b (decide (0 ≤ nI k ∧ nI k ≤ tm - 1)) : Int32) = 1 from by rw [e9]; rfl]
  refine lv_if_eq (tgt := 23) hx hb dX2_isCases_5 (by decide) (fun h9 => absurd h9 (by decide : (1 : Int32) ≠ 0)) (fun _ => ?_)
  refine lv_aload_n hx hb dX2_isCases_8 rfl (lv_at hl 0 rfl) ?_
  refine va_get (D := Z.1) (ci := 1) (v := .ref kd) (C := RX2) (T := TX2) (N := 17) hx hb hts in_X2 hown hE.1 (hM.at hm9) 0 rfl mm_cX2 1 (by decide) (hts _ q2379) (fun _ h9 => h9) rfl dX2_isCases_9 ?_
  refine lv_iload_n hx hb dX2_isCases_12 rfl (lv_at hl 1 rfl) ?_
  refine mm_ialdK (k := k) hx hb hE hM hkd rfl hk (by omega) dX2_isCases_13 ?_
  refine lv_bipush (v := 15) hx hb dX2_isCases_14 (by decide) ?_
  refine lv_icmp_lt (tgt := 23) hx hb dX2_isCases_16 (by decide) (fun c_4 => ?_) (fun c_4 => ?_)
  · have e8 : decide (15 ≤ f k) = false := decide_eq_false (Int32.not_le.2 c_4)
    refine lv_iconst (v := 0) hx hb dX2_isCases_23 (by decide) ?_
    exact mm_retz hx hb hr rfl hlk hM hS ⟨by rw [e8]; rfl, rfl⟩ dX2_isCases_24 (Nat.le_of_ble_eq_true rfl) (Nat.le_of_ble_eq_true rfl)
  · have e8 : decide (15 ≤ f k) = true := decide_eq_true (Int32.not_lt.1 c_4)
    refine lv_iconst (v := 1) hx hb dX2_isCases_19 (by decide) ?_
    refine lv_goto (tgt := 24) hx hb dX2_isCases_20 (by decide) ?_
    exact mm_retz hx hb hr rfl hlk hM hS ⟨by rw [e8]; rfl, rfl⟩ dX2_isCases_24 (Nat.le_of_ble_eq_true rfl) (Nat.le_of_ble_eq_true rfl)
set_option maxHeartbeats 4000000 in
set_option maxRecDepth 100000 in
theorem c_X2_weightOf_n (l : Launch) (Z : mm_G) {M : mm_M} {a kd wh f1 f2 f3 wg pl : Nat} {tm ea sp th ak wr tk : Int32} {rt : Option Nat} {fa : Bool} {st : Int64} (hm9 : M a = some (md_E tm kd wh f1 f2 f3 wg ea sp rt th ak wr pl tk fa st)) : mm_C l Z yX2_weightOf (ws_ yX2_weightOf cX2_weightOf 2 (some .int)) { frames := 0, cells := 0, slots := 0, locals := 0 } [.ref a, .int (-1)] M (fun v M' => v = some (.int 0) ∧ M' = M) mm_nx := by
  refine mm_ofW (cc := cX2_weightOf) (maxL := 2) (ret := (some .int)) (by decide) rfl (Nat.le_of_ble_eq_true rfl) ?_
  intro p e s m below meth c A ls hx hb hr hlk hml hown hmn hts htab hE hST hA hM hS hl
  replace hl : lv_has ls 2 [(0, .ref a), (1, .int (-1))] := hl
  refine lv_iload_n hx hb dX2_weightOf_0 rfl (lv_at hl 1 rfl) ?_
  refine lv_iconst (v := -1) hx hb dX2_weightOf_1 (by decide) ?_
  refine lv_icmp_ne (tgt := 9) hx hb dX2_weightOf_2 (by decide) (fun h9 => absurd rfl h9) (fun _ => ?_)
  refine lv_iconst (v := 0) hx hb dX2_weightOf_5 (by decide) ?_
  refine lv_goto (tgt := 15) hx hb dX2_weightOf_6 (by decide) ?_
  exact mm_reti hx hb hr hlk hM hS ⟨rfl, rfl⟩ dX2_weightOf_15 (Nat.le_of_ble_eq_true rfl) (Nat.le_of_ble_eq_true rfl)
set_option maxHeartbeats 4000000 in
set_option maxRecDepth 100000 in
theorem c_X2_weightOf_k (l : Launch) (Z : mm_G) {M : mm_M} {a kd wh f1 f2 f3 wg pl : Nat} {tm ea sp th ak wr tk : Int32} {rt : Option Nat} {fa : Bool} {st : Int64} (hm9 : M a = some (md_E tm kd wh f1 f2 f3 wg ea sp rt th ak wr pl tk fa st)) {k n : Nat} {f : Nat → Int32} (hk : k < n) (hn : n < 2 ^ 20) (hkd : M wg = some (ia_E Z n f)) : mm_C l Z yX2_weightOf (ws_ yX2_weightOf cX2_weightOf 2 (some .int)) { frames := 0, cells := 0, slots := 0, locals := 0 } [.ref a, .int (nI k)] M (fun v M' => v = some (.int (f k)) ∧ M' = M) mm_nx := by
  refine mm_ofW (cc := cX2_weightOf) (maxL := 2) (ret := (some .int)) (by decide) rfl (Nat.le_of_ble_eq_true rfl) ?_
  intro p e s m below meth c A ls hx hb hr hlk hml hown hmn hts htab hE hST hA hM hS hl
  replace hl : lv_has ls 2 [(0, .ref a), (1, .int (nI k))] := hl
  have hne : ¬ nI k = -1 := fun h => nI_pos (n := k) (by omega) (by rw [h]; decide)
  refine lv_iload_n hx hb dX2_weightOf_0 rfl (lv_at hl 1 rfl) ?_
  refine lv_iconst (v := -1) hx hb dX2_weightOf_1 (by decide) ?_
  refine lv_icmp_ne (tgt := 9) hx hb dX2_weightOf_2 (by decide) (fun _ => ?_) (fun h9 => absurd h9 hne)
  refine lv_aload_n hx hb dX2_weightOf_9 rfl (lv_at hl 0 rfl) ?_
  refine va_get (D := Z.1) (ci := 1) (v := .ref wg) (C := RX2) (T := TX2) (N := 17) hx hb hts in_X2 hown hE.1 (hM.at hm9) 0 rfl mm_cX2 6 (by decide) (hts _ q2384) (fun _ h9 => h9) rfl dX2_weightOf_10 ?_
  refine lv_iload_n hx hb dX2_weightOf_13 rfl (lv_at hl 1 rfl) ?_
  refine mm_ialdK (k := k) hx hb hE hM hkd rfl hk (by omega) dX2_weightOf_14 ?_
  exact mm_reti hx hb hr hlk hM hS ⟨rfl, rfl⟩ dX2_weightOf_15 (Nat.le_of_ble_eq_true rfl) (Nat.le_of_ble_eq_true rfl)
