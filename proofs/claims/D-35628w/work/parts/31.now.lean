/-! ===== the component's types and now() ===== -/
set_option maxRecDepth 100000
abbrev co_E (bd : Option Nat) (lv : Int32) (lk : Bool) : va_E := .inr (9, [va_rf bd, .int lv, .int (mm_b lk)])
abbrev cf_E (fr to sm bq rn : Option Nat) : va_E := .inr (10, [va_rf fr, va_rf to, va_rf sm, va_rf bq, va_rf rn])
abbrev cb_E (iv : Bool) (rw sm bq rn : Option Nat) : va_E := .inr (6, [.int (mm_b iv), va_rf rw, va_rf sm, va_rf bq, va_rf rn])
abbrev cn_E : va_E := .inr (51, [])
/-- a is a type's cell that has the next type sm (bound of an Open, same of the others) -/
def ct_at (M : mm_M) (a : Nat) (sm : Option Nat) : Prop := (∃ lv lk, M a = some (co_E sm lv lk)) ∨ (∃ fr to bq rn, M a = some (cf_E fr to sm bq rn)) ∨ (∃ iv rw bq rn, M a = some (cb_E iv rw sm bq rn)) ∨ (sm = none ∧ M a = some cn_E)
/-- now() of a is b, d steps further -/
def ct_now (M : mm_M) : Nat → Nat → Nat → Prop
  | 0, a, b => a = b ∧ ct_at M a none
  | d + 1, a, b => ∃ q : Nat, ct_at M a (some q) ∧ ct_now M d q b
abbrev nw_r (d : Nat) : Room := { frames := d, cells := 0, slots := 0, locals := 20 * d }
abbrev nw_P (b : Nat) (M : mm_M) : Option Value → mm_M → Prop := fun v M' => v = some (.ref b) ∧ M' = M
/-- now()'s contracts, by the class of a -/
def c_nw (l : Launch) (Z : mm_G) (M : mm_M) (d a b : Nat) : Prop :=
  (∀ sm lv lk, M a = some (co_E sm lv lk) → mm_C l Z yX11_now (ws_ yX11_now cX11_now 1 (some (.object "RowenTongue$Type"))) (nw_r d) [.ref a] M (nw_P b M) mm_nx) ∧
  (∀ fr to sm bq rn, M a = some (cf_E fr to sm bq rn) → mm_C l Z yX12_now (ws_ yX12_now cX12_now 1 (some (.object "RowenTongue$Type"))) (nw_r d) [.ref a] M (nw_P b M) mm_nx) ∧
  (∀ iv rw sm bq rn, M a = some (cb_E iv rw sm bq rn) → mm_C l Z yX8_now (ws_ yX8_now cX8_now 1 (some (.object "RowenTongue$Type"))) (nw_r d) [.ref a] M (nw_P b M) mm_nx) ∧
  (M a = some cn_E → mm_C l Z yX7_now (ws_ yX7_now cX7_now 1 (some (.object "RowenTongue$Type"))) (nw_r d) [.ref a] M (nw_P b M) mm_nx)

set_option maxHeartbeats 4000000 in
set_option maxRecDepth 100000 in
theorem c_X11_now_0 (l : Launch) (Z : mm_G) {M : mm_M} {a : Nat} {lv : Int32} {lk : Bool} (ha9 : M a = some (co_E none lv lk)) : mm_C l Z yX11_now (ws_ yX11_now cX11_now 1 (some (.object "RowenTongue$Type"))) (nw_r 0) [.ref a] M (nw_P a M) mm_nx := by
  refine mm_ofW (cc := cX11_now) (maxL := 1) (ret := (some (.object "RowenTongue$Type"))) (by decide) rfl (Nat.le_of_ble_eq_true rfl) ?_
  intro p e s m below meth c A ls hx hb hr hlk hml hown hmn hts htab hE hST hA hM hS hl
  replace hl : lv_has ls 1 [(0, .ref a)] := hl
  refine lv_aload_n hx hb dX11_now_0 rfl (lv_at hl 0 rfl) ?_
  refine va_get (D := Z.1) (ci := 9) (v := .null) (C := RX11) (T := TX11) (N := 3) hx hb hts in_X11 hown hE.1 (hM.at ha9) 0 rfl mm_cX11 0 (by decide) (hts _ q806) (fun _ h9 => h9) rfl dX11_now_1 ?_
  refine lv_ifnonnullN hx hb dX11_now_4 ?_
  refine lv_aload_n hx hb dX11_now_7 rfl (lv_at hl 0 rfl) ?_
  refine lv_goto (tgt := 18) hx hb dX11_now_8 (by decide) ?_
  exact mm_reta hx hb hr (Or.inl ⟨_, rfl⟩) (Or.inr ⟨_, rfl⟩) hlk hM hS ⟨rfl, rfl⟩ dX11_now_18 (Nat.le_of_ble_eq_true rfl) (Nat.le_of_ble_eq_true rfl)
set_option maxHeartbeats 4000000 in
set_option maxRecDepth 100000 in
theorem c_X11_now_s (l : Launch) (Z : mm_G) {M : mm_M} {a b d q : Nat} {lv : Int32} {lk : Bool} (ha9 : M a = some (co_E (some q) lv lk)) (hq : ct_at M q none ∨ ∃ q2, ct_at M q (some q2)) (ih : c_nw l Z M d q b) : mm_C l Z yX11_now (ws_ yX11_now cX11_now 1 (some (.object "RowenTongue$Type"))) (nw_r (d + 1)) [.ref a] M (nw_P b M) mm_nx := by
  refine mm_ofW (cc := cX11_now) (maxL := 1) (ret := (some (.object "RowenTongue$Type"))) (by decide) rfl (Nat.le_of_ble_eq_true rfl) ?_
  intro p e s m below meth c A ls hx hb hr hlk hml hown hmn hts htab hE hST hA hM hS hl
  replace hl : lv_has ls 1 [(0, .ref a)] := hl
  refine lv_aload_n hx hb dX11_now_0 rfl (lv_at hl 0 rfl) ?_
  refine va_get (D := Z.1) (ci := 9) (v := .ref q) (C := RX11) (T := TX11) (N := 3) hx hb hts in_X11 hown hE.1 (hM.at ha9) 0 rfl mm_cX11 0 (by decide) (hts _ q806) (fun _ h9 => h9) rfl dX11_now_1 ?_
  refine lv_ifnonnull (tgt := 11) hx hb dX11_now_4 (by decide) ?_
  refine lv_aload_n hx hb dX11_now_11 rfl (lv_at hl 0 rfl) ?_
  refine va_get (D := Z.1) (ci := 9) (v := .ref q) (C := RX11) (T := TX11) (N := 3) hx hb hts in_X11 hown hE.1 (hM.at ha9) 0 rfl mm_cX11 0 (by decide) (hts _ q806) (fun _ h9 => h9) rfl dX11_now_12 ?_
  have hq2 : ∃ s9, ct_at M q s9 := by rcases hq with h | ⟨q2, h⟩ <;> exact ⟨_, h⟩
  obtain ⟨s9, hq3⟩ := hq2
  rcases hq3 with ⟨lv9, lk9, hq9⟩ | ⟨f9, t9, b9, r9, hq9⟩ | ⟨i9, w9, b9, r9, hq9⟩ | ⟨-, hq9⟩
  · skip
    refine mm_callU (As := []) (rest := []) ⟨hx, hb, hml, hown, hts⟩ hE hST hA (ih.1 _ _ _ hq9) (va_cwO (x := ⟨"RowenTongue$Type", "now", "()LRowenTongue$Type;"⟩) (C := RX11) (owner := "RowenTongue$Type") 0 hts (lw_app (lw_in _ [717, 707, 706, 720, 715, 78] (by decide +kernel) (by decide +kernel)) (lw_meth q716)) rfl rfl rfl q721 (by decide +kernel) ⟨(by show _ ≤ _; simp only; omega), (by show _ ≤ _; simp only; omega)⟩) hM hS mm_cX11 hq9 rfl hl.1 (Nat.le_of_ble_eq_true rfl) dX11_now_15 rfl ⟨(Nat.le_of_ble_eq_true rfl), (Nat.le_of_ble_eq_true rfl)⟩ (fun _ _ _ _ _ _ h9 => h9.elim) (fun v_1 M_2 H locs hp_3 hM hS => ?_)
    obtain ⟨rfl, eM_2⟩ := hp_3
    rw [eM_2] at hM
    exact mm_reta hx hb hr (Or.inl ⟨_, rfl⟩) (Or.inr ⟨_, rfl⟩) hlk hM hS ⟨rfl, rfl⟩ dX11_now_18 (Nat.le_of_ble_eq_true rfl) (Nat.le_of_ble_eq_true rfl)
  · skip
    refine mm_callU (As := []) (rest := []) ⟨hx, hb, hml, hown, hts⟩ hE hST hA (ih.2.1 _ _ _ _ _ hq9) (va_cwO (x := ⟨"RowenTongue$Type", "now", "()LRowenTongue$Type;"⟩) (C := RX12) (owner := "RowenTongue$Type") 0 hts (lw_app (lw_in _ [717, 707, 706, 718, 712, 79] (by decide +kernel) (by decide +kernel)) (lw_meth q713)) rfl rfl rfl q721 (by decide +kernel) ⟨(by show _ ≤ _; simp only; omega), (by show _ ≤ _; simp only; omega)⟩) hM hS mm_cX12 hq9 rfl hl.1 (Nat.le_of_ble_eq_true rfl) dX11_now_15 rfl ⟨(Nat.le_of_ble_eq_true rfl), (Nat.le_of_ble_eq_true rfl)⟩ (fun _ _ _ _ _ _ h9 => h9.elim) (fun v_1 M_2 H locs hp_3 hM hS => ?_)
    obtain ⟨rfl, eM_2⟩ := hp_3
    rw [eM_2] at hM
    exact mm_reta hx hb hr (Or.inl ⟨_, rfl⟩) (Or.inr ⟨_, rfl⟩) hlk hM hS ⟨rfl, rfl⟩ dX11_now_18 (Nat.le_of_ble_eq_true rfl) (Nat.le_of_ble_eq_true rfl)
  · skip
    refine mm_callU (As := []) (rest := []) ⟨hx, hb, hml, hown, hts⟩ hE hST hA (ih.2.2.1 _ _ _ _ _ hq9) (va_cwO (x := ⟨"RowenTongue$Type", "now", "()LRowenTongue$Type;"⟩) (C := RX8) (owner := "RowenTongue$Type") 0 hts (lw_app (lw_in _ [717, 707, 706, 708, 709, 74] (by decide +kernel) (by decide +kernel)) (lw_meth q710)) rfl rfl rfl q721 (by decide +kernel) ⟨(by show _ ≤ _; simp only; omega), (by show _ ≤ _; simp only; omega)⟩) hM hS mm_cX8 hq9 rfl hl.1 (Nat.le_of_ble_eq_true rfl) dX11_now_15 rfl ⟨(Nat.le_of_ble_eq_true rfl), (Nat.le_of_ble_eq_true rfl)⟩ (fun _ _ _ _ _ _ h9 => h9.elim) (fun v_1 M_2 H locs hp_3 hM hS => ?_)
    obtain ⟨rfl, eM_2⟩ := hp_3
    rw [eM_2] at hM
    exact mm_reta hx hb hr (Or.inl ⟨_, rfl⟩) (Or.inr ⟨_, rfl⟩) hlk hM hS ⟨rfl, rfl⟩ dX11_now_18 (Nat.le_of_ble_eq_true rfl) (Nat.le_of_ble_eq_true rfl)
  · skip
    refine mm_callU (As := []) (rest := []) ⟨hx, hb, hml, hown, hts⟩ hE hST hA (ih.2.2.2 hq9) (va_cwU (x := ⟨"RowenTongue$Type", "now", "()LRowenTongue$Type;"⟩) (C := "RowenTongue$Numbers") (owner := "RowenTongue$Type") 0 hts (lw_app (lw_in _ [717, 707, 719, 706, 73] (by decide +kernel) (by decide +kernel)) (lw_meth q721)) rfl rfl rfl rfl (by decide +kernel) ⟨(by show _ ≤ _; simp only; omega), (by show _ ≤ _; simp only; omega)⟩) hM hS mm_cE1 hq9 rfl hl.1 (Nat.le_of_ble_eq_true rfl) dX11_now_15 rfl ⟨(Nat.le_of_ble_eq_true rfl), (Nat.le_of_ble_eq_true rfl)⟩ (fun _ _ _ _ _ _ h9 => h9.elim) (fun v_1 M_2 H locs hp_3 hM hS => ?_)
    obtain ⟨rfl, eM_2⟩ := hp_3
    rw [eM_2] at hM
    exact mm_reta hx hb hr (Or.inl ⟨_, rfl⟩) (Or.inr ⟨_, rfl⟩) hlk hM hS ⟨rfl, rfl⟩ dX11_now_18 (Nat.le_of_ble_eq_true rfl) (Nat.le_of_ble_eq_true rfl)
set_option maxHeartbeats 4000000 in
set_option maxRecDepth 100000 in
theorem c_X12_now_0 (l : Launch) (Z : mm_G) {M : mm_M} {a : Nat} {fr to bq rn : Option Nat} (ha9 : M a = some (cf_E fr to none bq rn)) : mm_C l Z yX12_now (ws_ yX12_now cX12_now 1 (some (.object "RowenTongue$Type"))) (nw_r 0) [.ref a] M (nw_P a M) mm_nx := by
  refine mm_ofW (cc := cX12_now) (maxL := 1) (ret := (some (.object "RowenTongue$Type"))) (by decide) rfl (Nat.le_of_ble_eq_true rfl) ?_
  intro p e s m below meth c A ls hx hb hr hlk hml hown hmn hts htab hE hST hA hM hS hl
  replace hl : lv_has ls 1 [(0, .ref a)] := hl
  refine lv_aload_n hx hb dX12_now_0 rfl (lv_at hl 0 rfl) ?_
  refine va_get (D := Z.1) (ci := 10) (v := .null) (C := RX12) (T := TX12) (N := 5) hx hb hts in_X12 hown hE.1 (hM.at ha9) 0 rfl mm_cX12 2 (by decide) (hts _ q847) (fun _ h9 => h9) rfl dX12_now_1 ?_
  refine lv_ifnonnullN hx hb dX12_now_4 ?_
  refine lv_aload_n hx hb dX12_now_7 rfl (lv_at hl 0 rfl) ?_
  refine lv_goto (tgt := 18) hx hb dX12_now_8 (by decide) ?_
  exact mm_reta hx hb hr (Or.inl ⟨_, rfl⟩) (Or.inr ⟨_, rfl⟩) hlk hM hS ⟨rfl, rfl⟩ dX12_now_18 (Nat.le_of_ble_eq_true rfl) (Nat.le_of_ble_eq_true rfl)
set_option maxHeartbeats 4000000 in
set_option maxRecDepth 100000 in
theorem c_X12_now_s (l : Launch) (Z : mm_G) {M : mm_M} {a b d q : Nat} {fr to bq rn : Option Nat} (ha9 : M a = some (cf_E fr to (some q) bq rn)) (hq : ct_at M q none ∨ ∃ q2, ct_at M q (some q2)) (ih : c_nw l Z M d q b) : mm_C l Z yX12_now (ws_ yX12_now cX12_now 1 (some (.object "RowenTongue$Type"))) (nw_r (d + 1)) [.ref a] M (nw_P b M) mm_nx := by
  refine mm_ofW (cc := cX12_now) (maxL := 1) (ret := (some (.object "RowenTongue$Type"))) (by decide) rfl (Nat.le_of_ble_eq_true rfl) ?_
  intro p e s m below meth c A ls hx hb hr hlk hml hown hmn hts htab hE hST hA hM hS hl
  replace hl : lv_has ls 1 [(0, .ref a)] := hl
  refine lv_aload_n hx hb dX12_now_0 rfl (lv_at hl 0 rfl) ?_
  refine va_get (D := Z.1) (ci := 10) (v := .ref q) (C := RX12) (T := TX12) (N := 5) hx hb hts in_X12 hown hE.1 (hM.at ha9) 0 rfl mm_cX12 2 (by decide) (hts _ q847) (fun _ h9 => h9) rfl dX12_now_1 ?_
  refine lv_ifnonnull (tgt := 11) hx hb dX12_now_4 (by decide) ?_
  refine lv_aload_n hx hb dX12_now_11 rfl (lv_at hl 0 rfl) ?_
  refine va_get (D := Z.1) (ci := 10) (v := .ref q) (C := RX12) (T := TX12) (N := 5) hx hb hts in_X12 hown hE.1 (hM.at ha9) 0 rfl mm_cX12 2 (by decide) (hts _ q847) (fun _ h9 => h9) rfl dX12_now_12 ?_
  have hq2 : ∃ s9, ct_at M q s9 := by rcases hq with h | ⟨q2, h⟩ <;> exact ⟨_, h⟩
  obtain ⟨s9, hq3⟩ := hq2
  rcases hq3 with ⟨lv9, lk9, hq9⟩ | ⟨f9, t9, b9, r9, hq9⟩ | ⟨i9, w9, b9, r9, hq9⟩ | ⟨-, hq9⟩
  · skip
    refine mm_callU (As := []) (rest := []) ⟨hx, hb, hml, hown, hts⟩ hE hST hA (ih.1 _ _ _ hq9) (va_cwO (x := ⟨"RowenTongue$Type", "now", "()LRowenTongue$Type;"⟩) (C := RX11) (owner := "RowenTongue$Type") 0 hts (lw_app (lw_in _ [714, 707, 706, 720, 715, 78] (by decide +kernel) (by decide +kernel)) (lw_meth q716)) rfl rfl rfl q721 (by decide +kernel) ⟨(by show _ ≤ _; simp only; omega), (by show _ ≤ _; simp only; omega)⟩) hM hS mm_cX11 hq9 rfl hl.1 (Nat.le_of_ble_eq_true rfl) dX12_now_15 rfl ⟨(Nat.le_of_ble_eq_true rfl), (Nat.le_of_ble_eq_true rfl)⟩ (fun _ _ _ _ _ _ h9 => h9.elim) (fun v_1 M_2 H locs hp_3 hM hS => ?_)
    obtain ⟨rfl, eM_2⟩ := hp_3
    rw [eM_2] at hM
    exact mm_reta hx hb hr (Or.inl ⟨_, rfl⟩) (Or.inr ⟨_, rfl⟩) hlk hM hS ⟨rfl, rfl⟩ dX12_now_18 (Nat.le_of_ble_eq_true rfl) (Nat.le_of_ble_eq_true rfl)
  · skip
    refine mm_callU (As := []) (rest := []) ⟨hx, hb, hml, hown, hts⟩ hE hST hA (ih.2.1 _ _ _ _ _ hq9) (va_cwO (x := ⟨"RowenTongue$Type", "now", "()LRowenTongue$Type;"⟩) (C := RX12) (owner := "RowenTongue$Type") 0 hts (lw_app (lw_in _ [714, 707, 706, 718, 712, 79] (by decide +kernel) (by decide +kernel)) (lw_meth q713)) rfl rfl rfl q721 (by decide +kernel) ⟨(by show _ ≤ _; simp only; omega), (by show _ ≤ _; simp only; omega)⟩) hM hS mm_cX12 hq9 rfl hl.1 (Nat.le_of_ble_eq_true rfl) dX12_now_15 rfl ⟨(Nat.le_of_ble_eq_true rfl), (Nat.le_of_ble_eq_true rfl)⟩ (fun _ _ _ _ _ _ h9 => h9.elim) (fun v_1 M_2 H locs hp_3 hM hS => ?_)
    obtain ⟨rfl, eM_2⟩ := hp_3
    rw [eM_2] at hM
    exact mm_reta hx hb hr (Or.inl ⟨_, rfl⟩) (Or.inr ⟨_, rfl⟩) hlk hM hS ⟨rfl, rfl⟩ dX12_now_18 (Nat.le_of_ble_eq_true rfl) (Nat.le_of_ble_eq_true rfl)
  · skip
    refine mm_callU (As := []) (rest := []) ⟨hx, hb, hml, hown, hts⟩ hE hST hA (ih.2.2.1 _ _ _ _ _ hq9) (va_cwO (x := ⟨"RowenTongue$Type", "now", "()LRowenTongue$Type;"⟩) (C := RX8) (owner := "RowenTongue$Type") 0 hts (lw_app (lw_in _ [714, 707, 706, 708, 709, 74] (by decide +kernel) (by decide +kernel)) (lw_meth q710)) rfl rfl rfl q721 (by decide +kernel) ⟨(by show _ ≤ _; simp only; omega), (by show _ ≤ _; simp only; omega)⟩) hM hS mm_cX8 hq9 rfl hl.1 (Nat.le_of_ble_eq_true rfl) dX12_now_15 rfl ⟨(Nat.le_of_ble_eq_true rfl), (Nat.le_of_ble_eq_true rfl)⟩ (fun _ _ _ _ _ _ h9 => h9.elim) (fun v_1 M_2 H locs hp_3 hM hS => ?_)
    obtain ⟨rfl, eM_2⟩ := hp_3
    rw [eM_2] at hM
    exact mm_reta hx hb hr (Or.inl ⟨_, rfl⟩) (Or.inr ⟨_, rfl⟩) hlk hM hS ⟨rfl, rfl⟩ dX12_now_18 (Nat.le_of_ble_eq_true rfl) (Nat.le_of_ble_eq_true rfl)
  · skip
    refine mm_callU (As := []) (rest := []) ⟨hx, hb, hml, hown, hts⟩ hE hST hA (ih.2.2.2 hq9) (va_cwU (x := ⟨"RowenTongue$Type", "now", "()LRowenTongue$Type;"⟩) (C := "RowenTongue$Numbers") (owner := "RowenTongue$Type") 0 hts (lw_app (lw_in _ [714, 707, 719, 706, 73] (by decide +kernel) (by decide +kernel)) (lw_meth q721)) rfl rfl rfl rfl (by decide +kernel) ⟨(by show _ ≤ _; simp only; omega), (by show _ ≤ _; simp only; omega)⟩) hM hS mm_cE1 hq9 rfl hl.1 (Nat.le_of_ble_eq_true rfl) dX12_now_15 rfl ⟨(Nat.le_of_ble_eq_true rfl), (Nat.le_of_ble_eq_true rfl)⟩ (fun _ _ _ _ _ _ h9 => h9.elim) (fun v_1 M_2 H locs hp_3 hM hS => ?_)
    obtain ⟨rfl, eM_2⟩ := hp_3
    rw [eM_2] at hM
    exact mm_reta hx hb hr (Or.inl ⟨_, rfl⟩) (Or.inr ⟨_, rfl⟩) hlk hM hS ⟨rfl, rfl⟩ dX12_now_18 (Nat.le_of_ble_eq_true rfl) (Nat.le_of_ble_eq_true rfl)
set_option maxHeartbeats 4000000 in
set_option maxRecDepth 100000 in
theorem c_X8_now_0 (l : Launch) (Z : mm_G) {M : mm_M} {a : Nat} {iv : Bool} {rw bq rn : Option Nat} (ha9 : M a = some (cb_E iv rw none bq rn)) : mm_C l Z yX8_now (ws_ yX8_now cX8_now 1 (some (.object "RowenTongue$Type"))) (nw_r 0) [.ref a] M (nw_P a M) mm_nx := by
  refine mm_ofW (cc := cX8_now) (maxL := 1) (ret := (some (.object "RowenTongue$Type"))) (by decide) rfl (Nat.le_of_ble_eq_true rfl) ?_
  intro p e s m below meth c A ls hx hb hr hlk hml hown hmn hts htab hE hST hA hM hS hl
  replace hl : lv_has ls 1 [(0, .ref a)] := hl
  refine lv_aload_n hx hb dX8_now_0 rfl (lv_at hl 0 rfl) ?_
  refine va_get (D := Z.1) (ci := 6) (v := .null) (C := RX8) (T := TX8) (N := 5) hx hb hts in_X8 hown hE.1 (hM.at ha9) 0 rfl mm_cX8 2 (by decide) (hts _ q628) (fun _ h9 => h9) rfl dX8_now_1 ?_
  refine lv_ifnonnullN hx hb dX8_now_4 ?_
  refine lv_aload_n hx hb dX8_now_7 rfl (lv_at hl 0 rfl) ?_
  refine lv_goto (tgt := 18) hx hb dX8_now_8 (by decide) ?_
  exact mm_reta hx hb hr (Or.inl ⟨_, rfl⟩) (Or.inr ⟨_, rfl⟩) hlk hM hS ⟨rfl, rfl⟩ dX8_now_18 (Nat.le_of_ble_eq_true rfl) (Nat.le_of_ble_eq_true rfl)
set_option maxHeartbeats 4000000 in
set_option maxRecDepth 100000 in
theorem c_X8_now_s (l : Launch) (Z : mm_G) {M : mm_M} {a b d q : Nat} {iv : Bool} {rw bq rn : Option Nat} (ha9 : M a = some (cb_E iv rw (some q) bq rn)) (hq : ct_at M q none ∨ ∃ q2, ct_at M q (some q2)) (ih : c_nw l Z M d q b) : mm_C l Z yX8_now (ws_ yX8_now cX8_now 1 (some (.object "RowenTongue$Type"))) (nw_r (d + 1)) [.ref a] M (nw_P b M) mm_nx := by
  refine mm_ofW (cc := cX8_now) (maxL := 1) (ret := (some (.object "RowenTongue$Type"))) (by decide) rfl (Nat.le_of_ble_eq_true rfl) ?_
  intro p e s m below meth c A ls hx hb hr hlk hml hown hmn hts htab hE hST hA hM hS hl
  replace hl : lv_has ls 1 [(0, .ref a)] := hl
  refine lv_aload_n hx hb dX8_now_0 rfl (lv_at hl 0 rfl) ?_
  refine va_get (D := Z.1) (ci := 6) (v := .ref q) (C := RX8) (T := TX8) (N := 5) hx hb hts in_X8 hown hE.1 (hM.at ha9) 0 rfl mm_cX8 2 (by decide) (hts _ q628) (fun _ h9 => h9) rfl dX8_now_1 ?_
  refine lv_ifnonnull (tgt := 11) hx hb dX8_now_4 (by decide) ?_
  refine lv_aload_n hx hb dX8_now_11 rfl (lv_at hl 0 rfl) ?_
  refine va_get (D := Z.1) (ci := 6) (v := .ref q) (C := RX8) (T := TX8) (N := 5) hx hb hts in_X8 hown hE.1 (hM.at ha9) 0 rfl mm_cX8 2 (by decide) (hts _ q628) (fun _ h9 => h9) rfl dX8_now_12 ?_
  have hq2 : ∃ s9, ct_at M q s9 := by rcases hq with h | ⟨q2, h⟩ <;> exact ⟨_, h⟩
  obtain ⟨s9, hq3⟩ := hq2
  rcases hq3 with ⟨lv9, lk9, hq9⟩ | ⟨f9, t9, b9, r9, hq9⟩ | ⟨i9, w9, b9, r9, hq9⟩ | ⟨-, hq9⟩
  · skip
    refine mm_callU (As := []) (rest := []) ⟨hx, hb, hml, hown, hts⟩ hE hST hA (ih.1 _ _ _ hq9) (va_cwO (x := ⟨"RowenTongue$Type", "now", "()LRowenTongue$Type;"⟩) (C := RX11) (owner := "RowenTongue$Type") 0 hts (lw_app (lw_in _ [711, 707, 706, 720, 715, 78] (by decide +kernel) (by decide +kernel)) (lw_meth q716)) rfl rfl rfl q721 (by decide +kernel) ⟨(by show _ ≤ _; simp only; omega), (by show _ ≤ _; simp only; omega)⟩) hM hS mm_cX11 hq9 rfl hl.1 (Nat.le_of_ble_eq_true rfl) dX8_now_15 rfl ⟨(Nat.le_of_ble_eq_true rfl), (Nat.le_of_ble_eq_true rfl)⟩ (fun _ _ _ _ _ _ h9 => h9.elim) (fun v_1 M_2 H locs hp_3 hM hS => ?_)
    obtain ⟨rfl, eM_2⟩ := hp_3
    rw [eM_2] at hM
    exact mm_reta hx hb hr (Or.inl ⟨_, rfl⟩) (Or.inr ⟨_, rfl⟩) hlk hM hS ⟨rfl, rfl⟩ dX8_now_18 (Nat.le_of_ble_eq_true rfl) (Nat.le_of_ble_eq_true rfl)
  · skip
    refine mm_callU (As := []) (rest := []) ⟨hx, hb, hml, hown, hts⟩ hE hST hA (ih.2.1 _ _ _ _ _ hq9) (va_cwO (x := ⟨"RowenTongue$Type", "now", "()LRowenTongue$Type;"⟩) (C := RX12) (owner := "RowenTongue$Type") 0 hts (lw_app (lw_in _ [711, 707, 706, 718, 712, 79] (by decide +kernel) (by decide +kernel)) (lw_meth q713)) rfl rfl rfl q721 (by decide +kernel) ⟨(by show _ ≤ _; simp only; omega), (by show _ ≤ _; simp only; omega)⟩) hM hS mm_cX12 hq9 rfl hl.1 (Nat.le_of_ble_eq_true rfl) dX8_now_15 rfl ⟨(Nat.le_of_ble_eq_true rfl), (Nat.le_of_ble_eq_true rfl)⟩ (fun _ _ _ _ _ _ h9 => h9.elim) (fun v_1 M_2 H locs hp_3 hM hS => ?_)
    obtain ⟨rfl, eM_2⟩ := hp_3
    rw [eM_2] at hM
    exact mm_reta hx hb hr (Or.inl ⟨_, rfl⟩) (Or.inr ⟨_, rfl⟩) hlk hM hS ⟨rfl, rfl⟩ dX8_now_18 (Nat.le_of_ble_eq_true rfl) (Nat.le_of_ble_eq_true rfl)
  · skip
    refine mm_callU (As := []) (rest := []) ⟨hx, hb, hml, hown, hts⟩ hE hST hA (ih.2.2.1 _ _ _ _ _ hq9) (va_cwO (x := ⟨"RowenTongue$Type", "now", "()LRowenTongue$Type;"⟩) (C := RX8) (owner := "RowenTongue$Type") 0 hts (lw_app (lw_in _ [711, 707, 706, 708, 709, 74] (by decide +kernel) (by decide +kernel)) (lw_meth q710)) rfl rfl rfl q721 (by decide +kernel) ⟨(by show _ ≤ _; simp only; omega), (by show _ ≤ _; simp only; omega)⟩) hM hS mm_cX8 hq9 rfl hl.1 (Nat.le_of_ble_eq_true rfl) dX8_now_15 rfl ⟨(Nat.le_of_ble_eq_true rfl), (Nat.le_of_ble_eq_true rfl)⟩ (fun _ _ _ _ _ _ h9 => h9.elim) (fun v_1 M_2 H locs hp_3 hM hS => ?_)
    obtain ⟨rfl, eM_2⟩ := hp_3
    rw [eM_2] at hM
    exact mm_reta hx hb hr (Or.inl ⟨_, rfl⟩) (Or.inr ⟨_, rfl⟩) hlk hM hS ⟨rfl, rfl⟩ dX8_now_18 (Nat.le_of_ble_eq_true rfl) (Nat.le_of_ble_eq_true rfl)
  · skip
    refine mm_callU (As := []) (rest := []) ⟨hx, hb, hml, hown, hts⟩ hE hST hA (ih.2.2.2 hq9) (va_cwU (x := ⟨"RowenTongue$Type", "now", "()LRowenTongue$Type;"⟩) (C := "RowenTongue$Numbers") (owner := "RowenTongue$Type") 0 hts (lw_app (lw_in _ [711, 707, 719, 706, 73] (by decide +kernel) (by decide +kernel)) (lw_meth q721)) rfl rfl rfl rfl (by decide +kernel) ⟨(by show _ ≤ _; simp only; omega), (by show _ ≤ _; simp only; omega)⟩) hM hS mm_cE1 hq9 rfl hl.1 (Nat.le_of_ble_eq_true rfl) dX8_now_15 rfl ⟨(Nat.le_of_ble_eq_true rfl), (Nat.le_of_ble_eq_true rfl)⟩ (fun _ _ _ _ _ _ h9 => h9.elim) (fun v_1 M_2 H locs hp_3 hM hS => ?_)
    obtain ⟨rfl, eM_2⟩ := hp_3
    rw [eM_2] at hM
    exact mm_reta hx hb hr (Or.inl ⟨_, rfl⟩) (Or.inr ⟨_, rfl⟩) hlk hM hS ⟨rfl, rfl⟩ dX8_now_18 (Nat.le_of_ble_eq_true rfl) (Nat.le_of_ble_eq_true rfl)
theorem c_now (l : Launch) (Z : mm_G) {M : mm_M} {d : Nat} : ∀ {a b : Nat}, ct_now M d a b → c_nw l Z M d a b := by
  induction d with
  | zero =>
    intro a b h
    obtain ⟨rfl, h⟩ := h
    have key : ∀ e : va_E, M a = some e → (∃ lv lk, e = co_E none lv lk) ∨ (∃ fr to bq rn, e = cf_E fr to none bq rn) ∨ (∃ iv rw bq rn, e = cb_E iv rw none bq rn) ∨ e = cn_E := by
      intro e he
      rcases h with ⟨x1, x2, h⟩ | ⟨x1, x2, x3, x4, h⟩ | ⟨x1, x2, x3, x4, h⟩ | ⟨-, h⟩ <;> (rw [he] at h; cases h)
      · exact Or.inl ⟨_, _, rfl⟩
      · exact Or.inr (Or.inl ⟨_, _, _, _, rfl⟩)
      · exact Or.inr (Or.inr (Or.inl ⟨_, _, _, _, rfl⟩))
      · exact Or.inr (Or.inr (Or.inr rfl))
    refine ⟨fun sm lv lk he => ?_, fun fr to sm bq rn he => ?_, fun iv rw sm bq rn he => ?_, fun he => c_X7_now l Z⟩
    · rcases key _ he with ⟨_, _, h1⟩ | ⟨_, _, _, _, h1⟩ | ⟨_, _, _, _, h1⟩ | h1
      · have e1 : va_rf sm = va_rf none := by injection h1 with h1; injection h1 with _ h1; injection h1
        cases sm with
        | none => exact c_X11_now_0 l Z he
        | some v => cases e1
      all_goals (injection h1 with h1; injection h1 with h1; cases h1)
    · rcases key _ he with ⟨_, _, h1⟩ | ⟨_, _, _, _, h1⟩ | ⟨_, _, _, _, h1⟩ | h1
      · injection h1 with h1; injection h1 with h1; cases h1
      · have e1 : va_rf sm = va_rf none := by injection h1 with h1; injection h1 with _ h1; injection h1 with _ h1; injection h1 with _ h1; injection h1
        cases sm with
        | none => exact c_X12_now_0 l Z he
        | some v => cases e1
      all_goals (injection h1 with h1; injection h1 with h1; cases h1)
    · rcases key _ he with ⟨_, _, h1⟩ | ⟨_, _, _, _, h1⟩ | ⟨_, _, _, _, h1⟩ | h1
      · injection h1 with h1; injection h1 with h1; cases h1
      · injection h1 with h1; injection h1 with h1; cases h1
      · have e1 : va_rf sm = va_rf none := by injection h1 with h1; injection h1 with _ h1; injection h1 with _ h1; injection h1 with _ h1; injection h1
        cases sm with
        | none => exact c_X8_now_0 l Z he
        | some v => cases e1
      · injection h1 with h1; injection h1 with h1; cases h1
  | succ d ih =>
    intro a b h
    obtain ⟨q, h, hq⟩ := h
    have hi := ih hq
    have hq' : ct_at M q none ∨ ∃ q2, ct_at M q (some q2) := by
      cases d with
      | zero => exact Or.inl hq.2
      | succ d => exact Or.inr ⟨_, hq.choose_spec.1⟩
    have key : ∀ e : va_E, M a = some e → (∃ lv lk, e = co_E (some q) lv lk) ∨ (∃ fr to bq rn, e = cf_E fr to (some q) bq rn) ∨ (∃ iv rw bq rn, e = cb_E iv rw (some q) bq rn) := by
      intro e he
      rcases h with ⟨x1, x2, h⟩ | ⟨x1, x2, x3, x4, h⟩ | ⟨x1, x2, x3, x4, h⟩ | ⟨h0, -⟩
      · rw [he] at h; cases h; exact Or.inl ⟨_, _, rfl⟩
      · rw [he] at h; cases h; exact Or.inr (Or.inl ⟨_, _, _, _, rfl⟩)
      · rw [he] at h; cases h; exact Or.inr (Or.inr ⟨_, _, _, _, rfl⟩)
      · cases h0
    refine ⟨fun sm lv lk he => ?_, fun fr to sm bq rn he => ?_, fun iv rw sm bq rn he => ?_, fun he => ?_⟩
    · rcases key _ he with ⟨_, _, h1⟩ | ⟨_, _, _, _, h1⟩ | ⟨_, _, _, _, h1⟩
      · rw [h1] at he; exact c_X11_now_s l Z he hq' hi
      all_goals (injection h1 with h1; injection h1 with h1; cases h1)
    · rcases key _ he with ⟨_, _, h1⟩ | ⟨_, _, _, _, h1⟩ | ⟨_, _, _, _, h1⟩
      · injection h1 with h1; injection h1 with h1; cases h1
      · rw [h1] at he; exact c_X12_now_s l Z he hq' hi
      · injection h1 with h1; injection h1 with h1; cases h1
    · rcases key _ he with ⟨_, _, h1⟩ | ⟨_, _, _, _, h1⟩ | ⟨_, _, _, _, h1⟩
      · injection h1 with h1; injection h1 with h1; cases h1
      · injection h1 with h1; injection h1 with h1; cases h1
      · rw [h1] at he; exact c_X8_now_s l Z he hq' hi
    · rcases key _ he with ⟨_, _, h1⟩ | ⟨_, _, _, _, h1⟩ | ⟨_, _, _, _, h1⟩ <;> (injection h1 with h1; injection h1 with h1; cases h1)

