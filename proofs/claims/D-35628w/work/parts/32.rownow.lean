/-! ===== the component's rows and now() ===== -/
set_option maxRecDepth 100000
abbrev cr_E (bd : Option Nat) (lv : Int32) (lk : Bool) (lc : Int32) : va_E := .inr (12, [va_rf bd, .int lv, .int (mm_b lk), .int lc])
abbrev ce_E (lb : Int32) (ty rs : Option Nat) : va_E := .inr (11, [.int lb, va_rf ty, va_rf rs])
abbrev cz_E : va_E := .inr (52, [])
/-- a is a row's cell: an OpenRow with the bound sm, or another -/
def cr_at (M : mm_M) (a : Nat) (sm : Option Nat) : Prop := (∃ lv lk lc, M a = some (cr_E sm lv lk lc)) ∨ (sm = none ∧ ∃ lb ty rs, M a = some (ce_E lb ty rs)) ∨ (sm = none ∧ M a = some cz_E)
def cr_now (M : mm_M) : Nat → Nat → Nat → Prop
  | 0, a, b => a = b ∧ cr_at M a none
  | d + 1, a, b => ∃ q : Nat, cr_at M a (some q) ∧ cr_now M d q b
def c_nr (l : Launch) (Z : mm_G) (M : mm_M) (d a b : Nat) : Prop :=
  (∀ sm lv lk lc, M a = some (cr_E sm lv lk lc) → mm_C l Z yX15_now (ws_ yX15_now cX15_now 1 (some (.object "RowenTongue$Row"))) (nw_r d) [.ref a] M (nw_P b M) mm_nx) ∧
  ((∃ lb ty rs, M a = some (ce_E lb ty rs)) ∨ M a = some cz_E → mm_C l Z yX13_now (ws_ yX13_now cX13_now 1 (some (.object "RowenTongue$Row"))) (nw_r d) [.ref a] M (nw_P b M) mm_nx)

set_option maxHeartbeats 4000000 in
set_option maxRecDepth 100000 in
theorem c_X15_now_0 (l : Launch) (Z : mm_G) {M : mm_M} {a : Nat} {lv lc : Int32} {lk : Bool} (ha9 : M a = some (cr_E none lv lk lc)) : mm_C l Z yX15_now (ws_ yX15_now cX15_now 1 (some (.object "RowenTongue$Row"))) (nw_r 0) [.ref a] M (nw_P a M) mm_nx := by
  refine mm_ofW (cc := cX15_now) (maxL := 1) (ret := (some (.object "RowenTongue$Row"))) (by decide) rfl (Nat.le_of_ble_eq_true rfl) ?_
  intro p e s m below meth c A ls hx hb hr hlk hml hown hmn hts htab hE hST hA hM hS hl
  replace hl : lv_has ls 1 [(0, .ref a)] := hl
  refine lv_aload_n hx hb dX15_now_0 rfl (lv_at hl 0 rfl) ?_
  refine va_get (D := Z.1) (ci := 12) (v := .null) (C := RX15) (T := TX15) (N := 4) hx hb hts in_X15 hown hE.1 (hM.at ha9) 0 rfl mm_cX15 0 (by decide) (hts _ q920) (fun _ h9 => h9) rfl dX15_now_1 ?_
  refine lv_ifnonnullN hx hb dX15_now_4 ?_
  refine lv_aload_n hx hb dX15_now_7 rfl (lv_at hl 0 rfl) ?_
  refine lv_goto (tgt := 18) hx hb dX15_now_8 (by decide) ?_
  exact mm_reta hx hb hr (Or.inl ⟨_, rfl⟩) (Or.inr ⟨_, rfl⟩) hlk hM hS ⟨rfl, rfl⟩ dX15_now_18 (Nat.le_of_ble_eq_true rfl) (Nat.le_of_ble_eq_true rfl)
set_option maxHeartbeats 4000000 in
set_option maxRecDepth 100000 in
theorem c_X15_now_s (l : Launch) (Z : mm_G) {M : mm_M} {a b d q : Nat} {lv lc : Int32} {lk : Bool} (ha9 : M a = some (cr_E (some q) lv lk lc)) (hq : ∃ s9, cr_at M q s9) (ih : c_nr l Z M d q b) : mm_C l Z yX15_now (ws_ yX15_now cX15_now 1 (some (.object "RowenTongue$Row"))) (nw_r (d + 1)) [.ref a] M (nw_P b M) mm_nx := by
  refine mm_ofW (cc := cX15_now) (maxL := 1) (ret := (some (.object "RowenTongue$Row"))) (by decide) rfl (Nat.le_of_ble_eq_true rfl) ?_
  intro p e s m below meth c A ls hx hb hr hlk hml hown hmn hts htab hE hST hA hM hS hl
  replace hl : lv_has ls 1 [(0, .ref a)] := hl
  refine lv_aload_n hx hb dX15_now_0 rfl (lv_at hl 0 rfl) ?_
  refine va_get (D := Z.1) (ci := 12) (v := .ref q) (C := RX15) (T := TX15) (N := 4) hx hb hts in_X15 hown hE.1 (hM.at ha9) 0 rfl mm_cX15 0 (by decide) (hts _ q920) (fun _ h9 => h9) rfl dX15_now_1 ?_
  refine lv_ifnonnull (tgt := 11) hx hb dX15_now_4 (by decide) ?_
  refine lv_aload_n hx hb dX15_now_11 rfl (lv_at hl 0 rfl) ?_
  refine va_get (D := Z.1) (ci := 12) (v := .ref q) (C := RX15) (T := TX15) (N := 4) hx hb hts in_X15 hown hE.1 (hM.at ha9) 0 rfl mm_cX15 0 (by decide) (hts _ q920) (fun _ h9 => h9) rfl dX15_now_12 ?_
  obtain ⟨s9, hq3⟩ := hq
  rcases hq3 with ⟨lv9, lk9, lc9, hq9⟩ | ⟨-, lb9, ty9, rs9, hq9⟩ | ⟨-, hq9⟩
  · skip
    refine mm_callU (As := []) (rest := []) ⟨hx, hb, hml, hown, hts⟩ hE hST hA (ih.1 _ _ _ _ hq9) (va_cwO (x := ⟨"RowenTongue$Row", "now", "()LRowenTongue$Row;"⟩) (C := RX15) (owner := "RowenTongue$Row") 0 hts (lw_app (lw_in _ [879, 873, 872, 876, 877, 82] (by decide +kernel) (by decide +kernel)) (lw_meth q878)) rfl rfl rfl q880 (by decide +kernel) ⟨(by show _ ≤ _; simp only; omega), (by show _ ≤ _; simp only; omega)⟩) hM hS mm_cX15 hq9 rfl hl.1 (Nat.le_of_ble_eq_true rfl) dX15_now_15 rfl ⟨(Nat.le_of_ble_eq_true rfl), (Nat.le_of_ble_eq_true rfl)⟩ (fun _ _ _ _ _ _ h9 => h9.elim) (fun v_1 M_2 H locs hp_3 hM hS => ?_)
    obtain ⟨rfl, eM_2⟩ := hp_3
    rw [eM_2] at hM
    exact mm_reta hx hb hr (Or.inl ⟨_, rfl⟩) (Or.inr ⟨_, rfl⟩) hlk hM hS ⟨rfl, rfl⟩ dX15_now_18 (Nat.le_of_ble_eq_true rfl) (Nat.le_of_ble_eq_true rfl)
  · skip
    refine mm_callU (As := []) (rest := []) ⟨hx, hb, hml, hown, hts⟩ hE hST hA (ih.2 (Or.inl ⟨_, _, _, hq9⟩)) (va_cwU (x := ⟨"RowenTongue$Row", "now", "()LRowenTongue$Row;"⟩) (C := RX14) (owner := "RowenTongue$Row") 0 hts (lw_app (lw_in _ [879, 873, 874, 872, 80] (by decide +kernel) (by decide +kernel)) (lw_meth q880)) rfl rfl rfl rfl (by decide +kernel) ⟨(by show _ ≤ _; simp only; omega), (by show _ ≤ _; simp only; omega)⟩) hM hS mm_cX14 hq9 rfl hl.1 (Nat.le_of_ble_eq_true rfl) dX15_now_15 rfl ⟨(Nat.le_of_ble_eq_true rfl), (Nat.le_of_ble_eq_true rfl)⟩ (fun _ _ _ _ _ _ h9 => h9.elim) (fun v_1 M_2 H locs hp_3 hM hS => ?_)
    obtain ⟨rfl, eM_2⟩ := hp_3
    rw [eM_2] at hM
    exact mm_reta hx hb hr (Or.inl ⟨_, rfl⟩) (Or.inr ⟨_, rfl⟩) hlk hM hS ⟨rfl, rfl⟩ dX15_now_18 (Nat.le_of_ble_eq_true rfl) (Nat.le_of_ble_eq_true rfl)
  · skip
    refine mm_callU (As := []) (rest := []) ⟨hx, hb, hml, hown, hts⟩ hE hST hA (ih.2 (Or.inr hq9)) (va_cwU (x := ⟨"RowenTongue$Row", "now", "()LRowenTongue$Row;"⟩) (C := "RowenTongue$Nothing") (owner := "RowenTongue$Row") 0 hts (lw_app (lw_in _ [879, 873, 875, 872, 80] (by decide +kernel) (by decide +kernel)) (lw_meth q880)) rfl rfl rfl rfl (by decide +kernel) ⟨(by show _ ≤ _; simp only; omega), (by show _ ≤ _; simp only; omega)⟩) hM hS mm_cE2 hq9 rfl hl.1 (Nat.le_of_ble_eq_true rfl) dX15_now_15 rfl ⟨(Nat.le_of_ble_eq_true rfl), (Nat.le_of_ble_eq_true rfl)⟩ (fun _ _ _ _ _ _ h9 => h9.elim) (fun v_1 M_2 H locs hp_3 hM hS => ?_)
    obtain ⟨rfl, eM_2⟩ := hp_3
    rw [eM_2] at hM
    exact mm_reta hx hb hr (Or.inl ⟨_, rfl⟩) (Or.inr ⟨_, rfl⟩) hlk hM hS ⟨rfl, rfl⟩ dX15_now_18 (Nat.le_of_ble_eq_true rfl) (Nat.le_of_ble_eq_true rfl)
theorem c_nowR (l : Launch) (Z : mm_G) {M : mm_M} {d : Nat} : ∀ {a b : Nat}, cr_now M d a b → c_nr l Z M d a b := by
  induction d with
  | zero =>
    intro a b h
    obtain ⟨rfl, h⟩ := h
    refine ⟨fun sm lv lk lc he => ?_, fun _ => c_X13_now l Z⟩
    rcases h with ⟨x1, x2, x3, h⟩ | ⟨-, x1, x2, x3, h⟩ | ⟨-, h⟩
    · have h1 := Option.some.inj (he.symm.trans h)
      have e1 : va_rf sm = va_rf none := by injection h1 with h1; injection h1 with _ h1; injection h1
      cases sm with
      | none => exact c_X15_now_0 l Z he
      | some v => cases e1
    · rw [he] at h; cases h
    · rw [he] at h; cases h
  | succ d ih =>
    intro a b h
    obtain ⟨q, h, hq⟩ := h
    have hi := ih hq
    have hq' : ∃ s9, cr_at M q s9 := by
      cases d with
      | zero => exact ⟨_, hq.2⟩
      | succ d => exact ⟨_, hq.choose_spec.1⟩
    rcases h with ⟨x1, x2, x3, h⟩ | ⟨h0, -⟩ | ⟨h0, -⟩
    · refine ⟨fun sm lv lk lc he => ?_, fun he => ?_⟩
      · rw [he] at h
        have h1 := Option.some.inj h
        rw [h1] at he
        exact c_X15_now_s l Z he hq' hi
      · rcases he with ⟨_, _, _, he⟩ | he <;> (rw [he] at h; cases h)
    · cases h0
    · cases h0

