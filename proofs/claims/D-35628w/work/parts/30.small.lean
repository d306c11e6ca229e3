/-! ===== small methods of the model ===== -/
set_option maxRecDepth 100000
/-- a model type / row: its fields -/
abbrev mt_E (k : Int32) (is fr to rw : Option Nat) (cm : Bool) (sn : Int64) (cp : Option Nat) : va_E := .inr (20, [.int k, va_rf is, va_rf fr, va_rf to, va_rf rw, .int (mm_b cm), .long sn, va_rf cp])
abbrev mr_E (k : Int32) (is : Option Nat) (lb : Int32) (ty rs : Option Nat) (lk : Int32) (cm : Bool) : va_E := .inr (22, [.int k, va_rf is, .int lb, va_rf ty, va_rf rs, .int lk, .int (mm_b cm)])
/-- following 'is' d times from a ends at b -/
def mt_now (M : mm_M) : Nat → Nat → Nat → Prop
  | 0, a, b => a = b ∧ ∃ (k : Int32) (fr to rw : Option Nat) (cm : Bool) (sn : Int64) (cp : Option Nat), M a = some (mt_E k none fr to rw cm sn cp)
  | d + 1, a, b => ∃ (q : Nat) (k : Int32) (fr to rw : Option Nat) (cm : Bool) (sn : Int64) (cp : Option Nat), M a = some (mt_E k (some q) fr to rw cm sn cp) ∧ mt_now M d q b
def mr_now (M : mm_M) : Nat → Nat → Nat → Prop
  | 0, a, b => a = b ∧ ∃ (k lb : Int32) (ty rs : Option Nat) (lk : Int32) (cm : Bool), M a = some (mr_E k none lb ty rs lk cm)
  | d + 1, a, b => ∃ (q : Nat) (k lb : Int32) (ty rs : Option Nat) (lk : Int32) (cm : Bool), M a = some (mr_E k (some q) lb ty rs lk cm) ∧ mr_now M d q b

set_option maxHeartbeats 4000000 in
set_option maxRecDepth 100000 in
theorem c_X25_now (l : Launch) (Z : mm_G) {M : mm_M} {a b d : Nat} (hN : mt_now M d a b) : mm_C l Z yX25_now (ws_ yX25_now cX25_now 2 (some (.object "RowenTongueModel$Type"))) { frames := 0, cells := 0, slots := 0, locals := 0 } [.ref a] M (fun v M' => v = some (.ref b) ∧ M' = M) mm_nx := by
  refine mm_ofW (cc := cX25_now) (maxL := 2) (ret := (some (.object "RowenTongueModel$Type"))) (by decide) rfl (Nat.le_of_ble_eq_true rfl) ?_
  intro p e s m below meth c A ls hx hb hr hlk hml hown hmn hts htab hE hST hA hM hS hl
  replace hl : lv_has ls 2 [(0, .ref a)] := hl
  refine lv_aload_n hx hb dX25_now_0 rfl (lv_at hl 0 rfl) ?_
  refine lv_astore_n hx hb dX25_now_1 rfl hl (by decide) rfl (fun ls hl => ?_)
  replace hl : lv_has ls 2 [(1, .ref a), (0, .ref a)] := hl
  obtain ⟨a1, ea1⟩ : ∃ z, z = a := ⟨_, rfl⟩
  replace hl : lv_has ls 2 [(1, .ref a1), (0, .ref a)] := by rw [ea1]; exact hl
  replace hN : mt_now M d a1 b := by rw [ea1]; exact hN
  clear ea1
  induction d generalizing a1 ls with
  | zero =>
    obtain ⟨e9, k, fr, to, rw, cm, sn, cp, he9⟩ := hN
    refine lv_aload_n hx hb dX25_now_2 rfl (lv_at hl 0 rfl) ?_
    refine va_get (D := Z.1) (ci := 20) (v := .null) (C := RX25) (T := TX25) (N := 8) hx hb hts in_X25 hown hE.1 (hM.at he9) 0 rfl mm_cX25 1 (by decide) (hts _ q2505) (fun _ h9 => h9) rfl dX25_now_3 ?_
    refine lv_ifnullN (tgt := 17) hx hb dX25_now_6 (by decide) ?_
    refine lv_aload_n hx hb dX25_now_17 rfl (lv_at hl 0 rfl) ?_
    exact mm_reta hx hb hr (Or.inl ⟨_, rfl⟩) (Or.inr ⟨_, rfl⟩) hlk hM hS ⟨by rw [e9], rfl⟩ dX25_now_18 (Nat.le_of_ble_eq_true rfl) (Nat.le_of_ble_eq_true rfl)
  | succ d ih =>
    obtain ⟨q, k, fr, to, rw, cm, sn, cp, he9, hN⟩ := hN
    refine lv_aload_n hx hb dX25_now_2 rfl (lv_at hl 0 rfl) ?_
    refine va_get (D := Z.1) (ci := 20) (v := .ref q) (C := RX25) (T := TX25) (N := 8) hx hb hts in_X25 hown hE.1 (hM.at he9) 0 rfl mm_cX25 1 (by decide) (hts _ q2505) (fun _ h9 => h9) rfl dX25_now_3 ?_
    refine lv_ifnull hx hb dX25_now_6 ?_
    refine lv_aload_n hx hb dX25_now_9 rfl (lv_at hl 0 rfl) ?_
    refine va_get (D := Z.1) (ci := 20) (v := .ref q) (C := RX25) (T := TX25) (N := 8) hx hb hts in_X25 hown hE.1 (hM.at he9) 0 rfl mm_cX25 1 (by decide) (hts _ q2505) (fun _ h9 => h9) rfl dX25_now_10 ?_
    refine lv_astore_n hx hb dX25_now_13 rfl hl (by decide) rfl (fun ls hl => ?_)
    replace hl : lv_has ls 2 [(1, .ref q), (0, .ref a)] := hl
    refine lv_goto (tgt := 2) hx hb dX25_now_14 (by decide) ?_
    apply ih <;> first | exact hl | exact hN | assumption
set_option maxHeartbeats 4000000 in
set_option maxRecDepth 100000 in
theorem c_X27_now (l : Launch) (Z : mm_G) {M : mm_M} {a b d : Nat} (hN : mr_now M d a b) : mm_C l Z yX27_now (ws_ yX27_now cX27_now 2 (some (.object "RowenTongueModel$Row"))) { frames := 0, cells := 0, slots := 0, locals := 0 } [.ref a] M (fun v M' => v = some (.ref b) ∧ M' = M) mm_nx := by
  refine mm_ofW (cc := cX27_now) (maxL := 2) (ret := (some (.object "RowenTongueModel$Row"))) (by decide) rfl (Nat.le_of_ble_eq_true rfl) ?_
  intro p e s m below meth c A ls hx hb hr hlk hml hown hmn hts htab hE hST hA hM hS hl
  replace hl : lv_has ls 2 [(0, .ref a)] := hl
  refine lv_aload_n hx hb dX27_now_0 rfl (lv_at hl 0 rfl) ?_
  refine lv_astore_n hx hb dX27_now_1 rfl hl (by decide) rfl (fun ls hl => ?_)
  replace hl : lv_has ls 2 [(1, .ref a), (0, .ref a)] := hl
  obtain ⟨a1, ea1⟩ : ∃ z, z = a := ⟨_, rfl⟩
  replace hl : lv_has ls 2 [(1, .ref a1), (0, .ref a)] := by rw [ea1]; exact hl
  replace hN : mr_now M d a1 b := by rw [ea1]; exact hN
  clear ea1
  induction d generalizing a1 ls with
  | zero =>
    obtain ⟨e9, k, lb, ty, rs, lk, cm, he9⟩ := hN
    refine lv_aload_n hx hb dX27_now_2 rfl (lv_at hl 0 rfl) ?_
    refine va_get (D := Z.1) (ci := 22) (v := .null) (C := RX27) (T := TX27) (N := 7) hx hb hts in_X27 hown hE.1 (hM.at he9) 0 rfl mm_cX27 1 (by decide) (hts _ q2578) (fun _ h9 => h9) rfl dX27_now_3 ?_
    refine lv_ifnullN (tgt := 17) hx hb dX27_now_6 (by decide) ?_
    refine lv_aload_n hx hb dX27_now_17 rfl (lv_at hl 0 rfl) ?_
    exact mm_reta hx hb hr (Or.inl ⟨_, rfl⟩) (Or.inr ⟨_, rfl⟩) hlk hM hS ⟨by rw [e9], rfl⟩ dX27_now_18 (Nat.le_of_ble_eq_true rfl) (Nat.le_of_ble_eq_true rfl)
  | succ d ih =>
    obtain ⟨q, k, lb, ty, rs, lk, cm, he9, hN⟩ := hN
    refine lv_aload_n hx hb dX27_now_2 rfl (lv_at hl 0 rfl) ?_
    refine va_get (D := Z.1) (ci := 22) (v := .ref q) (C := RX27) (T := TX27) (N := 7) hx hb hts in_X27 hown hE.1 (hM.at he9) 0 rfl mm_cX27 1 (by decide) (hts _ q2578) (fun _ h9 => h9) rfl dX27_now_3 ?_
    refine lv_ifnull hx hb dX27_now_6 ?_
    refine lv_aload_n hx hb dX27_now_9 rfl (lv_at hl 0 rfl) ?_
    refine va_get (D := Z.1) (ci := 22) (v := .ref q) (C := RX27) (T := TX27) (N := 7) hx hb hts in_X27 hown hE.1 (hM.at he9) 0 rfl mm_cX27 1 (by decide) (hts _ q2578) (fun _ h9 => h9) rfl dX27_now_10 ?_
    refine lv_astore_n hx hb dX27_now_13 rfl hl (by decide) rfl (fun ls hl => ?_)
    replace hl : lv_has ls 2 [(1, .ref q), (0, .ref a)] := hl
    refine lv_goto (tgt := 2) hx hb dX27_now_14 (by decide) ?_
    apply ih <;> first | exact hl | exact hN | assumption
set_option maxHeartbeats 4000000 in
set_option maxRecDepth 100000 in
theorem c_X2_in (l : Launch) (Z : mm_G) {M : mm_M} {i lo hi : Int32} : mm_C l Z yX2_in (ws_ yX2_in cX2_in 3 (some .boolean)) { frames := 0, cells := 0, slots := 0, locals := 0 } [.int i, .int lo, .int hi] M (fun v M' => v = some (.int (mm_b (decide (lo ≤ i ∧ i ≤ hi)))) ∧ M' = M) mm_nx := by
  refine mm_ofW (cc := cX2_in) (maxL := 3) (ret := (some .boolean)) (by decide) rfl (Nat.le_of_ble_eq_true rfl) ?_
  intro p e s m below meth c A ls hx hb hr hlk hml hown hmn hts htab hE hST hA hM hS hl
  replace hl : lv_has ls 3 [(0, .int i), (1, .int lo), (2, .int hi)] := hl
  refine lv_iload_n hx hb dX2_in_0 rfl (lv_at hl 0 rfl) ?_
  refine lv_iload_n hx hb dX2_in_1 rfl (lv_at hl 1 rfl) ?_
  refine lv_icmp_lt (tgt := 14) hx hb dX2_in_2 (by decide) (fun c_1 => ?_) (fun c_1 => ?_)
  · have e9 : decide (lo ≤ i ∧ i ≤ hi) = false := by simp; intro h; exact absurd c_1 (Int32.not_lt.2 h)
    refine lv_iconst (v := 0) hx hb dX2_in_14 (by decide) ?_
    exact mm_retz hx hb hr rfl hlk hM hS ⟨by rw [e9]; rfl, rfl⟩ dX2_in_15 (Nat.le_of_ble_eq_true rfl) (Nat.le_of_ble_eq_true rfl)
  · skip
    refine lv_iload_n hx hb dX2_in_5 rfl (lv_at hl 0 rfl) ?_
    refine lv_iload_n hx hb dX2_in_6 rfl (lv_at hl 2 rfl) ?_
    refine lv_icmp_gt (tgt := 14) hx hb dX2_in_7 (by decide) (fun c_2 => ?_) (fun c_2 => ?_)
    · have e9 : decide (lo ≤ i ∧ i ≤ hi) = false := by simp; intro _; exact c_2
      refine lv_iconst (v := 0) hx hb dX2_in_14 (by decide) ?_
      exact mm_retz hx hb hr rfl hlk hM hS ⟨by rw [e9]; rfl, rfl⟩ dX2_in_15 (Nat.le_of_ble_eq_true rfl) (Nat.le_of_ble_eq_true rfl)
    · have e9 : decide (lo ≤ i ∧ i ≤ hi) = true := by simp; exact ⟨Int32.not_lt.1 c_1, Int32.not_lt.1 c_2⟩
      refine lv_iconst (v := 1) hx hb dX2_in_10 (by decide) ?_
      refine lv_goto (tgt := 15) hx hb dX2_in_11 (by decide) ?_
      exact mm_retz hx hb hr rfl hlk hM hS ⟨by rw [e9]; rfl, rfl⟩ dX2_in_15 (Nat.le_of_ble_eq_true rfl) (Nat.le_of_ble_eq_true rfl)
