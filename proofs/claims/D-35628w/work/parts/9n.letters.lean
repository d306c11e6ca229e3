/-! ===== letters of variables ===== -/
set_option maxRecDepth 100000
/-- the letter of the variable k (as a sign's number) -/
def ltr (k : Nat) : Nat := if k < 26 then 97 + k else if k < 52 then 39 + k else 63
theorem ltr_a : ∀ k, k < 26 → ((97 + nI k).toUInt32 % 65536).toInt32 = nI (ltr k) := by decide +kernel
theorem ltr_b : ∀ k, k < 52 → 26 ≤ k → ((65 + nI k - 26).toUInt32 % 65536).toInt32 = nI (ltr k) := by decide +kernel
theorem ltr_c {k : Nat} (h : 52 ≤ k) : (63 : Int32) = nI (ltr k) := by unfold ltr; rw [if_neg (by omega), if_neg (by omega)]; rfl
theorem ltr_nar (k : Nat) : narrow .char (.int (nI (ltr k))) = .int (nI (ltr k)) := by
  by_cases h : k < 52
  · have key : ∀ k, k < 52 → narrow .char (.int (nI (ltr k))) = .int (nI (ltr k)) := by decide +kernel
    exact key k h
  · rw [← ltr_c (by omega : 52 ≤ k)]; rfl

set_option maxHeartbeats 4000000 in
set_option maxRecDepth 100000 in
theorem c_X2_letterOf (l : Launch) (Z : mm_G) {M : mm_M} {k : Nat} (hk : k < 2 ^ 20) : mm_C l Z yX2_letterOf (ws_ yX2_letterOf cX2_letterOf 1 (some .char)) { frames := 0, cells := 0, slots := 0, locals := 0 } [.int (nI k)] M (fun v M' => v = some (.int (nI (ltr k))) ∧ M' = M) mm_nx := by
  refine mm_ofW (cc := cX2_letterOf) (maxL := 1) (ret := (some .char)) (by decide) rfl (Nat.le_of_ble_eq_true rfl) ?_
  intro p e s m below meth c A ls hx hb hr hlk hml hown hmn hts htab hE hST hA hM hS hl
  replace hl : lv_has ls 1 [(0, .int (nI k))] := hl
  refine lv_iload_n hx hb dX2_letterOf_0 rfl (lv_at hl 0 rfl) ?_
  refine lv_bipush (v := 26) hx hb dX2_letterOf_1 (by decide) ?_
  refine lv_icmp_ge (tgt := 14) hx hb dX2_letterOf_3 (by decide) (fun c_1 => ?_) (fun c_1 => ?_)
  · skip
    have h26 : 26 ≤ k := (nI_leI (a := 26) (b := k) (by omega) (by omega)).1 c_1
    refine lv_iload_n hx hb dX2_letterOf_14 rfl (lv_at hl 0 rfl) ?_
    refine lv_bipush (v := 52) hx hb dX2_letterOf_15 (by decide) ?_
    refine lv_icmp_ge (tgt := 31) hx hb dX2_letterOf_17 (by decide) (fun c_2 => ?_) (fun c_2 => ?_)
    · skip
      have h52 : 52 ≤ k := (nI_leI (a := 52) (b := k) (by omega) (by omega)).1 c_2
      refine lv_bipush (v := 63) hx hb dX2_letterOf_31 (by decide) ?_
      rw [show (63 : Int32) = nI (ltr k) from ltr_c h52]
      exact mm_retz hx hb hr (ltr_nar k) hlk hM hS ⟨rfl, rfl⟩ dX2_letterOf_33 (by (try dsimp only); omega) (by (try dsimp only); omega)
    · skip
      have h52 : k < 52 := by have : ¬ 52 ≤ k := fun h9 => c_2 ((nI_leI (a := 52) (b := k) (by omega) (by omega)).2 h9); omega
      refine lv_bipush (v := 65) hx hb dX2_letterOf_20 (by decide) ?_
      refine lv_iload_n hx hb dX2_letterOf_22 rfl (lv_at hl 0 rfl) ?_
      refine lv_iadd hx hb dX2_letterOf_23 ?_
      refine lv_bipush (v := 26) hx hb dX2_letterOf_24 (by decide) ?_
      refine lv_isub hx hb dX2_letterOf_26 ?_
      refine lv_i2c (v := (((65 + (nI k)) - 26).toUInt32 % 65536).toInt32) hx hb dX2_letterOf_27 rfl ?_
      refine lv_goto (tgt := 33) hx hb dX2_letterOf_28 (by decide) ?_
      rw [show ((((65 + (nI k)) - 26).toUInt32 % 65536).toInt32 : Int32) = nI (ltr k) from ltr_b k h52 h26]
      exact mm_retz hx hb hr (ltr_nar k) hlk hM hS ⟨rfl, rfl⟩ dX2_letterOf_33 (by (try dsimp only); omega) (by (try dsimp only); omega)
  · skip
    have h26 : k < 26 := by have : ¬ 26 ≤ k := fun h9 => c_1 ((nI_leI (a := 26) (b := k) (by omega) (by omega)).2 h9); omega
    refine lv_bipush (v := 97) hx hb dX2_letterOf_6 (by decide) ?_
    refine lv_iload_n hx hb dX2_letterOf_8 rfl (lv_at hl 0 rfl) ?_
    refine lv_iadd hx hb dX2_letterOf_9 ?_
    refine lv_i2c (v := ((97 + (nI k)).toUInt32 % 65536).toInt32) hx hb dX2_letterOf_10 rfl ?_
    refine lv_goto (tgt := 33) hx hb dX2_letterOf_11 (by decide) ?_
    rw [show (((97 + (nI k)).toUInt32 % 65536).toInt32 : Int32) = nI (ltr k) from ltr_a k h26]
    exact mm_retz hx hb hr (ltr_nar k) hlk hM hS ⟨rfl, rfl⟩ dX2_letterOf_33 (by (try dsimp only); omega) (by (try dsimp only); omega)
set_option maxHeartbeats 4000000 in
set_option maxRecDepth 100000 in
theorem c_X29_letter (l : Launch) (Z : mm_G) {M : mm_M} {k : Nat} (hk : k < 2 ^ 20) : mm_C l Z yX29_letter (ws_ yX29_letter cX29_letter 1 (some .char)) { frames := 0, cells := 0, slots := 0, locals := 0 } [.int (nI k)] M (fun v M' => v = some (.int (nI (ltr k))) ∧ M' = M) mm_nx := by
  refine mm_ofW (cc := cX29_letter) (maxL := 1) (ret := (some .char)) (by decide) rfl (Nat.le_of_ble_eq_true rfl) ?_
  intro p e s m below meth c A ls hx hb hr hlk hml hown hmn hts htab hE hST hA hM hS hl
  replace hl : lv_has ls 1 [(0, .int (nI k))] := hl
  refine lv_iload_n hx hb dX29_letter_0 rfl (lv_at hl 0 rfl) ?_
  refine lv_bipush (v := 26) hx hb dX29_letter_1 (by decide) ?_
  refine lv_icmp_ge (tgt := 13) hx hb dX29_letter_3 (by decide) (fun c_1 => ?_) (fun c_1 => ?_)
  · skip
    have h26 : 26 ≤ k := (nI_leI (a := 26) (b := k) (by omega) (by omega)).1 c_1
    refine lv_iload_n hx hb dX29_letter_13 rfl (lv_at hl 0 rfl) ?_
    refine lv_bipush (v := 52) hx hb dX29_letter_14 (by decide) ?_
    refine lv_icmp_ge (tgt := 29) hx hb dX29_letter_16 (by decide) (fun c_2 => ?_) (fun c_2 => ?_)
    · skip
      have h52 : 52 ≤ k := (nI_leI (a := 52) (b := k) (by omega) (by omega)).1 c_2
      refine lv_bipush (v := 63) hx hb dX29_letter_29 (by decide) ?_
      refine lv_i2c (v := ((63 : Int32).toUInt32 % 65536).toInt32) hx hb dX29_letter_31 rfl ?_
      rw [show (((63 : Int32).toUInt32 % 65536).toInt32 : Int32) = nI (ltr k) from (show (((63 : Int32).toUInt32 % 65536).toInt32 : Int32) = 63 from by decide).trans (ltr_c h52)]
      exact mm_retz hx hb hr (ltr_nar k) hlk hM hS ⟨rfl, rfl⟩ dX29_letter_32 (by (try dsimp only); omega) (by (try dsimp only); omega)
    · skip
      have h52 : k < 52 := by have : ¬ 52 ≤ k := fun h9 => c_2 ((nI_leI (a := 52) (b := k) (by omega) (by omega)).2 h9); omega
      refine lv_bipush (v := 65) hx hb dX29_letter_19 (by decide) ?_
      refine lv_iload_n hx hb dX29_letter_21 rfl (lv_at hl 0 rfl) ?_
      refine lv_iadd hx hb dX29_letter_22 ?_
      refine lv_bipush (v := 26) hx hb dX29_letter_23 (by decide) ?_
      refine lv_isub hx hb dX29_letter_25 ?_
      refine lv_goto (tgt := 31) hx hb dX29_letter_26 (by decide) ?_
      refine lv_i2c (v := (((65 + (nI k)) - 26).toUInt32 % 65536).toInt32) hx hb dX29_letter_31 rfl ?_
      rw [show ((((65 + (nI k)) - 26).toUInt32 % 65536).toInt32 : Int32) = nI (ltr k) from ltr_b k h52 h26]
      exact mm_retz hx hb hr (ltr_nar k) hlk hM hS ⟨rfl, rfl⟩ dX29_letter_32 (by (try dsimp only); omega) (by (try dsimp only); omega)
  · skip
    have h26 : k < 26 := by have : ¬ 26 ≤ k := fun h9 => c_1 ((nI_leI (a := 26) (b := k) (by omega) (by omega)).2 h9); omega
    refine lv_bipush (v := 97) hx hb dX29_letter_6 (by decide) ?_
    refine lv_iload_n hx hb dX29_letter_8 rfl (lv_at hl 0 rfl) ?_
    refine lv_iadd hx hb dX29_letter_9 ?_
    refine lv_goto (tgt := 31) hx hb dX29_letter_10 (by decide) ?_
    refine lv_i2c (v := ((97 + (nI k)).toUInt32 % 65536).toInt32) hx hb dX29_letter_31 rfl ?_
    rw [show (((97 + (nI k)).toUInt32 % 65536).toInt32 : Int32) = nI (ltr k) from ltr_a k h26]
    exact mm_retz hx hb hr (ltr_nar k) hlk hM hS ⟨rfl, rfl⟩ dX29_letter_32 (by (try dsimp only); omega) (by (try dsimp only); omega)
