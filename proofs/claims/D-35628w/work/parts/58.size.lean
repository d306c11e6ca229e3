/-! ===== numbers in signs; Integer.stringSize ===== -/
set_option maxRecDepth 100000
def nn (n : Nat) : Int32 := -nI n
theorem nn_toInt {n : Nat} (h : n ≤ 2 ^ 31) : (nn n).toInt = -(n : Int) := by
  by_cases h1 : n = 2 ^ 31
  · subst h1; decide
  · unfold nn
    rw [Int32.toInt_neg, nI_toInt (by omega)]
    exact Int.bmod_eq_of_le (by omega) (by omega)
theorem nn_le {n k : Nat} (h : n ≤ 2 ^ 31) (hk : k ≤ 2 ^ 31) : nn n ≤ nn k ↔ k ≤ n := by
  rw [Int32.le_iff_toInt_le, nn_toInt h, nn_toInt hk]; omega
theorem nn_div {n : Nat} (h : n ≤ 2 ^ 31) : nn n / 100 = nn (n / 100) := by
  apply Int32.toInt_inj.1
  rw [Int32.toInt_div, nn_toInt h, nn_toInt (by omega), show (100 : Int32).toInt = 100 from by decide, Int.neg_tdiv, Int.tdiv_eq_ediv_of_nonneg (by omega)]
  exact Int.bmod_eq_of_le (by omega) (by omega)
theorem nn_rem {n : Nat} (h : n ≤ 2 ^ 31) : nn (n / 100) * 100 - nn n = nI (n % 100) := by
  apply Int32.toInt_inj.1
  rw [Int32.toInt_sub, Int32.toInt_mul, nn_toInt h, nn_toInt (by omega), show (100 : Int32).toInt = 100 from by decide, nI_toInt (by omega)]
  rw [Int.bmod_eq_of_le (m := 2 ^ 32) (n := -((n / 100 : Nat) : Int) * 100) (by omega) (by omega)]
  rw [Int.bmod_eq_of_le (by omega) (by omega)]
  omega
theorem nn_neg {n : Nat} : -nn n = nI n := by unfold nn; exact Int32.neg_neg
theorem nI_dec (n : Nat) : nI (n + 1) + (-1) = nI n := by
  rw [← nI_1 n, Int32.add_assoc, show (1 : Int32) + (-1) = 0 from by decide, Int32.add_zero]
/-- a number's sign and amount -/
def sg (b : Bool) (n : Nat) : Int32 := if b then nn n else nI n
def sg_ok (b : Bool) (n : Nat) : Prop := n ≤ 2 ^ 31 ∧ (b = true → 0 < n) ∧ (b = false → n < 2 ^ 31)
theorem sg_of (x : Int32) : ∃ b n, sg_ok b n ∧ x = sg b n := by
  have h1 := Int32.le_toInt x
  have h2 := Int32.toInt_lt x
  by_cases h : x.toInt < 0
  · refine ⟨true, (-x.toInt).toNat, ⟨by omega, fun _ => by omega, (fun h => by cases h)⟩, ?_⟩
    apply Int32.toInt_inj.1
    rw [show sg true (-x.toInt).toNat = nn (-x.toInt).toNat from rfl, nn_toInt (by omega)]; omega
  · refine ⟨false, x.toInt.toNat, ⟨by omega, (fun h => by cases h), fun _ => by omega⟩, ?_⟩
    apply Int32.toInt_inj.1
    rw [show sg false x.toInt.toNat = nI x.toInt.toNat from rfl, nI_toInt (by omega)]; omega
def dg : Nat → Nat → List Nat
  | 0, _ => []
  | f + 1, n => if 100 ≤ n then dg f (n / 100) ++ [48 + n % 100 / 10, 48 + n % 100 % 10] else if 10 ≤ n then [48 + n / 10, 48 + n % 10] else [48 + n]
def dgs (b : Bool) (n : Nat) : List Nat := (if b then [45] else []) ++ dg 5 n
def dn (n : Nat) : Nat := if n < 10 then 1 else if n < 100 then 2 else if n < 1000 then 3 else if n < 10000 then 4 else if n < 100000 then 5 else if n < 1000000 then 6 else if n < 10000000 then 7 else if n < 100000000 then 8 else if n < 1000000000 then 9 else 10
theorem dg_small {f n : Nat} (h : n < 100) : (dg (f + 1) n).length = if n < 10 then 1 else 2 := by
  simp only [dg, if_neg (show ¬ 100 ≤ n by omega)]
  by_cases h1 : n < 10
  · rw [if_neg (by omega), if_pos h1]; rfl
  · rw [if_pos (by omega), if_neg h1]; rfl
theorem dg_big {f n : Nat} (h : 100 ≤ n) : (dg (f + 1) n).length = (dg f (n / 100)).length + 2 := by
  simp only [dg, if_pos h, List.length_append]; rfl
theorem dg_len {n : Nat} (h : n ≤ 2 ^ 31) : (dg 5 n).length = dn n := by
  have hs : ∀ f m, m < 10 → (dg (f + 1) m).length = 1 := fun f m hm => by rw [dg_small (by omega), if_pos hm]
  have hs2 : ∀ f m, 10 ≤ m → m < 100 → (dg (f + 1) m).length = 2 := fun f m h1 h2 => by rw [dg_small h2, if_neg (by omega)]
  unfold dn
  by_cases h1 : n < 10
  · rw [if_pos h1, hs _ _ h1]
  rw [if_neg h1]; by_cases h2 : n < 100
  · rw [if_pos h2, hs2 _ _ (by omega) h2]
  rw [if_neg h2, dg_big (by omega)]; by_cases h3 : n < 1000
  · rw [if_pos h3, hs _ _ (by omega)]
  rw [if_neg h3]; by_cases h4 : n < 10000
  · rw [if_pos h4, hs2 _ _ (by omega) (by omega)]
  rw [if_neg h4, dg_big (by omega)]; by_cases h5 : n < 100000
  · rw [if_pos h5, hs _ _ (by omega)]
  rw [if_neg h5]; by_cases h6 : n < 1000000
  · rw [if_pos h6, hs2 _ _ (by omega) (by omega)]
  rw [if_neg h6, dg_big (by omega)]; by_cases h7 : n < 10000000
  · rw [if_pos h7, hs _ _ (by omega)]
  rw [if_neg h7]; by_cases h8 : n < 100000000
  · rw [if_pos h8, hs2 _ _ (by omega) (by omega)]
  rw [if_neg h8, dg_big (by omega)]; by_cases h9 : n < 1000000000
  · rw [if_pos h9, hs _ _ (by omega)]
  · rw [if_neg h9, hs2 _ _ (by omega) (by omega)]
theorem dg_ok : ∀ (f n : Nat), tb_ok (dg f n) := by
  intro f
  induction f with
  | zero => intro n x hx; cases hx
  | succ f ih =>
    intro n x hx
    simp only [dg] at hx
    split at hx
    · rw [List.mem_append] at hx
      rcases hx with hx | hx
      · exact ih _ x hx
      · simp at hx; omega
    · split at hx <;> (simp at hx; omega)
theorem dgs_ok (b : Bool) (n : Nat) : tb_ok (dgs b n) := by
  intro x hx
  cases b with
  | false => exact dg_ok 5 n x hx
  | true =>
    rcases List.mem_cons.1 hx with rfl | hx
    · decide
    · exact dg_ok 5 n x hx
theorem dgs_len {b : Bool} {n : Nat} (h : n ≤ 2 ^ 31) : (dgs b n).length = dn n + (if b then 1 else 0) := by
  cases b with
  | false => exact dg_len h
  | true => show (dg 5 n).length + 1 = _; rw [dg_len h]; rfl
theorem dn_b (n : Nat) : 1 ≤ dn n ∧ dn n ≤ 10 := by unfold dn; repeat' split
                                                    all_goals omega

set_option maxHeartbeats 4000000 in
set_option maxRecDepth 100000 in
theorem c_J21_stringSize (l : Launch) (Z : mm_G) {M : mm_M} {b : Bool} {n : Nat} (hb9 : sg_ok b n) : mm_C l Z yJ21_stringSize (ws_ yJ21_stringSize cJ21_stringSize 4 (some .int)) { frames := 0, cells := 0, slots := 0, locals := 0 } [.int (sg b n)] M (fun v M' => v = some (.int (nI (dgs b n).length)) ∧ M' = M) mm_nx := by
  refine mm_ofW (cc := cJ21_stringSize) (maxL := 4) (ret := (some .int)) (by decide) rfl (Nat.le_of_ble_eq_true rfl) ?_
  intro p e s m below meth c A ls hx hb hr hlk hml hown hmn hts htab hE hST hA hM hS hl
  replace hl : lv_has ls 4 [(0, .int (sg b n))] := hl
  obtain ⟨hn, hp, hq⟩ := hb9
  rw [dgs_len hn]
  cases b
  · skip
    refine lv_iconst (v := 1) hx hb dJ21_stringSize_0 (by decide) ?_
    refine lv_istore_n hx hb dJ21_stringSize_1 rfl hl (by decide) rfl (fun ls hl => ?_)
    replace hl : lv_has ls 4 [(1, .int 1), (0, .int (sg false n))] := hl
    refine lv_iload_n hx hb dJ21_stringSize_2 rfl (lv_at hl 1 rfl) ?_
    refine lv_if_lt (tgt := 11) hx hb dJ21_stringSize_3 (by decide) (fun h9 => absurd h9 (Int32.not_lt.2 (nI_pos' (hq rfl)) : ¬ nI n < 0)) (fun _ => ?_)
    refine lv_iconst (v := 0) hx hb dJ21_stringSize_6 (by decide) ?_
    refine lv_istore_n hx hb dJ21_stringSize_7 rfl hl (by decide) rfl (fun ls hl => ?_)
    replace hl : lv_has ls 4 [(1, .int 0), (0, .int (nI n))] := hl
    refine lv_iload_n hx hb dJ21_stringSize_8 rfl (lv_at hl 1 rfl) ?_
    refine lv_ineg hx hb dJ21_stringSize_9 ?_
    rw [show (-(nI n) : Int32) = nn n from rfl]
    refine lv_istore_n hx hb dJ21_stringSize_10 rfl hl (by decide) rfl (fun ls hl => ?_)
    replace hl : lv_has ls 4 [(0, .int (nn n)), (1, .int 0)] := hl
    refine lv_bipush (v := -10) hx hb dJ21_stringSize_11 (by decide) ?_
    refine lv_istore_n hx hb dJ21_stringSize_13 rfl hl (by decide) rfl (fun ls hl => ?_)
    replace hl : lv_has ls 4 [(2, .int (-10)), (0, .int (nn n)), (1, .int 0)] := hl
    refine lv_iconst (v := 1) hx hb dJ21_stringSize_14 (by decide) ?_
    refine lv_istore_n hx hb dJ21_stringSize_15 rfl hl (by decide) rfl (fun ls hl => ?_)
    replace hl : lv_has ls 4 [(3, .int 1), (2, .int (-10)), (0, .int (nn n)), (1, .int 0)] := hl
    refine lv_iload_n hx hb dJ21_stringSize_16 rfl (lv_at hl 0 rfl) ?_
    refine lv_bipush (v := 10) hx hb dJ21_stringSize_17 (by decide) ?_
    refine lv_icmp_ge (tgt := 42) hx hb dJ21_stringSize_19 (by decide) (fun h9 => absurd h9 (by decide)) (fun _ => ?_)
    refine lv_iload_n hx hb dJ21_stringSize_22 rfl (lv_at hl 2 rfl) ?_
    refine lv_iload_n hx hb dJ21_stringSize_23 rfl (lv_at hl 1 rfl) ?_
    refine lv_icmp_le (tgt := 31) hx hb dJ21_stringSize_24 (by decide) (fun c_1 => ?_) (fun c_1 => ?_)
    · skip
      have g1 : ¬ n < 10 := Nat.not_lt.2 ((nn_le hn (by omega)).1 (by rw [show nn 10 = (-10 : Int32) from by decide]; exact c_1))
      refine lv_bipush (v := 10) hx hb dJ21_stringSize_31 (by decide) ?_
      refine lv_iload_n hx hb dJ21_stringSize_33 rfl (lv_at hl 1 rfl) ?_
      refine lv_imul hx hb dJ21_stringSize_34 ?_
      rw [show (10 * (-10) : Int32) = (-100) from by decide]
      refine lv_istore_n hx hb dJ21_stringSize_35 rfl hl (by decide) rfl (fun ls hl => ?_)
      replace hl : lv_has ls 4 [(2, .int (-100)), (3, .int 1), (0, .int (nn n)), (1, .int 0)] := hl
      refine lv_iinc (v := 2) (lv' := [(3, .int 2), (2, .int (-100)), (0, .int (nn n)), (1, .int 0)]) hx hb dJ21_stringSize_36 hl (k := 1) rfl (by decide) (by decide) rfl (fun ls hl => ?_)
      refine lv_goto (tgt := 16) hx hb dJ21_stringSize_39 (by decide) ?_
      refine lv_iload_n hx hb dJ21_stringSize_16 rfl (lv_at hl 0 rfl) ?_
      refine lv_bipush (v := 10) hx hb dJ21_stringSize_17 (by decide) ?_
      refine lv_icmp_ge (tgt := 42) hx hb dJ21_stringSize_19 (by decide) (fun h9 => absurd h9 (by decide)) (fun _ => ?_)
      refine lv_iload_n hx hb dJ21_stringSize_22 rfl (lv_at hl 2 rfl) ?_
      refine lv_iload_n hx hb dJ21_stringSize_23 rfl (lv_at hl 1 rfl) ?_
      refine lv_icmp_le (tgt := 31) hx hb dJ21_stringSize_24 (by decide) (fun c_2 => ?_) (fun c_2 => ?_)
      · skip
        have g2 : ¬ n < 100 := Nat.not_lt.2 ((nn_le hn (by omega)).1 (by rw [show nn 100 = (-100 : Int32) from by decide]; exact c_2))
        refine lv_bipush (v := 10) hx hb dJ21_stringSize_31 (by decide) ?_
        refine lv_iload_n hx hb dJ21_stringSize_33 rfl (lv_at hl 1 rfl) ?_
        refine lv_imul hx hb dJ21_stringSize_34 ?_
        rw [show (10 * (-100) : Int32) = (-1000) from by decide]
        refine lv_istore_n hx hb dJ21_stringSize_35 rfl hl (by decide) rfl (fun ls hl => ?_)
        replace hl : lv_has ls 4 [(2, .int (-1000)), (3, .int 2), (0, .int (nn n)), (1, .int 0)] := hl
        refine lv_iinc (v := 3) (lv' := [(3, .int 3), (2, .int (-1000)), (0, .int (nn n)), (1, .int 0)]) hx hb dJ21_stringSize_36 hl (k := 1) rfl (by decide) (by decide) rfl (fun ls hl => ?_)
        refine lv_goto (tgt := 16) hx hb dJ21_stringSize_39 (by decide) ?_
        refine lv_iload_n hx hb dJ21_stringSize_16 rfl (lv_at hl 0 rfl) ?_
        refine lv_bipush (v := 10) hx hb dJ21_stringSize_17 (by decide) ?_
        refine lv_icmp_ge (tgt := 42) hx hb dJ21_stringSize_19 (by decide) (fun h9 => absurd h9 (by decide)) (fun _ => ?_)
        refine lv_iload_n hx hb dJ21_stringSize_22 rfl (lv_at hl 2 rfl) ?_
        refine lv_iload_n hx hb dJ21_stringSize_23 rfl (lv_at hl 1 rfl) ?_
        refine lv_icmp_le (tgt := 31) hx hb dJ21_stringSize_24 (by decide) (fun c_3 => ?_) (fun c_3 => ?_)
        · skip
          have g3 : ¬ n < 1000 := Nat.not_lt.2 ((nn_le hn (by omega)).1 (by rw [show nn 1000 = (-1000 : Int32) from by decide]; exact c_3))
          refine lv_bipush (v := 10) hx hb dJ21_stringSize_31 (by decide) ?_
          refine lv_iload_n hx hb dJ21_stringSize_33 rfl (lv_at hl 1 rfl) ?_
          refine lv_imul hx hb dJ21_stringSize_34 ?_
          rw [show (10 * (-1000) : Int32) = (-10000) from by decide]
          refine lv_istore_n hx hb dJ21_stringSize_35 rfl hl (by decide) rfl (fun ls hl => ?_)
          replace hl : lv_has ls 4 [(2, .int (-10000)), (3, .int 3), (0, .int (nn n)), (1, .int 0)] := hl
          refine lv_iinc (v := 4) (lv' := [(3, .int 4), (2, .int (-10000)), (0, .int (nn n)), (1, .int 0)]) hx hb dJ21_stringSize_36 hl (k := 1) rfl (by decide) (by decide) rfl (fun ls hl => ?_)
          refine lv_goto (tgt := 16) hx hb dJ21_stringSize_39 (by decide) ?_
          refine lv_iload_n hx hb dJ21_stringSize_16 rfl (lv_at hl 0 rfl) ?_
          refine lv_bipush (v := 10) hx hb dJ21_stringSize_17 (by decide) ?_
          refine lv_icmp_ge (tgt := 42) hx hb dJ21_stringSize_19 (by decide) (fun h9 => absurd h9 (by decide)) (fun _ => ?_)
          refine lv_iload_n hx hb dJ21_stringSize_22 rfl (lv_at hl 2 rfl) ?_
          refine lv_iload_n hx hb dJ21_stringSize_23 rfl (lv_at hl 1 rfl) ?_
          refine lv_icmp_le (tgt := 31) hx hb dJ21_stringSize_24 (by decide) (fun c_4 => ?_) (fun c_4 => ?_)
          · skip
            have g4 : ¬ n < 10000 := Nat.not_lt.2 ((nn_le hn (by omega)).1 (by rw [show nn 10000 = (-10000 : Int32) from by decide]; exact c_4))
            refine lv_bipush (v := 10) hx hb dJ21_stringSize_31 (by decide) ?_
            refine lv_iload_n hx hb dJ21_stringSize_33 rfl (lv_at hl 1 rfl) ?_
            refine lv_imul hx hb dJ21_stringSize_34 ?_
            rw [show (10 * (-10000) : Int32) = (-100000) from by decide]
            refine lv_istore_n hx hb dJ21_stringSize_35 rfl hl (by decide) rfl (fun ls hl => ?_)
            replace hl : lv_has ls 4 [(2, .int (-100000)), (3, .int 4), (0, .int (nn n)), (1, .int 0)] := hl
            refine lv_iinc (v := 5) (lv' := [(3, .int 5), (2, .int (-100000)), (0, .int (nn n)), (1, .int 0)]) hx hb dJ21_stringSize_36 hl (k := 1) rfl (by decide) (by decide) rfl (fun ls hl => ?_)
            refine lv_goto (tgt := 16) hx hb dJ21_stringSize_39 (by decide) ?_
            refine lv_iload_n hx hb dJ21_stringSize_16 rfl (lv_at hl 0 rfl) ?_
            refine lv_bipush (v := 10) hx hb dJ21_stringSize_17 (by decide) ?_
            refine lv_icmp_ge (tgt := 42) hx hb dJ21_stringSize_19 (by decide) (fun h9 => absurd h9 (by decide)) (fun _ => ?_)
            refine lv_iload_n hx hb dJ21_stringSize_22 rfl (lv_at hl 2 rfl) ?_
            refine lv_iload_n hx hb dJ21_stringSize_23 rfl (lv_at hl 1 rfl) ?_
            refine lv_icmp_le (tgt := 31) hx hb dJ21_stringSize_24 (by decide) (fun c_5 => ?_) (fun c_5 => ?_)
            · skip
              have g5 : ¬ n < 100000 := Nat.not_lt.2 ((nn_le hn (by omega)).1 (by rw [show nn 100000 = (-100000 : Int32) from by decide]; exact c_5))
              refine lv_bipush (v := 10) hx hb dJ21_stringSize_31 (by decide) ?_
              refine lv_iload_n hx hb dJ21_stringSize_33 rfl (lv_at hl 1 rfl) ?_
              refine lv_imul hx hb dJ21_stringSize_34 ?_
              rw [show (10 * (-100000) : Int32) = (-1000000) from by decide]
              refine lv_istore_n hx hb dJ21_stringSize_35 rfl hl (by decide) rfl (fun ls hl => ?_)
              replace hl : lv_has ls 4 [(2, .int (-1000000)), (3, .int 5), (0, .int (nn n)), (1, .int 0)] := hl
              refine lv_iinc (v := 6) (lv' := [(3, .int 6), (2, .int (-1000000)), (0, .int (nn n)), (1, .int 0)]) hx hb dJ21_stringSize_36 hl (k := 1) rfl (by decide) (by decide) rfl (fun ls hl => ?_)
              refine lv_goto (tgt := 16) hx hb dJ21_stringSize_39 (by decide) ?_
              refine lv_iload_n hx hb dJ21_stringSize_16 rfl (lv_at hl 0 rfl) ?_
              refine lv_bipush (v := 10) hx hb dJ21_stringSize_17 (by decide) ?_
              refine lv_icmp_ge (tgt := 42) hx hb dJ21_stringSize_19 (by decide) (fun h9 => absurd h9 (by decide)) (fun _ => ?_)
              refine lv_iload_n hx hb dJ21_stringSize_22 rfl (lv_at hl 2 rfl) ?_
              refine lv_iload_n hx hb dJ21_stringSize_23 rfl (lv_at hl 1 rfl) ?_
              refine lv_icmp_le (tgt := 31) hx hb dJ21_stringSize_24 (by decide) (fun c_6 => ?_) (fun c_6 => ?_)
              · skip
                have g6 : ¬ n < 1000000 := Nat.not_lt.2 ((nn_le hn (by omega)).1 (by rw [show nn 1000000 = (-1000000 : Int32) from by decide]; exact c_6))
                refine lv_bipush (v := 10) hx hb dJ21_stringSize_31 (by decide) ?_
                refine lv_iload_n hx hb dJ21_stringSize_33 rfl (lv_at hl 1 rfl) ?_
                refine lv_imul hx hb dJ21_stringSize_34 ?_
                rw [show (10 * (-1000000) : Int32) = (-10000000) from by decide]
                refine lv_istore_n hx hb dJ21_stringSize_35 rfl hl (by decide) rfl (fun ls hl => ?_)
                replace hl : lv_has ls 4 [(2, .int (-10000000)), (3, .int 6), (0, .int (nn n)), (1, .int 0)] := hl
                refine lv_iinc (v := 7) (lv' := [(3, .int 7), (2, .int (-10000000)), (0, .int (nn n)), (1, .int 0)]) hx hb dJ21_stringSize_36 hl (k := 1) rfl (by decide) (by decide) rfl (fun ls hl => ?_)
                refine lv_goto (tgt := 16) hx hb dJ21_stringSize_39 (by decide) ?_
                refine lv_iload_n hx hb dJ21_stringSize_16 rfl (lv_at hl 0 rfl) ?_
                refine lv_bipush (v := 10) hx hb dJ21_stringSize_17 (by decide) ?_
                refine lv_icmp_ge (tgt := 42) hx hb dJ21_stringSize_19 (by decide) (fun h9 => absurd h9 (by decide)) (fun _ => ?_)
                refine lv_iload_n hx hb dJ21_stringSize_22 rfl (lv_at hl 2 rfl) ?_
                refine lv_iload_n hx hb dJ21_stringSize_23 rfl (lv_at hl 1 rfl) ?_
                refine lv_icmp_le (tgt := 31) hx hb dJ21_stringSize_24 (by decide) (fun c_7 => ?_) (fun c_7 => ?_)
                · skip
                  have g7 : ¬ n < 10000000 := Nat.not_lt.2 ((nn_le hn (by omega)).1 (by rw [show nn 10000000 = (-10000000 : Int32) from by decide]; exact c_7))
                  refine lv_bipush (v := 10) hx hb dJ21_stringSize_31 (by decide) ?_
                  refine lv_iload_n hx hb dJ21_stringSize_33 rfl (lv_at hl 1 rfl) ?_
                  refine lv_imul hx hb dJ21_stringSize_34 ?_
                  rw [show (10 * (-10000000) : Int32) = (-100000000) from by decide]
                  refine lv_istore_n hx hb dJ21_stringSize_35 rfl hl (by decide) rfl (fun ls hl => ?_)
                  replace hl : lv_has ls 4 [(2, .int (-100000000)), (3, .int 7), (0, .int (nn n)), (1, .int 0)] := hl
                  refine lv_iinc (v := 8) (lv' := [(3, .int 8), (2, .int (-100000000)), (0, .int (nn n)), (1, .int 0)]) hx hb dJ21_stringSize_36 hl (k := 1) rfl (by decide) (by decide) rfl (fun ls hl => ?_)
                  refine lv_goto (tgt := 16) hx hb dJ21_stringSize_39 (by decide) ?_
                  refine lv_iload_n hx hb dJ21_stringSize_16 rfl (lv_at hl 0 rfl) ?_
                  refine lv_bipush (v := 10) hx hb dJ21_stringSize_17 (by decide) ?_
                  refine lv_icmp_ge (tgt := 42) hx hb dJ21_stringSize_19 (by decide) (fun h9 => absurd h9 (by decide)) (fun _ => ?_)
                  refine lv_iload_n hx hb dJ21_stringSize_22 rfl (lv_at hl 2 rfl) ?_
                  refine lv_iload_n hx hb dJ21_stringSize_23 rfl (lv_at hl 1 rfl) ?_
                  refine lv_icmp_le (tgt := 31) hx hb dJ21_stringSize_24 (by decide) (fun c_8 => ?_) (fun c_8 => ?_)
                  · skip
                    have g8 : ¬ n < 100000000 := Nat.not_lt.2 ((nn_le hn (by omega)).1 (by rw [show nn 100000000 = (-100000000 : Int32) from by decide]; exact c_8))
                    refine lv_bipush (v := 10) hx hb dJ21_stringSize_31 (by decide) ?_
                    refine lv_iload_n hx hb dJ21_stringSize_33 rfl (lv_at hl 1 rfl) ?_
                    refine lv_imul hx hb dJ21_stringSize_34 ?_
                    rw [show (10 * (-100000000) : Int32) = (-1000000000) from by decide]
                    refine lv_istore_n hx hb dJ21_stringSize_35 rfl hl (by decide) rfl (fun ls hl => ?_)
                    replace hl : lv_has ls 4 [(2, .int (-1000000000)), (3, .int 8), (0, .int (nn n)), (1, .int 0)] := hl
                    refine lv_iinc (v := 9) (lv' := [(3, .int 9), (2, .int (-1000000000)), (0, .int (nn n)), (1, .int 0)]) hx hb dJ21_stringSize_36 hl (k := 1) rfl (by decide) (by decide) rfl (fun ls hl => ?_)
                    refine lv_goto (tgt := 16) hx hb dJ21_stringSize_39 (by decide) ?_
                    refine lv_iload_n hx hb dJ21_stringSize_16 rfl (lv_at hl 0 rfl) ?_
                    refine lv_bipush (v := 10) hx hb dJ21_stringSize_17 (by decide) ?_
                    refine lv_icmp_ge (tgt := 42) hx hb dJ21_stringSize_19 (by decide) (fun h9 => absurd h9 (by decide)) (fun _ => ?_)
                    refine lv_iload_n hx hb dJ21_stringSize_22 rfl (lv_at hl 2 rfl) ?_
                    refine lv_iload_n hx hb dJ21_stringSize_23 rfl (lv_at hl 1 rfl) ?_
                    refine lv_icmp_le (tgt := 31) hx hb dJ21_stringSize_24 (by decide) (fun c_9 => ?_) (fun c_9 => ?_)
                    · skip
                      have g9 : ¬ n < 1000000000 := Nat.not_lt.2 ((nn_le hn (by omega)).1 (by rw [show nn 1000000000 = (-1000000000 : Int32) from by decide]; exact c_9))
                      refine lv_bipush (v := 10) hx hb dJ21_stringSize_31 (by decide) ?_
                      refine lv_iload_n hx hb dJ21_stringSize_33 rfl (lv_at hl 1 rfl) ?_
                      refine lv_imul hx hb dJ21_stringSize_34 ?_
                      refine lv_istore_n hx hb dJ21_stringSize_35 rfl hl (by decide) rfl (fun ls hl => ?_)
                      replace hl : lv_has ls 4 [(2, .int (10 * (-1000000000))), (3, .int 9), (0, .int (nn n)), (1, .int 0)] := hl
                      refine lv_iinc (v := 10) (lv' := [(3, .int 10), (2, .int (10 * (-1000000000))), (0, .int (nn n)), (1, .int 0)]) hx hb dJ21_stringSize_36 hl (k := 1) rfl (by decide) (by decide) rfl (fun ls hl => ?_)
                      refine lv_goto (tgt := 16) hx hb dJ21_stringSize_39 (by decide) ?_
                      refine lv_iload_n hx hb dJ21_stringSize_16 rfl (lv_at hl 0 rfl) ?_
                      refine lv_bipush (v := 10) hx hb dJ21_stringSize_17 (by decide) ?_
                      refine lv_icmp_ge (tgt := 42) hx hb dJ21_stringSize_19 (by decide) (fun _ => ?_) (fun h9 => absurd (by decide) h9)
                      refine lv_bipush (v := 10) hx hb dJ21_stringSize_42 (by decide) ?_
                      refine lv_iload_n hx hb dJ21_stringSize_44 rfl (lv_at hl 3 rfl) ?_
                      refine lv_iadd hx hb dJ21_stringSize_45 ?_
                      have h7 : dn n = 10 := by unfold dn; simp only [if_neg g1, if_neg g2, if_neg g3, if_neg g4, if_neg g5, if_neg g6, if_neg g7, if_neg g8, if_neg g9]
                      exact mm_reti hx hb hr hlk hM hS ⟨by rw [h7]; rfl, rfl⟩ dJ21_stringSize_46 (Nat.le_of_ble_eq_true rfl) (Nat.le_of_ble_eq_true rfl)
                    · skip
                      have h8 : n < 1000000000 := Nat.lt_of_not_le (fun h6 => c_9 (by rw [show (-1000000000 : Int32) = nn 1000000000 from by decide]; exact (nn_le hn (by omega)).2 h6))
                      refine lv_iload_n hx hb dJ21_stringSize_27 rfl (lv_at hl 0 rfl) ?_
                      refine lv_iload_n hx hb dJ21_stringSize_28 rfl (lv_at hl 3 rfl) ?_
                      refine lv_iadd hx hb dJ21_stringSize_29 ?_
                      have h7 : dn n = 9 := by unfold dn; simp only [if_pos h8, if_neg g1, if_neg g2, if_neg g3, if_neg g4, if_neg g5, if_neg g6, if_neg g7, if_neg g8]
                      exact mm_reti hx hb hr hlk hM hS ⟨by rw [h7]; rfl, rfl⟩ dJ21_stringSize_30 (Nat.le_of_ble_eq_true rfl) (Nat.le_of_ble_eq_true rfl)
                  · skip
                    have h8 : n < 100000000 := Nat.lt_of_not_le (fun h6 => c_8 (by rw [show (-100000000 : Int32) = nn 100000000 from by decide]; exact (nn_le hn (by omega)).2 h6))
                    refine lv_iload_n hx hb dJ21_stringSize_27 rfl (lv_at hl 0 rfl) ?_
                    refine lv_iload_n hx hb dJ21_stringSize_28 rfl (lv_at hl 3 rfl) ?_
                    refine lv_iadd hx hb dJ21_stringSize_29 ?_
                    have h7 : dn n = 8 := by unfold dn; simp only [if_pos h8, if_neg g1, if_neg g2, if_neg g3, if_neg g4, if_neg g5, if_neg g6, if_neg g7]
                    exact mm_reti hx hb hr hlk hM hS ⟨by rw [h7]; rfl, rfl⟩ dJ21_stringSize_30 (Nat.le_of_ble_eq_true rfl) (Nat.le_of_ble_eq_true rfl)
                · skip
                  have h8 : n < 10000000 := Nat.lt_of_not_le (fun h6 => c_7 (by rw [show (-10000000 : Int32) = nn 10000000 from by decide]; exact (nn_le hn (by omega)).2 h6))
                  refine lv_iload_n hx hb dJ21_stringSize_27 rfl (lv_at hl 0 rfl) ?_
                  refine lv_iload_n hx hb dJ21_stringSize_28 rfl (lv_at hl 3 rfl) ?_
                  refine lv_iadd hx hb dJ21_stringSize_29 ?_
                  have h7 : dn n = 7 := by unfold dn; simp only [if_pos h8, if_neg g1, if_neg g2, if_neg g3, if_neg g4, if_neg g5, if_neg g6]
                  exact mm_reti hx hb hr hlk hM hS ⟨by rw [h7]; rfl, rfl⟩ dJ21_stringSize_30 (Nat.le_of_ble_eq_true rfl) (Nat.le_of_ble_eq_true rfl)
              · skip
                have h8 : n < 1000000 := Nat.lt_of_not_le (fun h6 => c_6 (by rw [show (-1000000 : Int32) = nn 1000000 from by decide]; exact (nn_le hn (by omega)).2 h6))
                refine lv_iload_n hx hb dJ21_stringSize_27 rfl (lv_at hl 0 rfl) ?_
                refine lv_iload_n hx hb dJ21_stringSize_28 rfl (lv_at hl 3 rfl) ?_
                refine lv_iadd hx hb dJ21_stringSize_29 ?_
                have h7 : dn n = 6 := by unfold dn; simp only [if_pos h8, if_neg g1, if_neg g2, if_neg g3, if_neg g4, if_neg g5]
                exact mm_reti hx hb hr hlk hM hS ⟨by rw [h7]; rfl, rfl⟩ dJ21_stringSize_30 (Nat.le_of_ble_eq_true rfl) (Nat.le_of_ble_eq_true rfl)
            · skip
              have h8 : n < 100000 := Nat.lt_of_not_le (fun h6 => c_5 (by rw [show (-100000 : Int32) = nn 100000 from by decide]; exact (nn_le hn (by omega)).2 h6))
              refine lv_iload_n hx hb dJ21_stringSize_27 rfl (lv_at hl 0 rfl) ?_
              refine lv_iload_n hx hb dJ21_stringSize_28 rfl (lv_at hl 3 rfl) ?_
              refine lv_iadd hx hb dJ21_stringSize_29 ?_
              have h7 : dn n = 5 := by unfold dn; simp only [if_pos h8, if_neg g1, if_neg g2, if_neg g3, if_neg g4]
              exact mm_reti hx hb hr hlk hM hS ⟨by rw [h7]; rfl, rfl⟩ dJ21_stringSize_30 (Nat.le_of_ble_eq_true rfl) (Nat.le_of_ble_eq_true rfl)
          · skip
            have h8 : n < 10000 := Nat.lt_of_not_le (fun h6 => c_4 (by rw [show (-10000 : Int32) = nn 10000 from by decide]; exact (nn_le hn (by omega)).2 h6))
            refine lv_iload_n hx hb dJ21_stringSize_27 rfl (lv_at hl 0 rfl) ?_
            refine lv_iload_n hx hb dJ21_stringSize_28 rfl (lv_at hl 3 rfl) ?_
            refine lv_iadd hx hb dJ21_stringSize_29 ?_
            have h7 : dn n = 4 := by unfold dn; simp only [if_pos h8, if_neg g1, if_neg g2, if_neg g3]
            exact mm_reti hx hb hr hlk hM hS ⟨by rw [h7]; rfl, rfl⟩ dJ21_stringSize_30 (Nat.le_of_ble_eq_true rfl) (Nat.le_of_ble_eq_true rfl)
        · skip
          have h8 : n < 1000 := Nat.lt_of_not_le (fun h6 => c_3 (by rw [show (-1000 : Int32) = nn 1000 from by decide]; exact (nn_le hn (by omega)).2 h6))
          refine lv_iload_n hx hb dJ21_stringSize_27 rfl (lv_at hl 0 rfl) ?_
          refine lv_iload_n hx hb dJ21_stringSize_28 rfl (lv_at hl 3 rfl) ?_
          refine lv_iadd hx hb dJ21_stringSize_29 ?_
          have h7 : dn n = 3 := by unfold dn; simp only [if_pos h8, if_neg g1, if_neg g2]
          exact mm_reti hx hb hr hlk hM hS ⟨by rw [h7]; rfl, rfl⟩ dJ21_stringSize_30 (Nat.le_of_ble_eq_true rfl) (Nat.le_of_ble_eq_true rfl)
      · skip
        have h8 : n < 100 := Nat.lt_of_not_le (fun h6 => c_2 (by rw [show (-100 : Int32) = nn 100 from by decide]; exact (nn_le hn (by omega)).2 h6))
        refine lv_iload_n hx hb dJ21_stringSize_27 rfl (lv_at hl 0 rfl) ?_
        refine lv_iload_n hx hb dJ21_stringSize_28 rfl (lv_at hl 3 rfl) ?_
        refine lv_iadd hx hb dJ21_stringSize_29 ?_
        have h7 : dn n = 2 := by unfold dn; simp only [if_pos h8, if_neg g1]
        exact mm_reti hx hb hr hlk hM hS ⟨by rw [h7]; rfl, rfl⟩ dJ21_stringSize_30 (Nat.le_of_ble_eq_true rfl) (Nat.le_of_ble_eq_true rfl)
    · skip
      have h8 : n < 10 := Nat.lt_of_not_le (fun h6 => c_1 (by rw [show (-10 : Int32) = nn 10 from by decide]; exact (nn_le hn (by omega)).2 h6))
      refine lv_iload_n hx hb dJ21_stringSize_27 rfl (lv_at hl 0 rfl) ?_
      refine lv_iload_n hx hb dJ21_stringSize_28 rfl (lv_at hl 3 rfl) ?_
      refine lv_iadd hx hb dJ21_stringSize_29 ?_
      have h7 : dn n = 1 := by unfold dn; simp only [if_pos h8]
      exact mm_reti hx hb hr hlk hM hS ⟨by rw [h7]; rfl, rfl⟩ dJ21_stringSize_30 (Nat.le_of_ble_eq_true rfl) (Nat.le_of_ble_eq_true rfl)
  · skip
    refine lv_iconst (v := 1) hx hb dJ21_stringSize_0 (by decide) ?_
    refine lv_istore_n hx hb dJ21_stringSize_1 rfl hl (by decide) rfl (fun ls hl => ?_)
    replace hl : lv_has ls 4 [(1, .int 1), (0, .int (sg true n))] := hl
    refine lv_iload_n hx hb dJ21_stringSize_2 rfl (lv_at hl 1 rfl) ?_
    refine lv_if_lt (tgt := 11) hx hb dJ21_stringSize_3 (by decide) (fun _ => ?_) (fun h9 => absurd (show nn n < 0 from by rw [Int32.lt_iff_toInt_lt, nn_toInt hn]; have := hp rfl; show -(n : Int) < 0; omega) h9)
    refine lv_bipush (v := -10) hx hb dJ21_stringSize_11 (by decide) ?_
    refine lv_istore_n hx hb dJ21_stringSize_13 rfl hl (by decide) rfl (fun ls hl => ?_)
    replace hl : lv_has ls 4 [(2, .int (-10)), (1, .int 1), (0, .int (nn n))] := hl
    refine lv_iconst (v := 1) hx hb dJ21_stringSize_14 (by decide) ?_
    refine lv_istore_n hx hb dJ21_stringSize_15 rfl hl (by decide) rfl (fun ls hl => ?_)
    replace hl : lv_has ls 4 [(3, .int 1), (2, .int (-10)), (1, .int 1), (0, .int (nn n))] := hl
    refine lv_iload_n hx hb dJ21_stringSize_16 rfl (lv_at hl 0 rfl) ?_
    refine lv_bipush (v := 10) hx hb dJ21_stringSize_17 (by decide) ?_
    refine lv_icmp_ge (tgt := 42) hx hb dJ21_stringSize_19 (by decide) (fun h9 => absurd h9 (by decide)) (fun _ => ?_)
    refine lv_iload_n hx hb dJ21_stringSize_22 rfl (lv_at hl 3 rfl) ?_
    refine lv_iload_n hx hb dJ21_stringSize_23 rfl (lv_at hl 1 rfl) ?_
    refine lv_icmp_le (tgt := 31) hx hb dJ21_stringSize_24 (by decide) (fun c_1 => ?_) (fun c_1 => ?_)
    · skip
      have g1 : ¬ n < 10 := Nat.not_lt.2 ((nn_le hn (by omega)).1 (by rw [show nn 10 = (-10 : Int32) from by decide]; exact c_1))
      refine lv_bipush (v := 10) hx hb dJ21_stringSize_31 (by decide) ?_
      refine lv_iload_n hx hb dJ21_stringSize_33 rfl (lv_at hl 1 rfl) ?_
      refine lv_imul hx hb dJ21_stringSize_34 ?_
      rw [show (10 * (-10) : Int32) = (-100) from by decide]
      refine lv_istore_n hx hb dJ21_stringSize_35 rfl hl (by decide) rfl (fun ls hl => ?_)
      replace hl : lv_has ls 4 [(2, .int (-100)), (3, .int 1), (1, .int 1), (0, .int (nn n))] := hl
      refine lv_iinc (v := 2) (lv' := [(3, .int 2), (2, .int (-100)), (1, .int 1), (0, .int (nn n))]) hx hb dJ21_stringSize_36 hl (k := 1) rfl (by decide) (by decide) rfl (fun ls hl => ?_)
      refine lv_goto (tgt := 16) hx hb dJ21_stringSize_39 (by decide) ?_
      refine lv_iload_n hx hb dJ21_stringSize_16 rfl (lv_at hl 0 rfl) ?_
      refine lv_bipush (v := 10) hx hb dJ21_stringSize_17 (by decide) ?_
      refine lv_icmp_ge (tgt := 42) hx hb dJ21_stringSize_19 (by decide) (fun h9 => absurd h9 (by decide)) (fun _ => ?_)
      refine lv_iload_n hx hb dJ21_stringSize_22 rfl (lv_at hl 3 rfl) ?_
      refine lv_iload_n hx hb dJ21_stringSize_23 rfl (lv_at hl 1 rfl) ?_
      refine lv_icmp_le (tgt := 31) hx hb dJ21_stringSize_24 (by decide) (fun c_2 => ?_) (fun c_2 => ?_)
      · skip
        have g2 : ¬ n < 100 := Nat.not_lt.2 ((nn_le hn (by omega)).1 (by rw [show nn 100 = (-100 : Int32) from by decide]; exact c_2))
        refine lv_bipush (v := 10) hx hb dJ21_stringSize_31 (by decide) ?_
        refine lv_iload_n hx hb dJ21_stringSize_33 rfl (lv_at hl 1 rfl) ?_
        refine lv_imul hx hb dJ21_stringSize_34 ?_
        rw [show (10 * (-100) : Int32) = (-1000) from by decide]
        refine lv_istore_n hx hb dJ21_stringSize_35 rfl hl (by decide) rfl (fun ls hl => ?_)
        replace hl : lv_has ls 4 [(2, .int (-1000)), (3, .int 2), (1, .int 1), (0, .int (nn n))] := hl
        refine lv_iinc (v := 3) (lv' := [(3, .int 3), (2, .int (-1000)), (1, .int 1), (0, .int (nn n))]) hx hb dJ21_stringSize_36 hl (k := 1) rfl (by decide) (by decide) rfl (fun ls hl => ?_)
        refine lv_goto (tgt := 16) hx hb dJ21_stringSize_39 (by decide) ?_
        refine lv_iload_n hx hb dJ21_stringSize_16 rfl (lv_at hl 0 rfl) ?_
        refine lv_bipush (v := 10) hx hb dJ21_stringSize_17 (by decide) ?_
        refine lv_icmp_ge (tgt := 42) hx hb dJ21_stringSize_19 (by decide) (fun h9 => absurd h9 (by decide)) (fun _ => ?_)
        refine lv_iload_n hx hb dJ21_stringSize_22 rfl (lv_at hl 3 rfl) ?_
        refine lv_iload_n hx hb dJ21_stringSize_23 rfl (lv_at hl 1 rfl) ?_
        refine lv_icmp_le (tgt := 31) hx hb dJ21_stringSize_24 (by decide) (fun c_3 => ?_) (fun c_3 => ?_)
        · skip
          have g3 : ¬ n < 1000 := Nat.not_lt.2 ((nn_le hn (by omega)).1 (by rw [show nn 1000 = (-1000 : Int32) from by decide]; exact c_3))
          refine lv_bipush (v := 10) hx hb dJ21_stringSize_31 (by decide) ?_
          refine lv_iload_n hx hb dJ21_stringSize_33 rfl (lv_at hl 1 rfl) ?_
          refine lv_imul hx hb dJ21_stringSize_34 ?_
          rw [show (10 * (-1000) : Int32) = (-10000) from by decide]
          refine lv_istore_n hx hb dJ21_stringSize_35 rfl hl (by decide) rfl (fun ls hl => ?_)
          replace hl : lv_has ls 4 [(2, .int (-10000)), (3, .int 3), (1, .int 1), (0, .int (nn n))] := hl
          refine lv_iinc (v := 4) (lv' := [(3, .int 4), (2, .int (-10000)), (1, .int 1), (0, .int (nn n))]) hx hb dJ21_stringSize_36 hl (k := 1) rfl (by decide) (by decide) rfl (fun ls hl => ?_)
          refine lv_goto (tgt := 16) hx hb dJ21_stringSize_39 (by decide) ?_
          refine lv_iload_n hx hb dJ21_stringSize_16 rfl (lv_at hl 0 rfl) ?_
          refine lv_bipush (v := 10) hx hb dJ21_stringSize_17 (by decide) ?_
          refine lv_icmp_ge (tgt := 42) hx hb dJ21_stringSize_19 (by decide) (fun h9 => absurd h9 (by decide)) (fun _ => ?_)
          refine lv_iload_n hx hb dJ21_stringSize_22 rfl (lv_at hl 3 rfl) ?_
          refine lv_iload_n hx hb dJ21_stringSize_23 rfl (lv_at hl 1 rfl) ?_
          refine lv_icmp_le (tgt := 31) hx hb dJ21_stringSize_24 (by decide) (fun c_4 => ?_) (fun c_4 => ?_)
          · skip
            have g4 : ¬ n < 10000 := Nat.not_lt.2 ((nn_le hn (by omega)).1 (by rw [show nn 10000 = (-10000 : Int32) from by decide]; exact c_4))
            refine lv_bipush (v := 10) hx hb dJ21_stringSize_31 (by decide) ?_
            refine lv_iload_n hx hb dJ21_stringSize_33 rfl (lv_at hl 1 rfl) ?_
            refine lv_imul hx hb dJ21_stringSize_34 ?_
            rw [show (10 * (-10000) : Int32) = (-100000) from by decide]
            refine lv_istore_n hx hb dJ21_stringSize_35 rfl hl (by decide) rfl (fun ls hl => ?_)
            replace hl : lv_has ls 4 [(2, .int (-100000)), (3, .int 4), (1, .int 1), (0, .int (nn n))] := hl
            refine lv_iinc (v := 5) (lv' := [(3, .int 5), (2, .int (-100000)), (1, .int 1), (0, .int (nn n))]) hx hb dJ21_stringSize_36 hl (k := 1) rfl (by decide) (by decide) rfl (fun ls hl => ?_)
            refine lv_goto (tgt := 16) hx hb dJ21_stringSize_39 (by decide) ?_
            refine lv_iload_n hx hb dJ21_stringSize_16 rfl (lv_at hl 0 rfl) ?_
            refine lv_bipush (v := 10) hx hb dJ21_stringSize_17 (by decide) ?_
            refine lv_icmp_ge (tgt := 42) hx hb dJ21_stringSize_19 (by decide) (fun h9 => absurd h9 (by decide)) (fun _ => ?_)
            refine lv_iload_n hx hb dJ21_stringSize_22 rfl (lv_at hl 3 rfl) ?_
            refine lv_iload_n hx hb dJ21_stringSize_23 rfl (lv_at hl 1 rfl) ?_
            refine lv_icmp_le (tgt := 31) hx hb dJ21_stringSize_24 (by decide) (fun c_5 => ?_) (fun c_5 => ?_)
            · skip
              have g5 : ¬ n < 100000 := Nat.not_lt.2 ((nn_le hn (by omega)).1 (by rw [show nn 100000 = (-100000 : Int32) from by decide]; exact c_5))
              refine lv_bipush (v := 10) hx hb dJ21_stringSize_31 (by decide) ?_
              refine lv_iload_n hx hb dJ21_stringSize_33 rfl (lv_at hl 1 rfl) ?_
              refine lv_imul hx hb dJ21_stringSize_34 ?_
              rw [show (10 * (-100000) : Int32) = (-1000000) from by decide]
              refine lv_istore_n hx hb dJ21_stringSize_35 rfl hl (by decide) rfl (fun ls hl => ?_)
              replace hl : lv_has ls 4 [(2, .int (-1000000)), (3, .int 5), (1, .int 1), (0, .int (nn n))] := hl
              refine lv_iinc (v := 6) (lv' := [(3, .int 6), (2, .int (-1000000)), (1, .int 1), (0, .int (nn n))]) hx hb dJ21_stringSize_36 hl (k := 1) rfl (by decide) (by decide) rfl (fun ls hl => ?_)
              refine lv_goto (tgt := 16) hx hb dJ21_stringSize_39 (by decide) ?_
              refine lv_iload_n hx hb dJ21_stringSize_16 rfl (lv_at hl 0 rfl) ?_
              refine lv_bipush (v := 10) hx hb dJ21_stringSize_17 (by decide) ?_
              refine lv_icmp_ge (tgt := 42) hx hb dJ21_stringSize_19 (by decide) (fun h9 => absurd h9 (by decide)) (fun _ => ?_)
              refine lv_iload_n hx hb dJ21_stringSize_22 rfl (lv_at hl 3 rfl) ?_
              refine lv_iload_n hx hb dJ21_stringSize_23 rfl (lv_at hl 1 rfl) ?_
              refine lv_icmp_le (tgt := 31) hx hb dJ21_stringSize_24 (by decide) (fun c_6 => ?_) (fun c_6 => ?_)
              · skip
                have g6 : ¬ n < 1000000 := Nat.not_lt.2 ((nn_le hn (by omega)).1 (by rw [show nn 1000000 = (-1000000 : Int32) from by decide]; exact c_6))
                refine lv_bipush (v := 10) hx hb dJ21_stringSize_31 (by decide) ?_
                refine lv_iload_n hx hb dJ21_stringSize_33 rfl (lv_at hl 1 rfl) ?_
                refine lv_imul hx hb dJ21_stringSize_34 ?_
                rw [show (10 * (-1000000) : Int32) = (-10000000) from by decide]
                refine lv_istore_n hx hb dJ21_stringSize_35 rfl hl (by decide) rfl (fun ls hl => ?_)
                replace hl : lv_has ls 4 [(2, .int (-10000000)), (3, .int 6), (1, .int 1), (0, .int (nn n))] := hl
                refine lv_iinc (v := 7) (lv' := [(3, .int 7), (2, .int (-10000000)), (1, .int 1), (0, .int (nn n))]) hx hb dJ21_stringSize_36 hl (k := 1) rfl (by decide) (by decide) rfl (fun ls hl => ?_)
                refine lv_goto (tgt := 16) hx hb dJ21_stringSize_39 (by decide) ?_
                refine lv_iload_n hx hb dJ21_stringSize_16 rfl (lv_at hl 0 rfl) ?_
                refine lv_bipush (v := 10) hx hb dJ21_stringSize_17 (by decide) ?_
                refine lv_icmp_ge (tgt := 42) hx hb dJ21_stringSize_19 (by decide) (fun h9 => absurd h9 (by decide)) (fun _ => ?_)
                refine lv_iload_n hx hb dJ21_stringSize_22 rfl (lv_at hl 3 rfl) ?_
                refine lv_iload_n hx hb dJ21_stringSize_23 rfl (lv_at hl 1 rfl) ?_
                refine lv_icmp_le (tgt := 31) hx hb dJ21_stringSize_24 (by decide) (fun c_7 => ?_) (fun c_7 => ?_)
                · skip
                  have g7 : ¬ n < 10000000 := Nat.not_lt.2 ((nn_le hn (by omega)).1 (by rw [show nn 10000000 = (-10000000 : Int32) from by decide]; exact c_7))
                  refine lv_bipush (v := 10) hx hb dJ21_stringSize_31 (by decide) ?_
                  refine lv_iload_n hx hb dJ21_stringSize_33 rfl (lv_at hl 1 rfl) ?_
                  refine lv_imul hx hb dJ21_stringSize_34 ?_
                  rw [show (10 * (-10000000) : Int32) = (-100000000) from by decide]
                  refine lv_istore_n hx hb dJ21_stringSize_35 rfl hl (by decide) rfl (fun ls hl => ?_)
                  replace hl : lv_has ls 4 [(2, .int (-100000000)), (3, .int 7), (1, .int 1), (0, .int (nn n))] := hl
                  refine lv_iinc (v := 8) (lv' := [(3, .int 8), (2, .int (-100000000)), (1, .int 1), (0, .int (nn n))]) hx hb dJ21_stringSize_36 hl (k := 1) rfl (by decide) (by decide) rfl (fun ls hl => ?_)
                  refine lv_goto (tgt := 16) hx hb dJ21_stringSize_39 (by decide) ?_
                  refine lv_iload_n hx hb dJ21_stringSize_16 rfl (lv_at hl 0 rfl) ?_
                  refine lv_bipush (v := 10) hx hb dJ21_stringSize_17 (by decide) ?_
                  refine lv_icmp_ge (tgt := 42) hx hb dJ21_stringSize_19 (by decide) (fun h9 => absurd h9 (by decide)) (fun _ => ?_)
                  refine lv_iload_n hx hb dJ21_stringSize_22 rfl (lv_at hl 3 rfl) ?_
                  refine lv_iload_n hx hb dJ21_stringSize_23 rfl (lv_at hl 1 rfl) ?_
                  refine lv_icmp_le (tgt := 31) hx hb dJ21_stringSize_24 (by decide) (fun c_8 => ?_) (fun c_8 => ?_)
                  · skip
                    have g8 : ¬ n < 100000000 := Nat.not_lt.2 ((nn_le hn (by omega)).1 (by rw [show nn 100000000 = (-100000000 : Int32) from by decide]; exact c_8))
                    refine lv_bipush (v := 10) hx hb dJ21_stringSize_31 (by decide) ?_
                    refine lv_iload_n hx hb dJ21_stringSize_33 rfl (lv_at hl 1 rfl) ?_
                    refine lv_imul hx hb dJ21_stringSize_34 ?_
                    rw [show (10 * (-100000000) : Int32) = (-1000000000) from by decide]
                    refine lv_istore_n hx hb dJ21_stringSize_35 rfl hl (by decide) rfl (fun ls hl => ?_)
                    replace hl : lv_has ls 4 [(2, .int (-1000000000)), (3, .int 8), (1, .int 1), (0, .int (nn n))] := hl
                    refine lv_iinc (v := 9) (lv' := [(3, .int 9), (2, .int (-1000000000)), (1, .int 1), (0, .int (nn n))]) hx hb dJ21_stringSize_36 hl (k := 1) rfl (by decide) (by decide) rfl (fun ls hl => ?_)
                    refine lv_goto (tgt := 16) hx hb dJ21_stringSize_39 (by decide) ?_
                    refine lv_iload_n hx hb dJ21_stringSize_16 rfl (lv_at hl 0 rfl) ?_
                    refine lv_bipush (v := 10) hx hb dJ21_stringSize_17 (by decide) ?_
                    refine lv_icmp_ge (tgt := 42) hx hb dJ21_stringSize_19 (by decide) (fun h9 => absurd h9 (by decide)) (fun _ => ?_)
                    refine lv_iload_n hx hb dJ21_stringSize_22 rfl (lv_at hl 3 rfl) ?_
                    refine lv_iload_n hx hb dJ21_stringSize_23 rfl (lv_at hl 1 rfl) ?_
                    refine lv_icmp_le (tgt := 31) hx hb dJ21_stringSize_24 (by decide) (fun c_9 => ?_) (fun c_9 => ?_)
                    · skip
                      have g9 : ¬ n < 1000000000 := Nat.not_lt.2 ((nn_le hn (by omega)).1 (by rw [show nn 1000000000 = (-1000000000 : Int32) from by decide]; exact c_9))
                      refine lv_bipush (v := 10) hx hb dJ21_stringSize_31 (by decide) ?_
                      refine lv_iload_n hx hb dJ21_stringSize_33 rfl (lv_at hl 1 rfl) ?_
                      refine lv_imul hx hb dJ21_stringSize_34 ?_
                      refine lv_istore_n hx hb dJ21_stringSize_35 rfl hl (by decide) rfl (fun ls hl => ?_)
                      replace hl : lv_has ls 4 [(2, .int (10 * (-1000000000))), (3, .int 9), (1, .int 1), (0, .int (nn n))] := hl
                      refine lv_iinc (v := 10) (lv' := [(3, .int 10), (2, .int (10 * (-1000000000))), (1, .int 1), (0, .int (nn n))]) hx hb dJ21_stringSize_36 hl (k := 1) rfl (by decide) (by decide) rfl (fun ls hl => ?_)
                      refine lv_goto (tgt := 16) hx hb dJ21_stringSize_39 (by decide) ?_
                      refine lv_iload_n hx hb dJ21_stringSize_16 rfl (lv_at hl 0 rfl) ?_
                      refine lv_bipush (v := 10) hx hb dJ21_stringSize_17 (by decide) ?_
                      refine lv_icmp_ge (tgt := 42) hx hb dJ21_stringSize_19 (by decide) (fun _ => ?_) (fun h9 => absurd (by decide) h9)
                      refine lv_bipush (v := 10) hx hb dJ21_stringSize_42 (by decide) ?_
                      refine lv_iload_n hx hb dJ21_stringSize_44 rfl (lv_at hl 2 rfl) ?_
                      refine lv_iadd hx hb dJ21_stringSize_45 ?_
                      have h7 : dn n = 10 := by unfold dn; simp only [if_neg g1, if_neg g2, if_neg g3, if_neg g4, if_neg g5, if_neg g6, if_neg g7, if_neg g8, if_neg g9]
                      exact mm_reti hx hb hr hlk hM hS ⟨by rw [h7]; rfl, rfl⟩ dJ21_stringSize_46 (Nat.le_of_ble_eq_true rfl) (Nat.le_of_ble_eq_true rfl)
                    · skip
                      have h8 : n < 1000000000 := Nat.lt_of_not_le (fun h6 => c_9 (by rw [show (-1000000000 : Int32) = nn 1000000000 from by decide]; exact (nn_le hn (by omega)).2 h6))
                      refine lv_iload_n hx hb dJ21_stringSize_27 rfl (lv_at hl 0 rfl) ?_
                      refine lv_iload_n hx hb dJ21_stringSize_28 rfl (lv_at hl 2 rfl) ?_
                      refine lv_iadd hx hb dJ21_stringSize_29 ?_
                      have h7 : dn n = 9 := by unfold dn; simp only [if_pos h8, if_neg g1, if_neg g2, if_neg g3, if_neg g4, if_neg g5, if_neg g6, if_neg g7, if_neg g8]
                      exact mm_reti hx hb hr hlk hM hS ⟨by rw [h7]; rfl, rfl⟩ dJ21_stringSize_30 (Nat.le_of_ble_eq_true rfl) (Nat.le_of_ble_eq_true rfl)
                  · skip
                    have h8 : n < 100000000 := Nat.lt_of_not_le (fun h6 => c_8 (by rw [show (-100000000 : Int32) = nn 100000000 from by decide]; exact (nn_le hn (by omega)).2 h6))
                    refine lv_iload_n hx hb dJ21_stringSize_27 rfl (lv_at hl 0 rfl) ?_
                    refine lv_iload_n hx hb dJ21_stringSize_28 rfl (lv_at hl 2 rfl) ?_
                    refine lv_iadd hx hb dJ21_stringSize_29 ?_
                    have h7 : dn n = 8 := by unfold dn; simp only [if_pos h8, if_neg g1, if_neg g2, if_neg g3, if_neg g4, if_neg g5, if_neg g6, if_neg g7]
                    exact mm_reti hx hb hr hlk hM hS ⟨by rw [h7]; rfl, rfl⟩ dJ21_stringSize_30 (Nat.le_of_ble_eq_true rfl) (Nat.le_of_ble_eq_true rfl)
                · skip
                  have h8 : n < 10000000 := Nat.lt_of_not_le (fun h6 => c_7 (by rw [show (-10000000 : Int32) = nn 10000000 from by decide]; exact (nn_le hn (by omega)).2 h6))
                  refine lv_iload_n hx hb dJ21_stringSize_27 rfl (lv_at hl 0 rfl) ?_
                  refine lv_iload_n hx hb dJ21_stringSize_28 rfl (lv_at hl 2 rfl) ?_
                  refine lv_iadd hx hb dJ21_stringSize_29 ?_
                  have h7 : dn n = 7 := by unfold dn; simp only [if_pos h8, if_neg g1, if_neg g2, if_neg g3, if_neg g4, if_neg g5, if_neg g6]
                  exact mm_reti hx hb hr hlk hM hS ⟨by rw [h7]; rfl, rfl⟩ dJ21_stringSize_30 (Nat.le_of_ble_eq_true rfl) (Nat.le_of_ble_eq_true rfl)
              · skip
                have h8 : n < 1000000 := Nat.lt_of_not_le (fun h6 => c_6 (by rw [show (-1000000 : Int32) = nn 1000000 from by decide]; exact (nn_le hn (by omega)).2 h6))
                refine lv_iload_n hx hb dJ21_stringSize_27 rfl (lv_at hl 0 rfl) ?_
                refine lv_iload_n hx hb dJ21_stringSize_28 rfl (lv_at hl 2 rfl) ?_
                refine lv_iadd hx hb dJ21_stringSize_29 ?_
                have h7 : dn n = 6 := by unfold dn; simp only [if_pos h8, if_neg g1, if_neg g2, if_neg g3, if_neg g4, if_neg g5]
                exact mm_reti hx hb hr hlk hM hS ⟨by rw [h7]; rfl, rfl⟩ dJ21_stringSize_30 (Nat.le_of_ble_eq_true rfl) (Nat.le_of_ble_eq_true rfl)
            · skip
              have h8 : n < 100000 := Nat.lt_of_not_le (fun h6 => c_5 (by rw [show (-100000 : Int32) = nn 100000 from by decide]; exact (nn_le hn (by omega)).2 h6))
              refine lv_iload_n hx hb dJ21_stringSize_27 rfl (lv_at hl 0 rfl) ?_
              refine lv_iload_n hx hb dJ21_stringSize_28 rfl (lv_at hl 2 rfl) ?_
              refine lv_iadd hx hb dJ21_stringSize_29 ?_
              have h7 : dn n = 5 := by unfold dn; simp only [if_pos h8, if_neg g1, if_neg g2, if_neg g3, if_neg g4]
              exact mm_reti hx hb hr hlk hM hS ⟨by rw [h7]; rfl, rfl⟩ dJ21_stringSize_30 (Nat.le_of_ble_eq_true rfl) (Nat.le_of_ble_eq_true rfl)
          · skip
            have h8 : n < 10000 := Nat.lt_of_not_le (fun h6 => c_4 (by rw [show (-10000 : Int32) = nn 10000 from by decide]; exact (nn_le hn (by omega)).2 h6))
            refine lv_iload_n hx hb dJ21_stringSize_27 rfl (lv_at hl 0 rfl) ?_
            refine lv_iload_n hx hb dJ21_stringSize_28 rfl (lv_at hl 2 rfl) ?_
            refine lv_iadd hx hb dJ21_stringSize_29 ?_
            have h7 : dn n = 4 := by unfold dn; simp only [if_pos h8, if_neg g1, if_neg g2, if_neg g3]
            exact mm_reti hx hb hr hlk hM hS ⟨by rw [h7]; rfl, rfl⟩ dJ21_stringSize_30 (Nat.le_of_ble_eq_true rfl) (Nat.le_of_ble_eq_true rfl)
        · skip
          have h8 : n < 1000 := Nat.lt_of_not_le (fun h6 => c_3 (by rw [show (-1000 : Int32) = nn 1000 from by decide]; exact (nn_le hn (by omega)).2 h6))
          refine lv_iload_n hx hb dJ21_stringSize_27 rfl (lv_at hl 0 rfl) ?_
          refine lv_iload_n hx hb dJ21_stringSize_28 rfl (lv_at hl 2 rfl) ?_
          refine lv_iadd hx hb dJ21_stringSize_29 ?_
          have h7 : dn n = 3 := by unfold dn; simp only [if_pos h8, if_neg g1, if_neg g2]
          exact mm_reti hx hb hr hlk hM hS ⟨by rw [h7]; rfl, rfl⟩ dJ21_stringSize_30 (Nat.le_of_ble_eq_true rfl) (Nat.le_of_ble_eq_true rfl)
      · skip
        have h8 : n < 100 := Nat.lt_of_not_le (fun h6 => c_2 (by rw [show (-100 : Int32) = nn 100 from by decide]; exact (nn_le hn (by omega)).2 h6))
        refine lv_iload_n hx hb dJ21_stringSize_27 rfl (lv_at hl 0 rfl) ?_
        refine lv_iload_n hx hb dJ21_stringSize_28 rfl (lv_at hl 2 rfl) ?_
        refine lv_iadd hx hb dJ21_stringSize_29 ?_
        have h7 : dn n = 2 := by unfold dn; simp only [if_pos h8, if_neg g1]
        exact mm_reti hx hb hr hlk hM hS ⟨by rw [h7]; rfl, rfl⟩ dJ21_stringSize_30 (Nat.le_of_ble_eq_true rfl) (Nat.le_of_ble_eq_true rfl)
    · skip
      have h8 : n < 10 := Nat.lt_of_not_le (fun h6 => c_1 (by rw [show (-10 : Int32) = nn 10 from by decide]; exact (nn_le hn (by omega)).2 h6))
      refine lv_iload_n hx hb dJ21_stringSize_27 rfl (lv_at hl 0 rfl) ?_
      refine lv_iload_n hx hb dJ21_stringSize_28 rfl (lv_at hl 2 rfl) ?_
      refine lv_iadd hx hb dJ21_stringSize_29 ?_
      have h7 : dn n = 1 := by unfold dn; simp only [if_pos h8]
      exact mm_reti hx hb hr hlk hM hS ⟨by rw [h7]; rfl, rfl⟩ dJ21_stringSize_30 (Nat.le_of_ble_eq_true rfl) (Nat.le_of_ble_eq_true rfl)
