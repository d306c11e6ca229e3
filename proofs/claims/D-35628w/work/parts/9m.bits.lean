/-! ===== Integer.bitCount ===== -/
set_option maxRecDepth 100000
def ius (x y : Int32) : Int32 := (x.toUInt32 >>> (y.toUInt32 &&& Int32.toUInt32 31)).toInt32
def bcn (i : Int32) : Int32 :=
  let a := i - (ius i 1 &&& 1431655765)
  let b := (a &&& 858993459) + (ius a 2 &&& 858993459)
  let c := (b + ius b 4) &&& 252645135
  let d := c + ius c 8
  (d + ius d 16) &&& 63

set_option maxHeartbeats 4000000 in
set_option maxRecDepth 100000 in
theorem c_J21_bitCount (l : Launch) (Z : mm_G) {M : mm_M} {i : Int32} : mm_C l Z yJ21_bitCount (ws_ yJ21_bitCount cJ21_bitCount 1 (some .int)) { frames := 0, cells := 0, slots := 0, locals := 0 } [.int i] M (fun v M' => v = some (.int (bcn i)) ∧ M' = M) mm_nx := by
  refine mm_ofW (cc := cJ21_bitCount) (maxL := 1) (ret := (some .int)) (by decide) rfl (Nat.le_of_ble_eq_true rfl) ?_
  intro p e s m below meth c A ls hx hb hr hlk hml hown hmn hts htab hE hST hA hM hS hl
  replace hl : lv_has ls 1 [(0, .int i)] := hl
  refine lv_iload_n hx hb dJ21_bitCount_0 rfl (lv_at hl 0 rfl) ?_
  refine lv_iload_n hx hb dJ21_bitCount_1 rfl (lv_at hl 0 rfl) ?_
  refine lv_iconst (v := 1) hx hb dJ21_bitCount_2 (by decide) ?_
  refine lv_iushr (v := ius i 1) hx hb dJ21_bitCount_3 rfl ?_
  refine lv_ldcw (v := 1431655765) hx hb hown (hts _ q2711) dJ21_bitCount_4 ?_
  refine lv_iand hx hb dJ21_bitCount_7 ?_
  refine lv_isub hx hb dJ21_bitCount_8 ?_
  obtain ⟨z1, hz1⟩ : ∃ z, z = (i - ((ius i 1) &&& 1431655765)) := ⟨_, rfl⟩
  rw [show (i - ((ius i 1) &&& 1431655765) : Int32) = z1 from hz1.symm]
  refine lv_istore_n hx hb dJ21_bitCount_9 rfl hl (by decide) rfl (fun ls hl => ?_)
  replace hl : lv_has ls 1 [(0, .int z1)] := hl
  refine lv_iload_n hx hb dJ21_bitCount_10 rfl (lv_at hl 0 rfl) ?_
  refine lv_ldcw (v := 858993459) hx hb hown (hts _ q2712) dJ21_bitCount_11 ?_
  refine lv_iand hx hb dJ21_bitCount_14 ?_
  refine lv_iload_n hx hb dJ21_bitCount_15 rfl (lv_at hl 0 rfl) ?_
  refine lv_iconst (v := 2) hx hb dJ21_bitCount_16 (by decide) ?_
  refine lv_iushr (v := ius z1 2) hx hb dJ21_bitCount_17 rfl ?_
  refine lv_ldcw (v := 858993459) hx hb hown (hts _ q2712) dJ21_bitCount_18 ?_
  refine lv_iand hx hb dJ21_bitCount_21 ?_
  refine lv_iadd hx hb dJ21_bitCount_22 ?_
  obtain ⟨z2, hz2⟩ : ∃ z, z = ((z1 &&& 858993459) + ((ius z1 2) &&& 858993459)) := ⟨_, rfl⟩
  rw [show ((z1 &&& 858993459) + ((ius z1 2) &&& 858993459) : Int32) = z2 from hz2.symm]
  refine lv_istore_n hx hb dJ21_bitCount_23 rfl hl (by decide) rfl (fun ls hl => ?_)
  replace hl : lv_has ls 1 [(0, .int z2)] := hl
  refine lv_iload_n hx hb dJ21_bitCount_24 rfl (lv_at hl 0 rfl) ?_
  refine lv_iload_n hx hb dJ21_bitCount_25 rfl (lv_at hl 0 rfl) ?_
  refine lv_iconst (v := 4) hx hb dJ21_bitCount_26 (by decide) ?_
  refine lv_iushr (v := ius z2 4) hx hb dJ21_bitCount_27 rfl ?_
  refine lv_iadd hx hb dJ21_bitCount_28 ?_
  refine lv_ldcw (v := 252645135) hx hb hown (hts _ q2713) dJ21_bitCount_29 ?_
  refine lv_iand hx hb dJ21_bitCount_32 ?_
  obtain ⟨z3, hz3⟩ : ∃ z, z = ((z2 + (ius z2 4)) &&& 252645135) := ⟨_, rfl⟩
  rw [show ((z2 + (ius z2 4)) &&& 252645135 : Int32) = z3 from hz3.symm]
  refine lv_istore_n hx hb dJ21_bitCount_33 rfl hl (by decide) rfl (fun ls hl => ?_)
  replace hl : lv_has ls 1 [(0, .int z3)] := hl
  refine lv_iload_n hx hb dJ21_bitCount_34 rfl (lv_at hl 0 rfl) ?_
  refine lv_iload_n hx hb dJ21_bitCount_35 rfl (lv_at hl 0 rfl) ?_
  refine lv_bipush (v := 8) hx hb dJ21_bitCount_36 (by decide) ?_
  refine lv_iushr (v := ius z3 8) hx hb dJ21_bitCount_38 rfl ?_
  refine lv_iadd hx hb dJ21_bitCount_39 ?_
  obtain ⟨z4, hz4⟩ : ∃ z, z = (z3 + (ius z3 8)) := ⟨_, rfl⟩
  rw [show (z3 + (ius z3 8) : Int32) = z4 from hz4.symm]
  refine lv_istore_n hx hb dJ21_bitCount_40 rfl hl (by decide) rfl (fun ls hl => ?_)
  replace hl : lv_has ls 1 [(0, .int z4)] := hl
  refine lv_iload_n hx hb dJ21_bitCount_41 rfl (lv_at hl 0 rfl) ?_
  refine lv_iload_n hx hb dJ21_bitCount_42 rfl (lv_at hl 0 rfl) ?_
  refine lv_bipush (v := 16) hx hb dJ21_bitCount_43 (by decide) ?_
  refine lv_iushr (v := ius z4 16) hx hb dJ21_bitCount_45 rfl ?_
  refine lv_iadd hx hb dJ21_bitCount_46 ?_
  obtain ⟨z5, hz5⟩ : ∃ z, z = (z4 + (ius z4 16)) := ⟨_, rfl⟩
  rw [show (z4 + (ius z4 16) : Int32) = z5 from hz5.symm]
  refine lv_istore_n hx hb dJ21_bitCount_47 rfl hl (by decide) rfl (fun ls hl => ?_)
  replace hl : lv_has ls 1 [(0, .int z5)] := hl
  refine lv_iload_n hx hb dJ21_bitCount_48 rfl (lv_at hl 0 rfl) ?_
  refine lv_bipush (v := 63) hx hb dJ21_bitCount_49 (by decide) ?_
  refine lv_iand hx hb dJ21_bitCount_51 ?_
  exact mm_reti hx hb hr hlk hM hS ⟨by rw [hz5, hz4, hz3, hz2, hz1]; rfl, rfl⟩ dJ21_bitCount_52 (by (try dsimp only); omega) (by (try dsimp only); omega)
theorem bcn_9 : ∀ x, x < 1024 → bcn (nI x) = nI ((List.range 10).countP fun l => x.testBit l) := by decide +kernel
