/-! ===== towards ArrayList.add(int, E) ===== -/
set_option maxRecDepth 100000
theorem al_ins {f : Nat → Option Nat} {xs : List (Option Nat)} {r : Option Nat} {i : Nat} (hi : i ≤ xs.length) (h : ∀ j : Nat, j < xs.length → xs[j]? = some (f j)) : ∀ j : Nat, j < (xs.insertIdx i r).length → (xs.insertIdx i r)[j]? = some (va_up (va_cpy f f i (i + 1) (xs.length - i)) i r j) := by
  intro j hj
  rw [List.length_insertIdx, if_pos hi] at hj
  rw [List.getElem?_insertIdx]
  by_cases h1 : j < i
  · rw [if_pos h1, h j (by omega)]
    have h2 : j ≠ i := by omega
    simp [va_up, va_cpy, h2]
    intro h3; omega
  · rw [if_neg h1]
    by_cases h2 : j = i
    · rw [if_pos h2, if_pos (by omega)]
      simp [va_up, h2]
    · rw [if_neg h2, h (j - 1) (by omega)]
      have h3 : i + 1 ≤ j ∧ j < i + 1 + (xs.length - i) := by omega
      simp only [va_up, va_cpy, if_neg h2, if_pos h3]
      congr 2
      omega

set_option maxHeartbeats 4000000 in
set_option maxRecDepth 100000 in
theorem c_J2_rangeCheckForAdd (l : Launch) (Z : mm_G) {M : mm_M} {a ar n i : Nat} {md : Int32} (ha9 : M a = some (al_E md ar n)) (hi : i ≤ n) (hn : n < 2 ^ 20) : mm_C l Z yJ2_rangeCheckForAdd (ws_ yJ2_rangeCheckForAdd cJ2_rangeCheckForAdd 2 none) { frames := 0, cells := 0, slots := 0, locals := 0 } [.ref a, .int (nI i)] M (fun v M' => v = none ∧ M' = M) mm_nx := by
  refine mm_ofW (cc := cJ2_rangeCheckForAdd) (maxL := 2) (ret := none) (by decide) rfl (Nat.le_of_ble_eq_true rfl) ?_
  intro p e s m below meth c A ls hx hb hr hlk hml hown hmn hts htab hE hST hA hM hS hl
  replace hl : lv_has ls 2 [(0, .ref a), (1, .int (nI i))] := hl
  refine lv_iload_n hx hb dJ2_rangeCheckForAdd_0 rfl (lv_at hl 1 rfl) ?_
  refine lv_aload_n hx hb dJ2_rangeCheckForAdd_1 rfl (lv_at hl 0 rfl) ?_
  refine va_get (D := Z.1) (ci := 41) (v := .int (nI n)) (C := RJ2) (T := TJ2) (N := 3) hx hb hts in_J2 hown hE.1 (hM.at ha9) 0 rfl mm_cJ2 2 (by decide) (hts _ q146) (fun _ h9 => h9) rfl dJ2_rangeCheckForAdd_2 ?_
  refine lv_icmp_gt (tgt := 12) hx hb dJ2_rangeCheckForAdd_5 (by decide) (fun h9 => absurd h9 (nI_nlt (a := n) (b := i) (by omega) (by omega))) (fun _ => ?_)
  refine lv_iload_n hx hb dJ2_rangeCheckForAdd_8 rfl (lv_at hl 1 rfl) ?_
  refine lv_if_ge (tgt := 25) hx hb dJ2_rangeCheckForAdd_9 (by decide) (fun _ => ?_) (fun h9 => absurd (nI_pos' (by omega)) h9)
  exact mm_retv hx hb hr hlk hM hS ⟨rfl, rfl⟩ dJ2_rangeCheckForAdd_25 (Nat.le_of_ble_eq_true rfl) (Nat.le_of_ble_eq_true rfl)
set_option maxHeartbeats 4000000 in
set_option maxRecDepth 100000 in
theorem c_J2_add_3 (l : Launch) (Z : mm_G) {M : mm_M} {a ar cap i : Nat} {md : Int32} {f : Nat → Option Nat} {xs : List (Option Nat)} {r : Option Nat} (ha : M a = some (al_E md ar xs.length)) (har : M ar = some (al_A Z cap f)) (hl1 : xs.length ≤ cap) (hc : cap < 2 ^ 18) (h0 : cap = 0 → ar = Z.2.2.1 2) (hf : ∀ i : Nat, i < xs.length → xs[i]? = some (f i)) (hxs : ∀ y ∈ xs, mm_ok M y) (hr9 : mm_ok M r) (hi : i ≤ xs.length) : mm_C l Z yJ2_add_3 (ws_ yJ2_add_3 cJ2_add_3 5 none) { frames := 5, cells := al_mk xs.length cap, slots := al_ms xs.length cap, locals := 240 } [.ref a, .int (nI i), va_rf r] M (fun v M' => v = none ∧ ∃ ar' : Nat, (∃ f' : Nat → Option Nat, M' a = some (al_E (md + 1) ar' (xs.length + 1)) ∧ M' ar' = some (al_A Z (al_cap xs.length cap) f') ∧ (∀ j : Nat, j < (xs.insertIdx i r).length → (xs.insertIdx i r)[j]? = some (f' j))) ∧ (∀ q : Nat, q ≠ a → q ≠ ar' → M' q = M q) ∧ (ar' = ar ∧ xs.length < cap ∨ M ar' = none)) mm_nx := by
  refine mm_ofW (cc := cJ2_add_3) (maxL := 5) (ret := none) (by decide) rfl (by simp [lg_sl, mm_cat_o, mm_cat_r, mm_cat_i, mm_cat_l, mm_cat_n]) ?_
  intro p e s m below meth c A ls hx hb hr hlk hml hown hmn hts htab hE hST hA hM hS hl
  replace hl : lv_has ls 5 [(0, .ref a), (1, .int (nI i)), (2, va_rf r)] := by simpa [lv_args, mm_cat_o, mm_cat_r, mm_cat_i, mm_cat_l, mm_cat_n] using hl
  refine lv_aload_n hx hb dJ2_add_3_0 rfl (lv_at hl 0 rfl) ?_
  refine lv_iload_n hx hb dJ2_add_3_1 rfl (lv_at hl 1 rfl) ?_
  refine mm_callV (As := [.int (nI i)]) (rest := []) ⟨hx, hb, hml, hown, hts⟩ hE hST hA (c_J2_rangeCheckForAdd l Z ha hi (by omega)) (cwV 1 hts (lw_V q1292 q1294 qs15 q53 q1295) rfl rfl rfl (by decide +kernel) ⟨(Nat.le_of_ble_eq_true rfl), (Nat.le_of_ble_eq_true rfl)⟩) hM hS mm_cJ2 ha rfl hl.1 (Nat.le_of_ble_eq_true rfl) dJ2_add_3_2 rfl ⟨(by dsimp only; omega), (by dsimp only; omega)⟩ (fun _ _ _ _ _ _ h9 => h9.elim) (fun v_1 M_2 H locs hp_3 hM hS => ?_)
  obtain ⟨rfl, eM_2⟩ := hp_3
  rw [eM_2] at hM
  refine lv_aload_n hx hb dJ2_add_3_5 rfl (lv_at hl 0 rfl) ?_
  refine lv_dup hx hb dJ2_add_3_6 rfl ?_
  refine va_get (D := Z.1) (ci := 41) (v := .int md) (C := RJ2) (T := TJ2) (N := 3) hx hb hts in_J2 hown hE.1 (hM.at ha) 0 rfl mm_cJ2 0 (by decide) (hts _ q150) (fun x9 h9 => u_same (hts _ q149) x9 h9) rfl dJ2_add_3_7 ?_
  refine lv_iconst (v := 1) hx hb dJ2_add_3_10 (by decide) ?_
  refine lv_iadd hx hb dJ2_add_3_11 ?_
  refine mm_put (D := Z.1) (ci := 41) (v := .int (md + 1)) (ty := .int) (C := RJ2) (T := TJ2) (N := 3) hx hb hts in_J2 tyJ2 tyJ2_ok nmJ2 hown hE.1 hM hS ha mm_cJ2 0 (by decide) (hts _ q150) (fun x9 h9 => u_same (hts _ q149) x9 h9) rfl (by decide +kernel) rfl rfl (Nat.le_of_ble_eq_true rfl) dJ2_add_3_12 (fun H locs hM hS => ?_)
  have hM : mm_P Z.1 mm_cl A (mm_U M a (.inr (41, [.int (md + 1), .ref ar, .int (nI xs.length)]))) H := hM
  have hc_4 : (mm_U M a (.inr (41, [.int (md + 1), .ref ar, .int (nI xs.length)]))) a = some (.inr (41, [.int (md + 1), .ref ar, .int (nI xs.length)])) := mm_U_eq
  have hc_5 : (mm_U M a (.inr (41, [.int (md + 1), .ref ar, .int (nI xs.length)]))) ar = some (.inl (Z.2.1 3, cap, .inr (.inr (.inr (.inr f))))) := (mm_U_ne (mm_neA har ha)).trans har
  obtain ⟨M_6, eM_6⟩ : ∃ z, z = mm_U M a (.inr (41, [.int (md + 1), .ref ar, .int (nI xs.length)])) := ⟨_, rfl⟩
  rw [← eM_6] at hM hc_4 hc_5
  refine lv_aload_n hx hb dJ2_add_3_15 rfl (lv_at hl 0 rfl) ?_
  refine va_get (D := Z.1) (ci := 41) (v := .int (nI xs.length)) (C := RJ2) (T := TJ2) (N := 3) hx hb hts in_J2 hown hE.1 (hM.at hc_4) 0 rfl mm_cJ2 2 (by decide) (hts _ q146) (fun _ h9 => h9) rfl dJ2_add_3_16 ?_
  refine lv_dup hx hb dJ2_add_3_19 rfl ?_
  refine lv_istore_n (lv' := [(3, .int (nI xs.length)), (0, .ref a), (1, .int (nI i)), (2, va_rf r)]) hx hb dJ2_add_3_20 rfl hl (by decide) (by simp [mm_cat_o, mm_cat_r, mm_cat_i, mm_cat_n, mm_cat_l] <;> decide) (fun ls hl => ?_)
  refine lv_aload_n hx hb dJ2_add_3_21 rfl (lv_at hl 1 rfl) ?_
  refine va_get (D := Z.1) (ci := 41) (v := .ref ar) (C := RJ2) (T := TJ2) (N := 3) hx hb hts in_J2 hown hE.1 (hM.at hc_4) 0 rfl mm_cJ2 1 (by decide) (hts _ q143) (fun _ h9 => h9) rfl dJ2_add_3_22 ?_
  refine lv_dup hx hb dJ2_add_3_25 rfl ?_
  refine lv_astore hx hb dJ2_add_3_26 hl (by decide) rfl (fun ls hl => ?_)
  replace hl : lv_has ls 5 [(4, .ref ar), (3, .int (nI xs.length)), (0, .ref a), (1, .int (nI i)), (2, va_rf r)] := hl
  refine mm_alen hx hb hE hM 3 hc_5 rfl dJ2_add_3_28 ?_
  have hxs1 : ∀ y ∈ xs, mm_ok M_6 y := fun y hy => by rw [eM_6]; exact mm_ok.obj (hxs y hy)
  have hr1 : mm_ok M_6 r := by rw [eM_6]; exact mm_ok.obj hr9
  refine lv_icmp_ne (tgt := 38) hx hb dJ2_add_3_29 (by decide) (fun c_7 => ?_) (fun c_7 => ?_)
  · have hn : xs.length ≠ cap := fun h9 => c_7 ((nI_eq (by omega) (by omega)).2 h9)
    have hcap : al_cap xs.length cap = cap := al_cap_lt (by omega)
    refine lv_aload hx hb dJ2_add_3_38 (lv_at hl 0 rfl) ?_
    refine lv_iload_n hx hb dJ2_add_3_40 rfl (lv_at hl 3 rfl) ?_
    refine lv_aload hx hb dJ2_add_3_41 (lv_at hl 0 rfl) ?_
    refine lv_iload_n hx hb dJ2_add_3_43 rfl (lv_at hl 3 rfl) ?_
    refine lv_iconst (v := 1) hx hb dJ2_add_3_44 (by decide) ?_
    refine lv_iadd hx hb dJ2_add_3_45 ?_
    rw [show ((nI i) + 1 : Int32) = nI (i + 1) from nI_1 _]
    refine lv_iload_n hx hb dJ2_add_3_46 rfl (lv_at hl 1 rfl) ?_
    refine lv_iload_n hx hb dJ2_add_3_47 rfl (lv_at hl 3 rfl) ?_
    refine lv_isub hx hb dJ2_add_3_48 ?_
    rw [show ((nI xs.length) - (nI i) : Int32) = nI (xs.length - i) from pk_sub (by omega)]
    refine mm_copyK (kS := i) (kD := (i + 1)) (kN := (xs.length - i)) hx hb (hml.trans hl.1.symm) hown (hts _ q1531) (hts _ q431) (hts _ q430) (hts _ q64) hE hM hS hc_5 hc_5 rfl rfl rfl (by omega) (by omega) (by omega) (by omega) (fun j hj w hw => hxs1 _ (List.mem_of_getElem? (hf (i + j) (by omega))) w hw) (Nat.le_of_ble_eq_true rfl) (Nat.le_of_ble_eq_true rfl) dJ2_add_3_49 (fun H locs hM hS => ?_)
    have hM : mm_P Z.1 mm_cl A (mm_U M_6 ar (.inl (Z.2.1 3, cap, .inr (.inr (.inr (.inr (va_cpy f f i (i + 1) (xs.length - i)))))))) H := hM
    have hc_8 : (mm_U M_6 ar (.inl (Z.2.1 3, cap, .inr (.inr (.inr (.inr (va_cpy f f i (i + 1) (xs.length - i)))))))) ar = some (.inl (Z.2.1 3, cap, .inr (.inr (.inr (.inr (va_cpy f f i (i + 1) (xs.length - i))))))) := mm_U_eq
    have hc_9 : (mm_U M_6 ar (.inl (Z.2.1 3, cap, .inr (.inr (.inr (.inr (va_cpy f f i (i + 1) (xs.length - i)))))))) a = some (.inr (41, [.int (md + 1), .ref ar, .int (nI xs.length)])) := (mm_U_ne (Ne.symm (mm_neA hc_5 hc_4))).trans hc_4
    obtain ⟨M_10, eM_10⟩ : ∃ z, z = mm_U M_6 ar (.inl (Z.2.1 3, cap, .inr (.inr (.inr (.inr (va_cpy f f i (i + 1) (xs.length - i))))))) := ⟨_, rfl⟩
    rw [← eM_10] at hM hc_9 hc_8
    have hr7 : mm_ok M_10 r := fun w hw => by obtain ⟨ci, fs, h⟩ := hr1 w hw; refine ⟨ci, fs, ?_⟩; rw [eM_10, mm_U_ne (fun h9 => by rw [h9, hc_5] at h; cases h)]; exact h
    refine lv_aload hx hb dJ2_add_3_52 (lv_at hl 0 rfl) ?_
    refine lv_iload_n hx hb dJ2_add_3_54 rfl (lv_at hl 3 rfl) ?_
    refine mm_aload_n hx hb dJ2_add_3_55 rfl (lv_at hl 4 rfl) ?_
    refine mm_aastK (r := r) (k := i) hx hb hE hM hS hc_8 hr7 rfl (by omega) (by omega) dJ2_add_3_56 (fun H locs hM hS => ?_)
    have hM : mm_P Z.1 mm_cl A (mm_U M_10 ar (.inl (Z.2.1 3, cap, .inr (.inr (.inr (.inr (va_up (va_cpy f f i (i + 1) (xs.length - i)) i r))))))) H := hM
    have hc_11 : (mm_U M_10 ar (.inl (Z.2.1 3, cap, .inr (.inr (.inr (.inr (va_up (va_cpy f f i (i + 1) (xs.length - i)) i r))))))) ar = some (.inl (Z.2.1 3, cap, .inr (.inr (.inr (.inr (va_up (va_cpy f f i (i + 1) (xs.length - i)) i r)))))) := mm_U_eq
    have hc_12 : (mm_U M_10 ar (.inl (Z.2.1 3, cap, .inr (.inr (.inr (.inr (va_up (va_cpy f f i (i + 1) (xs.length - i)) i r))))))) a = some (.inr (41, [.int (md + 1), .ref ar, .int (nI xs.length)])) := (mm_U_ne (Ne.symm (mm_neA hc_8 hc_9))).trans hc_9
    obtain ⟨M_13, eM_13⟩ : ∃ z, z = mm_U M_10 ar (.inl (Z.2.1 3, cap, .inr (.inr (.inr (.inr (va_up (va_cpy f f i (i + 1) (xs.length - i)) i r)))))) := ⟨_, rfl⟩
    rw [← eM_13] at hM hc_12 hc_11
    refine lv_aload_n hx hb dJ2_add_3_57 rfl (lv_at hl 2 rfl) ?_
    refine lv_iload_n hx hb dJ2_add_3_58 rfl (lv_at hl 1 rfl) ?_
    refine lv_iconst (v := 1) hx hb dJ2_add_3_59 (by decide) ?_
    refine lv_iadd hx hb dJ2_add_3_60 ?_
    rw [show ((nI xs.length) + 1 : Int32) = nI (xs.length + 1) from nI_1 _]
    refine mm_put (D := Z.1) (ci := 41) (v := .int (nI (xs.length + 1))) (ty := .int) (C := RJ2) (T := TJ2) (N := 3) hx hb hts in_J2 tyJ2 tyJ2_ok nmJ2 hown hE.1 hM hS hc_12 mm_cJ2 2 (by decide) (hts _ q146) (fun _ h9 => h9) rfl (by decide +kernel) rfl rfl (Nat.le_of_ble_eq_true rfl) dJ2_add_3_61 (fun H locs hM hS => ?_)
    have hM : mm_P Z.1 mm_cl A (mm_U M_13 a (.inr (41, [.int (md + 1), .ref ar, .int (nI (xs.length + 1))]))) H := hM
    have hc_14 : (mm_U M_13 a (.inr (41, [.int (md + 1), .ref ar, .int (nI (xs.length + 1))]))) a = some (.inr (41, [.int (md + 1), .ref ar, .int (nI (xs.length + 1))])) := mm_U_eq
    have hc_15 : (mm_U M_13 a (.inr (41, [.int (md + 1), .ref ar, .int (nI (xs.length + 1))]))) ar = some (.inl (Z.2.1 3, cap, .inr (.inr (.inr (.inr (va_up (va_cpy f f i (i + 1) (xs.length - i)) i r)))))) := (mm_U_ne (mm_neA hc_11 hc_12)).trans hc_11
    obtain ⟨M_16, eM_16⟩ : ∃ z, z = mm_U M_13 a (.inr (41, [.int (md + 1), .ref ar, .int (nI (xs.length + 1))])) := ⟨_, rfl⟩
    rw [← eM_16] at hM hc_14 hc_15
    exact mm_retv hx hb hr hlk hM hS ⟨rfl, ar, ⟨_, hc_14, by rw [hcap]; exact hc_15, al_ins hi hf⟩, fun q h1 h2 => by rw [eM_16, mm_U_ne h1, eM_13, mm_U_ne h2, eM_10, mm_U_ne h2, eM_6, mm_U_ne h1], Or.inl ⟨rfl, by omega⟩⟩ dJ2_add_3_64 (Nat.zero_le _) (Nat.zero_le _)
  · have hn : xs.length = cap := (nI_eq (by omega) (by omega)).1 c_7
    have hcap : al_cap xs.length cap = al_nc cap (xs.length + 1) := by rw [hn]; exact al_cap_eq
    have hmk : al_mk xs.length cap = 1 := if_neg (by omega)
    have hms : al_ms xs.length cap = al_nc cap (xs.length + 1) := (if_neg (by omega)).trans hcap
    have hnc := al_nc_lt (cap := cap) (mm := xs.length + 1) (by omega) (by omega) (by omega)
    refine lv_aload_n hx hb dJ2_add_3_32 rfl (lv_at hl 2 rfl) ?_
    refine mm_callV (As := []) (rest := []) ⟨hx, hb, hml, hown, hts⟩ hE hST hA (c_J2_grow l Z hc_4 hc_5 (by omega) h0 (by omega) (by omega) (fun j hj => hxs1 _ (List.mem_of_getElem? (hf j (by omega))))) (cwV 0 hts (lw_V q342 q344 qs3 q53 q345) rfl rfl rfl (by decide +kernel) ⟨(Nat.le_of_ble_eq_true rfl), (Nat.le_of_ble_eq_true rfl)⟩) hM hS mm_cJ2 hc_4 rfl hl.1 (Nat.le_of_ble_eq_true rfl) dJ2_add_3_33 rfl ⟨(by dsimp only; omega), (by dsimp only; omega)⟩ (fun _ _ _ _ _ _ h9 => h9.elim) (fun v_8 M_9 H locs hp_10 hM hS => ?_)
    obtain ⟨q9, hq9, rfl, eM9⟩ := hp_10
    have hne9 : a ≠ q9 := mm_neN hc_4 hq9
    have hc9 : M_9 a = some (al_E (md + 1) q9 xs.length) := by rw [eM9]; exact mm_U_eq
    have hc8 : M_9 q9 = some (al_A Z (al_nc cap (xs.length + 1)) (va_cpy f (fun _ => none) 0 0 cap)) := by rw [eM9, mm_U_ne (Ne.symm hne9)]; exact mm_U_eq
    have hr8 : mm_ok M_9 r := by rw [eM9]; exact mm_ok.obj (mm_ok.new hr1 hq9)
    have hxs8 : ∀ y ∈ xs, mm_ok M_9 y := fun y hy => by rw [eM9]; exact mm_ok.obj (mm_ok.new (hxs1 y hy) hq9)
    have hf8 := al_cp (g := fun _ => none) hl1 hf
    refine lv_astore hx hb dJ2_add_3_36 hl (by decide) rfl (fun ls hl => ?_)
    replace hl : lv_has ls 5 [(4, .ref q9), (3, .int (nI xs.length)), (0, .ref a), (1, .int (nI i)), (2, va_rf r)] := hl
    refine lv_aload hx hb dJ2_add_3_38 (lv_at hl 0 rfl) ?_
    refine lv_iload_n hx hb dJ2_add_3_40 rfl (lv_at hl 3 rfl) ?_
    refine lv_aload hx hb dJ2_add_3_41 (lv_at hl 0 rfl) ?_
    refine lv_iload_n hx hb dJ2_add_3_43 rfl (lv_at hl 3 rfl) ?_
    refine lv_iconst (v := 1) hx hb dJ2_add_3_44 (by decide) ?_
    refine lv_iadd hx hb dJ2_add_3_45 ?_
    rw [show ((nI i) + 1 : Int32) = nI (i + 1) from nI_1 _]
    refine lv_iload_n hx hb dJ2_add_3_46 rfl (lv_at hl 1 rfl) ?_
    refine lv_iload_n hx hb dJ2_add_3_47 rfl (lv_at hl 3 rfl) ?_
    refine lv_isub hx hb dJ2_add_3_48 ?_
    rw [show ((nI xs.length) - (nI i) : Int32) = nI (xs.length - i) from pk_sub (by omega)]
    refine mm_copyK (kS := i) (kD := (i + 1)) (kN := (xs.length - i)) hx hb (hml.trans hl.1.symm) hown (hts _ q1531) (hts _ q431) (hts _ q430) (hts _ q64) hE hM hS hc8 hc8 rfl rfl rfl (by omega) (by omega) (by omega) (by omega) (fun j hj w hw => hxs8 _ (List.mem_of_getElem? (hf8 (i + j) (by omega))) w hw) (Nat.le_of_ble_eq_true rfl) (Nat.le_of_ble_eq_true rfl) dJ2_add_3_49 (fun H locs hM hS => ?_)
    have hM : mm_P Z.1 mm_cl A (mm_U M_9 q9 (.inl (Z.2.1 3, (al_nc cap (xs.length + 1)), .inr (.inr (.inr (.inr (va_cpy (va_cpy f (fun _ => none) 0 0 cap) (va_cpy f (fun _ => none) 0 0 cap) i (i + 1) (xs.length - i)))))))) H := hM
    have hc_11 : (mm_U M_9 q9 (.inl (Z.2.1 3, (al_nc cap (xs.length + 1)), .inr (.inr (.inr (.inr (va_cpy (va_cpy f (fun _ => none) 0 0 cap) (va_cpy f (fun _ => none) 0 0 cap) i (i + 1) (xs.length - i)))))))) q9 = some (.inl (Z.2.1 3, (al_nc cap (xs.length + 1)), .inr (.inr (.inr (.inr (va_cpy (va_cpy f (fun _ => none) 0 0 cap) (va_cpy f (fun _ => none) 0 0 cap) i (i + 1) (xs.length - i))))))) := mm_U_eq
    have hc_12 : (mm_U M_9 q9 (.inl (Z.2.1 3, (al_nc cap (xs.length + 1)), .inr (.inr (.inr (.inr (va_cpy (va_cpy f (fun _ => none) 0 0 cap) (va_cpy f (fun _ => none) 0 0 cap) i (i + 1) (xs.length - i)))))))) a = some (.inr (41, [.int (md + 1), .ref q9, .int (nI xs.length)])) := (mm_U_ne (Ne.symm (mm_neA hc8 hc9))).trans hc9
    obtain ⟨M_13, eM_13⟩ : ∃ z, z = mm_U M_9 q9 (.inl (Z.2.1 3, (al_nc cap (xs.length + 1)), .inr (.inr (.inr (.inr (va_cpy (va_cpy f (fun _ => none) 0 0 cap) (va_cpy f (fun _ => none) 0 0 cap) i (i + 1) (xs.length - i))))))) := ⟨_, rfl⟩
    rw [← eM_13] at hM hc_12 hc_11
    have hr7 : mm_ok M_13 r := fun w hw => by obtain ⟨ci, fs, h⟩ := hr8 w hw; refine ⟨ci, fs, ?_⟩; rw [eM_13, mm_U_ne (fun h9 => by rw [h9, hc8] at h; cases h)]; exact h
    refine lv_aload hx hb dJ2_add_3_52 (lv_at hl 0 rfl) ?_
    refine lv_iload_n hx hb dJ2_add_3_54 rfl (lv_at hl 3 rfl) ?_
    refine mm_aload_n hx hb dJ2_add_3_55 rfl (lv_at hl 4 rfl) ?_
    refine mm_aastK (r := r) (k := i) hx hb hE hM hS hc_11 hr7 rfl (by omega) (by omega) dJ2_add_3_56 (fun H locs hM hS => ?_)
    have hM : mm_P Z.1 mm_cl A (mm_U M_13 q9 (.inl (Z.2.1 3, (al_nc cap (xs.length + 1)), .inr (.inr (.inr (.inr (va_up (va_cpy (va_cpy f (fun _ => none) 0 0 cap) (va_cpy f (fun _ => none) 0 0 cap) i (i + 1) (xs.length - i)) i r))))))) H := hM
    have hc_14 : (mm_U M_13 q9 (.inl (Z.2.1 3, (al_nc cap (xs.length + 1)), .inr (.inr (.inr (.inr (va_up (va_cpy (va_cpy f (fun _ => none) 0 0 cap) (va_cpy f (fun _ => none) 0 0 cap) i (i + 1) (xs.length - i)) i r))))))) q9 = some (.inl (Z.2.1 3, (al_nc cap (xs.length + 1)), .inr (.inr (.inr (.inr (va_up (va_cpy (va_cpy f (fun _ => none) 0 0 cap) (va_cpy f (fun _ => none) 0 0 cap) i (i + 1) (xs.length - i)) i r)))))) := mm_U_eq
    have hc_15 : (mm_U M_13 q9 (.inl (Z.2.1 3, (al_nc cap (xs.length + 1)), .inr (.inr (.inr (.inr (va_up (va_cpy (va_cpy f (fun _ => none) 0 0 cap) (va_cpy f (fun _ => none) 0 0 cap) i (i + 1) (xs.length - i)) i r))))))) a = some (.inr (41, [.int (md + 1), .ref q9, .int (nI xs.length)])) := (mm_U_ne (Ne.symm (mm_neA hc_11 hc_12))).trans hc_12
    obtain ⟨M_16, eM_16⟩ : ∃ z, z = mm_U M_13 q9 (.inl (Z.2.1 3, (al_nc cap (xs.length + 1)), .inr (.inr (.inr (.inr (va_up (va_cpy (va_cpy f (fun _ => none) 0 0 cap) (va_cpy f (fun _ => none) 0 0 cap) i (i + 1) (xs.length - i)) i r)))))) := ⟨_, rfl⟩
    rw [← eM_16] at hM hc_15 hc_14
    refine lv_aload_n hx hb dJ2_add_3_57 rfl (lv_at hl 2 rfl) ?_
    refine lv_iload_n hx hb dJ2_add_3_58 rfl (lv_at hl 1 rfl) ?_
    refine lv_iconst (v := 1) hx hb dJ2_add_3_59 (by decide) ?_
    refine lv_iadd hx hb dJ2_add_3_60 ?_
    rw [show ((nI xs.length) + 1 : Int32) = nI (xs.length + 1) from nI_1 _]
    refine mm_put (D := Z.1) (ci := 41) (v := .int (nI (xs.length + 1))) (ty := .int) (C := RJ2) (T := TJ2) (N := 3) hx hb hts in_J2 tyJ2 tyJ2_ok nmJ2 hown hE.1 hM hS hc_15 mm_cJ2 2 (by decide) (hts _ q146) (fun _ h9 => h9) rfl (by decide +kernel) rfl rfl (Nat.le_of_ble_eq_true rfl) dJ2_add_3_61 (fun H locs hM hS => ?_)
    have hM : mm_P Z.1 mm_cl A (mm_U M_16 a (.inr (41, [.int (md + 1), .ref q9, .int (nI (xs.length + 1))]))) H := hM
    have hc_17 : (mm_U M_16 a (.inr (41, [.int (md + 1), .ref q9, .int (nI (xs.length + 1))]))) a = some (.inr (41, [.int (md + 1), .ref q9, .int (nI (xs.length + 1))])) := mm_U_eq
    have hc_18 : (mm_U M_16 a (.inr (41, [.int (md + 1), .ref q9, .int (nI (xs.length + 1))]))) q9 = some (.inl (Z.2.1 3, (al_nc cap (xs.length + 1)), .inr (.inr (.inr (.inr (va_up (va_cpy (va_cpy f (fun _ => none) 0 0 cap) (va_cpy f (fun _ => none) 0 0 cap) i (i + 1) (xs.length - i)) i r)))))) := (mm_U_ne (mm_neA hc_14 hc_15)).trans hc_14
    obtain ⟨M_19, eM_19⟩ : ∃ z, z = mm_U M_16 a (.inr (41, [.int (md + 1), .ref q9, .int (nI (xs.length + 1))])) := ⟨_, rfl⟩
    rw [← eM_19] at hM hc_17 hc_18
    exact mm_retv hx hb hr hlk hM hS ⟨rfl, q9, ⟨_, hc_17, by rw [hcap]; exact hc_18, al_ins hi hf8⟩, fun q h1 h2 => by rw [eM_19, mm_U_ne h1, eM_16, mm_U_ne h2, eM_13, mm_U_ne h2, eM9, mm_U_ne h1, mm_U_ne h2, eM_6, mm_U_ne h1], Or.inr ((mm_U_none (eM_6 ▸ hq9)).2)⟩ dJ2_add_3_64 (by dsimp only; omega) (by dsimp only; omega)
