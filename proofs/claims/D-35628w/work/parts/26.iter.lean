/-! ===== ArrayList's iterator ===== -/
set_option maxRecDepth 100000
/-- an iterator of the list a, at place k, made when the list's modCount was md -/
abbrev it_E (k : Nat) (lr md : Int32) (a : Nat) : va_E := .inr (48, [.int (nI k), .int lr, .int md, .ref a])

set_option maxHeartbeats 4000000 in
set_option maxRecDepth 100000 in
theorem c_J17_checkForComodification (l : Launch) (Z : mm_G) {M : mm_M} {it a ar n k : Nat} {lr md : Int32} (hi9 : M it = some (it_E k lr md a)) (hl9 : M a = some (al_E md ar n)) : mm_C l Z yJ17_checkForComodification (ws_ yJ17_checkForComodification cJ17_checkForComodification 1 none) { frames := 0, cells := 0, slots := 0, locals := 0 } [.ref it] M (fun v M' => v = none ∧ M' = M) mm_nx := by
  refine mm_ofW (cc := cJ17_checkForComodification) (maxL := 1) (ret := none) (by decide) rfl (Nat.le_of_ble_eq_true rfl) ?_
  intro p e s m below meth c A ls hx hb hr hlk hml hown hmn hts htab hE hST hA hM hS hl
  replace hl : lv_has ls 1 [(0, .ref it)] := hl
  refine lv_aload_n hx hb dJ17_checkForComodification_0 rfl (lv_at hl 0 rfl) ?_
  refine va_get (D := Z.1) (ci := 48) (v := .ref a) (C := RJ17) (T := TJ17) (N := 4) hx hb hts in_J17 hown hE.1 (hM.at hi9) 0 rfl mm_cJ17 3 (by decide) (hts _ q960) (fun _ h9 => h9) rfl dJ17_checkForComodification_1 ?_
  refine va_get (D := Z.1) (ci := 41) (v := .int md) (C := RJ2) (T := TJ2) (N := 3) hx hb hts in_J2 hown hE.1 (hM.at hl9) 0 rfl mm_cJ2 0 (by decide) (hts _ q148) (fun x9 h9 => u_same (hts _ q149) x9 h9) rfl dJ17_checkForComodification_4 ?_
  refine lv_aload_n hx hb dJ17_checkForComodification_7 rfl (lv_at hl 0 rfl) ?_
  refine va_get (D := Z.1) (ci := 48) (v := .int md) (C := RJ17) (T := TJ17) (N := 4) hx hb hts in_J17 hown hE.1 (hM.at hi9) 0 rfl mm_cJ17 2 (by decide) (hts _ q959) (fun _ h9 => h9) rfl dJ17_checkForComodification_8 ?_
  refine lv_icmp_eq (tgt := 22) hx hb dJ17_checkForComodification_11 (by decide) (fun _ => ?_) (fun h9 => absurd rfl h9)
  exact mm_retv hx hb hr hlk hM hS ⟨rfl, rfl⟩ dJ17_checkForComodification_22 (Nat.le_of_ble_eq_true rfl) (Nat.le_of_ble_eq_true rfl)
set_option maxHeartbeats 4000000 in
set_option maxRecDepth 100000 in
theorem c_J17_hasNext (l : Launch) (Z : mm_G) {M : mm_M} {it a ar n k : Nat} {lr md : Int32} (hi9 : M it = some (it_E k lr md a)) (hl9 : M a = some (al_E md ar n)) (hk : k ≤ n) (hn : n < 2 ^ 20) : mm_C l Z yJ17_hasNext (ws_ yJ17_hasNext cJ17_hasNext 1 (some .boolean)) { frames := 0, cells := 0, slots := 0, locals := 0 } [.ref it] M (fun v M' => v = some (.int (mm_b (decide (k < n)))) ∧ M' = M) mm_nx := by
  refine mm_ofW (cc := cJ17_hasNext) (maxL := 1) (ret := (some .boolean)) (by decide) rfl (Nat.le_of_ble_eq_true rfl) ?_
  intro p e s m below meth c A ls hx hb hr hlk hml hown hmn hts htab hE hST hA hM hS hl
  replace hl : lv_has ls 1 [(0, .ref it)] := hl
  refine lv_aload_n hx hb dJ17_hasNext_0 rfl (lv_at hl 0 rfl) ?_
  refine va_get (D := Z.1) (ci := 48) (v := .int (nI k)) (C := RJ17) (T := TJ17) (N := 4) hx hb hts in_J17 hown hE.1 (hM.at hi9) 0 rfl mm_cJ17 0 (by decide) (hts _ q957) (fun _ h9 => h9) rfl dJ17_hasNext_1 ?_
  refine lv_aload_n hx hb dJ17_hasNext_4 rfl (lv_at hl 0 rfl) ?_
  refine va_get (D := Z.1) (ci := 48) (v := .ref a) (C := RJ17) (T := TJ17) (N := 4) hx hb hts in_J17 hown hE.1 (hM.at hi9) 0 rfl mm_cJ17 3 (by decide) (hts _ q960) (fun _ h9 => h9) rfl dJ17_hasNext_5 ?_
  refine va_getN (D := Z.1) (ci := 41) (v := .int (nI n)) (C := RJ2) (T := TJ2) (N := 3) hx hb hts in_J2 hown hE.1 (hM.at hl9) 0 rfl mm_cJ2 2 (by decide) (va_Nw.use rfl (hE.2.1 _ q145 rfl)) (fun _ h9 => h9) rfl dJ17_hasNext_8 ?_
  refine lv_icmp_eq (tgt := 18) hx hb dJ17_hasNext_11 (by decide) (fun c_1 => ?_) (fun c_1 => ?_)
  · have h9 : decide (k < n) = false := by have := (nI_eq (by omega) (by omega)).1 c_1; simp; omega
    refine lv_iconst (v := 0) hx hb dJ17_hasNext_18 (by decide) ?_
    exact mm_retz hx hb hr rfl hlk hM hS ⟨by rw [h9]; rfl, rfl⟩ dJ17_hasNext_19 (Nat.le_of_ble_eq_true rfl) (Nat.le_of_ble_eq_true rfl)
  · have h9 : decide (k < n) = true := by have : ¬ k = n := fun q => c_1 (by rw [q]); simp; omega
    refine lv_iconst (v := 1) hx hb dJ17_hasNext_14 (by decide) ?_
    refine lv_goto (tgt := 19) hx hb dJ17_hasNext_15 (by decide) ?_
    exact mm_retz hx hb hr rfl hlk hM hS ⟨by rw [h9]; rfl, rfl⟩ dJ17_hasNext_19 (Nat.le_of_ble_eq_true rfl) (Nat.le_of_ble_eq_true rfl)
set_option maxHeartbeats 4000000 in
set_option maxRecDepth 100000 in
theorem c_J17_next (l : Launch) (Z : mm_G) {M : mm_M} {it a ar cap k : Nat} {lr md : Int32} {f : Nat → Option Nat} {xs : List (Option Nat)} (hi9 : M it = some (it_E k lr md a)) (hl9 : M a = some (al_E md ar xs.length)) (har : M ar = some (al_A Z cap f)) (hl1 : xs.length ≤ cap) (hcap : cap < 2 ^ 20) (hf : ∀ i : Nat, i < xs.length → xs[i]? = some (f i)) (hk : k < xs.length) : mm_C l Z yJ17_next (ws_ yJ17_next cJ17_next 3 (some (.object "java/lang/Object"))) { frames := 1, cells := 0, slots := 0, locals := 40 } [.ref it] M (fun v M' => (∃ r : Option Nat, xs[k]? = some r ∧ v = some (va_rf r)) ∧ M' = mm_U M it (it_E (k + 1) (nI k) md a)) mm_nx := by
  refine mm_ofW (cc := cJ17_next) (maxL := 3) (ret := (some (.object "java/lang/Object"))) (by decide) rfl (Nat.le_of_ble_eq_true rfl) ?_
  intro p e s m below meth c A ls hx hb hr hlk hml hown hmn hts htab hE hST hA hM hS hl
  replace hl : lv_has ls 3 [(0, .ref it)] := hl
  refine lv_aload_n hx hb dJ17_next_0 rfl (lv_at hl 0 rfl) ?_
  refine mm_callV (As := []) (rest := []) ⟨hx, hb, hml, hown, hts⟩ hE hST hA (c_J17_checkForComodification l Z hi9 hl9) (cwV 0 hts (lw_V q989 q990 q991 q83 q992) rfl rfl rfl (by decide +kernel) ⟨(Nat.le_of_ble_eq_true rfl), (Nat.le_of_ble_eq_true rfl)⟩) hM hS mm_cJ17 hi9 rfl hl.1 (Nat.le_of_ble_eq_true rfl) dJ17_next_1 rfl ⟨(Nat.le_of_ble_eq_true rfl), (Nat.le_of_ble_eq_true rfl)⟩ (fun _ _ _ _ _ _ h9 => h9.elim) (fun v_1 M_2 H locs hp_3 hM hS => ?_)
  obtain ⟨rfl, eM_2⟩ := hp_3
  rw [eM_2] at hM
  refine lv_aload_n hx hb dJ17_next_4 rfl (lv_at hl 0 rfl) ?_
  refine va_get (D := Z.1) (ci := 48) (v := .int (nI k)) (C := RJ17) (T := TJ17) (N := 4) hx hb hts in_J17 hown hE.1 (hM.at hi9) 0 rfl mm_cJ17 0 (by decide) (hts _ q957) (fun _ h9 => h9) rfl dJ17_next_5 ?_
  refine lv_istore_n hx hb dJ17_next_8 rfl hl (by decide) rfl (fun ls hl => ?_)
  replace hl : lv_has ls 3 [(1, .int (nI k)), (0, .ref it)] := hl
  refine lv_iload_n hx hb dJ17_next_9 rfl (lv_at hl 0 rfl) ?_
  refine lv_aload_n hx hb dJ17_next_10 rfl (lv_at hl 1 rfl) ?_
  refine va_get (D := Z.1) (ci := 48) (v := .ref a) (C := RJ17) (T := TJ17) (N := 4) hx hb hts in_J17 hown hE.1 (hM.at hi9) 0 rfl mm_cJ17 3 (by decide) (hts _ q960) (fun _ h9 => h9) rfl dJ17_next_11 ?_
  refine va_getN (D := Z.1) (ci := 41) (v := .int (nI xs.length)) (C := RJ2) (T := TJ2) (N := 3) hx hb hts in_J2 hown hE.1 (hM.at hl9) 0 rfl mm_cJ2 2 (by decide) (va_Nw.use rfl (hE.2.1 _ q145 rfl)) (fun _ h9 => h9) rfl dJ17_next_14 ?_
  refine lv_icmp_lt (tgt := 28) hx hb dJ17_next_17 (by decide) (fun _ => ?_) (fun h9 => absurd (nI_lt hk (by omega)) h9)
  refine lv_aload_n hx hb dJ17_next_28 rfl (lv_at hl 1 rfl) ?_
  refine va_get (D := Z.1) (ci := 48) (v := .ref a) (C := RJ17) (T := TJ17) (N := 4) hx hb hts in_J17 hown hE.1 (hM.at hi9) 0 rfl mm_cJ17 3 (by decide) (hts _ q960) (fun _ h9 => h9) rfl dJ17_next_29 ?_
  refine va_get (D := Z.1) (ci := 41) (v := .ref ar) (C := RJ2) (T := TJ2) (N := 3) hx hb hts in_J2 hown hE.1 (hM.at hl9) 0 rfl mm_cJ2 1 (by decide) (hts _ q144) (fun _ h9 => h9) rfl dJ17_next_32 ?_
  refine lv_astore_n hx hb dJ17_next_35 rfl hl (by decide) rfl (fun ls hl => ?_)
  replace hl : lv_has ls 3 [(2, .ref ar), (1, .int (nI k)), (0, .ref it)] := hl
  refine lv_iload_n hx hb dJ17_next_36 rfl (lv_at hl 1 rfl) ?_
  refine lv_aload_n hx hb dJ17_next_37 rfl (lv_at hl 0 rfl) ?_
  refine mm_alen hx hb hE hM 3 har rfl dJ17_next_38 ?_
  refine lv_icmp_lt (tgt := 50) hx hb dJ17_next_39 (by decide) (fun _ => ?_) (fun h9 => absurd (nI_lt (by omega) (by omega)) h9)
  refine lv_aload_n hx hb dJ17_next_50 rfl (lv_at hl 2 rfl) ?_
  refine lv_iload_n hx hb dJ17_next_51 rfl (lv_at hl 1 rfl) ?_
  refine lv_iconst (v := 1) hx hb dJ17_next_52 (by decide) ?_
  refine lv_iadd hx hb dJ17_next_53 ?_
  rw [show ((nI k) + 1 : Int32) = nI (k + 1) from nI_1 _]
  refine mm_put (D := Z.1) (ci := 48) (v := .int (nI (k + 1))) (ty := .int) (C := RJ17) (T := TJ17) (N := 4) hx hb hts in_J17 tyJ17 tyJ17_ok nmJ17 hown hE.1 hM hS hi9 mm_cJ17 0 (by decide) (hts _ q957) (fun _ h9 => h9) rfl (by decide +kernel) rfl rfl (Nat.le_of_ble_eq_true rfl) dJ17_next_54 (fun H locs hM hS => ?_)
  have hM : mm_P Z.1 mm_cl A (mm_U M it (.inr (48, [.int (nI (k + 1)), .int lr, .int md, .ref a]))) H := hM
  have hc_4 : (mm_U M it (.inr (48, [.int (nI (k + 1)), .int lr, .int md, .ref a]))) it = some (.inr (48, [.int (nI (k + 1)), .int lr, .int md, .ref a])) := mm_U_eq
  have hc_5 : (mm_U M it (.inr (48, [.int (nI (k + 1)), .int lr, .int md, .ref a]))) a = some (.inr (41, [.int md, .ref ar, .int (nI xs.length)])) := (mm_U_ne (mm_neC hl9 hi9 (by decide))).trans hl9
  have hc_6 : (mm_U M it (.inr (48, [.int (nI (k + 1)), .int lr, .int md, .ref a]))) ar = some (.inl (Z.2.1 3, cap, .inr (.inr (.inr (.inr f))))) := (mm_U_ne (mm_neA har hi9)).trans har
  obtain ⟨M_7, eM_7⟩ : ∃ z, z = mm_U M it (.inr (48, [.int (nI (k + 1)), .int lr, .int md, .ref a])) := ⟨_, rfl⟩
  rw [← eM_7] at hM hc_4 hc_5 hc_6
  refine lv_aload_n hx hb dJ17_next_57 rfl (lv_at hl 0 rfl) ?_
  refine lv_aload_n hx hb dJ17_next_58 rfl (lv_at hl 2 rfl) ?_
  refine lv_iload_n hx hb dJ17_next_59 rfl (lv_at hl 1 rfl) ?_
  refine lv_dup_x1 hx hb dJ17_next_60 rfl rfl ?_
  refine mm_put (D := Z.1) (ci := 48) (v := .int (nI k)) (ty := .int) (C := RJ17) (T := TJ17) (N := 4) hx hb hts in_J17 tyJ17 tyJ17_ok nmJ17 hown hE.1 hM hS hc_4 mm_cJ17 1 (by decide) (hts _ q958) (fun _ h9 => h9) rfl (by decide +kernel) rfl rfl (Nat.le_of_ble_eq_true rfl) dJ17_next_61 (fun H locs hM hS => ?_)
  have hM : mm_P Z.1 mm_cl A (mm_U M_7 it (.inr (48, [.int (nI (k + 1)), .int (nI k), .int md, .ref a]))) H := hM
  have hc_8 : (mm_U M_7 it (.inr (48, [.int (nI (k + 1)), .int (nI k), .int md, .ref a]))) it = some (.inr (48, [.int (nI (k + 1)), .int (nI k), .int md, .ref a])) := mm_U_eq
  have hc_9 : (mm_U M_7 it (.inr (48, [.int (nI (k + 1)), .int (nI k), .int md, .ref a]))) a = some (.inr (41, [.int md, .ref ar, .int (nI xs.length)])) := (mm_U_ne (mm_neC hc_5 hc_4 (by decide))).trans hc_5
  have hc_10 : (mm_U M_7 it (.inr (48, [.int (nI (k + 1)), .int (nI k), .int md, .ref a]))) ar = some (.inl (Z.2.1 3, cap, .inr (.inr (.inr (.inr f))))) := (mm_U_ne (mm_neA hc_6 hc_4)).trans hc_6
  obtain ⟨M_11, eM_11⟩ : ∃ z, z = mm_U M_7 it (.inr (48, [.int (nI (k + 1)), .int (nI k), .int md, .ref a])) := ⟨_, rfl⟩
  rw [← eM_11] at hM hc_8 hc_9 hc_10
  refine mm_aald (k := k) hx hb hE hM 3 hc_10 rfl rfl (by omega) (by omega) dJ17_next_64 ?_
  exact mm_reta hx hb hr (Or.inl ⟨_, rfl⟩) (mm_rf_or _) hlk hM hS ⟨⟨_, hf k hk, rfl⟩, by subst eM_11 eM_7; simp only [mm_U_U]⟩ dJ17_next_65 (Nat.le_of_ble_eq_true rfl) (Nat.le_of_ble_eq_true rfl)
set_option maxHeartbeats 4000000 in
set_option maxRecDepth 100000 in
theorem c_J17_init (l : Launch) (Z : mm_G) {M : mm_M} {it a ar n : Nat} {md : Int32} (hi9 : M it = some (.inr (48, [.int 0, .int 0, .int 0, .null]))) (hl9 : M a = some (al_E md ar n)) : mm_C l Z yJ17_init (ws_ yJ17_init cJ17_init 2 none) { frames := 1, cells := 0, slots := 0, locals := 40 } [.ref it, .ref a] M (fun v M' => v = none ∧ M' = mm_U M it (it_E 0 (-1) md a)) mm_nx := by
  refine mm_ofW (cc := cJ17_init) (maxL := 2) (ret := none) (by decide) rfl (Nat.le_of_ble_eq_true rfl) ?_
  intro p e s m below meth c A ls hx hb hr hlk hml hown hmn hts htab hE hST hA hM hS hl
  replace hl : lv_has ls 2 [(0, .ref it), (1, .ref a)] := hl
  refine lv_aload_n hx hb dJ17_init_0 rfl (lv_at hl 0 rfl) ?_
  refine lv_aload_n hx hb dJ17_init_1 rfl (lv_at hl 1 rfl) ?_
  refine mm_putF (D := Z.1) (ci := 48) (v := .ref a) (ty := .object "java/util/ArrayList") (C := RJ17) (T := TJ17) (N := 4) hx hb hts in_J17 tyJ17 tyJ17_ok nmJ17 hown hE.1 hM hS hi9 mm_cJ17 3 (by decide) (hts _ q960) (fun _ h9 => h9) rfl hmn rfl (by decide +kernel) rfl rfl (Nat.le_of_ble_eq_true rfl) dJ17_init_2 (fun H locs hM hS => ?_)
  have hM : mm_P Z.1 mm_cl A (mm_U M it (.inr (48, [.int 0, .int 0, .int 0, .ref a]))) H := hM
  have hc_1 : (mm_U M it (.inr (48, [.int 0, .int 0, .int 0, .ref a]))) it = some (.inr (48, [.int 0, .int 0, .int 0, .ref a])) := mm_U_eq
  have hc_2 : (mm_U M it (.inr (48, [.int 0, .int 0, .int 0, .ref a]))) a = some (.inr (41, [.int md, .ref ar, .int (nI n)])) := (mm_U_ne (mm_neC hl9 hi9 (by decide))).trans hl9
  obtain ⟨M_3, eM_3⟩ : ∃ z, z = mm_U M it (.inr (48, [.int 0, .int 0, .int 0, .ref a])) := ⟨_, rfl⟩
  rw [← eM_3] at hM hc_1 hc_2
  refine lv_aload_n hx hb dJ17_init_5 rfl (lv_at hl 0 rfl) ?_
  refine W.objInit hx hb hown (hts _ q956) (hts _ q127) (hts _ q128) rfl (by rw [hml]; exact hl.1) rfl dJ17_init_6 (Nat.le_of_ble_eq_true rfl) (Nat.le_of_ble_eq_true rfl) ?_
  refine W.eq (g2 := F0 m 9 ls []) rfl ?_
  refine lv_aload_n hx hb dJ17_init_9 rfl (lv_at hl 0 rfl) ?_
  refine lv_iconst (v := -1) hx hb dJ17_init_10 (by decide) ?_
  refine mm_put (D := Z.1) (ci := 48) (v := .int (-1)) (ty := .int) (C := RJ17) (T := TJ17) (N := 4) hx hb hts in_J17 tyJ17 tyJ17_ok nmJ17 hown hE.1 hM hS hc_1 mm_cJ17 1 (by decide) (hts _ q958) (fun _ h9 => h9) rfl (by decide +kernel) rfl rfl (Nat.le_of_ble_eq_true rfl) dJ17_init_11 (fun H locs hM hS => ?_)
  have hM : mm_P Z.1 mm_cl A (mm_U M_3 it (.inr (48, [.int 0, .int (-1), .int 0, .ref a]))) H := hM
  have hc_4 : (mm_U M_3 it (.inr (48, [.int 0, .int (-1), .int 0, .ref a]))) it = some (.inr (48, [.int 0, .int (-1), .int 0, .ref a])) := mm_U_eq
  have hc_5 : (mm_U M_3 it (.inr (48, [.int 0, .int (-1), .int 0, .ref a]))) a = some (.inr (41, [.int md, .ref ar, .int (nI n)])) := (mm_U_ne (mm_neC hc_2 hc_1 (by decide))).trans hc_2
  obtain ⟨M_6, eM_6⟩ : ∃ z, z = mm_U M_3 it (.inr (48, [.int 0, .int (-1), .int 0, .ref a])) := ⟨_, rfl⟩
  rw [← eM_6] at hM hc_4 hc_5
  refine lv_aload_n hx hb dJ17_init_14 rfl (lv_at hl 0 rfl) ?_
  refine lv_aload_n hx hb dJ17_init_15 rfl (lv_at hl 0 rfl) ?_
  refine va_get (D := Z.1) (ci := 48) (v := .ref a) (C := RJ17) (T := TJ17) (N := 4) hx hb hts in_J17 hown hE.1 (hM.at hc_4) 0 rfl mm_cJ17 3 (by decide) (hts _ q960) (fun _ h9 => h9) rfl dJ17_init_16 ?_
  refine va_get (D := Z.1) (ci := 41) (v := .int md) (C := RJ2) (T := TJ2) (N := 3) hx hb hts in_J2 hown hE.1 (hM.at hc_5) 0 rfl mm_cJ2 0 (by decide) (hts _ q148) (fun x9 h9 => u_same (hts _ q149) x9 h9) rfl dJ17_init_19 ?_
  refine mm_put (D := Z.1) (ci := 48) (v := .int md) (ty := .int) (C := RJ17) (T := TJ17) (N := 4) hx hb hts in_J17 tyJ17 tyJ17_ok nmJ17 hown hE.1 hM hS hc_4 mm_cJ17 2 (by decide) (hts _ q959) (fun _ h9 => h9) rfl (by decide +kernel) rfl rfl (Nat.le_of_ble_eq_true rfl) dJ17_init_22 (fun H locs hM hS => ?_)
  have hM : mm_P Z.1 mm_cl A (mm_U M_6 it (.inr (48, [.int 0, .int (-1), .int md, .ref a]))) H := hM
  have hc_7 : (mm_U M_6 it (.inr (48, [.int 0, .int (-1), .int md, .ref a]))) it = some (.inr (48, [.int 0, .int (-1), .int md, .ref a])) := mm_U_eq
  have hc_8 : (mm_U M_6 it (.inr (48, [.int 0, .int (-1), .int md, .ref a]))) a = some (.inr (41, [.int md, .ref ar, .int (nI n)])) := (mm_U_ne (mm_neC hc_5 hc_4 (by decide))).trans hc_5
  obtain ⟨M_9, eM_9⟩ : ∃ z, z = mm_U M_6 it (.inr (48, [.int 0, .int (-1), .int md, .ref a])) := ⟨_, rfl⟩
  rw [← eM_9] at hM hc_7 hc_8
  exact mm_retv hx hb hr hlk hM hS ⟨rfl, by subst eM_9 eM_6 eM_3; simp only [mm_U_U]; rfl⟩ dJ17_init_25 (Nat.le_of_ble_eq_true rfl) (Nat.le_of_ble_eq_true rfl)
set_option maxHeartbeats 4000000 in
set_option maxRecDepth 100000 in
theorem c_J2_iterator (l : Launch) (Z : mm_G) {M : mm_M} {a ar n : Nat} {md : Int32} (hl9 : M a = some (al_E md ar n)) : mm_C l Z yJ2_iterator (ws_ yJ2_iterator cJ2_iterator 1 (some (.object "java/util/Iterator"))) { frames := 2, cells := 1, slots := 4, locals := 80 } [.ref a] M (fun v M' => ∃ q : Nat, M q = none ∧ v = some (.ref q) ∧ M' = mm_U M q (it_E 0 (-1) md a)) mm_nx := by
  refine mm_ofW (cc := cJ2_iterator) (maxL := 1) (ret := (some (.object "java/util/Iterator"))) (by decide) rfl (Nat.le_of_ble_eq_true rfl) ?_
  intro p e s m below meth c A ls hx hb hr hlk hml hown hmn hts htab hE hST hA hM hS hl
  replace hl : lv_has ls 1 [(0, .ref a)] := hl
  refine mm_new (D := Z.1) (ci := 48) (fs := mm_f0J17) (C := RJ17) (T := TJ17) (N := 4) hx hb hts in_J17 tyJ17 tyJ17_ok hown (hts _ q951) (hts _ q952) (hts _ q83) hE.1 hM hS hA mm_cJ17 mm_dfJ17 (Nat.le_of_ble_eq_true rfl) (Nat.le_of_ble_eq_true rfl) dJ2_iterator_0 (fun q_2 H nq_1 hM hS => ?_)
  have hM : mm_P Z.1 mm_cl A (mm_U M q_2 (.inr (48, [.int 0, .int 0, .int 0, .null]))) H := hM
  have ne_3 : a ≠ q_2 := (mm_neN hl9 nq_1)
  have hc_4 : (mm_U M q_2 (.inr (48, [.int 0, .int 0, .int 0, .null]))) q_2 = some (.inr (48, [.int 0, .int 0, .int 0, .null])) := mm_U_eq
  have hc_5 : (mm_U M q_2 (.inr (48, [.int 0, .int 0, .int 0, .null]))) a = some (.inr (41, [.int md, .ref ar, .int (nI n)])) := (mm_U_ne ne_3).trans hl9
  obtain ⟨M_6, eM_6⟩ : ∃ z, z = mm_U M q_2 (.inr (48, [.int 0, .int 0, .int 0, .null])) := ⟨_, rfl⟩
  rw [← eM_6] at hM hc_5 hc_4
  refine lv_dup hx hb dJ2_iterator_3 rfl ?_
  refine lv_aload_n hx hb dJ2_iterator_4 rfl (lv_at hl 0 rfl) ?_
  refine mm_callI (As := [.ref a]) (rest := [.ref q_2]) ⟨hx, hb, hml, hown, hts⟩ hE hST hA (c_J17_init l Z hc_4 hc_5) (cwI (maxL := 2) 1 hts (lw_meth q955) rfl rfl rfl (hts _ q83) (hts _ q953) (hts _ q954) rfl (by decide +kernel) ⟨(Nat.le_of_ble_eq_true rfl), (Nat.le_of_ble_eq_true rfl)⟩) hM hS rfl hl.1 (Nat.le_of_ble_eq_true rfl) dJ2_iterator_5 rfl ⟨(Nat.le_of_ble_eq_true rfl), (Nat.le_of_ble_eq_true rfl)⟩ (fun _ _ _ _ _ _ h9 => h9.elim) (fun v_7 M_8 H locs hp_9 hM hS => ?_)
  obtain ⟨rfl, eM_8⟩ := hp_9
  exact mm_reta hx hb hr (Or.inl ⟨_, rfl⟩) (Or.inr ⟨_, rfl⟩) hlk hM hS ⟨q_2, nq_1, rfl, by rw [eM_8, eM_6, mm_U_U]⟩ dJ2_iterator_8 (Nat.le_of_ble_eq_true rfl) (Nat.le_of_ble_eq_true rfl)
