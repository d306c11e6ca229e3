/-! ===== java.util.ArrayList ===== -/
set_option maxRecDepth 100000
abbrev al_E (md : Int32) (ar n : Nat) : va_E := .inr (41, [.int md, .ref ar, .int (nI n)])
abbrev al_A (Z : mm_G) (cap : Nat) (f : Nat → Option Nat) : va_E := .inl (Z.2.1 3, cap, .inr (.inr (.inr (.inr f))))
/-- the shared empty array of lists -/
def al_0 (Z : mm_G) (M : mm_M) : Prop := ∃ f, M (Z.2.2.1 2) = some (al_A Z 0 f)
def mm_ok (M : mm_M) (r : Option Nat) : Prop := ∀ v, r = some v → ∃ ci fs, M v = some (.inr (ci, fs))
/-- the list a holds xs, in the array ar of cap places -/
def AL (Z : mm_G) (M : mm_M) (a ar cap : Nat) (xs : List (Option Nat)) : Prop := ∃ (md : Int32) (f : Nat → Option Nat), M a = some (al_E md ar xs.length) ∧ M ar = some (al_A Z cap f) ∧ xs.length ≤ cap ∧ cap < 2 ^ 20 ∧ (cap = 0 → ar = Z.2.2.1 2) ∧ ∀ i : Nat, i < xs.length → xs[i]? = some (f i)
def al_cap (n cap : Nat) : Nat := if n < cap then cap else if cap = 0 then 10 else cap + max 1 (cap / 2)
theorem mm_max {b c : Nat} (hb : b < 2 ^ 31) (hc : c < 2 ^ 31) : (if nI b < nI c then nI c else nI b) = nI (max b c) := by
  by_cases h : b < c
  · rw [if_pos ((nI_ltI hb hc).2 h)]; congr 1; omega
  · rw [if_neg (fun q => h ((nI_ltI hb hc).1 q))]; congr 1; omega
theorem mm_min {b c : Nat} (hb : b < 2 ^ 31) (hc : c < 2 ^ 31) : (if nI c < nI b then nI c else nI b) = nI (min b c) := by
  by_cases h : c < b
  · rw [if_pos ((nI_ltI hc hb).2 h)]; congr 1; omega
  · rw [if_neg (fun q => h ((nI_ltI hc hb).1 q))]; congr 1; omega

set_option maxHeartbeats 4000000 in
set_option maxRecDepth 100000 in
theorem c_J8_newLength (l : Launch) (Z : mm_G) {M : mm_M} {na nb nc : Nat} (h : na + max nb nc < 2 ^ 30) (h0 : 0 < na + max nb nc) : mm_C l Z yJ8_newLength (ws_ yJ8_newLength cJ8_newLength 4 (some .int)) { frames := 1, cells := 0, slots := 0, locals := 14 } [.int (nI na), .int (nI nb), .int (nI nc)] M (fun v M' => v = some (.int (nI (na + max nb nc))) ∧ M' = M) mm_nx := by
  refine mm_ofW (cc := cJ8_newLength) (maxL := 4) (ret := (some .int)) (by decide) rfl (Nat.le_of_ble_eq_true rfl) ?_
  intro p e s m below meth c A ls hx hb hr hlk hml hown hmn hts htab hE hST hA hM hS hl
  replace hl : lv_has ls 4 [(0, .int (nI na)), (1, .int (nI nb)), (2, .int (nI nc))] := hl
  refine lv_iload_n hx hb dJ8_newLength_0 rfl (lv_at hl 0 rfl) ?_
  refine lv_iload_n hx hb dJ8_newLength_1 rfl (lv_at hl 1 rfl) ?_
  refine lv_iload_n hx hb dJ8_newLength_2 rfl (lv_at hl 2 rfl) ?_
  refine va_mmax hx hb (hml.trans hl.1.symm) hown (hts _ q353) (hts _ q354) (hts _ q62) (hts _ q355) (Nat.le_of_ble_eq_true rfl) (Nat.le_of_ble_eq_true rfl) (Nat.le_of_ble_eq_true rfl) (Nat.le_of_ble_eq_true rfl) dJ8_newLength_3 ?_
  rw [show ((if (nI nb) < (nI nc) then (nI nc) else (nI nb)) : Int32) = nI (max nb nc) from mm_max (by omega) (by omega)]
  refine lv_iadd hx hb dJ8_newLength_6 ?_
  rw [show ((nI na) + (nI (max nb nc)) : Int32) = nI (na + max nb nc) from nI_add _ _]
  refine lv_istore_n hx hb dJ8_newLength_7 rfl hl (by decide) rfl (fun ls hl => ?_)
  replace hl : lv_has ls 4 [(3, .int (nI (na + max nb nc))), (0, .int (nI na)), (1, .int (nI nb)), (2, .int (nI nc))] := hl
  refine lv_iconst (v := 0) hx hb dJ8_newLength_8 (by decide) ?_
  refine lv_iload_n hx hb dJ8_newLength_9 rfl (lv_at hl 0 rfl) ?_
  refine lv_icmp_ge (tgt := 21) hx hb dJ8_newLength_10 (by decide) (fun c_1 => ?_) (fun c_1 => ?_)
  · exact absurd c_1 (nI_ge h0 (by omega))
  · skip
    refine lv_iload_n hx hb dJ8_newLength_13 rfl (lv_at hl 0 rfl) ?_
    refine lv_ldc (v := 2147483639) hx hb hown (hts _ q356) dJ8_newLength_14 ?_
    refine lv_icmp_gt (tgt := 21) hx hb dJ8_newLength_16 (by decide) (fun c_2 => ?_) (fun c_2 => ?_)
    · exact absurd c_2 (nI_nlt (a := 2147483639) (b := na + max nb nc) (by omega) (by omega))
    · skip
      refine lv_iload_n hx hb dJ8_newLength_19 rfl (lv_at hl 0 rfl) ?_
      exact mm_reti hx hb hr hlk hM hS ⟨rfl, rfl⟩ dJ8_newLength_20 (Nat.le_of_ble_eq_true rfl) (Nat.le_of_ble_eq_true rfl)
set_option maxHeartbeats 4000000 in
set_option maxRecDepth 100000 in
theorem c_J10_copyOf_2 (l : Launch) (Z : mm_G) {M : mm_M} {ar cap nc : Nat} {f : Nat → Option Nat} (ha : M ar = some (al_A Z cap f)) (hc : cap < 2 ^ 20) (hn : nc < 2 ^ 26) (hcn : cap ≤ nc) (hok : ∀ i : Nat, i < cap → mm_ok M (f i)) : mm_C l Z yJ10_copyOf_2 (ws_ yJ10_copyOf_2 cJ10_copyOf_2 4 (some (.array (.object "java/lang/Object")))) { frames := 1, cells := 1, slots := nc, locals := 60 } [.ref ar, .int (nI nc), .ref (Z.2.2.1 6)] M (fun v M' => ∃ q : Nat, M q = none ∧ v = some (.ref q) ∧ M' = mm_U M q (al_A Z nc (va_cpy f (fun _ => none) 0 0 cap))) mm_nx := by
  refine mm_ofW (cc := cJ10_copyOf_2) (maxL := 4) (ret := (some (.array (.object "java/lang/Object")))) (by decide) rfl (Nat.le_of_ble_eq_true rfl) ?_
  intro p e s m below meth c A ls hx hb hr hlk hml hown hmn hts htab hE hST hA hM hS hl
  replace hl : lv_has ls 4 [(0, .ref ar), (1, .int (nI nc)), (2, .ref (Z.2.2.1 6))] := hl
  refine lv_aload_n hx hb dJ10_copyOf_2_0 rfl (lv_at hl 2 rfl) ?_
  refine va_ldcM hx hb hown (hts _ q423) hE.2.2.2.2.2.2.1 dJ10_copyOf_2_1 ?_
  refine lv_acmp_ne (rx := some (Z.2.2.1 6)) (ry := some (Z.2.2.1 6)) (tgt := 13) hx hb dJ10_copyOf_2_3 (by decide) (fun h9 => absurd rfl h9) (fun _ => ?_)
  refine lv_iload_n hx hb dJ10_copyOf_2_6 rfl (lv_at hl 1 rfl) ?_
  refine mm_newq hx hb hown (hts _ q425) (hE.2.2.2.2.1 _ (by decide)) hE.1 hM hS hA 3 rfl (nI_pos (by omega)) (nI_clamp (by omega)) (by omega) (Nat.le_refl _) (by dsimp only; omega) dJ10_copyOf_2_7 (fun q_1 H nq_2 hM hS => ?_)
  have hM : mm_P Z.1 mm_cl A (mm_U M q_1 (.inl (Z.2.1 3, nc, .inr (.inr (.inr (.inr (fun _ => none))))))) H := hM
  have ne_3 : ar ≠ q_1 := (mm_neN ha nq_2)
  have hc_4 : (mm_U M q_1 (.inl (Z.2.1 3, nc, .inr (.inr (.inr (.inr (fun _ => none))))))) q_1 = some (.inl (Z.2.1 3, nc, .inr (.inr (.inr (.inr (fun _ => none)))))) := mm_U_eq
  have hc_5 : (mm_U M q_1 (.inl (Z.2.1 3, nc, .inr (.inr (.inr (.inr (fun _ => none))))))) ar = some (.inl (Z.2.1 3, cap, .inr (.inr (.inr (.inr f))))) := (mm_U_ne ne_3).trans ha
  obtain ⟨M_6, eM_6⟩ : ∃ z, z = mm_U M q_1 (.inl (Z.2.1 3, nc, .inr (.inr (.inr (.inr (fun _ => none)))))) := ⟨_, rfl⟩
  rw [← eM_6] at hM hc_5 hc_4
  refine lv_goto (tgt := 24) hx hb dJ10_copyOf_2_10 (by decide) ?_
  refine lv_astore_n hx hb dJ10_copyOf_2_24 rfl hl (by decide) rfl (fun ls hl => ?_)
  replace hl : lv_has ls 4 [(3, .ref q_1), (0, .ref ar), (1, .int (nI nc)), (2, .ref (Z.2.2.1 6))] := hl
  refine lv_aload_n hx hb dJ10_copyOf_2_25 rfl (lv_at hl 1 rfl) ?_
  refine lv_iconst (v := 0) hx hb dJ10_copyOf_2_26 (by decide) ?_
  refine lv_aload_n hx hb dJ10_copyOf_2_27 rfl (lv_at hl 0 rfl) ?_
  refine lv_iconst (v := 0) hx hb dJ10_copyOf_2_28 (by decide) ?_
  refine lv_aload_n hx hb dJ10_copyOf_2_29 rfl (lv_at hl 1 rfl) ?_
  refine mm_alen hx hb hE hM 3 hc_5 rfl dJ10_copyOf_2_30 ?_
  refine lv_iload_n hx hb dJ10_copyOf_2_31 rfl (lv_at hl 2 rfl) ?_
  refine va_mmin hx hb (hml.trans hl.1.symm) hown (hts _ q426) (hts _ q427) (hts _ q62) (hts _ q428) (Nat.le_of_ble_eq_true rfl) (Nat.le_of_ble_eq_true rfl) (by dsimp only; omega) (by dsimp only; omega) dJ10_copyOf_2_32 ?_
  rw [show ((if (nI nc) < (nI cap) then (nI nc) else (nI cap)) : Int32) = nI cap from (mm_min (by omega) (by omega)).trans (by congr 1; omega)]
  refine mm_copyK (kS := 0) (kD := 0) (kN := cap) hx hb (hml.trans hl.1.symm) hown (hts _ q429) (hts _ q431) (hts _ q430) (hts _ q64) hE hM hS hc_5 hc_4 rfl rfl rfl (by omega) (by omega) (by omega) (by omega) (fun i hi y hy => by rw [Nat.zero_add] at hy; obtain ⟨ci, fs, h⟩ := hok i hi y hy; exact ⟨ci, fs, by rw [eM_6, mm_U_ne (mm_neN h nq_2)]; exact h⟩) (Nat.le_of_ble_eq_true rfl) (Nat.le_of_ble_eq_true rfl) dJ10_copyOf_2_35 (fun H locs hM hS => ?_)
  have hM : mm_P Z.1 mm_cl A (mm_U M_6 q_1 (.inl (Z.2.1 3, nc, .inr (.inr (.inr (.inr (va_cpy f (fun _ => none) 0 0 cap))))))) H := hM
  have hc_7 : (mm_U M_6 q_1 (.inl (Z.2.1 3, nc, .inr (.inr (.inr (.inr (va_cpy f (fun _ => none) 0 0 cap))))))) q_1 = some (.inl (Z.2.1 3, nc, .inr (.inr (.inr (.inr (va_cpy f (fun _ => none) 0 0 cap)))))) := mm_U_eq
  have hc_8 : (mm_U M_6 q_1 (.inl (Z.2.1 3, nc, .inr (.inr (.inr (.inr (va_cpy f (fun _ => none) 0 0 cap))))))) ar = some (.inl (Z.2.1 3, cap, .inr (.inr (.inr (.inr f))))) := (mm_U_ne ne_3).trans hc_5
  obtain ⟨M_9, eM_9⟩ : ∃ z, z = mm_U M_6 q_1 (.inl (Z.2.1 3, nc, .inr (.inr (.inr (.inr (va_cpy f (fun _ => none) 0 0 cap)))))) := ⟨_, rfl⟩
  rw [← eM_9] at hM hc_8 hc_7
  refine lv_aload_n hx hb dJ10_copyOf_2_38 rfl (lv_at hl 0 rfl) ?_
  exact mm_reta hx hb hr (Or.inr ⟨_, rfl⟩) (Or.inr ⟨_, rfl⟩) hlk hM hS ⟨q_1, nq_2, rfl, by subst eM_9 eM_6; simp only [mm_U_U]⟩ dJ10_copyOf_2_39 (Nat.le_refl _) (by dsimp only; omega)
set_option maxHeartbeats 4000000 in
set_option maxRecDepth 100000 in
theorem c_J10_copyOf (l : Launch) (Z : mm_G) {M : mm_M} {ar cap nc : Nat} {f : Nat → Option Nat} (ha : M ar = some (al_A Z cap f)) (hc : cap < 2 ^ 20) (hn : nc < 2 ^ 26) (hcn : cap ≤ nc) (hok : ∀ i : Nat, i < cap → mm_ok M (f i)) : mm_C l Z yJ10_copyOf (ws_ yJ10_copyOf cJ10_copyOf 2 (some (.array (.object "java/lang/Object")))) { frames := 2, cells := 1, slots := nc, locals := 100 } [.ref ar, .int (nI nc)] M (fun v M' => ∃ q : Nat, M q = none ∧ v = some (.ref q) ∧ M' = mm_U M q (al_A Z nc (va_cpy f (fun _ => none) 0 0 cap))) mm_nx := by
  refine mm_ofW (cc := cJ10_copyOf) (maxL := 2) (ret := (some (.array (.object "java/lang/Object")))) (by decide) rfl (Nat.le_of_ble_eq_true rfl) ?_
  intro p e s m below meth c A ls hx hb hr hlk hml hown hmn hts htab hE hST hA hM hS hl
  replace hl : lv_has ls 2 [(0, .ref ar), (1, .int (nI nc))] := hl
  refine lv_aload_n hx hb dJ10_copyOf_0 rfl (lv_at hl 0 rfl) ?_
  refine lv_iload_n hx hb dJ10_copyOf_1 rfl (lv_at hl 1 rfl) ?_
  refine lv_aload_n hx hb dJ10_copyOf_2 rfl (lv_at hl 0 rfl) ?_
  refine mm_getCO hx hb (hml.trans hl.1.symm) hown (hts _ q363) q2938 (hts _ q2937) (hts _ q364) (hts _ q419) hE hM ha (Nat.le_of_ble_eq_true rfl) (Nat.le_of_ble_eq_true rfl) dJ10_copyOf_3 ?_
  refine mm_callS (As := [.ref ar, .int (nI nc), .ref (Z.2.2.1 6)]) (rest := []) ⟨hx, hb, hml, hown, hts⟩ hE hST hA (c_J10_copyOf_2 l Z ha hc hn hcn hok) (va_cwS 3 hts (lw_S q420 q421 q63 q422) rfl rfl rfl (by decide +kernel) ⟨(Nat.le_of_ble_eq_true rfl), (Nat.le_of_ble_eq_true rfl)⟩) hM hS rfl hl.1 (Nat.le_of_ble_eq_true rfl) dJ10_copyOf_6 rfl ⟨(by dsimp only; omega), (by dsimp only; omega)⟩ (fun _ _ _ _ _ _ h9 => h9.elim) (fun v_1 M_2 H locs hp_3 hM hS => ?_)
  obtain ⟨q9, hq9, rfl, eM9⟩ := hp_3
  exact mm_reta hx hb hr (Or.inr ⟨_, rfl⟩) (Or.inr ⟨_, rfl⟩) hlk hM hS ⟨q9, hq9, rfl, eM9⟩ dJ10_copyOf_9 (by dsimp only; omega) (by dsimp only; omega)
def al_nc (cap mm : Nat) : Nat := if cap = 0 then max 10 mm else cap + max (mm - cap) (cap / 2)
theorem al_gt {cap : Nat} (h : cap < 2 ^ 31) : (0 : Int32) < nI cap ↔ 0 < cap := by
  have := nI_ltI (a := 0) (b := cap) (by omega) h
  rwa [nI_0] at this
theorem al_cpy0 (f g : Nat → Option Nat) : va_cpy f g 0 0 0 = g := by
  funext i
  simp [va_cpy]
theorem al_half {n : Nat} (h : n < 2 ^ 31) : nI n >>> ((1 : Int32) &&& 31) = nI (n / 2) := by
  rw [pk_shrN h (1 &&& 31) 1 (by decide)]
theorem al_nc_lt {cap mm : Nat} (h : cap < 2 ^ 20) (h2 : mm < 2 ^ 20) (hm : cap < mm) : al_nc cap mm < 2 ^ 22 ∧ mm ≤ al_nc cap mm ∧ cap ≤ al_nc cap mm := by
  unfold al_nc
  by_cases h0 : cap = 0
  · rw [if_pos h0]; omega
  · rw [if_neg h0]; omega
theorem mm_ok.new {M : mm_M} {r : Option Nat} (h : mm_ok M r) {q : Nat} {e : va_E} (hq : M q = none) : mm_ok (mm_U M q e) r := by
  intro v hv
  obtain ⟨ci, fs, h1⟩ := h v hv
  exact ⟨ci, fs, by rw [mm_U_ne (mm_neN h1 hq)]; exact h1⟩
theorem mm_ok.obj {M : mm_M} {r : Option Nat} (h : mm_ok M r) {a ci : Nat} {fs : List Value} : mm_ok (mm_U M a (.inr (ci, fs))) r := by
  intro v hv
  obtain ⟨c1, f1, h1⟩ := h v hv
  by_cases hq : v = a
  · exact ⟨ci, fs, by rw [hq]; exact mm_U_eq⟩
  · exact ⟨c1, f1, by rw [mm_U_ne hq]; exact h1⟩
theorem mm_ok.arr {M : mm_M} {r : Option Nat} (h : mm_ok M r) {a : Nat} {x : ClassId × vp_A} {e : va_E} (ha : M a = some (.inl x)) : mm_ok (mm_U M a e) r := by
  intro v hv
  obtain ⟨c1, f1, h1⟩ := h v hv
  exact ⟨c1, f1, by rw [mm_U_ne (Ne.symm (mm_neA ha h1))]; exact h1⟩

set_option maxHeartbeats 4000000 in
set_option maxRecDepth 100000 in
theorem c_J2_grow_2 (l : Launch) (Z : mm_G) {M : mm_M} {a ar n cap mm : Nat} {md : Int32} {f : Nat → Option Nat} (ha : M a = some (al_E md ar n)) (har : M ar = some (al_A Z cap f)) (hc : cap < 2 ^ 20) (h0 : cap = 0 → ar = Z.2.2.1 2) (hm : cap < mm) (hm2 : mm < 2 ^ 20) (hok : ∀ i : Nat, i < cap → mm_ok M (f i)) : mm_C l Z yJ2_grow_2 (ws_ yJ2_grow_2 cJ2_grow_2 4 (some (.array (.object "java/lang/Object")))) { frames := 3, cells := 1, slots := al_nc cap mm, locals := 150 } [.ref a, .int (nI mm)] M (fun v M' => ∃ q : Nat, M q = none ∧ v = some (.ref q) ∧ M' = mm_U (mm_U M q (al_A Z (al_nc cap mm) (va_cpy f (fun _ => none) 0 0 cap))) a (al_E md q n)) mm_nx := by
  refine mm_ofW (cc := cJ2_grow_2) (maxL := 4) (ret := (some (.array (.object "java/lang/Object")))) (by decide) rfl (Nat.le_of_ble_eq_true rfl) ?_
  intro p e s m below meth c A ls hx hb hr hlk hml hown hmn hts htab hE hST hA hM hS hl
  replace hl : lv_has ls 4 [(0, .ref a), (1, .int (nI mm))] := hl
  have hnc := al_nc_lt hc hm2 hm
  refine lv_aload_n hx hb dJ2_grow_2_0 rfl (lv_at hl 0 rfl) ?_
  refine va_get (D := Z.1) (ci := 41) (v := .ref ar) (C := RJ2) (T := TJ2) (N := 3) hx hb hts in_J2 hown hE.1 (hM.at ha) 0 rfl mm_cJ2 1 (by decide) (hts _ q143) (fun _ h9 => h9) rfl dJ2_grow_2_1 ?_
  refine mm_alen hx hb hE hM 3 har rfl dJ2_grow_2_4 ?_
  refine lv_istore_n hx hb dJ2_grow_2_5 rfl hl (by decide) rfl (fun ls hl => ?_)
  replace hl : lv_has ls 4 [(2, .int (nI cap)), (0, .ref a), (1, .int (nI mm))] := hl
  refine lv_iload_n hx hb dJ2_grow_2_6 rfl (lv_at hl 0 rfl) ?_
  refine lv_if_gt (tgt := 20) hx hb dJ2_grow_2_7 (by decide) (fun c_1 => ?_) (fun c_1 => ?_)
  · have hz : 0 < cap := (al_gt (by omega)).1 c_1
    have hnc2 : al_nc cap mm = cap + max (mm - cap) (cap / 2) := if_neg (by omega)
    refine lv_iload_n hx hb dJ2_grow_2_20 rfl (lv_at hl 0 rfl) ?_
    refine lv_iload_n hx hb dJ2_grow_2_21 rfl (lv_at hl 2 rfl) ?_
    refine lv_iload_n hx hb dJ2_grow_2_22 rfl (lv_at hl 0 rfl) ?_
    refine lv_isub hx hb dJ2_grow_2_23 ?_
    rw [show ((nI mm) - (nI cap) : Int32) = nI (mm - cap) from pk_sub (by omega)]
    refine lv_iload_n hx hb dJ2_grow_2_24 rfl (lv_at hl 0 rfl) ?_
    refine lv_iconst (v := 1) hx hb dJ2_grow_2_25 (by decide) ?_
    refine lv_ishr hx hb dJ2_grow_2_26 ?_
    rw [show ((nI cap) >>> ((1 : Int32) &&& 31) : Int32) = nI (cap / 2) from al_half (by omega)]
    refine mm_callS (As := [.int (nI cap), .int (nI (mm - cap)), .int (nI (cap / 2))]) (rest := []) ⟨hx, hb, hml, hown, hts⟩ hE hST hA (c_J8_newLength l Z (na := cap) (nb := mm - cap) (nc := cap / 2) (by omega) (by omega)) (va_cwS 3 hts (lw_S q350 q351 q61 q352) rfl rfl rfl (by decide +kernel) ⟨(Nat.le_of_ble_eq_true rfl), (Nat.le_of_ble_eq_true rfl)⟩) hM hS rfl hl.1 (Nat.le_of_ble_eq_true rfl) dJ2_grow_2_27 rfl ⟨(by dsimp only; omega), (by dsimp only; omega)⟩ (fun _ _ _ _ _ _ h9 => h9.elim) (fun v_2 M_3 H locs hp_4 hM hS => ?_)
    obtain ⟨rfl, eM_3⟩ := hp_4
    rw [eM_3] at hM
    rw [← hnc2]
    refine lv_istore_n hx hb dJ2_grow_2_30 rfl hl (by decide) rfl (fun ls hl => ?_)
    replace hl : lv_has ls 4 [(3, .int (nI (al_nc cap mm))), (2, .int (nI cap)), (0, .ref a), (1, .int (nI mm))] := hl
    refine lv_aload_n hx hb dJ2_grow_2_31 rfl (lv_at hl 2 rfl) ?_
    refine lv_aload_n hx hb dJ2_grow_2_32 rfl (lv_at hl 2 rfl) ?_
    refine va_get (D := Z.1) (ci := 41) (v := .ref ar) (C := RJ2) (T := TJ2) (N := 3) hx hb hts in_J2 hown hE.1 (hM.at ha) 0 rfl mm_cJ2 1 (by decide) (hts _ q143) (fun _ h9 => h9) rfl dJ2_grow_2_33 ?_
    refine lv_iload_n hx hb dJ2_grow_2_36 rfl (lv_at hl 0 rfl) ?_
    refine mm_callS (As := [.ref ar, .int (nI (al_nc cap mm))]) (rest := [.ref a]) ⟨hx, hb, hml, hown, hts⟩ hE hST hA (c_J10_copyOf l Z har hc (by omega) (by omega) hok) (va_cwS 2 hts (lw_S q360 q361 q63 q362) rfl rfl rfl (by decide +kernel) ⟨(Nat.le_of_ble_eq_true rfl), (Nat.le_of_ble_eq_true rfl)⟩) hM hS rfl hl.1 (Nat.le_of_ble_eq_true rfl) dJ2_grow_2_37 rfl ⟨(by dsimp only; omega), (by dsimp only; omega)⟩ (fun _ _ _ _ _ _ h9 => h9.elim) (fun v_5 M_6 H locs hp_7 hM hS => ?_)
    obtain ⟨q9, hq9, rfl, eM9⟩ := hp_7
    have hne9 : a ≠ q9 := mm_neN ha hq9
    have hc9 : M_6 a = some (al_E md ar n) := by rw [eM9, mm_U_ne hne9]; exact ha
    refine lv_dup_x1 hx hb dJ2_grow_2_40 rfl rfl ?_
    refine mm_put (D := Z.1) (ci := 41) (v := .ref q9) (ty := .array (.object "java/lang/Object")) (C := RJ2) (T := TJ2) (N := 3) hx hb hts in_J2 tyJ2 tyJ2_ok nmJ2 hown hE.1 hM hS hc9 mm_cJ2 1 (by decide) (hts _ q143) (fun _ h9 => h9) rfl (by decide +kernel) rfl rfl (Nat.le_of_ble_eq_true rfl) dJ2_grow_2_41 (fun H locs hM hS => ?_)
    have hM : mm_P Z.1 mm_cl A (mm_U M_6 a (.inr (41, [.int md, .ref q9, .int (nI n)]))) H := hM
    have hc_8 : (mm_U M_6 a (.inr (41, [.int md, .ref q9, .int (nI n)]))) a = some (.inr (41, [.int md, .ref q9, .int (nI n)])) := mm_U_eq
    obtain ⟨M_9, eM_9⟩ : ∃ z, z = mm_U M_6 a (.inr (41, [.int md, .ref q9, .int (nI n)])) := ⟨_, rfl⟩
    rw [← eM_9] at hM hc_8
    exact mm_reta hx hb hr (Or.inr ⟨_, rfl⟩) (Or.inr ⟨_, rfl⟩) hlk hM hS ⟨q9, hq9, rfl, by rw [eM_9, eM9]⟩ dJ2_grow_2_44 (by dsimp only; omega) (by dsimp only; omega)
  · have hz : cap = 0 := Nat.eq_zero_of_not_pos (fun h9 => c_1 ((al_gt (by omega)).2 h9))
    subst hz
    have hnc2 : al_nc 0 mm = max 10 mm := if_pos rfl
    refine lv_aload_n hx hb dJ2_grow_2_10 rfl (lv_at hl 1 rfl) ?_
    refine va_get (D := Z.1) (ci := 41) (v := .ref ar) (C := RJ2) (T := TJ2) (N := 3) hx hb hts in_J2 hown hE.1 (hM.at ha) 0 rfl mm_cJ2 1 (by decide) (hts _ q143) (fun _ h9 => h9) rfl dJ2_grow_2_11 ?_
    refine va_gets hx hb (hST.1 _ (List.mem_of_getElem? (i := 2) rfl)) hS hown (hts _ q141) (fun _ h9 => h9) dJ2_grow_2_14 ?_
    refine lv_acmp_eq (rx := some ar) (ry := some (Z.2.2.1 2)) (tgt := 45) hx hb dJ2_grow_2_17 (by decide) (fun _ => ?_) (fun h9 => absurd (congrArg some (h0 rfl)) h9)
    refine lv_aload_n hx hb dJ2_grow_2_45 rfl (lv_at hl 1 rfl) ?_
    refine lv_bipush (v := 10) hx hb dJ2_grow_2_46 (by decide) ?_
    refine lv_iload_n hx hb dJ2_grow_2_48 rfl (lv_at hl 2 rfl) ?_
    refine va_mmax hx hb (hml.trans hl.1.symm) hown (hts _ q432) (hts _ q354) (hts _ q62) (hts _ q355) (Nat.le_of_ble_eq_true rfl) (Nat.le_of_ble_eq_true rfl) (Nat.zero_le _) (Nat.zero_le _) dJ2_grow_2_49 ?_
    rw [show (if (10 : Int32) < nI mm then nI mm else 10) = nI (al_nc 0 mm) from by rw [hnc2]; exact mm_max (b := 10) (by omega) (by omega)]
    refine mm_newq hx hb hown (hts _ q433) (hE.2.2.2.2.1 _ (by decide)) hE.1 hM hS hA 3 rfl (nI_pos (by omega)) (nI_clamp (by omega)) (by omega) (by dsimp only; omega) (by dsimp only; omega) dJ2_grow_2_52 (fun q_2 H nq_3 hM hS => ?_)
    have hM : mm_P Z.1 mm_cl A (mm_U M q_2 (.inl (Z.2.1 3, (al_nc 0 mm), .inr (.inr (.inr (.inr (fun _ => none))))))) H := hM
    have ne_4 : a ≠ q_2 := (mm_neN ha nq_3)
    have ne_5 : ar ≠ q_2 := (mm_neN har nq_3)
    have hc_6 : (mm_U M q_2 (.inl (Z.2.1 3, (al_nc 0 mm), .inr (.inr (.inr (.inr (fun _ => none))))))) q_2 = some (.inl (Z.2.1 3, (al_nc 0 mm), .inr (.inr (.inr (.inr (fun _ => none)))))) := mm_U_eq
    have hc_7 : (mm_U M q_2 (.inl (Z.2.1 3, (al_nc 0 mm), .inr (.inr (.inr (.inr (fun _ => none))))))) a = some (.inr (41, [.int md, .ref ar, .int (nI n)])) := (mm_U_ne ne_4).trans ha
    have hc_8 : (mm_U M q_2 (.inl (Z.2.1 3, (al_nc 0 mm), .inr (.inr (.inr (.inr (fun _ => none))))))) ar = some (.inl (Z.2.1 3, 0, .inr (.inr (.inr (.inr f))))) := (mm_U_ne ne_5).trans har
    obtain ⟨M_9, eM_9⟩ : ∃ z, z = mm_U M q_2 (.inl (Z.2.1 3, (al_nc 0 mm), .inr (.inr (.inr (.inr (fun _ => none)))))) := ⟨_, rfl⟩
    rw [← eM_9] at hM hc_7 hc_8 hc_6
    refine lv_dup_x1 hx hb dJ2_grow_2_55 rfl rfl ?_
    refine mm_put (D := Z.1) (ci := 41) (v := .ref q_2) (ty := .array (.object "java/lang/Object")) (C := RJ2) (T := TJ2) (N := 3) hx hb hts in_J2 tyJ2 tyJ2_ok nmJ2 hown hE.1 hM hS hc_7 mm_cJ2 1 (by decide) (hts _ q143) (fun _ h9 => h9) rfl (by decide +kernel) rfl rfl (Nat.le_of_ble_eq_true rfl) dJ2_grow_2_56 (fun H locs hM hS => ?_)
    have hM : mm_P Z.1 mm_cl A (mm_U M_9 a (.inr (41, [.int md, .ref q_2, .int (nI n)]))) H := hM
    have hc_10 : (mm_U M_9 a (.inr (41, [.int md, .ref q_2, .int (nI n)]))) a = some (.inr (41, [.int md, .ref q_2, .int (nI n)])) := mm_U_eq
    have hc_11 : (mm_U M_9 a (.inr (41, [.int md, .ref q_2, .int (nI n)]))) ar = some (.inl (Z.2.1 3, 0, .inr (.inr (.inr (.inr f))))) := (mm_U_ne (mm_neA hc_8 hc_7)).trans hc_8
    have hc_12 : (mm_U M_9 a (.inr (41, [.int md, .ref q_2, .int (nI n)]))) q_2 = some (.inl (Z.2.1 3, (al_nc 0 mm), .inr (.inr (.inr (.inr (fun _ => none)))))) := (mm_U_ne (Ne.symm ne_4)).trans hc_6
    obtain ⟨M_13, eM_13⟩ : ∃ z, z = mm_U M_9 a (.inr (41, [.int md, .ref q_2, .int (nI n)])) := ⟨_, rfl⟩
    rw [← eM_13] at hM hc_10 hc_11 hc_12
    exact mm_reta hx hb hr (Or.inr ⟨_, rfl⟩) (Or.inr ⟨_, rfl⟩) hlk hM hS ⟨q_2, nq_3, rfl, by rw [al_cpy0]; subst eM_13 eM_9; rfl⟩ dJ2_grow_2_59 (by dsimp only; omega) (by dsimp only; omega)
set_option maxHeartbeats 4000000 in
set_option maxRecDepth 100000 in
theorem c_J2_grow (l : Launch) (Z : mm_G) {M : mm_M} {a ar n cap : Nat} {md : Int32} {f : Nat → Option Nat} (ha : M a = some (al_E md ar n)) (har : M ar = some (al_A Z cap f)) (hc : cap < 2 ^ 20) (h0 : cap = 0 → ar = Z.2.2.1 2) (hm : cap < n + 1) (hm2 : n + 1 < 2 ^ 20) (hok : ∀ i : Nat, i < cap → mm_ok M (f i)) : mm_C l Z yJ2_grow (ws_ yJ2_grow cJ2_grow 1 (some (.array (.object "java/lang/Object")))) { frames := 4, cells := 1, slots := al_nc cap (n + 1), locals := 180 } [.ref a] M (fun v M' => ∃ q : Nat, M q = none ∧ v = some (.ref q) ∧ M' = mm_U (mm_U M q (al_A Z (al_nc cap (n + 1)) (va_cpy f (fun _ => none) 0 0 cap))) a (al_E md q n)) mm_nx := by
  refine mm_ofW (cc := cJ2_grow) (maxL := 1) (ret := (some (.array (.object "java/lang/Object")))) (by decide) rfl (Nat.le_of_ble_eq_true rfl) ?_
  intro p e s m below meth c A ls hx hb hr hlk hml hown hmn hts htab hE hST hA hM hS hl
  replace hl : lv_has ls 1 [(0, .ref a)] := hl
  refine lv_aload_n hx hb dJ2_grow_0 rfl (lv_at hl 0 rfl) ?_
  refine lv_aload_n hx hb dJ2_grow_1 rfl (lv_at hl 0 rfl) ?_
  refine va_get (D := Z.1) (ci := 41) (v := .int (nI n)) (C := RJ2) (T := TJ2) (N := 3) hx hb hts in_J2 hown hE.1 (hM.at ha) 0 rfl mm_cJ2 2 (by decide) (hts _ q146) (fun _ h9 => h9) rfl dJ2_grow_2 ?_
  refine lv_iconst (v := 1) hx hb dJ2_grow_5 (by decide) ?_
  refine lv_iadd hx hb dJ2_grow_6 ?_
  rw [show ((nI n) + 1 : Int32) = nI (n + 1) from nI_1 _]
  refine mm_callV (As := [.int (nI (n + 1))]) (rest := []) ⟨hx, hb, hml, hown, hts⟩ hE hST hA (c_J2_grow_2 l Z ha har hc h0 hm hm2 hok) (cwV 1 hts (lw_V q346 q348 qs4 q53 q349) rfl rfl rfl (by decide +kernel) ⟨(Nat.le_of_ble_eq_true rfl), (Nat.le_of_ble_eq_true rfl)⟩) hM hS mm_cJ2 ha rfl hl.1 (Nat.le_of_ble_eq_true rfl) dJ2_grow_7 rfl ⟨(by dsimp only; omega), (by dsimp only; omega)⟩ (fun _ _ _ _ _ _ h9 => h9.elim) (fun v_1 M_2 H locs hp_3 hM hS => ?_)
  obtain ⟨q9, hq9, rfl, eM9⟩ := hp_3
  exact mm_reta hx hb hr (Or.inr ⟨_, rfl⟩) (Or.inr ⟨_, rfl⟩) hlk hM hS ⟨q9, hq9, rfl, eM9⟩ dJ2_grow_10 (by dsimp only; omega) (by dsimp only; omega)
theorem al_up {f : Nat → Option Nat} {xs : List (Option Nat)} {r : Option Nat} (h : ∀ i : Nat, i < xs.length → xs[i]? = some (f i)) : ∀ i : Nat, i < (xs ++ [r]).length → (xs ++ [r])[i]? = some (va_up f xs.length r i) := by
  intro i hi
  rw [List.length_append, List.length_singleton] at hi
  by_cases h1 : i = xs.length
  · subst h1
    simp [va_up]
  · rw [List.getElem?_append_left (by omega), h i (by omega)]
    simp [va_up, h1]
theorem al_cp {f g : Nat → Option Nat} {xs : List (Option Nat)} {cap : Nat} (hc : xs.length ≤ cap) (h : ∀ i : Nat, i < xs.length → xs[i]? = some (f i)) : ∀ i : Nat, i < xs.length → xs[i]? = some (va_cpy f g 0 0 cap i) := by
  intro i hi
  rw [h i hi]
  simp [va_cpy, show i < cap by omega]
theorem al_cap_lt {n cap : Nat} (h : n < cap) : al_cap n cap = cap := if_pos h
theorem al_cap_eq {cap : Nat} : al_cap cap cap = al_nc cap (cap + 1) := by
  unfold al_cap al_nc
  rw [if_neg (Nat.lt_irrefl _)]
  by_cases h : cap = 0
  · rw [if_pos h, if_pos h]; omega
  · rw [if_neg h, if_neg h]; congr 2; omega
/-- the cells that an add makes: none where there is room -/
def al_mk (n cap : Nat) : Nat := if n < cap then 0 else 1
def al_ms (n cap : Nat) : Nat := if n < cap then 0 else al_cap n cap

set_option maxHeartbeats 4000000 in
set_option maxRecDepth 100000 in
theorem c_J2_add_2 (l : Launch) (Z : mm_G) {M : mm_M} {a ar cap : Nat} {md : Int32} {f : Nat → Option Nat} {xs : List (Option Nat)} {r : Option Nat} (ha : M a = some (al_E md ar xs.length)) (har : M ar = some (al_A Z cap f)) (hl1 : xs.length ≤ cap) (hc : cap < 2 ^ 18) (h0 : cap = 0 → ar = Z.2.2.1 2) (hf : ∀ i : Nat, i < xs.length → xs[i]? = some (f i)) (hxs : ∀ y ∈ xs, mm_ok M y) (hr9 : mm_ok M r) : mm_C l Z yJ2_add_2 (ws_ yJ2_add_2 cJ2_add_2 4 none) { frames := 5, cells := al_mk xs.length cap, slots := al_ms xs.length cap, locals := 210 } [.ref a, va_rf r, .ref ar, .int (nI xs.length)] M (fun v M' => v = none ∧ ∃ ar' : Nat, (∃ f' : Nat → Option Nat, M' a = some (al_E md ar' (xs.length + 1)) ∧ M' ar' = some (al_A Z (al_cap xs.length cap) f') ∧ (∀ i : Nat, i < (xs ++ [r]).length → (xs ++ [r])[i]? = some (f' i))) ∧ (∀ q : Nat, q ≠ a → q ≠ ar' → M' q = M q) ∧ (ar' = ar ∧ xs.length < cap ∨ M ar' = none)) mm_nx := by
  refine mm_ofW (cc := cJ2_add_2) (maxL := 4) (ret := none) (by decide) rfl (by simp [lg_sl, mm_cat_o, mm_cat_r, mm_cat_i, mm_cat_l, mm_cat_n]) ?_
  intro p e s m below meth c A ls hx hb hr hlk hml hown hmn hts htab hE hST hA hM hS hl
  replace hl : lv_has ls 4 [(0, .ref a), (1, va_rf r), (2, .ref ar), (3, .int (nI xs.length))] := by simpa [lv_args, mm_cat_o, mm_cat_r, mm_cat_i, mm_cat_l, mm_cat_n] using hl
  refine lv_iload_n hx hb dJ2_add_2_0 rfl (lv_at hl 3 rfl) ?_
  refine lv_aload_n hx hb dJ2_add_2_1 rfl (lv_at hl 2 rfl) ?_
  refine mm_alen hx hb hE hM 3 har rfl dJ2_add_2_2 ?_
  refine lv_icmp_ne (tgt := 11) hx hb dJ2_add_2_3 (by decide) (fun c_1 => ?_) (fun c_1 => ?_)
  · have hn : xs.length ≠ cap := fun h9 => c_1 ((nI_eq (by omega) (by omega)).2 h9)
    have hcap : al_cap xs.length cap = cap := al_cap_lt (by omega)
    refine lv_aload_n hx hb dJ2_add_2_11 rfl (lv_at hl 2 rfl) ?_
    refine lv_iload_n hx hb dJ2_add_2_12 rfl (lv_at hl 3 rfl) ?_
    refine mm_aload_n hx hb dJ2_add_2_13 rfl (lv_at hl 1 rfl) ?_
    refine mm_aastK (r := r) (k := xs.length) hx hb hE hM hS har hr9 rfl (by omega) (by omega) dJ2_add_2_14 (fun H locs hM hS => ?_)
    have hM : mm_P Z.1 mm_cl A (mm_U M ar (.inl (Z.2.1 3, cap, .inr (.inr (.inr (.inr (va_up f xs.length r))))))) H := hM
    have hc_2 : (mm_U M ar (.inl (Z.2.1 3, cap, .inr (.inr (.inr (.inr (va_up f xs.length r))))))) ar = some (.inl (Z.2.1 3, cap, .inr (.inr (.inr (.inr (va_up f xs.length r)))))) := mm_U_eq
    have hc_3 : (mm_U M ar (.inl (Z.2.1 3, cap, .inr (.inr (.inr (.inr (va_up f xs.length r))))))) a = some (.inr (41, [.int md, .ref ar, .int (nI xs.length)])) := (mm_U_ne (Ne.symm (mm_neA har ha))).trans ha
    obtain ⟨M_4, eM_4⟩ : ∃ z, z = mm_U M ar (.inl (Z.2.1 3, cap, .inr (.inr (.inr (.inr (va_up f xs.length r)))))) := ⟨_, rfl⟩
    rw [← eM_4] at hM hc_3 hc_2
    refine lv_aload_n hx hb dJ2_add_2_15 rfl (lv_at hl 0 rfl) ?_
    refine lv_iload_n hx hb dJ2_add_2_16 rfl (lv_at hl 3 rfl) ?_
    refine lv_iconst (v := 1) hx hb dJ2_add_2_17 (by decide) ?_
    refine lv_iadd hx hb dJ2_add_2_18 ?_
    rw [show ((nI xs.length) + 1 : Int32) = nI (xs.length + 1) from nI_1 _]
    refine mm_put (D := Z.1) (ci := 41) (v := .int (nI (xs.length + 1))) (ty := .int) (C := RJ2) (T := TJ2) (N := 3) hx hb hts in_J2 tyJ2 tyJ2_ok nmJ2 hown hE.1 hM hS hc_3 mm_cJ2 2 (by decide) (hts _ q146) (fun _ h9 => h9) rfl (by decide +kernel) rfl rfl (Nat.le_of_ble_eq_true rfl) dJ2_add_2_19 (fun H locs hM hS => ?_)
    have hM : mm_P Z.1 mm_cl A (mm_U M_4 a (.inr (41, [.int md, .ref ar, .int (nI (xs.length + 1))]))) H := hM
    have hc_5 : (mm_U M_4 a (.inr (41, [.int md, .ref ar, .int (nI (xs.length + 1))]))) a = some (.inr (41, [.int md, .ref ar, .int (nI (xs.length + 1))])) := mm_U_eq
    have hc_6 : (mm_U M_4 a (.inr (41, [.int md, .ref ar, .int (nI (xs.length + 1))]))) ar = some (.inl (Z.2.1 3, cap, .inr (.inr (.inr (.inr (va_up f xs.length r)))))) := (mm_U_ne (mm_neA hc_2 hc_3)).trans hc_2
    obtain ⟨M_7, eM_7⟩ : ∃ z, z = mm_U M_4 a (.inr (41, [.int md, .ref ar, .int (nI (xs.length + 1))])) := ⟨_, rfl⟩
    rw [← eM_7] at hM hc_5 hc_6
    exact mm_retv hx hb hr hlk hM hS ⟨rfl, ar, ⟨va_up f xs.length r, hc_5, by rw [hcap]; exact hc_6, al_up hf⟩, fun q h1 h2 => by rw [eM_7, mm_U_ne h1, eM_4, mm_U_ne h2], Or.inl ⟨rfl, by omega⟩⟩ dJ2_add_2_22 (Nat.zero_le _) (Nat.zero_le _)
  · have hn : xs.length = cap := (nI_eq (by omega) (by omega)).1 c_1
    have hcap : al_cap xs.length cap = al_nc cap (xs.length + 1) := by rw [hn]; exact al_cap_eq
    have hmk : al_mk xs.length cap = 1 := if_neg (by omega)
    have hms : al_ms xs.length cap = al_nc cap (xs.length + 1) := (if_neg (by omega)).trans hcap
    have hnc := al_nc_lt (cap := cap) (mm := xs.length + 1) (by omega) (by omega) (by omega)
    refine lv_aload_n hx hb dJ2_add_2_6 rfl (lv_at hl 0 rfl) ?_
    refine mm_callV (As := []) (rest := []) ⟨hx, hb, hml, hown, hts⟩ hE hST hA (c_J2_grow l Z ha har (by omega) h0 (by omega) (by omega) (fun i hi => hxs _ (List.mem_of_getElem? (hf i (by omega))))) (cwV 0 hts (lw_V q342 q344 qs3 q53 q345) rfl rfl rfl (by decide +kernel) ⟨(Nat.le_of_ble_eq_true rfl), (Nat.le_of_ble_eq_true rfl)⟩) hM hS mm_cJ2 ha rfl hl.1 (Nat.le_of_ble_eq_true rfl) dJ2_add_2_7 rfl ⟨(by dsimp only; omega), (by dsimp only; omega)⟩ (fun _ _ _ _ _ _ h9 => h9.elim) (fun v_2 M_3 H locs hp_4 hM hS => ?_)
    obtain ⟨q9, hq9, rfl, eM9⟩ := hp_4
    have hne9 : a ≠ q9 := mm_neN ha hq9
    have hc9 : M_3 a = some (al_E md q9 xs.length) := by rw [eM9]; exact mm_U_eq
    have hc8 : M_3 q9 = some (al_A Z (al_nc cap (xs.length + 1)) (va_cpy f (fun _ => none) 0 0 cap)) := by rw [eM9, mm_U_ne (Ne.symm hne9)]; exact mm_U_eq
    have hr8 : mm_ok M_3 r := by rw [eM9]; exact mm_ok.obj (mm_ok.new hr9 hq9)
    refine lv_astore_n (lv' := [(2, .ref q9), (0, .ref a), (1, va_rf r), (3, .int (nI xs.length))]) hx hb dJ2_add_2_10 rfl hl (by decide) (by simp [mm_cat_o, mm_cat_r, mm_cat_i, mm_cat_n, mm_cat_l] <;> decide) (fun ls hl => ?_)
    refine lv_aload_n hx hb dJ2_add_2_11 rfl (lv_at hl 0 rfl) ?_
    refine lv_iload_n hx hb dJ2_add_2_12 rfl (lv_at hl 3 rfl) ?_
    refine mm_aload_n hx hb dJ2_add_2_13 rfl (lv_at hl 2 rfl) ?_
    refine mm_aastK (r := r) (k := xs.length) hx hb hE hM hS hc8 hr8 rfl (by omega) (by omega) dJ2_add_2_14 (fun H locs hM hS => ?_)
    have hM : mm_P Z.1 mm_cl A (mm_U M_3 q9 (.inl (Z.2.1 3, (al_nc cap (xs.length + 1)), .inr (.inr (.inr (.inr (va_up (va_cpy f (fun _ => none) 0 0 cap) xs.length r))))))) H := hM
    have hc_5 : (mm_U M_3 q9 (.inl (Z.2.1 3, (al_nc cap (xs.length + 1)), .inr (.inr (.inr (.inr (va_up (va_cpy f (fun _ => none) 0 0 cap) xs.length r))))))) q9 = some (.inl (Z.2.1 3, (al_nc cap (xs.length + 1)), .inr (.inr (.inr (.inr (va_up (va_cpy f (fun _ => none) 0 0 cap) xs.length r)))))) := mm_U_eq
    have hc_6 : (mm_U M_3 q9 (.inl (Z.2.1 3, (al_nc cap (xs.length + 1)), .inr (.inr (.inr (.inr (va_up (va_cpy f (fun _ => none) 0 0 cap) xs.length r))))))) a = some (.inr (41, [.int md, .ref q9, .int (nI xs.length)])) := (mm_U_ne (Ne.symm (mm_neA hc8 hc9))).trans hc9
    obtain ⟨M_7, eM_7⟩ : ∃ z, z = mm_U M_3 q9 (.inl (Z.2.1 3, (al_nc cap (xs.length + 1)), .inr (.inr (.inr (.inr (va_up (va_cpy f (fun _ => none) 0 0 cap) xs.length r)))))) := ⟨_, rfl⟩
    rw [← eM_7] at hM hc_6 hc_5
    refine lv_aload_n hx hb dJ2_add_2_15 rfl (lv_at hl 1 rfl) ?_
    refine lv_iload_n hx hb dJ2_add_2_16 rfl (lv_at hl 3 rfl) ?_
    refine lv_iconst (v := 1) hx hb dJ2_add_2_17 (by decide) ?_
    refine lv_iadd hx hb dJ2_add_2_18 ?_
    rw [show ((nI xs.length) + 1 : Int32) = nI (xs.length + 1) from nI_1 _]
    refine mm_put (D := Z.1) (ci := 41) (v := .int (nI (xs.length + 1))) (ty := .int) (C := RJ2) (T := TJ2) (N := 3) hx hb hts in_J2 tyJ2 tyJ2_ok nmJ2 hown hE.1 hM hS hc_6 mm_cJ2 2 (by decide) (hts _ q146) (fun _ h9 => h9) rfl (by decide +kernel) rfl rfl (Nat.le_of_ble_eq_true rfl) dJ2_add_2_19 (fun H locs hM hS => ?_)
    have hM : mm_P Z.1 mm_cl A (mm_U M_7 a (.inr (41, [.int md, .ref q9, .int (nI (xs.length + 1))]))) H := hM
    have hc_8 : (mm_U M_7 a (.inr (41, [.int md, .ref q9, .int (nI (xs.length + 1))]))) a = some (.inr (41, [.int md, .ref q9, .int (nI (xs.length + 1))])) := mm_U_eq
    have hc_9 : (mm_U M_7 a (.inr (41, [.int md, .ref q9, .int (nI (xs.length + 1))]))) q9 = some (.inl (Z.2.1 3, (al_nc cap (xs.length + 1)), .inr (.inr (.inr (.inr (va_up (va_cpy f (fun _ => none) 0 0 cap) xs.length r)))))) := (mm_U_ne (mm_neA hc_5 hc_6)).trans hc_5
    obtain ⟨M_10, eM_10⟩ : ∃ z, z = mm_U M_7 a (.inr (41, [.int md, .ref q9, .int (nI (xs.length + 1))])) := ⟨_, rfl⟩
    rw [← eM_10] at hM hc_8 hc_9
    exact mm_retv hx hb hr hlk hM hS ⟨rfl, q9, ⟨va_up (va_cpy f (fun _ => none) 0 0 cap) xs.length r, hc_8, by rw [hcap]; exact hc_9, al_up (al_cp hl1 hf)⟩, fun q h1 h2 => by rw [eM_10, mm_U_ne h1, eM_7, mm_U_ne h2, eM9, mm_U_ne h1, mm_U_ne h2], Or.inr hq9⟩ dJ2_add_2_22 (by dsimp only; omega) (by dsimp only; omega)
theorem AL.of {Z : mm_G} {M : mm_M} {a ar cap : Nat} {md : Int32} {f : Nat → Option Nat} {xs : List (Option Nat)} (h1 : M a = some (al_E md ar xs.length)) (h2 : M ar = some (al_A Z cap f)) (h3 : xs.length ≤ cap) (h4 : cap < 2 ^ 20) (h5 : cap = 0 → ar = Z.2.2.1 2) (h6 : ∀ i : Nat, i < xs.length → xs[i]? = some (f i)) : AL Z M a ar cap xs := ⟨md, f, h1, h2, h3, h4, h5, h6⟩
theorem al_cap_b {n cap : Nat} (h : n ≤ cap) (hc : cap < 2 ^ 18) : n + 1 ≤ al_cap n cap ∧ al_cap n cap < 2 ^ 20 ∧ al_cap n cap ≠ 0 := by
  unfold al_cap
  by_cases h1 : n < cap
  · rw [if_pos h1]; omega
  · rw [if_neg h1]
    by_cases h2 : cap = 0
    · rw [if_pos h2]; omega
    · rw [if_neg h2]; omega

set_option maxHeartbeats 4000000 in
set_option maxRecDepth 100000 in
theorem c_J2_add (l : Launch) (Z : mm_G) {M : mm_M} {a ar cap : Nat} {xs : List (Option Nat)} {r : Option Nat} (hA9 : AL Z M a ar cap xs) (hc : cap < 2 ^ 18) (hxs : ∀ y ∈ xs, mm_ok M y) (hr9 : mm_ok M r) : mm_C l Z yJ2_add (ws_ yJ2_add cJ2_add 2 (some .boolean)) { frames := 6, cells := al_mk xs.length cap, slots := al_ms xs.length cap, locals := 240 } [.ref a, va_rf r] M (fun v M' => v = some (.int 1) ∧ ∃ ar' : Nat, AL Z M' a ar' (al_cap xs.length cap) (xs ++ [r]) ∧ (∀ q : Nat, q ≠ a → q ≠ ar' → M' q = M q) ∧ (ar' = ar ∧ xs.length < cap ∨ M ar' = none)) mm_nx := by
  refine mm_ofW (cc := cJ2_add) (maxL := 2) (ret := (some .boolean)) (by decide) rfl (by simp [lg_sl, mm_cat_o, mm_cat_r, mm_cat_i, mm_cat_l, mm_cat_n]) ?_
  intro p e s m below meth c A ls hx hb hr hlk hml hown hmn hts htab hE hST hA hM hS hl
  replace hl : lv_has ls 2 [(0, .ref a), (1, va_rf r)] := by simpa [lv_args, mm_cat_o, mm_cat_r, mm_cat_i, mm_cat_l, mm_cat_n] using hl
  obtain ⟨md, f, ha, har, hl1, -, h0, hf⟩ := hA9
  refine lv_aload_n hx hb dJ2_add_0 rfl (lv_at hl 0 rfl) ?_
  refine lv_dup hx hb dJ2_add_1 rfl ?_
  refine va_get (D := Z.1) (ci := 41) (v := .int md) (C := RJ2) (T := TJ2) (N := 3) hx hb hts in_J2 hown hE.1 (hM.at ha) 0 rfl mm_cJ2 0 (by decide) (hts _ q150) (fun x9 h9 => u_same (hts _ q149) x9 h9) rfl dJ2_add_2 ?_
  refine lv_iconst (v := 1) hx hb dJ2_add_5 (by decide) ?_
  refine lv_iadd hx hb dJ2_add_6 ?_
  refine mm_put (D := Z.1) (ci := 41) (v := .int (md + 1)) (ty := .int) (C := RJ2) (T := TJ2) (N := 3) hx hb hts in_J2 tyJ2 tyJ2_ok nmJ2 hown hE.1 hM hS ha mm_cJ2 0 (by decide) (hts _ q150) (fun x9 h9 => u_same (hts _ q149) x9 h9) rfl (by decide +kernel) rfl rfl (Nat.le_of_ble_eq_true rfl) dJ2_add_7 (fun H locs hM hS => ?_)
  have hM : mm_P Z.1 mm_cl A (mm_U M a (.inr (41, [.int (md + 1), .ref ar, .int (nI xs.length)]))) H := hM
  have hc_1 : (mm_U M a (.inr (41, [.int (md + 1), .ref ar, .int (nI xs.length)]))) a = some (.inr (41, [.int (md + 1), .ref ar, .int (nI xs.length)])) := mm_U_eq
  have hc_2 : (mm_U M a (.inr (41, [.int (md + 1), .ref ar, .int (nI xs.length)]))) ar = some (.inl (Z.2.1 3, cap, .inr (.inr (.inr (.inr f))))) := (mm_U_ne (mm_neA har ha)).trans har
  obtain ⟨M_3, eM_3⟩ : ∃ z, z = mm_U M a (.inr (41, [.int (md + 1), .ref ar, .int (nI xs.length)])) := ⟨_, rfl⟩
  rw [← eM_3] at hM hc_1 hc_2
  refine lv_aload_n hx hb dJ2_add_10 rfl (lv_at hl 0 rfl) ?_
  refine mm_aload_n hx hb dJ2_add_11 rfl (lv_at hl 1 rfl) ?_
  refine lv_aload_n hx hb dJ2_add_12 rfl (lv_at hl 0 rfl) ?_
  refine va_get (D := Z.1) (ci := 41) (v := .ref ar) (C := RJ2) (T := TJ2) (N := 3) hx hb hts in_J2 hown hE.1 (hM.at hc_1) 0 rfl mm_cJ2 1 (by decide) (hts _ q143) (fun _ h9 => h9) rfl dJ2_add_13 ?_
  refine lv_aload_n hx hb dJ2_add_16 rfl (lv_at hl 0 rfl) ?_
  refine va_get (D := Z.1) (ci := 41) (v := .int (nI xs.length)) (C := RJ2) (T := TJ2) (N := 3) hx hb hts in_J2 hown hE.1 (hM.at hc_1) 0 rfl mm_cJ2 2 (by decide) (hts _ q146) (fun _ h9 => h9) rfl dJ2_add_17 ?_
  have hxs1 : ∀ y ∈ xs, mm_ok M_3 y := fun y hy => by rw [eM_3]; exact mm_ok.obj (hxs y hy)
  have hr1 : mm_ok M_3 r := by rw [eM_3]; exact mm_ok.obj hr9
  refine mm_callV (As := [va_rf r, .ref ar, .int (nI xs.length)]) (rest := []) ⟨hx, hb, hml, hown, hts⟩ hE hST hA (c_J2_add_2 l Z (M := M_3) hc_1 hc_2 hl1 hc h0 hf hxs1 hr1) (cwV 3 hts (lw_V q338 q340 qs2 q53 q341) rfl rfl rfl (by decide +kernel) ⟨(Nat.le_of_ble_eq_true rfl), (Nat.le_of_ble_eq_true rfl)⟩) hM hS mm_cJ2 hc_1 rfl hl.1 (Nat.le_of_ble_eq_true rfl) dJ2_add_20 rfl ⟨(by dsimp only; omega), (by dsimp only; omega)⟩ (fun _ _ _ _ _ _ h9 => h9.elim) (fun v_4 M_5 H locs hp_6 hM hS => ?_)
  obtain ⟨rfl, ar9, ⟨f9, k1, k2, k3⟩, k4, k5⟩ := hp_6
  refine lv_iconst (v := 1) hx hb dJ2_add_23 (by decide) ?_
  have hb9 := al_cap_b hl1 hc
  exact mm_retz hx hb hr rfl hlk hM hS ⟨rfl, ar9, AL.of (by rw [List.length_append]; exact k1) k2 (by rw [List.length_append]; exact hb9.1) hb9.2.1 (fun h9 => absurd h9 hb9.2.2) k3, fun q h1 h2 => by rw [k4 q h1 h2, eM_3, mm_U_ne h1], k5.imp id (fun h9 => (mm_U_none (eM_3 ▸ h9)).2)⟩ dJ2_add_24 (by dsimp only; omega) (by dsimp only; omega)
