/-! ===== ArrayList.indexOf, contains ===== -/
set_option maxRecDepth 100000
/-- the place of o in xs, as indexOf answers it -/
def al_Ix (xs : List (Option Nat)) (o : Nat) (x : Int32) : Prop := (∃ j : Nat, x = nI j ∧ xs[j]? = some (some o) ∧ ∀ i : Nat, i < j → xs[i]? ≠ some (some o)) ∨ (x = -1 ∧ ∀ i : Nat, xs[i]? ≠ some (some o))

theorem mm_abs {p : Program} {l : Launch} {e : Env} {R : Room} {s : State} {m : MethodId} {args : Array Value} {below : List Frame} {meth : Method} {c : Code} {H0 : Heap} {l0 : List Loc} {cells slots : Nat} {Q : State → Prop} {g : JFrame} {A : Nat → Prop} {M : mm_M} {Z : mm_G} (h0 : mm_P Z.1 mm_cl A M H0) (h1 : va_S A s.heap H0 l0) (h : ∀ (H : Heap) (locs : List Loc), mm_P Z.1 mm_cl A M H → va_S A s.heap H locs → W p l e R s m args below meth c H locs cells slots Q g) : W p l e R s m args below meth c H0 l0 cells slots Q g := h _ _ h0 h1

set_option maxHeartbeats 4000000 in
set_option maxRecDepth 100000 in
theorem c_J2_indexOfRange_X11 (l : Launch) (Z : mm_G) {M : mm_M} {a ar cap o : Nat} {xs : List (Option Nat)} {fs9 : List Value} (hA9 : AL Z M a ar cap xs) (ho9 : M o = some (.inr (9, fs9))) : mm_C l Z yJ2_indexOfRange (ws_ yJ2_indexOfRange cJ2_indexOfRange 6 (some .int)) { frames := 1, cells := 0, slots := 0, locals := 60 } [.ref a, .ref o, .int 0, .int (nI xs.length)] M (fun v M' => (∃ x : Int32, v = some (.int x) ∧ al_Ix xs o x) ∧ M' = M) mm_nx := by
  refine mm_ofW (cc := cJ2_indexOfRange) (maxL := 6) (ret := (some .int)) (by decide) rfl (Nat.le_of_ble_eq_true rfl) ?_
  intro p e s m below meth c A ls hx hb hr hlk hml hown hmn hts htab hE hST hA hM hS hl
  replace hl : lv_has ls 6 [(0, .ref a), (1, .ref o), (2, .int 0), (3, .int (nI xs.length))] := hl
  obtain ⟨md, f, ha, har, hl1, hcap, h0, hf⟩ := hA9
  refine lv_aload_n hx hb dJ2_indexOfRange_0 rfl (lv_at hl 0 rfl) ?_
  refine va_get (D := Z.1) (ci := 41) (v := .ref ar) (C := RJ2) (T := TJ2) (N := 3) hx hb hts in_J2 hown hE.1 (hM.at ha) 0 rfl mm_cJ2 1 (by decide) (hts _ q143) (fun _ h9 => h9) rfl dJ2_indexOfRange_1 ?_
  refine lv_astore hx hb dJ2_indexOfRange_4 hl (by decide) rfl (fun ls hl => ?_)
  replace hl : lv_has ls 6 [(4, .ref ar), (0, .ref a), (1, .ref o), (2, .int 0), (3, .int (nI xs.length))] := hl
  refine lv_aload_n hx hb dJ2_indexOfRange_6 rfl (lv_at hl 2 rfl) ?_
  refine lv_ifnonnull (tgt := 39) hx hb dJ2_indexOfRange_7 (by decide) ?_
  refine lv_iload_n hx hb dJ2_indexOfRange_39 rfl (lv_at hl 3 rfl) ?_
  refine lv_istore hx hb dJ2_indexOfRange_40 hl (by decide) rfl (fun ls hl => ?_)
  replace hl : lv_has ls 6 [(5, .int 0), (4, .ref ar), (0, .ref a), (1, .ref o), (2, .int 0), (3, .int (nI xs.length))] := hl
  obtain ⟨j, ej⟩ : ∃ j : Nat, j = 0 := ⟨_, rfl⟩
  replace hl : lv_has ls 6 [(5, .int (nI j)), (4, .ref ar), (0, .ref a), (1, .ref o), (2, .int 0), (3, .int (nI xs.length))] := by rw [ej, nI_0]; exact hl
  have hj : j ≤ xs.length := by omega
  have hn9 : ∀ i : Nat, i < j → xs[i]? ≠ some (some o) := by intro i hi; omega
  clear ej
  generalize hk : xs.length - j = k9
  refine mm_abs hM hS (fun H locs hM hS => ?_)
  induction k9 generalizing j ls H locs with
  | zero =>
    refine lv_iload hx hb dJ2_indexOfRange_42 (lv_at hl 0 rfl) ?_
    refine lv_iload_n hx hb dJ2_indexOfRange_44 rfl (lv_at hl 5 rfl) ?_
    refine lv_icmp_ge (tgt := 69) hx hb dJ2_indexOfRange_45 (by decide) (fun _ => ?_) (fun h9 => absurd (by rw [show j = xs.length by omega]; exact Int32.le_refl _) h9)
    refine lv_iconst (v := -1) hx hb dJ2_indexOfRange_69 (by decide) ?_
    exact mm_reti hx hb hr hlk hM hS ⟨⟨_, rfl, Or.inr ⟨rfl, fun i h => by by_cases hi : i < j; exact hn9 i hi h; rw [List.getElem?_eq_none (by omega)] at h; cases h⟩⟩, rfl⟩ dJ2_indexOfRange_70 (Nat.le_of_ble_eq_true rfl) (Nat.le_of_ble_eq_true rfl)
  | succ k9 ih =>
    have hj2 : j < xs.length := by omega
    refine lv_iload hx hb dJ2_indexOfRange_42 (lv_at hl 0 rfl) ?_
    refine lv_iload_n hx hb dJ2_indexOfRange_44 rfl (lv_at hl 5 rfl) ?_
    refine lv_icmp_ge (tgt := 69) hx hb dJ2_indexOfRange_45 (by decide) (fun h9 => absurd h9 (nI_ge hj2 (by omega))) (fun _ => ?_)
    refine lv_aload_n hx hb dJ2_indexOfRange_48 rfl (lv_at hl 3 rfl) ?_
    refine lv_aload hx hb dJ2_indexOfRange_49 (lv_at hl 1 rfl) ?_
    refine lv_iload hx hb dJ2_indexOfRange_51 (lv_at hl 0 rfl) ?_
    refine mm_aald (k := j) hx hb hE hM 3 har rfl rfl (by omega) (by omega) dJ2_indexOfRange_53 ?_
    refine mm_callU (As := [va_rf (f j)]) (rest := []) ⟨hx, hb, hml, hown, hts⟩ hE hST hA (c_J22_equals l Z) (va_cwU (x := ⟨"java/lang/Object", "equals", "(Ljava/lang/Object;)Z"⟩) (C := RX11) (owner := "java/lang/Object") 1 hts (lw_app (lw_in _ [737, 739, 763, 738, 2864] (by decide +kernel) (by decide +kernel)) (lw_meth q799)) rfl rfl rfl rfl (by decide +kernel) ⟨(Nat.le_of_ble_eq_true rfl), (Nat.le_of_ble_eq_true rfl)⟩) hM hS mm_cX11 ho9 rfl hl.1 (Nat.le_of_ble_eq_true rfl) dJ2_indexOfRange_54 rfl ⟨(Nat.le_of_ble_eq_true rfl), (Nat.le_of_ble_eq_true rfl)⟩ (fun _ _ _ _ _ _ h9 => h9.elim) (fun v_1 M_2 H locs hp_3 hM hS => ?_)
    obtain ⟨rfl, eM_2⟩ := hp_3
    rw [eM_2] at hM
    refine lv_if_eq (tgt := 63) hx hb dJ2_indexOfRange_57 (by decide) (fun c_4 => ?_) (fun c_4 => ?_)
    · have h8 : ¬ some o = f j := by have := (mm_b_0 _).1 c_4; simpa using this
      obtain ⟨x_5, ex_5⟩ : ∃ z : Int32, z = (nI j) + 1 := ⟨_, rfl⟩
      refine lv_iinc (v := x_5) (lv' := [(5, .int x_5), (4, .ref ar), (0, .ref a), (1, .ref o), (2, .int 0), (3, .int (nI xs.length))]) hx hb dJ2_indexOfRange_63 hl (k := 0) rfl (by rw [ex_5]; rfl) (by decide) rfl (fun ls hl => ?_)
      refine lv_goto (tgt := 42) hx hb dJ2_indexOfRange_66 (by decide) ?_
      replace hl : lv_has ls 6 [(5, .int (nI (j + 1))), (4, .ref ar), (0, .ref a), (1, .ref o), (2, .int 0), (3, .int (nI xs.length))] := by rw [← nI_1, ← ex_5]; exact hl
      have hn8 : ∀ i : Nat, i < j + 1 → xs[i]? ≠ some (some o) := by
        intro i hi h
        by_cases hij : i = j
        · rw [hij, hf j hj2] at h; exact h8 (Option.some.inj h).symm
        · exact hn9 i (by omega) h
      apply ih (j := j + 1) <;> first | exact hl | exact hn8 | exact hM | exact hS | omega
    · have h8 : some o = f j := by by_cases h : some o = f j; exact h; exact absurd (by rw [decide_eq_false h]; rfl) c_4
      refine lv_iload hx hb dJ2_indexOfRange_60 (lv_at hl 0 rfl) ?_
      exact mm_reti hx hb hr hlk hM hS ⟨⟨_, rfl, Or.inl ⟨j, rfl, by rw [hf j hj2, ← h8], hn9⟩⟩, rfl⟩ dJ2_indexOfRange_62 (Nat.le_of_ble_eq_true rfl) (Nat.le_of_ble_eq_true rfl)
set_option maxHeartbeats 4000000 in
set_option maxRecDepth 100000 in
theorem c_J2_indexOf_X11 (l : Launch) (Z : mm_G) {M : mm_M} {a ar cap o : Nat} {xs : List (Option Nat)} {fs9 : List Value} (hA9 : AL Z M a ar cap xs) (ho9 : M o = some (.inr (9, fs9))) : mm_C l Z yJ2_indexOf (ws_ yJ2_indexOf cJ2_indexOf 2 (some .int)) { frames := 2, cells := 0, slots := 0, locals := 100 } [.ref a, .ref o] M (fun v M' => (∃ x : Int32, v = some (.int x) ∧ al_Ix xs o x) ∧ M' = M) mm_nx := by
  refine mm_ofW (cc := cJ2_indexOf) (maxL := 2) (ret := (some .int)) (by decide) rfl (Nat.le_of_ble_eq_true rfl) ?_
  intro p e s m below meth c A ls hx hb hr hlk hml hown hmn hts htab hE hST hA hM hS hl
  replace hl : lv_has ls 2 [(0, .ref a), (1, .ref o)] := hl
  have hA8 := hA9
  obtain ⟨md, f, ha, har, hl1, hcap, h0, hf⟩ := hA9
  refine lv_aload_n hx hb dJ2_indexOf_0 rfl (lv_at hl 0 rfl) ?_
  refine lv_aload_n hx hb dJ2_indexOf_1 rfl (lv_at hl 1 rfl) ?_
  refine lv_iconst (v := 0) hx hb dJ2_indexOf_2 (by decide) ?_
  refine lv_aload_n hx hb dJ2_indexOf_3 rfl (lv_at hl 0 rfl) ?_
  refine va_get (D := Z.1) (ci := 41) (v := .int (nI xs.length)) (C := RJ2) (T := TJ2) (N := 3) hx hb hts in_J2 hown hE.1 (hM.at ha) 0 rfl mm_cJ2 2 (by decide) (hts _ q146) (fun _ h9 => h9) rfl dJ2_indexOf_4 ?_
  refine mm_callV (As := [.ref o, .int 0, .int (nI xs.length)]) (rest := []) ⟨hx, hb, hml, hown, hts⟩ hE hST hA (c_J2_indexOfRange_X11 l Z hA8 ho9) (cwV 3 hts (lw_V q732 q733 q734 q53 q735) rfl rfl rfl (by decide +kernel) ⟨(Nat.le_of_ble_eq_true rfl), (Nat.le_of_ble_eq_true rfl)⟩) hM hS mm_cJ2 ha rfl hl.1 (Nat.le_of_ble_eq_true rfl) dJ2_indexOf_7 rfl ⟨(Nat.le_of_ble_eq_true rfl), (Nat.le_of_ble_eq_true rfl)⟩ (fun _ _ _ _ _ _ h9 => h9.elim) (fun v_1 M_2 H locs hp_3 hM hS => ?_)
  obtain ⟨⟨x9, rfl, hx9⟩, eM_2⟩ := hp_3
  rw [eM_2] at hM
  exact mm_reti hx hb hr hlk hM hS ⟨⟨_, rfl, hx9⟩, rfl⟩ dJ2_indexOf_10 (Nat.le_of_ble_eq_true rfl) (Nat.le_of_ble_eq_true rfl)
set_option maxHeartbeats 4000000 in
set_option maxRecDepth 100000 in
theorem c_J2_contains_X11 (l : Launch) (Z : mm_G) {M : mm_M} {a ar cap o : Nat} {xs : List (Option Nat)} {fs9 : List Value} (hA9 : AL Z M a ar cap xs) (ho9 : M o = some (.inr (9, fs9))) : mm_C l Z yJ2_contains (ws_ yJ2_contains cJ2_contains 2 (some .boolean)) { frames := 3, cells := 0, slots := 0, locals := 140 } [.ref a, .ref o] M (fun v M' => v = some (.int (mm_b (decide (some o ∈ xs)))) ∧ M' = M) mm_nx := by
  refine mm_ofW (cc := cJ2_contains) (maxL := 2) (ret := (some .boolean)) (by decide) rfl (Nat.le_of_ble_eq_true rfl) ?_
  intro p e s m below meth c A ls hx hb hr hlk hml hown hmn hts htab hE hST hA hM hS hl
  replace hl : lv_has ls 2 [(0, .ref a), (1, .ref o)] := hl
  have hA8 := hA9
  obtain ⟨md, f, ha, har, hl1, hcap, h0, hf⟩ := hA9
  refine lv_aload_n hx hb dJ2_contains_0 rfl (lv_at hl 0 rfl) ?_
  refine lv_aload_n hx hb dJ2_contains_1 rfl (lv_at hl 1 rfl) ?_
  refine mm_callV (As := [.ref o]) (rest := []) ⟨hx, hb, hml, hown, hts⟩ hE hST hA (c_J2_indexOf_X11 l Z hA8 ho9) (cwV 1 hts (lw_V q2707 q729 q730 q53 q731) rfl rfl rfl (by decide +kernel) ⟨(Nat.le_of_ble_eq_true rfl), (Nat.le_of_ble_eq_true rfl)⟩) hM hS mm_cJ2 ha rfl hl.1 (Nat.le_of_ble_eq_true rfl) dJ2_contains_2 rfl ⟨(Nat.le_of_ble_eq_true rfl), (Nat.le_of_ble_eq_true rfl)⟩ (fun _ _ _ _ _ _ h9 => h9.elim) (fun v_1 M_2 H locs hp_3 hM hS => ?_)
  obtain ⟨⟨x9, rfl, hx9⟩, eM_2⟩ := hp_3
  rw [eM_2] at hM
  refine lv_if_lt (tgt := 12) hx hb dJ2_contains_5 (by decide) (fun c_4 => ?_) (fun c_4 => ?_)
  · have e9 : decide (some o ∈ xs) = false := by
      rcases hx9 with ⟨j, rfl, h1, -⟩ | ⟨-, h1⟩
      · have := (List.getElem?_eq_some_iff.1 h1).1; exact absurd c_4 (nI_pos (by omega))
      · exact decide_eq_false (fun h => by obtain ⟨i, hi⟩ := List.mem_iff_getElem?.1 h; exact h1 i hi)
    refine lv_iconst (v := 0) hx hb dJ2_contains_12 (by decide) ?_
    exact mm_retz hx hb hr rfl hlk hM hS ⟨by rw [e9]; rfl, rfl⟩ dJ2_contains_13 (Nat.le_of_ble_eq_true rfl) (Nat.le_of_ble_eq_true rfl)
  · have e9 : decide (some o ∈ xs) = true := by
      rcases hx9 with ⟨j, rfl, h1, -⟩ | ⟨h1, -⟩
      · exact decide_eq_true (List.mem_of_getElem? h1)
      · exact absurd (by rw [h1]; decide) c_4
    refine lv_iconst (v := 1) hx hb dJ2_contains_8 (by decide) ?_
    refine lv_goto (tgt := 13) hx hb dJ2_contains_9 (by decide) ?_
    exact mm_retz hx hb hr rfl hlk hM hS ⟨by rw [e9]; rfl, rfl⟩ dJ2_contains_13 (Nat.le_of_ble_eq_true rfl) (Nat.le_of_ble_eq_true rfl)
set_option maxHeartbeats 4000000 in
set_option maxRecDepth 100000 in
theorem c_J2_indexOfRange_X15 (l : Launch) (Z : mm_G) {M : mm_M} {a ar cap o : Nat} {xs : List (Option Nat)} {fs9 : List Value} (hA9 : AL Z M a ar cap xs) (ho9 : M o = some (.inr (12, fs9))) : mm_C l Z yJ2_indexOfRange (ws_ yJ2_indexOfRange cJ2_indexOfRange 6 (some .int)) { frames := 1, cells := 0, slots := 0, locals := 60 } [.ref a, .ref o, .int 0, .int (nI xs.length)] M (fun v M' => (∃ x : Int32, v = some (.int x) ∧ al_Ix xs o x) ∧ M' = M) mm_nx := by
  refine mm_ofW (cc := cJ2_indexOfRange) (maxL := 6) (ret := (some .int)) (by decide) rfl (Nat.le_of_ble_eq_true rfl) ?_
  intro p e s m below meth c A ls hx hb hr hlk hml hown hmn hts htab hE hST hA hM hS hl
  replace hl : lv_has ls 6 [(0, .ref a), (1, .ref o), (2, .int 0), (3, .int (nI xs.length))] := hl
  obtain ⟨md, f, ha, har, hl1, hcap, h0, hf⟩ := hA9
  refine lv_aload_n hx hb dJ2_indexOfRange_0 rfl (lv_at hl 0 rfl) ?_
  refine va_get (D := Z.1) (ci := 41) (v := .ref ar) (C := RJ2) (T := TJ2) (N := 3) hx hb hts in_J2 hown hE.1 (hM.at ha) 0 rfl mm_cJ2 1 (by decide) (hts _ q143) (fun _ h9 => h9) rfl dJ2_indexOfRange_1 ?_
  refine lv_astore hx hb dJ2_indexOfRange_4 hl (by decide) rfl (fun ls hl => ?_)
  replace hl : lv_has ls 6 [(4, .ref ar), (0, .ref a), (1, .ref o), (2, .int 0), (3, .int (nI xs.length))] := hl
  refine lv_aload_n hx hb dJ2_indexOfRange_6 rfl (lv_at hl 2 rfl) ?_
  refine lv_ifnonnull (tgt := 39) hx hb dJ2_indexOfRange_7 (by decide) ?_
  refine lv_iload_n hx hb dJ2_indexOfRange_39 rfl (lv_at hl 3 rfl) ?_
  refine lv_istore hx hb dJ2_indexOfRange_40 hl (by decide) rfl (fun ls hl => ?_)
  replace hl : lv_has ls 6 [(5, .int 0), (4, .ref ar), (0, .ref a), (1, .ref o), (2, .int 0), (3, .int (nI xs.length))] := hl
  obtain ⟨j, ej⟩ : ∃ j : Nat, j = 0 := ⟨_, rfl⟩
  replace hl : lv_has ls 6 [(5, .int (nI j)), (4, .ref ar), (0, .ref a), (1, .ref o), (2, .int 0), (3, .int (nI xs.length))] := by rw [ej, nI_0]; exact hl
  have hj : j ≤ xs.length := by omega
  have hn9 : ∀ i : Nat, i < j → xs[i]? ≠ some (some o) := by intro i hi; omega
  clear ej
  generalize hk : xs.length - j = k9
  refine mm_abs hM hS (fun H locs hM hS => ?_)
  induction k9 generalizing j ls H locs with
  | zero =>
    refine lv_iload hx hb dJ2_indexOfRange_42 (lv_at hl 0 rfl) ?_
    refine lv_iload_n hx hb dJ2_indexOfRange_44 rfl (lv_at hl 5 rfl) ?_
    refine lv_icmp_ge (tgt := 69) hx hb dJ2_indexOfRange_45 (by decide) (fun _ => ?_) (fun h9 => absurd (by rw [show j = xs.length by omega]; exact Int32.le_refl _) h9)
    refine lv_iconst (v := -1) hx hb dJ2_indexOfRange_69 (by decide) ?_
    exact mm_reti hx hb hr hlk hM hS ⟨⟨_, rfl, Or.inr ⟨rfl, fun i h => by by_cases hi : i < j; exact hn9 i hi h; rw [List.getElem?_eq_none (by omega)] at h; cases h⟩⟩, rfl⟩ dJ2_indexOfRange_70 (Nat.le_of_ble_eq_true rfl) (Nat.le_of_ble_eq_true rfl)
  | succ k9 ih =>
    have hj2 : j < xs.length := by omega
    refine lv_iload hx hb dJ2_indexOfRange_42 (lv_at hl 0 rfl) ?_
    refine lv_iload_n hx hb dJ2_indexOfRange_44 rfl (lv_at hl 5 rfl) ?_
    refine lv_icmp_ge (tgt := 69) hx hb dJ2_indexOfRange_45 (by decide) (fun h9 => absurd h9 (nI_ge hj2 (by omega))) (fun _ => ?_)
    refine lv_aload_n hx hb dJ2_indexOfRange_48 rfl (lv_at hl 3 rfl) ?_
    refine lv_aload hx hb dJ2_indexOfRange_49 (lv_at hl 1 rfl) ?_
    refine lv_iload hx hb dJ2_indexOfRange_51 (lv_at hl 0 rfl) ?_
    refine mm_aald (k := j) hx hb hE hM 3 har rfl rfl (by omega) (by omega) dJ2_indexOfRange_53 ?_
    refine mm_callU (As := [va_rf (f j)]) (rest := []) ⟨hx, hb, hml, hown, hts⟩ hE hST hA (c_J22_equals l Z) (va_cwU (x := ⟨"java/lang/Object", "equals", "(Ljava/lang/Object;)Z"⟩) (C := RX15) (owner := "java/lang/Object") 1 hts (lw_app (lw_in _ [737, 739, 764, 738, 2864] (by decide +kernel) (by decide +kernel)) (lw_meth q799)) rfl rfl rfl rfl (by decide +kernel) ⟨(Nat.le_of_ble_eq_true rfl), (Nat.le_of_ble_eq_true rfl)⟩) hM hS mm_cX15 ho9 rfl hl.1 (Nat.le_of_ble_eq_true rfl) dJ2_indexOfRange_54 rfl ⟨(Nat.le_of_ble_eq_true rfl), (Nat.le_of_ble_eq_true rfl)⟩ (fun _ _ _ _ _ _ h9 => h9.elim) (fun v_1 M_2 H locs hp_3 hM hS => ?_)
    obtain ⟨rfl, eM_2⟩ := hp_3
    rw [eM_2] at hM
    refine lv_if_eq (tgt := 63) hx hb dJ2_indexOfRange_57 (by decide) (fun c_4 => ?_) (fun c_4 => ?_)
    · have h8 : ¬ some o = f j := by have := (mm_b_0 _).1 c_4; simpa using this
      obtain ⟨x_5, ex_5⟩ : ∃ z : Int32, z = (nI j) + 1 := ⟨_, rfl⟩
      refine lv_iinc (v := x_5) (lv' := [(5, .int x_5), (4, .ref ar), (0, .ref a), (1, .ref o), (2, .int 0), (3, .int (nI xs.length))]) hx hb dJ2_indexOfRange_63 hl (k := 0) rfl (by rw [ex_5]; rfl) (by decide) rfl (fun ls hl => ?_)
      refine lv_goto (tgt := 42) hx hb dJ2_indexOfRange_66 (by decide) ?_
      replace hl : lv_has ls 6 [(5, .int (nI (j + 1))), (4, .ref ar), (0, .ref a), (1, .ref o), (2, .int 0), (3, .int (nI xs.length))] := by rw [← nI_1, ← ex_5]; exact hl
      have hn8 : ∀ i : Nat, i < j + 1 → xs[i]? ≠ some (some o) := by
        intro i hi h
        by_cases hij : i = j
        · rw [hij, hf j hj2] at h; exact h8 (Option.some.inj h).symm
        · exact hn9 i (by omega) h
      apply ih (j := j + 1) <;> first | exact hl | exact hn8 | exact hM | exact hS | omega
    · have h8 : some o = f j := by by_cases h : some o = f j; exact h; exact absurd (by rw [decide_eq_false h]; rfl) c_4
      refine lv_iload hx hb dJ2_indexOfRange_60 (lv_at hl 0 rfl) ?_
      exact mm_reti hx hb hr hlk hM hS ⟨⟨_, rfl, Or.inl ⟨j, rfl, by rw [hf j hj2, ← h8], hn9⟩⟩, rfl⟩ dJ2_indexOfRange_62 (Nat.le_of_ble_eq_true rfl) (Nat.le_of_ble_eq_true rfl)
set_option maxHeartbeats 4000000 in
set_option maxRecDepth 100000 in
theorem c_J2_indexOf_X15 (l : Launch) (Z : mm_G) {M : mm_M} {a ar cap o : Nat} {xs : List (Option Nat)} {fs9 : List Value} (hA9 : AL Z M a ar cap xs) (ho9 : M o = some (.inr (12, fs9))) : mm_C l Z yJ2_indexOf (ws_ yJ2_indexOf cJ2_indexOf 2 (some .int)) { frames := 2, cells := 0, slots := 0, locals := 100 } [.ref a, .ref o] M (fun v M' => (∃ x : Int32, v = some (.int x) ∧ al_Ix xs o x) ∧ M' = M) mm_nx := by
  refine mm_ofW (cc := cJ2_indexOf) (maxL := 2) (ret := (some .int)) (by decide) rfl (Nat.le_of_ble_eq_true rfl) ?_
  intro p e s m below meth c A ls hx hb hr hlk hml hown hmn hts htab hE hST hA hM hS hl
  replace hl : lv_has ls 2 [(0, .ref a), (1, .ref o)] := hl
  have hA8 := hA9
  obtain ⟨md, f, ha, har, hl1, hcap, h0, hf⟩ := hA9
  refine lv_aload_n hx hb dJ2_indexOf_0 rfl (lv_at hl 0 rfl) ?_
  refine lv_aload_n hx hb dJ2_indexOf_1 rfl (lv_at hl 1 rfl) ?_
  refine lv_iconst (v := 0) hx hb dJ2_indexOf_2 (by decide) ?_
  refine lv_aload_n hx hb dJ2_indexOf_3 rfl (lv_at hl 0 rfl) ?_
  refine va_get (D := Z.1) (ci := 41) (v := .int (nI xs.length)) (C := RJ2) (T := TJ2) (N := 3) hx hb hts in_J2 hown hE.1 (hM.at ha) 0 rfl mm_cJ2 2 (by decide) (hts _ q146) (fun _ h9 => h9) rfl dJ2_indexOf_4 ?_
  refine mm_callV (As := [.ref o, .int 0, .int (nI xs.length)]) (rest := []) ⟨hx, hb, hml, hown, hts⟩ hE hST hA (c_J2_indexOfRange_X15 l Z hA8 ho9) (cwV 3 hts (lw_V q732 q733 q734 q53 q735) rfl rfl rfl (by decide +kernel) ⟨(Nat.le_of_ble_eq_true rfl), (Nat.le_of_ble_eq_true rfl)⟩) hM hS mm_cJ2 ha rfl hl.1 (Nat.le_of_ble_eq_true rfl) dJ2_indexOf_7 rfl ⟨(Nat.le_of_ble_eq_true rfl), (Nat.le_of_ble_eq_true rfl)⟩ (fun _ _ _ _ _ _ h9 => h9.elim) (fun v_1 M_2 H locs hp_3 hM hS => ?_)
  obtain ⟨⟨x9, rfl, hx9⟩, eM_2⟩ := hp_3
  rw [eM_2] at hM
  exact mm_reti hx hb hr hlk hM hS ⟨⟨_, rfl, hx9⟩, rfl⟩ dJ2_indexOf_10 (Nat.le_of_ble_eq_true rfl) (Nat.le_of_ble_eq_true rfl)
set_option maxHeartbeats 4000000 in
set_option maxRecDepth 100000 in
theorem c_J2_contains_X15 (l : Launch) (Z : mm_G) {M : mm_M} {a ar cap o : Nat} {xs : List (Option Nat)} {fs9 : List Value} (hA9 : AL Z M a ar cap xs) (ho9 : M o = some (.inr (12, fs9))) : mm_C l Z yJ2_contains (ws_ yJ2_contains cJ2_contains 2 (some .boolean)) { frames := 3, cells := 0, slots := 0, locals := 140 } [.ref a, .ref o] M (fun v M' => v = some (.int (mm_b (decide (some o ∈ xs)))) ∧ M' = M) mm_nx := by
  refine mm_ofW (cc := cJ2_contains) (maxL := 2) (ret := (some .boolean)) (by decide) rfl (Nat.le_of_ble_eq_true rfl) ?_
  intro p e s m below meth c A ls hx hb hr hlk hml hown hmn hts htab hE hST hA hM hS hl
  replace hl : lv_has ls 2 [(0, .ref a), (1, .ref o)] := hl
  have hA8 := hA9
  obtain ⟨md, f, ha, har, hl1, hcap, h0, hf⟩ := hA9
  refine lv_aload_n hx hb dJ2_contains_0 rfl (lv_at hl 0 rfl) ?_
  refine lv_aload_n hx hb dJ2_contains_1 rfl (lv_at hl 1 rfl) ?_
  refine mm_callV (As := [.ref o]) (rest := []) ⟨hx, hb, hml, hown, hts⟩ hE hST hA (c_J2_indexOf_X15 l Z hA8 ho9) (cwV 1 hts (lw_V q2707 q729 q730 q53 q731) rfl rfl rfl (by decide +kernel) ⟨(Nat.le_of_ble_eq_true rfl), (Nat.le_of_ble_eq_true rfl)⟩) hM hS mm_cJ2 ha rfl hl.1 (Nat.le_of_ble_eq_true rfl) dJ2_contains_2 rfl ⟨(Nat.le_of_ble_eq_true rfl), (Nat.le_of_ble_eq_true rfl)⟩ (fun _ _ _ _ _ _ h9 => h9.elim) (fun v_1 M_2 H locs hp_3 hM hS => ?_)
  obtain ⟨⟨x9, rfl, hx9⟩, eM_2⟩ := hp_3
  rw [eM_2] at hM
  refine lv_if_lt (tgt := 12) hx hb dJ2_contains_5 (by decide) (fun c_4 => ?_) (fun c_4 => ?_)
  · have e9 : decide (some o ∈ xs) = false := by
      rcases hx9 with ⟨j, rfl, h1, -⟩ | ⟨-, h1⟩
      · have := (List.getElem?_eq_some_iff.1 h1).1; exact absurd c_4 (nI_pos (by omega))
      · exact decide_eq_false (fun h => by obtain ⟨i, hi⟩ := List.mem_iff_getElem?.1 h; exact h1 i hi)
    refine lv_iconst (v := 0) hx hb dJ2_contains_12 (by decide) ?_
    exact mm_retz hx hb hr rfl hlk hM hS ⟨by rw [e9]; rfl, rfl⟩ dJ2_contains_13 (Nat.le_of_ble_eq_true rfl) (Nat.le_of_ble_eq_true rfl)
  · have e9 : decide (some o ∈ xs) = true := by
      rcases hx9 with ⟨j, rfl, h1, -⟩ | ⟨h1, -⟩
      · exact decide_eq_true (List.mem_of_getElem? h1)
      · exact absurd (by rw [h1]; decide) c_4
    refine lv_iconst (v := 1) hx hb dJ2_contains_8 (by decide) ?_
    refine lv_goto (tgt := 13) hx hb dJ2_contains_9 (by decide) ?_
    exact mm_retz hx hb hr rfl hlk hM hS ⟨by rw [e9]; rfl, rfl⟩ dJ2_contains_13 (Nat.le_of_ble_eq_true rfl) (Nat.le_of_ble_eq_true rfl)
set_option maxHeartbeats 4000000 in
set_option maxRecDepth 100000 in
theorem c_J2_indexOfRange_X25 (l : Launch) (Z : mm_G) {M : mm_M} {a ar cap o : Nat} {xs : List (Option Nat)} {fs9 : List Value} (hA9 : AL Z M a ar cap xs) (ho9 : M o = some (.inr (20, fs9))) : mm_C l Z yJ2_indexOfRange (ws_ yJ2_indexOfRange cJ2_indexOfRange 6 (some .int)) { frames := 1, cells := 0, slots := 0, locals := 60 } [.ref a, .ref o, .int 0, .int (nI xs.length)] M (fun v M' => (∃ x : Int32, v = some (.int x) ∧ al_Ix xs o x) ∧ M' = M) mm_nx := by
  refine mm_ofW (cc := cJ2_indexOfRange) (maxL := 6) (ret := (some .int)) (by decide) rfl (Nat.le_of_ble_eq_true rfl) ?_
  intro p e s m below meth c A ls hx hb hr hlk hml hown hmn hts htab hE hST hA hM hS hl
  replace hl : lv_has ls 6 [(0, .ref a), (1, .ref o), (2, .int 0), (3, .int (nI xs.length))] := hl
  obtain ⟨md, f, ha, har, hl1, hcap, h0, hf⟩ := hA9
  refine lv_aload_n hx hb dJ2_indexOfRange_0 rfl (lv_at hl 0 rfl) ?_
  refine va_get (D := Z.1) (ci := 41) (v := .ref ar) (C := RJ2) (T := TJ2) (N := 3) hx hb hts in_J2 hown hE.1 (hM.at ha) 0 rfl mm_cJ2 1 (by decide) (hts _ q143) (fun _ h9 => h9) rfl dJ2_indexOfRange_1 ?_
  refine lv_astore hx hb dJ2_indexOfRange_4 hl (by decide) rfl (fun ls hl => ?_)
  replace hl : lv_has ls 6 [(4, .ref ar), (0, .ref a), (1, .ref o), (2, .int 0), (3, .int (nI xs.length))] := hl
  refine lv_aload_n hx hb dJ2_indexOfRange_6 rfl (lv_at hl 2 rfl) ?_
  refine lv_ifnonnull (tgt := 39) hx hb dJ2_indexOfRange_7 (by decide) ?_
  refine lv_iload_n hx hb dJ2_indexOfRange_39 rfl (lv_at hl 3 rfl) ?_
  refine lv_istore hx hb dJ2_indexOfRange_40 hl (by decide) rfl (fun ls hl => ?_)
  replace hl : lv_has ls 6 [(5, .int 0), (4, .ref ar), (0, .ref a), (1, .ref o), (2, .int 0), (3, .int (nI xs.length))] := hl
  obtain ⟨j, ej⟩ : ∃ j : Nat, j = 0 := ⟨_, rfl⟩
  replace hl : lv_has ls 6 [(5, .int (nI j)), (4, .ref ar), (0, .ref a), (1, .ref o), (2, .int 0), (3, .int (nI xs.length))] := by rw [ej, nI_0]; exact hl
  have hj : j ≤ xs.length := by omega
  have hn9 : ∀ i : Nat, i < j → xs[i]? ≠ some (some o) := by intro i hi; omega
  clear ej
  generalize hk : xs.length - j = k9
  refine mm_abs hM hS (fun H locs hM hS => ?_)
  induction k9 generalizing j ls H locs with
  | zero =>
    refine lv_iload hx hb dJ2_indexOfRange_42 (lv_at hl 0 rfl) ?_
    refine lv_iload_n hx hb dJ2_indexOfRange_44 rfl (lv_at hl 5 rfl) ?_
    refine lv_icmp_ge (tgt := 69) hx hb dJ2_indexOfRange_45 (by decide) (fun _ => ?_) (fun h9 => absurd (by rw [show j = xs.length by omega]; exact Int32.le_refl _) h9)
    refine lv_iconst (v := -1) hx hb dJ2_indexOfRange_69 (by decide) ?_
    exact mm_reti hx hb hr hlk hM hS ⟨⟨_, rfl, Or.inr ⟨rfl, fun i h => by by_cases hi : i < j; exact hn9 i hi h; rw [List.getElem?_eq_none (by omega)] at h; cases h⟩⟩, rfl⟩ dJ2_indexOfRange_70 (Nat.le_of_ble_eq_true rfl) (Nat.le_of_ble_eq_true rfl)
  | succ k9 ih =>
    have hj2 : j < xs.length := by omega
    refine lv_iload hx hb dJ2_indexOfRange_42 (lv_at hl 0 rfl) ?_
    refine lv_iload_n hx hb dJ2_indexOfRange_44 rfl (lv_at hl 5 rfl) ?_
    refine lv_icmp_ge (tgt := 69) hx hb dJ2_indexOfRange_45 (by decide) (fun h9 => absurd h9 (nI_ge hj2 (by omega))) (fun _ => ?_)
    refine lv_aload_n hx hb dJ2_indexOfRange_48 rfl (lv_at hl 3 rfl) ?_
    refine lv_aload hx hb dJ2_indexOfRange_49 (lv_at hl 1 rfl) ?_
    refine lv_iload hx hb dJ2_indexOfRange_51 (lv_at hl 0 rfl) ?_
    refine mm_aald (k := j) hx hb hE hM 3 har rfl rfl (by omega) (by omega) dJ2_indexOfRange_53 ?_
    refine mm_callU (As := [va_rf (f j)]) (rest := []) ⟨hx, hb, hml, hown, hts⟩ hE hST hA (c_J22_equals l Z) (va_cwU (x := ⟨"java/lang/Object", "equals", "(Ljava/lang/Object;)Z"⟩) (C := RX25) (owner := "java/lang/Object") 1 hts (lw_app (lw_in _ [737, 739, 781, 738, 2864] (by decide +kernel) (by decide +kernel)) (lw_meth q799)) rfl rfl rfl rfl (by decide +kernel) ⟨(Nat.le_of_ble_eq_true rfl), (Nat.le_of_ble_eq_true rfl)⟩) hM hS mm_cX25 ho9 rfl hl.1 (Nat.le_of_ble_eq_true rfl) dJ2_indexOfRange_54 rfl ⟨(Nat.le_of_ble_eq_true rfl), (Nat.le_of_ble_eq_true rfl)⟩ (fun _ _ _ _ _ _ h9 => h9.elim) (fun v_1 M_2 H locs hp_3 hM hS => ?_)
    obtain ⟨rfl, eM_2⟩ := hp_3
    rw [eM_2] at hM
    refine lv_if_eq (tgt := 63) hx hb dJ2_indexOfRange_57 (by decide) (fun c_4 => ?_) (fun c_4 => ?_)
    · have h8 : ¬ some o = f j := by have := (mm_b_0 _).1 c_4; simpa using this
      obtain ⟨x_5, ex_5⟩ : ∃ z : Int32, z = (nI j) + 1 := ⟨_, rfl⟩
      refine lv_iinc (v := x_5) (lv' := [(5, .int x_5), (4, .ref ar), (0, .ref a), (1, .ref o), (2, .int 0), (3, .int (nI xs.length))]) hx hb dJ2_indexOfRange_63 hl (k := 0) rfl (by rw [ex_5]; rfl) (by decide) rfl (fun ls hl => ?_)
      refine lv_goto (tgt := 42) hx hb dJ2_indexOfRange_66 (by decide) ?_
      replace hl : lv_has ls 6 [(5, .int (nI (j + 1))), (4, .ref ar), (0, .ref a), (1, .ref o), (2, .int 0), (3, .int (nI xs.length))] := by rw [← nI_1, ← ex_5]; exact hl
      have hn8 : ∀ i : Nat, i < j + 1 → xs[i]? ≠ some (some o) := by
        intro i hi h
        by_cases hij : i = j
        · rw [hij, hf j hj2] at h; exact h8 (Option.some.inj h).symm
        · exact hn9 i (by omega) h
      apply ih (j := j + 1) <;> first | exact hl | exact hn8 | exact hM | exact hS | omega
    · have h8 : some o = f j := by by_cases h : some o = f j; exact h; exact absurd (by rw [decide_eq_false h]; rfl) c_4
      refine lv_iload hx hb dJ2_indexOfRange_60 (lv_at hl 0 rfl) ?_
      exact mm_reti hx hb hr hlk hM hS ⟨⟨_, rfl, Or.inl ⟨j, rfl, by rw [hf j hj2, ← h8], hn9⟩⟩, rfl⟩ dJ2_indexOfRange_62 (Nat.le_of_ble_eq_true rfl) (Nat.le_of_ble_eq_true rfl)
set_option maxHeartbeats 4000000 in
set_option maxRecDepth 100000 in
theorem c_J2_indexOf_X25 (l : Launch) (Z : mm_G) {M : mm_M} {a ar cap o : Nat} {xs : List (Option Nat)} {fs9 : List Value} (hA9 : AL Z M a ar cap xs) (ho9 : M o = some (.inr (20, fs9))) : mm_C l Z yJ2_indexOf (ws_ yJ2_indexOf cJ2_indexOf 2 (some .int)) { frames := 2, cells := 0, slots := 0, locals := 100 } [.ref a, .ref o] M (fun v M' => (∃ x : Int32, v = some (.int x) ∧ al_Ix xs o x) ∧ M' = M) mm_nx := by
  refine mm_ofW (cc := cJ2_indexOf) (maxL := 2) (ret := (some .int)) (by decide) rfl (Nat.le_of_ble_eq_true rfl) ?_
  intro p e s m below meth c A ls hx hb hr hlk hml hown hmn hts htab hE hST hA hM hS hl
  replace hl : lv_has ls 2 [(0, .ref a), (1, .ref o)] := hl
  have hA8 := hA9
  obtain ⟨md, f, ha, har, hl1, hcap, h0, hf⟩ := hA9
  refine lv_aload_n hx hb dJ2_indexOf_0 rfl (lv_at hl 0 rfl) ?_
  refine lv_aload_n hx hb dJ2_indexOf_1 rfl (lv_at hl 1 rfl) ?_
  refine lv_iconst (v := 0) hx hb dJ2_indexOf_2 (by decide) ?_
  refine lv_aload_n hx hb dJ2_indexOf_3 rfl (lv_at hl 0 rfl) ?_
  refine va_get (D := Z.1) (ci := 41) (v := .int (nI xs.length)) (C := RJ2) (T := TJ2) (N := 3) hx hb hts in_J2 hown hE.1 (hM.at ha) 0 rfl mm_cJ2 2 (by decide) (hts _ q146) (fun _ h9 => h9) rfl dJ2_indexOf_4 ?_
  refine mm_callV (As := [.ref o, .int 0, .int (nI xs.length)]) (rest := []) ⟨hx, hb, hml, hown, hts⟩ hE hST hA (c_J2_indexOfRange_X25 l Z hA8 ho9) (cwV 3 hts (lw_V q732 q733 q734 q53 q735) rfl rfl rfl (by decide +kernel) ⟨(Nat.le_of_ble_eq_true rfl), (Nat.le_of_ble_eq_true rfl)⟩) hM hS mm_cJ2 ha rfl hl.1 (Nat.le_of_ble_eq_true rfl) dJ2_indexOf_7 rfl ⟨(Nat.le_of_ble_eq_true rfl), (Nat.le_of_ble_eq_true rfl)⟩ (fun _ _ _ _ _ _ h9 => h9.elim) (fun v_1 M_2 H locs hp_3 hM hS => ?_)
  obtain ⟨⟨x9, rfl, hx9⟩, eM_2⟩ := hp_3
  rw [eM_2] at hM
  exact mm_reti hx hb hr hlk hM hS ⟨⟨_, rfl, hx9⟩, rfl⟩ dJ2_indexOf_10 (Nat.le_of_ble_eq_true rfl) (Nat.le_of_ble_eq_true rfl)
set_option maxHeartbeats 4000000 in
set_option maxRecDepth 100000 in
theorem c_J2_contains_X25 (l : Launch) (Z : mm_G) {M : mm_M} {a ar cap o : Nat} {xs : List (Option Nat)} {fs9 : List Value} (hA9 : AL Z M a ar cap xs) (ho9 : M o = some (.inr (20, fs9))) : mm_C l Z yJ2_contains (ws_ yJ2_contains cJ2_contains 2 (some .boolean)) { frames := 3, cells := 0, slots := 0, locals := 140 } [.ref a, .ref o] M (fun v M' => v = some (.int (mm_b (decide (some o ∈ xs)))) ∧ M' = M) mm_nx := by
  refine mm_ofW (cc := cJ2_contains) (maxL := 2) (ret := (some .boolean)) (by decide) rfl (Nat.le_of_ble_eq_true rfl) ?_
  intro p e s m below meth c A ls hx hb hr hlk hml hown hmn hts htab hE hST hA hM hS hl
  replace hl : lv_has ls 2 [(0, .ref a), (1, .ref o)] := hl
  have hA8 := hA9
  obtain ⟨md, f, ha, har, hl1, hcap, h0, hf⟩ := hA9
  refine lv_aload_n hx hb dJ2_contains_0 rfl (lv_at hl 0 rfl) ?_
  refine lv_aload_n hx hb dJ2_contains_1 rfl (lv_at hl 1 rfl) ?_
  refine mm_callV (As := [.ref o]) (rest := []) ⟨hx, hb, hml, hown, hts⟩ hE hST hA (c_J2_indexOf_X25 l Z hA8 ho9) (cwV 1 hts (lw_V q2707 q729 q730 q53 q731) rfl rfl rfl (by decide +kernel) ⟨(Nat.le_of_ble_eq_true rfl), (Nat.le_of_ble_eq_true rfl)⟩) hM hS mm_cJ2 ha rfl hl.1 (Nat.le_of_ble_eq_true rfl) dJ2_contains_2 rfl ⟨(Nat.le_of_ble_eq_true rfl), (Nat.le_of_ble_eq_true rfl)⟩ (fun _ _ _ _ _ _ h9 => h9.elim) (fun v_1 M_2 H locs hp_3 hM hS => ?_)
  obtain ⟨⟨x9, rfl, hx9⟩, eM_2⟩ := hp_3
  rw [eM_2] at hM
  refine lv_if_lt (tgt := 12) hx hb dJ2_contains_5 (by decide) (fun c_4 => ?_) (fun c_4 => ?_)
  · have e9 : decide (some o ∈ xs) = false := by
      rcases hx9 with ⟨j, rfl, h1, -⟩ | ⟨-, h1⟩
      · have := (List.getElem?_eq_some_iff.1 h1).1; exact absurd c_4 (nI_pos (by omega))
      · exact decide_eq_false (fun h => by obtain ⟨i, hi⟩ := List.mem_iff_getElem?.1 h; exact h1 i hi)
    refine lv_iconst (v := 0) hx hb dJ2_contains_12 (by decide) ?_
    exact mm_retz hx hb hr rfl hlk hM hS ⟨by rw [e9]; rfl, rfl⟩ dJ2_contains_13 (Nat.le_of_ble_eq_true rfl) (Nat.le_of_ble_eq_true rfl)
  · have e9 : decide (some o ∈ xs) = true := by
      rcases hx9 with ⟨j, rfl, h1, -⟩ | ⟨h1, -⟩
      · exact decide_eq_true (List.mem_of_getElem? h1)
      · exact absurd (by rw [h1]; decide) c_4
    refine lv_iconst (v := 1) hx hb dJ2_contains_8 (by decide) ?_
    refine lv_goto (tgt := 13) hx hb dJ2_contains_9 (by decide) ?_
    exact mm_retz hx hb hr rfl hlk hM hS ⟨by rw [e9]; rfl, rfl⟩ dJ2_contains_13 (Nat.le_of_ble_eq_true rfl) (Nat.le_of_ble_eq_true rfl)
set_option maxHeartbeats 4000000 in
set_option maxRecDepth 100000 in
theorem c_J2_indexOfRange_X27 (l : Launch) (Z : mm_G) {M : mm_M} {a ar cap o : Nat} {xs : List (Option Nat)} {fs9 : List Value} (hA9 : AL Z M a ar cap xs) (ho9 : M o = some (.inr (22, fs9))) : mm_C l Z yJ2_indexOfRange (ws_ yJ2_indexOfRange cJ2_indexOfRange 6 (some .int)) { frames := 1, cells := 0, slots := 0, locals := 60 } [.ref a, .ref o, .int 0, .int (nI xs.length)] M (fun v M' => (∃ x : Int32, v = some (.int x) ∧ al_Ix xs o x) ∧ M' = M) mm_nx := by
  refine mm_ofW (cc := cJ2_indexOfRange) (maxL := 6) (ret := (some .int)) (by decide) rfl (Nat.le_of_ble_eq_true rfl) ?_
  intro p e s m below meth c A ls hx hb hr hlk hml hown hmn hts htab hE hST hA hM hS hl
  replace hl : lv_has ls 6 [(0, .ref a), (1, .ref o), (2, .int 0), (3, .int (nI xs.length))] := hl
  obtain ⟨md, f, ha, har, hl1, hcap, h0, hf⟩ := hA9
  refine lv_aload_n hx hb dJ2_indexOfRange_0 rfl (lv_at hl 0 rfl) ?_
  refine va_get (D := Z.1) (ci := 41) (v := .ref ar) (C := RJ2) (T := TJ2) (N := 3) hx hb hts in_J2 hown hE.1 (hM.at ha) 0 rfl mm_cJ2 1 (by decide) (hts _ q143) (fun _ h9 => h9) rfl dJ2_indexOfRange_1 ?_
  refine lv_astore hx hb dJ2_indexOfRange_4 hl (by decide) rfl (fun ls hl => ?_)
  replace hl : lv_has ls 6 [(4, .ref ar), (0, .ref a), (1, .ref o), (2, .int 0), (3, .int (nI xs.length))] := hl
  refine lv_aload_n hx hb dJ2_indexOfRange_6 rfl (lv_at hl 2 rfl) ?_
  refine lv_ifnonnull (tgt := 39) hx hb dJ2_indexOfRange_7 (by decide) ?_
  refine lv_iload_n hx hb dJ2_indexOfRange_39 rfl (lv_at hl 3 rfl) ?_
  refine lv_istore hx hb dJ2_indexOfRange_40 hl (by decide) rfl (fun ls hl => ?_)
  replace hl : lv_has ls 6 [(5, .int 0), (4, .ref ar), (0, .ref a), (1, .ref o), (2, .int 0), (3, .int (nI xs.length))] := hl
  obtain ⟨j, ej⟩ : ∃ j : Nat, j = 0 := ⟨_, rfl⟩
  replace hl : lv_has ls 6 [(5, .int (nI j)), (4, .ref ar), (0, .ref a), (1, .ref o), (2, .int 0), (3, .int (nI xs.length))] := by rw [ej, nI_0]; exact hl
  have hj : j ≤ xs.length := by omega
  have hn9 : ∀ i : Nat, i < j → xs[i]? ≠ some (some o) := by intro i hi; omega
  clear ej
  generalize hk : xs.length - j = k9
  refine mm_abs hM hS (fun H locs hM hS => ?_)
  induction k9 generalizing j ls H locs with
  | zero =>
    refine lv_iload hx hb dJ2_indexOfRange_42 (lv_at hl 0 rfl) ?_
    refine lv_iload_n hx hb dJ2_indexOfRange_44 rfl (lv_at hl 5 rfl) ?_
    refine lv_icmp_ge (tgt := 69) hx hb dJ2_indexOfRange_45 (by decide) (fun _ => ?_) (fun h9 => absurd (by rw [show j = xs.length by omega]; exact Int32.le_refl _) h9)
    refine lv_iconst (v := -1) hx hb dJ2_indexOfRange_69 (by decide) ?_
    exact mm_reti hx hb hr hlk hM hS ⟨⟨_, rfl, Or.inr ⟨rfl, fun i h => by by_cases hi : i < j; exact hn9 i hi h; rw [List.getElem?_eq_none (by omega)] at h; cases h⟩⟩, rfl⟩ dJ2_indexOfRange_70 (Nat.le_of_ble_eq_true rfl) (Nat.le_of_ble_eq_true rfl)
  | succ k9 ih =>
    have hj2 : j < xs.length := by omega
    refine lv_iload hx hb dJ2_indexOfRange_42 (lv_at hl 0 rfl) ?_
    refine lv_iload_n hx hb dJ2_indexOfRange_44 rfl (lv_at hl 5 rfl) ?_
    refine lv_icmp_ge (tgt := 69) hx hb dJ2_indexOfRange_45 (by decide) (fun h9 => absurd h9 (nI_ge hj2 (by omega))) (fun _ => ?_)
    refine lv_aload_n hx hb dJ2_indexOfRange_48 rfl (lv_at hl 3 rfl) ?_
    refine lv_aload hx hb dJ2_indexOfRange_49 (lv_at hl 1 rfl) ?_
    refine lv_iload hx hb dJ2_indexOfRange_51 (lv_at hl 0 rfl) ?_
    refine mm_aald (k := j) hx hb hE hM 3 har rfl rfl (by omega) (by omega) dJ2_indexOfRange_53 ?_
    refine mm_callU (As := [va_rf (f j)]) (rest := []) ⟨hx, hb, hml, hown, hts⟩ hE hST hA (c_J22_equals l Z) (va_cwU (x := ⟨"java/lang/Object", "equals", "(Ljava/lang/Object;)Z"⟩) (C := RX27) (owner := "java/lang/Object") 1 hts (lw_app (lw_in _ [737, 739, 780, 738, 2864] (by decide +kernel) (by decide +kernel)) (lw_meth q799)) rfl rfl rfl rfl (by decide +kernel) ⟨(Nat.le_of_ble_eq_true rfl), (Nat.le_of_ble_eq_true rfl)⟩) hM hS mm_cX27 ho9 rfl hl.1 (Nat.le_of_ble_eq_true rfl) dJ2_indexOfRange_54 rfl ⟨(Nat.le_of_ble_eq_true rfl), (Nat.le_of_ble_eq_true rfl)⟩ (fun _ _ _ _ _ _ h9 => h9.elim) (fun v_1 M_2 H locs hp_3 hM hS => ?_)
    obtain ⟨rfl, eM_2⟩ := hp_3
    rw [eM_2] at hM
    refine lv_if_eq (tgt := 63) hx hb dJ2_indexOfRange_57 (by decide) (fun c_4 => ?_) (fun c_4 => ?_)
    · have h8 : ¬ some o = f j := by have := (mm_b_0 _).1 c_4; simpa using this
      obtain ⟨x_5, ex_5⟩ : ∃ z : Int32, z = (nI j) + 1 := ⟨_, rfl⟩
      refine lv_iinc (v := x_5) (lv' := [(5, .int x_5), (4, .ref ar), (0, .ref a), (1, .ref o), (2, .int 0), (3, .int (nI xs.length))]) hx hb dJ2_indexOfRange_63 hl (k := 0) rfl (by rw [ex_5]; rfl) (by decide) rfl (fun ls hl => ?_)
      refine lv_goto (tgt := 42) hx hb dJ2_indexOfRange_66 (by decide) ?_
      replace hl : lv_has ls 6 [(5, .int (nI (j + 1))), (4, .ref ar), (0, .ref a), (1, .ref o), (2, .int 0), (3, .int (nI xs.length))] := by rw [← nI_1, ← ex_5]; exact hl
      have hn8 : ∀ i : Nat, i < j + 1 → xs[i]? ≠ some (some o) := by
        intro i hi h
        by_cases hij : i = j
        · rw [hij, hf j hj2] at h; exact h8 (Option.some.inj h).symm
        · exact hn9 i (by omega) h
      apply ih (j := j + 1) <;> first | exact hl | exact hn8 | exact hM | exact hS | omega
    · have h8 : some o = f j := by by_cases h : some o = f j; exact h; exact absurd (by rw [decide_eq_false h]; rfl) c_4
      refine lv_iload hx hb dJ2_indexOfRange_60 (lv_at hl 0 rfl) ?_
      exact mm_reti hx hb hr hlk hM hS ⟨⟨_, rfl, Or.inl ⟨j, rfl, by rw [hf j hj2, ← h8], hn9⟩⟩, rfl⟩ dJ2_indexOfRange_62 (Nat.le_of_ble_eq_true rfl) (Nat.le_of_ble_eq_true rfl)
set_option maxHeartbeats 4000000 in
set_option maxRecDepth 100000 in
theorem c_J2_indexOf_X27 (l : Launch) (Z : mm_G) {M : mm_M} {a ar cap o : Nat} {xs : List (Option Nat)} {fs9 : List Value} (hA9 : AL Z M a ar cap xs) (ho9 : M o = some (.inr (22, fs9))) : mm_C l Z yJ2_indexOf (ws_ yJ2_indexOf cJ2_indexOf 2 (some .int)) { frames := 2, cells := 0, slots := 0, locals := 100 } [.ref a, .ref o] M (fun v M' => (∃ x : Int32, v = some (.int x) ∧ al_Ix xs o x) ∧ M' = M) mm_nx := by
  refine mm_ofW (cc := cJ2_indexOf) (maxL := 2) (ret := (some .int)) (by decide) rfl (Nat.le_of_ble_eq_true rfl) ?_
  intro p e s m below meth c A ls hx hb hr hlk hml hown hmn hts htab hE hST hA hM hS hl
  replace hl : lv_has ls 2 [(0, .ref a), (1, .ref o)] := hl
  have hA8 := hA9
  obtain ⟨md, f, ha, har, hl1, hcap, h0, hf⟩ := hA9
  refine lv_aload_n hx hb dJ2_indexOf_0 rfl (lv_at hl 0 rfl) ?_
  refine lv_aload_n hx hb dJ2_indexOf_1 rfl (lv_at hl 1 rfl) ?_
  refine lv_iconst (v := 0) hx hb dJ2_indexOf_2 (by decide) ?_
  refine lv_aload_n hx hb dJ2_indexOf_3 rfl (lv_at hl 0 rfl) ?_
  refine va_get (D := Z.1) (ci := 41) (v := .int (nI xs.length)) (C := RJ2) (T := TJ2) (N := 3) hx hb hts in_J2 hown hE.1 (hM.at ha) 0 rfl mm_cJ2 2 (by decide) (hts _ q146) (fun _ h9 => h9) rfl dJ2_indexOf_4 ?_
  refine mm_callV (As := [.ref o, .int 0, .int (nI xs.length)]) (rest := []) ⟨hx, hb, hml, hown, hts⟩ hE hST hA (c_J2_indexOfRange_X27 l Z hA8 ho9) (cwV 3 hts (lw_V q732 q733 q734 q53 q735) rfl rfl rfl (by decide +kernel) ⟨(Nat.le_of_ble_eq_true rfl), (Nat.le_of_ble_eq_true rfl)⟩) hM hS mm_cJ2 ha rfl hl.1 (Nat.le_of_ble_eq_true rfl) dJ2_indexOf_7 rfl ⟨(Nat.le_of_ble_eq_true rfl), (Nat.le_of_ble_eq_true rfl)⟩ (fun _ _ _ _ _ _ h9 => h9.elim) (fun v_1 M_2 H locs hp_3 hM hS => ?_)
  obtain ⟨⟨x9, rfl, hx9⟩, eM_2⟩ := hp_3
  rw [eM_2] at hM
  exact mm_reti hx hb hr hlk hM hS ⟨⟨_, rfl, hx9⟩, rfl⟩ dJ2_indexOf_10 (Nat.le_of_ble_eq_true rfl) (Nat.le_of_ble_eq_true rfl)
set_option maxHeartbeats 4000000 in
set_option maxRecDepth 100000 in
theorem c_J2_contains_X27 (l : Launch) (Z : mm_G) {M : mm_M} {a ar cap o : Nat} {xs : List (Option Nat)} {fs9 : List Value} (hA9 : AL Z M a ar cap xs) (ho9 : M o = some (.inr (22, fs9))) : mm_C l Z yJ2_contains (ws_ yJ2_contains cJ2_contains 2 (some .boolean)) { frames := 3, cells := 0, slots := 0, locals := 140 } [.ref a, .ref o] M (fun v M' => v = some (.int (mm_b (decide (some o ∈ xs)))) ∧ M' = M) mm_nx := by
  refine mm_ofW (cc := cJ2_contains) (maxL := 2) (ret := (some .boolean)) (by decide) rfl (Nat.le_of_ble_eq_true rfl) ?_
  intro p e s m below meth c A ls hx hb hr hlk hml hown hmn hts htab hE hST hA hM hS hl
  replace hl : lv_has ls 2 [(0, .ref a), (1, .ref o)] := hl
  have hA8 := hA9
  obtain ⟨md, f, ha, har, hl1, hcap, h0, hf⟩ := hA9
  refine lv_aload_n hx hb dJ2_contains_0 rfl (lv_at hl 0 rfl) ?_
  refine lv_aload_n hx hb dJ2_contains_1 rfl (lv_at hl 1 rfl) ?_
  refine mm_callV (As := [.ref o]) (rest := []) ⟨hx, hb, hml, hown, hts⟩ hE hST hA (c_J2_indexOf_X27 l Z hA8 ho9) (cwV 1 hts (lw_V q2707 q729 q730 q53 q731) rfl rfl rfl (by decide +kernel) ⟨(Nat.le_of_ble_eq_true rfl), (Nat.le_of_ble_eq_true rfl)⟩) hM hS mm_cJ2 ha rfl hl.1 (Nat.le_of_ble_eq_true rfl) dJ2_contains_2 rfl ⟨(Nat.le_of_ble_eq_true rfl), (Nat.le_of_ble_eq_true rfl)⟩ (fun _ _ _ _ _ _ h9 => h9.elim) (fun v_1 M_2 H locs hp_3 hM hS => ?_)
  obtain ⟨⟨x9, rfl, hx9⟩, eM_2⟩ := hp_3
  rw [eM_2] at hM
  refine lv_if_lt (tgt := 12) hx hb dJ2_contains_5 (by decide) (fun c_4 => ?_) (fun c_4 => ?_)
  · have e9 : decide (some o ∈ xs) = false := by
      rcases hx9 with ⟨j, rfl, h1, -⟩ | ⟨-, h1⟩
      · have := (List.getElem?_eq_some_iff.1 h1).1; exact absurd c_4 (nI_pos (by omega))
      · exact decide_eq_false (fun h => by obtain ⟨i, hi⟩ := List.mem_iff_getElem?.1 h; exact h1 i hi)
    refine lv_iconst (v := 0) hx hb dJ2_contains_12 (by decide) ?_
    exact mm_retz hx hb hr rfl hlk hM hS ⟨by rw [e9]; rfl, rfl⟩ dJ2_contains_13 (Nat.le_of_ble_eq_true rfl) (Nat.le_of_ble_eq_true rfl)
  · have e9 : decide (some o ∈ xs) = true := by
      rcases hx9 with ⟨j, rfl, h1, -⟩ | ⟨h1, -⟩
      · exact decide_eq_true (List.mem_of_getElem? h1)
      · exact absurd (by rw [h1]; decide) c_4
    refine lv_iconst (v := 1) hx hb dJ2_contains_8 (by decide) ?_
    refine lv_goto (tgt := 13) hx hb dJ2_contains_9 (by decide) ?_
    exact mm_retz hx hb hr rfl hlk hM hS ⟨by rw [e9]; rfl, rfl⟩ dJ2_contains_13 (Nat.le_of_ble_eq_true rfl) (Nat.le_of_ble_eq_true rfl)
