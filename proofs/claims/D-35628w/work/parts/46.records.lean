/-! ===== records; rowOf, caseOf ===== -/
set_option maxRecDepth 100000
/-- a record's cell x, at o -/
def cr_x (Z : mm_G) (M : mm_M) (ad : List Nat) (T : List pt_R) (x : ev) (o : Option Nat) : Prop := (ev_abs x = true ∧ o = none) ∨ (ev_abs x = false ∧ cr Z M ad T x 0 (fun _ => none) o)
theorem cr_rec {Z : mm_G} {M : mm_M} {ad : List Nat} {T : List pt_R} {x r : ev} {f0 : Nat → Option Nat} {o : Option Nat} : cr Z M ad T (.add x r) 0 f0 o ↔ ∃ (a q : Nat) (f : Nat → Option Nat), o = some a ∧ M a = some (.inr (30, [.ref q])) ∧ M q = some (cv_A Z f) ∧ cr Z M ad T (.add x r) 2 f none := by simp only [cr]
theorem cr_add {Z : mm_G} {M : mm_M} {ad : List Nat} {T : List pt_R} {x r : ev} {i : Nat} {f : Nat → Option Nat} : cr Z M ad T (.add x r) (i + 2) f none ↔ cr_x Z M ad T x (f i) ∧ cr Z M ad T r (i + 3) f none := by simp only [cr, cr_x]
/-- what a record's cells from i on are: places and cells -/
theorem cr_get {Z : mm_G} {M : mm_M} {ad : List Nat} {T : List pt_R} {f : Nat → Option Nat} : ∀ (r : ev) (i j : Nat) (x : ev), cr Z M ad T r (i + 2) f none → rc_get r j = some x → cr_x Z M ad T x (f (i + j)) ∧ i + j < 10 := by
  have key : ∀ (r : ev) (i : Nat), cr Z M ad T r (i + 2) f none → i ≤ 10 ∧ (∀ x s, r = .add x s → i < 10) := by
    intro r
    induction r with
    | add x s _ ih =>
      intro i h
      obtain ⟨-, h2⟩ := cr_add.1 h
      have h3 := (ih (i + 1) h2).1
      exact ⟨by omega, fun _ _ _ => by omega⟩
    | var k => intro i h; simp only [cr] at h; exact ⟨by omega, fun _ _ h9 => by cases h9⟩
    | _ => intro i h; simp [cr] at h
  intro r i j
  induction j generalizing r i with
  | zero =>
    intro x h hg
    cases r with
    | add y s => simp only [rc_get, Option.some.injEq] at hg; subst hg; exact ⟨(cr_add.1 h).1, (key _ _ h).2 _ _ rfl⟩
    | _ => simp [rc_get] at hg
  | succ j ih =>
    intro x h hg
    cases r with
    | add y s =>
      simp only [rc_get] at hg
      have h3 := ih s (i + 1) x (cr_add.1 h).2 hg
      rw [show i + 1 + j = i + (j + 1) by omega] at h3
      exact h3
    | _ => simp [rc_get] at hg
theorem cr_congr {Z : mm_G} {M : mm_M} {ad : List Nat} {T : List pt_R} {f g : Nat → Option Nat} : ∀ (r : ev) (i : Nat), (∀ k, i ≤ k → k < 10 → g k = f k) → cr Z M ad T r (i + 2) f none → cr Z M ad T r (i + 2) g none := by
  intro r
  induction r with
  | add x s _ ih =>
    intro i hk h
    have h0 := (cr_get (.add x s) i 0 x h rfl).2
    obtain ⟨h1, h2⟩ := cr_add.1 h
    exact cr_add.2 ⟨by rw [hk i (Nat.le_refl _) (by omega)]; exact h1, ih (i + 1) (fun k h3 h4 => hk k (by omega) h4) h2⟩
  | var k => intro i _ h; simp only [cr] at h ⊢; exact h
  | _ => intro i _ h; simp [cr] at h
theorem cr_set {Z : mm_G} {M : mm_M} {ad : List Nat} {T : List pt_R} {f : Nat → Option Nat} {y : ev} {o : Option Nat} (hy : cr_x Z M ad T y o) : ∀ (r : ev) (i j : Nat) (r' : ev), cr Z M ad T r (i + 2) f none → rc_set r j y = some r' → cr Z M ad T r' (i + 2) (va_up f (i + j) o) none ∧ i + j < 10 := by
  intro r i j
  induction j generalizing r i with
  | zero =>
    intro r' h hg
    cases r with
    | add x s =>
      simp only [rc_set, Option.some.injEq] at hg; subst hg
      have h0 := (cr_get (.add x s) i 0 x h rfl).2
      exact ⟨cr_add.2 ⟨by simp [va_up]; exact hy, cr_congr s (i + 1) (fun k h3 h4 => by have h9 : k ≠ i := (by omega); simp [va_up, h9]) (cr_add.1 h).2⟩, h0⟩
    | _ => simp [rc_set] at hg
  | succ j ih =>
    intro r' h hg
    cases r with
    | add x s =>
      simp only [rc_set, Option.map_eq_some_iff] at hg
      obtain ⟨s', hs, rfl⟩ := hg
      obtain ⟨h3, h4⟩ := ih s (i + 1) s' (cr_add.1 h).2 hs
      have h5 : i ≠ i + (j + 1) := by omega
      rw [show i + 1 + j = i + (j + 1) by omega] at h3
      exact ⟨cr_add.2 ⟨by simp only [va_up, h5, if_false]; exact (cr_add.1 h).1, h3⟩, by omega⟩
    | _ => simp [rc_set] at hg
theorem cr_xmono {Z : mm_G} {M M' : mm_M} {ad : List Nat} {T : List pt_R} {x : ev} {o : Option Nat} (h : mm_Kp M M') (hx : cr_x Z M ad T x o) : cr_x Z M' ad T x o := hx.imp id (fun h6 => ⟨h6.1, cr.mono h _ _ _ _ h6.2⟩)
theorem rc_some {r : ev} {j : Nat} {y r' : ev} (h : rc_set r j y = some r') : ∃ x s, r = .add x s ∧ ∃ x' s', r' = .add x' s' := by
  cases r with
  | add x s =>
    cases j with
    | zero => simp only [rc_set, Option.some.injEq] at h; exact ⟨x, s, rfl, _, _, h.symm⟩
    | succ j => simp only [rc_set, Option.map_eq_some_iff] at h; obtain ⟨s', -, rfl⟩ := h; exact ⟨x, s, rfl, _, _, rfl⟩
  | _ => cases j <;> simp [rc_set] at h
theorem cr_isV {Z : mm_G} {M : mm_M} {ad : List Nat} {T : List pt_R} {r : ev} {f : Nat → Option Nat} (h : cr Z M ad T r 2 f none) : ∀ i y : Nat, i < 10 → f i = some y → mm_isV M y := by
  have key : ∀ (r : ev) (k : Nat), cr Z M ad T r (k + 2) f none → ∀ i y : Nat, k ≤ i → i < 10 → f i = some y → mm_isV M y := by
    intro r
    induction r with
    | add x s _ ih =>
      intro k h i y h1 h2 h3
      obtain ⟨h4, h5⟩ := cr_add.1 h
      by_cases hk : i = k
      · subst hk
        rcases h4 with ⟨-, h6⟩ | ⟨-, h6⟩
        · rw [h6] at h3; cases h3
        · obtain ⟨a, h7, h8⟩ := h6.isV
          rw [h3] at h7; cases h7; exact h8
      · exact ih (k + 1) h5 i y (by omega) h2 h3
    | var n => intro k h i y h1 h2; simp only [cr] at h; omega
    | _ => intro k h; simp [cr] at h
  exact fun i y => key r 0 h i y (Nat.zero_le _)

set_option maxHeartbeats 4000000 in
set_option maxRecDepth 100000 in
theorem c_X30_rowOf_as (l : Launch) (Z : mm_G) {M : mm_M} {ta k tq : Nat} {r : pt_R} {tf : Option Nat} (hta : M ta = some (ct_E k r tq tf)) {b : Nat} {sd : Option Nat} (hk9 : r.1 = 10) : mm_C l Z yX30_rowOf (ws_ yX30_rowOf cX30_rowOf 5 (some (.object "RowenTongue$Value"))) { frames := 3, cells := 1, slots := 2, locals := 60 } [.ref ta, .ref b, va_rf sd] M (fun v M' => ∃ q : Nat, M q = none ∧ v = some (.ref q) ∧ M' = mm_U M q (.inr (31, [.int r.2.1, .ref b]))) mm_nx := by
  refine mm_ofW (cc := cX30_rowOf) (maxL := 5) (ret := (some (.object "RowenTongue$Value"))) (by decide) rfl (by simp [lg_sl, mm_cat_o, mm_cat_r, mm_cat_i, mm_cat_l, mm_cat_n]) ?_
  intro p e s m below meth c A ls hx hb hr hlk hml hown hmn hts htab hE hST hA hM hS hl
  replace hl : lv_has ls 5 [(0, .ref ta), (1, .ref b), (2, va_rf sd)] := by simpa [lv_args, mm_cat_o, mm_cat_r, mm_cat_i, mm_cat_l, mm_cat_n] using hl
  refine lv_aload_n hx hb dX30_rowOf_0 rfl (lv_at hl 0 rfl) ?_
  refine va_getN (D := Z.1) (ci := 2) (v := .int r.1) (C := RX3) (T := TX3) (N := 7) hx hb hts in_X3 hown hE.1 (hM.at hta) 0 rfl mm_cX3 1 (by decide) (va_Nw.use rfl (hE.2.1 _ q286 rfl)) (fun _ h9 => h9) rfl dX30_rowOf_1 ?_
  refine lv_bipush (v := 10) hx hb dX30_rowOf_4 (by decide) ?_
  refine lv_icmp_ne (tgt := 22) hx hb dX30_rowOf_6 (by decide) (fun h9 => absurd hk9 h9) (fun _ => ?_)
  refine mm_new (D := Z.1) (ci := 31) (fs := mm_f0X37) (C := RX37) (T := TX37) (N := 2) hx hb hts in_X37 tyX37 tyX37_ok hown (hts _ q1880) (hts _ q1936) (hts _ q110) hE.1 hM hS hA mm_cX37 mm_dfX37 (Nat.le_of_ble_eq_true rfl) (Nat.le_of_ble_eq_true rfl) dX30_rowOf_9 (fun q_2 H nq_1 hM hS => ?_)
  have hM : mm_P Z.1 mm_cl A (mm_U M q_2 (.inr (31, [.int 0, .null]))) H := hM
  have ne_3 : ta ≠ q_2 := (mm_neN hta nq_1)
  have hc_4 : (mm_U M q_2 (.inr (31, [.int 0, .null]))) q_2 = some (.inr (31, [.int 0, .null])) := mm_U_eq
  have hc_5 : (mm_U M q_2 (.inr (31, [.int 0, .null]))) ta = some (.inr (2, [.int (nI k), .int r.1, .int r.2.1, .int r.2.2.1, .ref tq, .int (nI r.2.2.2.2), va_rf tf])) := (mm_U_ne ne_3).trans hta
  obtain ⟨M_6, eM_6⟩ : ∃ z, z = mm_U M q_2 (.inr (31, [.int 0, .null])) := ⟨_, rfl⟩
  rw [← eM_6] at hM hc_5 hc_4
  refine lv_dup hx hb dX30_rowOf_12 rfl ?_
  refine lv_aload_n hx hb dX30_rowOf_13 rfl (lv_at hl 0 rfl) ?_
  refine va_getN (D := Z.1) (ci := 2) (v := .int r.2.1) (C := RX3) (T := TX3) (N := 7) hx hb hts in_X3 hown hE.1 (hM.at hc_5) 0 rfl mm_cX3 2 (by decide) (va_Nw.use rfl (hE.2.1 _ q289 rfl)) (fun _ h9 => h9) rfl dX30_rowOf_14 ?_
  refine lv_aload_n hx hb dX30_rowOf_17 rfl (lv_at hl 1 rfl) ?_
  refine mm_callI (As := [.int r.2.1, .ref b]) (rest := [.ref q_2]) ⟨hx, hb, hml, hown, hts⟩ hE hST hA (c_X37_init l Z (M := M_6) (h0 := q_2) (x1 := r.2.1) (x2 := (some b)) hc_4) (cwI (maxL := 3) 2 hts (lw_meth q1939) rfl rfl rfl (hts _ q110) (hts _ q1937) (hts _ q1938) rfl (by decide +kernel) ⟨(Nat.le_of_ble_eq_true rfl), (Nat.le_of_ble_eq_true rfl)⟩) hM hS rfl hl.1 (Nat.le_of_ble_eq_true rfl) dX30_rowOf_18 rfl ⟨(Nat.le_of_ble_eq_true rfl), (Nat.le_of_ble_eq_true rfl)⟩ (fun _ _ _ _ _ _ h9 => h9.elim) (fun v_7 M_8 H locs hp_9 hM hS => ?_)
  obtain ⟨rfl, eM_8⟩ := hp_9
  rw [eM_8] at hM
  replace hM : mm_P Z.1 mm_cl A (mm_U M_6 q_2 (.inr (31, [.int r.2.1, .ref b]))) H := hM
  have hc_10 : (mm_U M_6 q_2 (.inr (31, [.int r.2.1, .ref b]))) q_2 = some (.inr (31, [.int r.2.1, .ref b])) := mm_U_eq
  have hc_11 : (mm_U M_6 q_2 (.inr (31, [.int r.2.1, .ref b]))) ta = some (.inr (2, [.int (nI k), .int r.1, .int r.2.1, .int r.2.2.1, .ref tq, .int (nI r.2.2.2.2), va_rf tf])) := (mm_U_ne ne_3).trans hc_5
  obtain ⟨M_12, eM_12⟩ : ∃ z, z = mm_U M_6 q_2 (.inr (31, [.int r.2.1, .ref b])) := ⟨_, rfl⟩
  rw [← eM_12] at hM hc_11 hc_10
  exact mm_reta hx hb hr (Or.inl ⟨_, rfl⟩) (Or.inr ⟨_, rfl⟩) hlk hM hS ⟨q_2, nq_1, rfl, by subst eM_12 eM_6; simp only [mm_U_U]⟩ dX30_rowOf_21 (Nat.le_of_ble_eq_true rfl) (Nat.le_of_ble_eq_true rfl)
set_option maxHeartbeats 4000000 in
set_option maxRecDepth 100000 in
theorem c_X30_rowOf_of (l : Launch) (Z : mm_G) {M : mm_M} {ta k tq : Nat} {r : pt_R} {tf : Option Nat} (hta : M ta = some (ct_E k r tq tf)) {ad : List Nat} {T : List pt_R} {w : ev} {wa : Nat} {fst : Option Nat} {lb : Nat} {v : ev} {g0 : Nat → Option Nat} (hk9 : r.1 = 8) (hl9 : r.2.1 = nI lb) (hw9 : cr Z M ad T w 0 g0 (some wa)) (hg9 : rc_get w lb = some v) (hv9 : ev_abs v = false) : mm_C l Z yX30_rowOf (ws_ yX30_rowOf cX30_rowOf 5 (some (.object "RowenTongue$Value"))) { frames := 0, cells := 0, slots := 0, locals := 0 } [.ref ta, va_rf fst, .ref wa] M (fun v9 M' => (∃ b : Nat, v9 = some (.ref b) ∧ cr Z M ad T v 0 (fun _ => none) (some b)) ∧ M' = M) mm_nx := by
  refine mm_ofW (cc := cX30_rowOf) (maxL := 5) (ret := (some (.object "RowenTongue$Value"))) (by decide) rfl (by simp [lg_sl, mm_cat_o, mm_cat_r, mm_cat_i, mm_cat_l, mm_cat_n]) ?_
  intro p e s m below meth c A ls hx hb hr hlk hml hown hmn hts htab hE hST hA hM hS hl
  replace hl : lv_has ls 5 [(0, .ref ta), (1, va_rf fst), (2, .ref wa)] := by simpa [lv_args, mm_cat_o, mm_cat_r, mm_cat_i, mm_cat_l, mm_cat_n] using hl
  obtain ⟨x0, r0, rfl⟩ : ∃ x0 r0, w = .add x0 r0 := by cases w with
    | add x0 r0 => exact ⟨x0, r0, rfl⟩
    | _ => (cases lb <;> simp [rc_get] at hg9)
  obtain ⟨wa', wq, wf, e9, hwa, hwq, hws⟩ := cr_rec.1 hw9
  cases e9
  obtain ⟨hx9, hl10⟩ := cr_get _ 0 lb v hws hg9
  rw [Nat.zero_add] at hx9 hl10
  obtain ⟨b, hb9, -⟩ : ∃ b, wf lb = some b ∧ True := by rcases hx9 with ⟨h1, -⟩ | ⟨-, h2⟩; exact absurd (h1.symm.trans hv9) (by decide); obtain ⟨b, h3, -⟩ := h2.isV; exact ⟨b, h3, trivial⟩
  have hcb : cr Z M ad T v 0 (fun _ => none) (some b) := by rcases hx9 with ⟨h1, -⟩ | ⟨-, h2⟩; exact absurd (h1.symm.trans hv9) (by decide); rw [hb9] at h2; exact h2
  refine lv_aload_n hx hb dX30_rowOf_0 rfl (lv_at hl 0 rfl) ?_
  refine va_getN (D := Z.1) (ci := 2) (v := .int r.1) (C := RX3) (T := TX3) (N := 7) hx hb hts in_X3 hown hE.1 (hM.at hta) 0 rfl mm_cX3 1 (by decide) (va_Nw.use rfl (hE.2.1 _ q286 rfl)) (fun _ h9 => h9) rfl dX30_rowOf_1 ?_
  refine lv_bipush (v := 10) hx hb dX30_rowOf_4 (by decide) ?_
  refine lv_icmp_ne (tgt := 22) hx hb dX30_rowOf_6 (by decide) (fun _ => ?_) (fun h9 => absurd h9 (by rw [hk9]; decide))
  refine lv_aload_n hx hb dX30_rowOf_22 rfl (lv_at hl 2 rfl) ?_
  refine va_castS hx hb hown (hts _ q1920) (hE.1.1 30 _ mm_cX36).2 (mm_recv hE hM mm_cX36 hwa) dX30_rowOf_23 ?_
  refine lv_astore_n hx hb dX30_rowOf_26 rfl hl (by decide) rfl (fun ls hl => ?_)
  replace hl : lv_has ls 5 [(3, .ref wa), (0, .ref ta), (1, va_rf fst), (2, .ref wa)] := hl
  refine lv_aload_n hx hb dX30_rowOf_27 rfl (lv_at hl 1 rfl) ?_
  refine va_getN (D := Z.1) (ci := 2) (v := .int r.1) (C := RX3) (T := TX3) (N := 7) hx hb hts in_X3 hown hE.1 (hM.at hta) 0 rfl mm_cX3 1 (by decide) (va_Nw.use rfl (hE.2.1 _ q286 rfl)) (fun _ h9 => h9) rfl dX30_rowOf_28 ?_
  refine lv_bipush (v := 8) hx hb dX30_rowOf_31 (by decide) ?_
  refine lv_icmp_ne (tgt := 46) hx hb dX30_rowOf_33 (by decide) (fun h9 => absurd hk9 h9) (fun _ => ?_)
  refine lv_aload_n hx hb dX30_rowOf_36 rfl (lv_at hl 0 rfl) ?_
  refine va_getN (D := Z.1) (ci := 30) (v := .ref wq) (C := RX36) (T := TX36) (N := 1) hx hb hts in_X36 hown hE.1 (hM.at hwa) 0 rfl mm_cX36 0 (by decide) (va_Nw.use rfl (hE.2.1 _ q1929 rfl)) (fun _ h9 => h9) rfl dX30_rowOf_37 ?_
  refine lv_aload_n hx hb dX30_rowOf_40 rfl (lv_at hl 1 rfl) ?_
  refine va_getN (D := Z.1) (ci := 2) (v := .int r.2.1) (C := RX3) (T := TX3) (N := 7) hx hb hts in_X3 hown hE.1 (hM.at hta) 0 rfl mm_cX3 2 (by decide) (va_Nw.use rfl (hE.2.1 _ q289 rfl)) (fun _ h9 => h9) rfl dX30_rowOf_41 ?_
  rw [show (r.2.1 : Int32) = nI lb from hl9]
  refine mm_aald (k := lb) hx hb hE hM 6 hwq rfl rfl hl10 (by decide) dX30_rowOf_44 ?_
  rw [hb9]
  exact mm_reta hx hb hr (Or.inl ⟨_, rfl⟩) (Or.inr ⟨_, rfl⟩) hlk hM hS ⟨⟨b, rfl, hcb⟩, rfl⟩ dX30_rowOf_45 (Nat.le_of_ble_eq_true rfl) (Nat.le_of_ble_eq_true rfl)
set_option maxHeartbeats 4000000 in
set_option maxRecDepth 100000 in
theorem c_X30_rowOf_with (l : Launch) (Z : mm_G) {M : mm_M} {ta k tq : Nat} {r : pt_R} {tf : Option Nat} (hta : M ta = some (ct_E k r tq tf)) {ad : List Nat} {T : List pt_R} {fb : Nat} {v : ev} {w w' : ev} {wa lb : Nat} {g0 : Nat → Option Nat} (hk9 : r.1 = 7) (hl9 : r.2.1 = nI lb) (hw9 : cr Z M ad T w 0 g0 (some wa)) (hg9 : rc_set w lb v = some w') (hv9 : ev_abs v = false) (hvb : cr Z M ad T v 0 (fun _ => none) (some fb)) : mm_C l Z yX30_rowOf (ws_ yX30_rowOf cX30_rowOf 5 (some (.object "RowenTongue$Value"))) { frames := 4, cells := 2, slots := 11, locals := 120 } [.ref ta, .ref fb, .ref wa] M (fun v9 M' => (∃ b : Nat, v9 = some (.ref b) ∧ cr Z M' ad T w' 0 (fun _ => none) (some b)) ∧ mm_Ext M M') mm_nx := by
  refine mm_ofW (cc := cX30_rowOf) (maxL := 5) (ret := (some (.object "RowenTongue$Value"))) (by decide) rfl (Nat.le_of_ble_eq_true rfl) ?_
  intro p e s m below meth c A ls hx hb hr hlk hml hown hmn hts htab hE hST hA hM hS hl
  replace hl : lv_has ls 5 [(0, .ref ta), (1, .ref fb), (2, .ref wa)] := hl
  obtain ⟨x0, r0, rfl, x1, r1, rfl⟩ := rc_some hg9
  obtain ⟨wa', wq, wf, e9, hwa, hwq, hws⟩ := cr_rec.1 hw9
  cases e9
  refine lv_aload_n hx hb dX30_rowOf_0 rfl (lv_at hl 0 rfl) ?_
  refine va_getN (D := Z.1) (ci := 2) (v := .int r.1) (C := RX3) (T := TX3) (N := 7) hx hb hts in_X3 hown hE.1 (hM.at hta) 0 rfl mm_cX3 1 (by decide) (va_Nw.use rfl (hE.2.1 _ q286 rfl)) (fun _ h9 => h9) rfl dX30_rowOf_1 ?_
  refine lv_bipush (v := 10) hx hb dX30_rowOf_4 (by decide) ?_
  refine lv_icmp_ne (tgt := 22) hx hb dX30_rowOf_6 (by decide) (fun _ => ?_) (fun h9 => absurd h9 (by rw [hk9]; decide))
  refine lv_aload_n hx hb dX30_rowOf_22 rfl (lv_at hl 2 rfl) ?_
  refine va_castS hx hb hown (hts _ q1920) (hE.1.1 30 _ mm_cX36).2 (mm_recv hE hM mm_cX36 hwa) dX30_rowOf_23 ?_
  refine lv_astore_n hx hb dX30_rowOf_26 rfl hl (by decide) rfl (fun ls hl => ?_)
  replace hl : lv_has ls 5 [(3, .ref wa), (0, .ref ta), (1, .ref fb), (2, .ref wa)] := hl
  refine lv_aload_n hx hb dX30_rowOf_27 rfl (lv_at hl 1 rfl) ?_
  refine va_getN (D := Z.1) (ci := 2) (v := .int r.1) (C := RX3) (T := TX3) (N := 7) hx hb hts in_X3 hown hE.1 (hM.at hta) 0 rfl mm_cX3 1 (by decide) (va_Nw.use rfl (hE.2.1 _ q286 rfl)) (fun _ h9 => h9) rfl dX30_rowOf_28 ?_
  refine lv_bipush (v := 8) hx hb dX30_rowOf_31 (by decide) ?_
  refine lv_icmp_ne (tgt := 46) hx hb dX30_rowOf_33 (by decide) (fun _ => ?_) (fun h9 => absurd h9 (by rw [hk9]; decide))
  refine lv_aload_n hx hb dX30_rowOf_46 rfl (lv_at hl 0 rfl) ?_
  refine mm_callV (As := []) (rest := []) ⟨hx, hb, hml, hown, hts⟩ hE hST hA (c_X36_copy l Z hwa hwq (cr_isV hws)) (cwV 0 hts (lw_V q1950 q1951 q1952 q109 q1953) rfl rfl rfl (by decide +kernel) ⟨(Nat.le_of_ble_eq_true rfl), (Nat.le_of_ble_eq_true rfl)⟩) hM hS mm_cX36 hwa rfl hl.1 (Nat.le_of_ble_eq_true rfl) dX30_rowOf_47 rfl ⟨(Nat.le_of_ble_eq_true rfl), (Nat.le_of_ble_eq_true rfl)⟩ (fun _ _ _ _ _ _ h9 => h9.elim) (fun v_1 M_2 H locs hp_3 hM hS => ?_)
  obtain ⟨b, q', g, nb9, nq9, nbq, rfl, hgf, eM_2⟩ := hp_3
  rw [eM_2] at hM
  have ne_4 : ta ≠ b := (mm_neN hta nb9)
  have ne_5 : ta ≠ q' := (mm_neN hta nq9)
  have ne_6 : wa ≠ b := (mm_neN hwa nb9)
  have ne_7 : wa ≠ q' := (mm_neN hwa nq9)
  have ne_8 : wq ≠ b := (mm_neN hwq nb9)
  have ne_9 : wq ≠ q' := (mm_neN hwq nq9)
  have hc_10 : (mm_U M q' (.inl (Z.2.1 6, 10, .inr (.inr (.inr (.inr g)))))) q' = some (.inl (Z.2.1 6, 10, .inr (.inr (.inr (.inr g))))) := mm_U_eq
  have hc_11 : (mm_U M q' (.inl (Z.2.1 6, 10, .inr (.inr (.inr (.inr g)))))) ta = some (.inr (2, [.int (nI k), .int r.1, .int r.2.1, .int r.2.2.1, .ref tq, .int (nI r.2.2.2.2), va_rf tf])) := (mm_U_ne ne_5).trans hta
  have hc_12 : (mm_U M q' (.inl (Z.2.1 6, 10, .inr (.inr (.inr (.inr g)))))) wa = some (.inr (30, [.ref wq])) := (mm_U_ne ne_7).trans hwa
  have hc_13 : (mm_U M q' (.inl (Z.2.1 6, 10, .inr (.inr (.inr (.inr g)))))) wq = some (.inl (Z.2.1 6, 10, .inr (.inr (.inr (.inr wf))))) := (mm_U_ne ne_9).trans hwq
  obtain ⟨M_14, eM_14⟩ : ∃ z, z = mm_U M q' (.inl (Z.2.1 6, 10, .inr (.inr (.inr (.inr g))))) := ⟨_, rfl⟩
  rw [← eM_14] at hM hc_11 hc_12 hc_13 hc_10
  have hc_15 : (mm_U M_14 b (.inr (30, [.ref q']))) b = some (.inr (30, [.ref q'])) := mm_U_eq
  have hc_16 : (mm_U M_14 b (.inr (30, [.ref q']))) ta = some (.inr (2, [.int (nI k), .int r.1, .int r.2.1, .int r.2.2.1, .ref tq, .int (nI r.2.2.2.2), va_rf tf])) := (mm_U_ne ne_4).trans hc_11
  have hc_17 : (mm_U M_14 b (.inr (30, [.ref q']))) wa = some (.inr (30, [.ref wq])) := (mm_U_ne ne_6).trans hc_12
  have hc_18 : (mm_U M_14 b (.inr (30, [.ref q']))) wq = some (.inl (Z.2.1 6, 10, .inr (.inr (.inr (.inr wf))))) := (mm_U_ne ne_8).trans hc_13
  have hc_19 : (mm_U M_14 b (.inr (30, [.ref q']))) q' = some (.inl (Z.2.1 6, 10, .inr (.inr (.inr (.inr g))))) := (mm_U_ne (Ne.symm nbq)).trans hc_10
  obtain ⟨M_20, eM_20⟩ : ∃ z, z = mm_U M_14 b (.inr (30, [.ref q'])) := ⟨_, rfl⟩
  rw [← eM_20] at hM hc_16 hc_17 hc_18 hc_19 hc_15
  have hex : mm_Ext M M_20 := fun z hz => by subst eM_20 eM_14; simp only [mm_U]; (repeat' split) <;> simp_all
  refine lv_astore hx hb dX30_rowOf_50 hl (by decide) rfl (fun ls hl => ?_)
  replace hl : lv_has ls 5 [(4, .ref b), (3, .ref wa), (0, .ref ta), (1, .ref fb), (2, .ref wa)] := hl
  refine lv_aload hx hb dX30_rowOf_52 (lv_at hl 0 rfl) ?_
  refine va_getN (D := Z.1) (ci := 30) (v := .ref q') (C := RX36) (T := TX36) (N := 1) hx hb hts in_X36 hown hE.1 (hM.at hc_15) 0 rfl mm_cX36 0 (by decide) (va_Nw.use rfl (hE.2.1 _ q1929 rfl)) (fun _ h9 => h9) rfl dX30_rowOf_54 ?_
  refine lv_aload_n hx hb dX30_rowOf_57 rfl (lv_at hl 2 rfl) ?_
  refine va_getN (D := Z.1) (ci := 2) (v := .int r.2.1) (C := RX3) (T := TX3) (N := 7) hx hb hts in_X3 hown hE.1 (hM.at hc_16) 0 rfl mm_cX3 2 (by decide) (va_Nw.use rfl (hE.2.1 _ q289 rfl)) (fun _ h9 => h9) rfl dX30_rowOf_58 ?_
  refine lv_aload_n hx hb dX30_rowOf_61 rfl (lv_at hl 2 rfl) ?_
  refine va_getN (D := Z.1) (ci := 2) (v := .int r.1) (C := RX3) (T := TX3) (N := 7) hx hb hts in_X3 hown hE.1 (hM.at hc_16) 0 rfl mm_cX3 1 (by decide) (va_Nw.use rfl (hE.2.1 _ q286 rfl)) (fun _ h9 => h9) rfl dX30_rowOf_62 ?_
  refine lv_bipush (v := 7) hx hb dX30_rowOf_65 (by decide) ?_
  obtain ⟨hs9, hl10⟩ := cr_set (o := some fb) (Or.inr ⟨hv9, hvb⟩) _ 0 lb _ hws hg9
  simp only [Nat.zero_add] at hs9 hl10
  refine lv_icmp_ne (tgt := 74) hx hb dX30_rowOf_67 (by decide) (fun h9 => absurd hk9 h9) (fun _ => ?_)
  refine lv_aload_n hx hb dX30_rowOf_70 rfl (lv_at hl 3 rfl) ?_
  refine lv_goto (tgt := 75) hx hb dX30_rowOf_71 (by decide) ?_
  rw [hl9]
  refine mm_aastV (r := (some fb)) (k := lb) hx hb hE hM hS hc_19 (fun v8 h8 => by cases h8; obtain ⟨a8, h7, ci8, fs8, h6, h5⟩ := hvb.isV; cases h7; exact ⟨ci8, fs8, hex.at h6, h5⟩) rfl hl10 (by decide) dX30_rowOf_75 (fun H locs hM hS => ?_)
  have hM : mm_P Z.1 mm_cl A (mm_U M_20 q' (.inl (Z.2.1 6, 10, .inr (.inr (.inr (.inr (va_up g lb (some fb)))))))) H := hM
  have hc_21 : (mm_U M_20 q' (.inl (Z.2.1 6, 10, .inr (.inr (.inr (.inr (va_up g lb (some fb)))))))) q' = some (.inl (Z.2.1 6, 10, .inr (.inr (.inr (.inr (va_up g lb (some fb))))))) := mm_U_eq
  have hc_22 : (mm_U M_20 q' (.inl (Z.2.1 6, 10, .inr (.inr (.inr (.inr (va_up g lb (some fb)))))))) ta = some (.inr (2, [.int (nI k), .int r.1, .int r.2.1, .int r.2.2.1, .ref tq, .int (nI r.2.2.2.2), va_rf tf])) := (mm_U_ne ne_5).trans hc_16
  have hc_23 : (mm_U M_20 q' (.inl (Z.2.1 6, 10, .inr (.inr (.inr (.inr (va_up g lb (some fb)))))))) wa = some (.inr (30, [.ref wq])) := (mm_U_ne ne_7).trans hc_17
  have hc_24 : (mm_U M_20 q' (.inl (Z.2.1 6, 10, .inr (.inr (.inr (.inr (va_up g lb (some fb)))))))) wq = some (.inl (Z.2.1 6, 10, .inr (.inr (.inr (.inr wf))))) := (mm_U_ne ne_9).trans hc_18
  have hc_25 : (mm_U M_20 q' (.inl (Z.2.1 6, 10, .inr (.inr (.inr (.inr (va_up g lb (some fb)))))))) b = some (.inr (30, [.ref q'])) := (mm_U_ne nbq).trans hc_15
  obtain ⟨M_26, eM_26⟩ : ∃ z, z = mm_U M_20 q' (.inl (Z.2.1 6, 10, .inr (.inr (.inr (.inr (va_up g lb (some fb))))))) := ⟨_, rfl⟩
  rw [← eM_26] at hM hc_22 hc_23 hc_24 hc_21 hc_25
  have hex2 : mm_Ext M M_26 := by rw [eM_26]; exact hex.UU nq9
  refine lv_aload hx hb dX30_rowOf_76 (lv_at hl 0 rfl) ?_
  exact mm_reta hx hb hr (Or.inl ⟨_, rfl⟩) (Or.inr ⟨_, rfl⟩) hlk hM hS ⟨⟨b, rfl, cr_rec.2 ⟨b, q', _, rfl, hc_25, hc_21, cr_congr _ 0 (fun k h1 h2 => by simp only [va_up]; split <;> first | rfl | exact hgf k h2) (cr.mono hex2.K _ _ _ _ hs9)⟩⟩, hex2⟩ dX30_rowOf_78 (Nat.le_of_ble_eq_true rfl) (Nat.le_of_ble_eq_true rfl)
set_option maxHeartbeats 4000000 in
set_option maxRecDepth 100000 in
theorem c_X30_rowOf_without (l : Launch) (Z : mm_G) {M : mm_M} {ta k tq : Nat} {r : pt_R} {tf : Option Nat} (hta : M ta = some (ct_E k r tq tf)) {ad : List Nat} {T : List pt_R} {fst : Option Nat} {w w' : ev} {wa lb : Nat} {g0 : Nat → Option Nat} (hk9 : r.1 = 9) (hl9 : r.2.1 = nI lb) (hw9 : cr Z M ad T w 0 g0 (some wa)) (hg9 : rc_set w lb (.var 1) = some w')  : mm_C l Z yX30_rowOf (ws_ yX30_rowOf cX30_rowOf 5 (some (.object "RowenTongue$Value"))) { frames := 4, cells := 2, slots := 11, locals := 120 } [.ref ta, va_rf fst, .ref wa] M (fun v9 M' => (∃ b : Nat, v9 = some (.ref b) ∧ cr Z M' ad T w' 0 (fun _ => none) (some b)) ∧ mm_Ext M M') mm_nx := by
  refine mm_ofW (cc := cX30_rowOf) (maxL := 5) (ret := (some (.object "RowenTongue$Value"))) (by decide) rfl (by simp [lg_sl, mm_cat_o, mm_cat_r, mm_cat_i, mm_cat_l, mm_cat_n]) ?_
  intro p e s m below meth c A ls hx hb hr hlk hml hown hmn hts htab hE hST hA hM hS hl
  replace hl : lv_has ls 5 [(0, .ref ta), (1, va_rf fst), (2, .ref wa)] := by simpa [lv_args, mm_cat_o, mm_cat_r, mm_cat_i, mm_cat_l, mm_cat_n] using hl
  obtain ⟨x0, r0, rfl, x1, r1, rfl⟩ := rc_some hg9
  obtain ⟨wa', wq, wf, e9, hwa, hwq, hws⟩ := cr_rec.1 hw9
  cases e9
  refine lv_aload_n hx hb dX30_rowOf_0 rfl (lv_at hl 0 rfl) ?_
  refine va_getN (D := Z.1) (ci := 2) (v := .int r.1) (C := RX3) (T := TX3) (N := 7) hx hb hts in_X3 hown hE.1 (hM.at hta) 0 rfl mm_cX3 1 (by decide) (va_Nw.use rfl (hE.2.1 _ q286 rfl)) (fun _ h9 => h9) rfl dX30_rowOf_1 ?_
  refine lv_bipush (v := 10) hx hb dX30_rowOf_4 (by decide) ?_
  refine lv_icmp_ne (tgt := 22) hx hb dX30_rowOf_6 (by decide) (fun _ => ?_) (fun h9 => absurd h9 (by rw [hk9]; decide))
  refine lv_aload_n hx hb dX30_rowOf_22 rfl (lv_at hl 2 rfl) ?_
  refine va_castS hx hb hown (hts _ q1920) (hE.1.1 30 _ mm_cX36).2 (mm_recv hE hM mm_cX36 hwa) dX30_rowOf_23 ?_
  refine lv_astore_n hx hb dX30_rowOf_26 rfl hl (by decide) rfl (fun ls hl => ?_)
  replace hl : lv_has ls 5 [(3, .ref wa), (0, .ref ta), (1, va_rf fst), (2, .ref wa)] := hl
  refine lv_aload_n hx hb dX30_rowOf_27 rfl (lv_at hl 1 rfl) ?_
  refine va_getN (D := Z.1) (ci := 2) (v := .int r.1) (C := RX3) (T := TX3) (N := 7) hx hb hts in_X3 hown hE.1 (hM.at hta) 0 rfl mm_cX3 1 (by decide) (va_Nw.use rfl (hE.2.1 _ q286 rfl)) (fun _ h9 => h9) rfl dX30_rowOf_28 ?_
  refine lv_bipush (v := 8) hx hb dX30_rowOf_31 (by decide) ?_
  refine lv_icmp_ne (tgt := 46) hx hb dX30_rowOf_33 (by decide) (fun _ => ?_) (fun h9 => absurd h9 (by rw [hk9]; decide))
  refine lv_aload_n hx hb dX30_rowOf_46 rfl (lv_at hl 0 rfl) ?_
  refine mm_callV (As := []) (rest := []) ⟨hx, hb, hml, hown, hts⟩ hE hST hA (c_X36_copy l Z hwa hwq (cr_isV hws)) (cwV 0 hts (lw_V q1950 q1951 q1952 q109 q1953) rfl rfl rfl (by decide +kernel) ⟨(Nat.le_of_ble_eq_true rfl), (Nat.le_of_ble_eq_true rfl)⟩) hM hS mm_cX36 hwa rfl hl.1 (Nat.le_of_ble_eq_true rfl) dX30_rowOf_47 rfl ⟨(Nat.le_of_ble_eq_true rfl), (Nat.le_of_ble_eq_true rfl)⟩ (fun _ _ _ _ _ _ h9 => h9.elim) (fun v_1 M_2 H locs hp_3 hM hS => ?_)
  obtain ⟨b, q', g, nb9, nq9, nbq, rfl, hgf, eM_2⟩ := hp_3
  rw [eM_2] at hM
  have ne_4 : ta ≠ b := (mm_neN hta nb9)
  have ne_5 : ta ≠ q' := (mm_neN hta nq9)
  have ne_6 : wa ≠ b := (mm_neN hwa nb9)
  have ne_7 : wa ≠ q' := (mm_neN hwa nq9)
  have ne_8 : wq ≠ b := (mm_neN hwq nb9)
  have ne_9 : wq ≠ q' := (mm_neN hwq nq9)
  have hc_10 : (mm_U M q' (.inl (Z.2.1 6, 10, .inr (.inr (.inr (.inr g)))))) q' = some (.inl (Z.2.1 6, 10, .inr (.inr (.inr (.inr g))))) := mm_U_eq
  have hc_11 : (mm_U M q' (.inl (Z.2.1 6, 10, .inr (.inr (.inr (.inr g)))))) ta = some (.inr (2, [.int (nI k), .int r.1, .int r.2.1, .int r.2.2.1, .ref tq, .int (nI r.2.2.2.2), va_rf tf])) := (mm_U_ne ne_5).trans hta
  have hc_12 : (mm_U M q' (.inl (Z.2.1 6, 10, .inr (.inr (.inr (.inr g)))))) wa = some (.inr (30, [.ref wq])) := (mm_U_ne ne_7).trans hwa
  have hc_13 : (mm_U M q' (.inl (Z.2.1 6, 10, .inr (.inr (.inr (.inr g)))))) wq = some (.inl (Z.2.1 6, 10, .inr (.inr (.inr (.inr wf))))) := (mm_U_ne ne_9).trans hwq
  obtain ⟨M_14, eM_14⟩ : ∃ z, z = mm_U M q' (.inl (Z.2.1 6, 10, .inr (.inr (.inr (.inr g))))) := ⟨_, rfl⟩
  rw [← eM_14] at hM hc_11 hc_12 hc_13 hc_10
  have hc_15 : (mm_U M_14 b (.inr (30, [.ref q']))) b = some (.inr (30, [.ref q'])) := mm_U_eq
  have hc_16 : (mm_U M_14 b (.inr (30, [.ref q']))) ta = some (.inr (2, [.int (nI k), .int r.1, .int r.2.1, .int r.2.2.1, .ref tq, .int (nI r.2.2.2.2), va_rf tf])) := (mm_U_ne ne_4).trans hc_11
  have hc_17 : (mm_U M_14 b (.inr (30, [.ref q']))) wa = some (.inr (30, [.ref wq])) := (mm_U_ne ne_6).trans hc_12
  have hc_18 : (mm_U M_14 b (.inr (30, [.ref q']))) wq = some (.inl (Z.2.1 6, 10, .inr (.inr (.inr (.inr wf))))) := (mm_U_ne ne_8).trans hc_13
  have hc_19 : (mm_U M_14 b (.inr (30, [.ref q']))) q' = some (.inl (Z.2.1 6, 10, .inr (.inr (.inr (.inr g))))) := (mm_U_ne (Ne.symm nbq)).trans hc_10
  obtain ⟨M_20, eM_20⟩ : ∃ z, z = mm_U M_14 b (.inr (30, [.ref q'])) := ⟨_, rfl⟩
  rw [← eM_20] at hM hc_16 hc_17 hc_18 hc_19 hc_15
  have hex : mm_Ext M M_20 := fun z hz => by subst eM_20 eM_14; simp only [mm_U]; (repeat' split) <;> simp_all
  refine lv_astore hx hb dX30_rowOf_50 hl (by decide) rfl (fun ls hl => ?_)
  replace hl : lv_has ls 5 [(4, .ref b), (3, .ref wa), (0, .ref ta), (1, va_rf fst), (2, .ref wa)] := hl
  refine lv_aload hx hb dX30_rowOf_52 (lv_at hl 0 rfl) ?_
  refine va_getN (D := Z.1) (ci := 30) (v := .ref q') (C := RX36) (T := TX36) (N := 1) hx hb hts in_X36 hown hE.1 (hM.at hc_15) 0 rfl mm_cX36 0 (by decide) (va_Nw.use rfl (hE.2.1 _ q1929 rfl)) (fun _ h9 => h9) rfl dX30_rowOf_54 ?_
  refine lv_aload_n hx hb dX30_rowOf_57 rfl (lv_at hl 2 rfl) ?_
  refine va_getN (D := Z.1) (ci := 2) (v := .int r.2.1) (C := RX3) (T := TX3) (N := 7) hx hb hts in_X3 hown hE.1 (hM.at hc_16) 0 rfl mm_cX3 2 (by decide) (va_Nw.use rfl (hE.2.1 _ q289 rfl)) (fun _ h9 => h9) rfl dX30_rowOf_58 ?_
  refine lv_aload_n hx hb dX30_rowOf_61 rfl (lv_at hl 2 rfl) ?_
  refine va_getN (D := Z.1) (ci := 2) (v := .int r.1) (C := RX3) (T := TX3) (N := 7) hx hb hts in_X3 hown hE.1 (hM.at hc_16) 0 rfl mm_cX3 1 (by decide) (va_Nw.use rfl (hE.2.1 _ q286 rfl)) (fun _ h9 => h9) rfl dX30_rowOf_62 ?_
  refine lv_bipush (v := 7) hx hb dX30_rowOf_65 (by decide) ?_
  obtain ⟨hs9, hl10⟩ := cr_set (o := none) (Or.inl ⟨rfl, rfl⟩) _ 0 lb _ hws hg9
  simp only [Nat.zero_add] at hs9 hl10
  refine lv_icmp_ne (tgt := 74) hx hb dX30_rowOf_67 (by decide) (fun _ => ?_) (fun h9 => absurd h9 (by rw [hk9]; decide))
  refine lv_null hx hb dX30_rowOf_74 ?_
  rw [hl9]
  refine mm_aastV (r := none) (k := lb) hx hb hE hM hS hc_19 (fun v8 h8 => by cases h8) rfl hl10 (by decide) dX30_rowOf_75 (fun H locs hM hS => ?_)
  have hM : mm_P Z.1 mm_cl A (mm_U M_20 q' (.inl (Z.2.1 6, 10, .inr (.inr (.inr (.inr (va_up g lb none))))))) H := hM
  have hc_21 : (mm_U M_20 q' (.inl (Z.2.1 6, 10, .inr (.inr (.inr (.inr (va_up g lb none))))))) q' = some (.inl (Z.2.1 6, 10, .inr (.inr (.inr (.inr (va_up g lb none)))))) := mm_U_eq
  have hc_22 : (mm_U M_20 q' (.inl (Z.2.1 6, 10, .inr (.inr (.inr (.inr (va_up g lb none))))))) ta = some (.inr (2, [.int (nI k), .int r.1, .int r.2.1, .int r.2.2.1, .ref tq, .int (nI r.2.2.2.2), va_rf tf])) := (mm_U_ne ne_5).trans hc_16
  have hc_23 : (mm_U M_20 q' (.inl (Z.2.1 6, 10, .inr (.inr (.inr (.inr (va_up g lb none))))))) wa = some (.inr (30, [.ref wq])) := (mm_U_ne ne_7).trans hc_17
  have hc_24 : (mm_U M_20 q' (.inl (Z.2.1 6, 10, .inr (.inr (.inr (.inr (va_up g lb none))))))) wq = some (.inl (Z.2.1 6, 10, .inr (.inr (.inr (.inr wf))))) := (mm_U_ne ne_9).trans hc_18
  have hc_25 : (mm_U M_20 q' (.inl (Z.2.1 6, 10, .inr (.inr (.inr (.inr (va_up g lb none))))))) b = some (.inr (30, [.ref q'])) := (mm_U_ne nbq).trans hc_15
  obtain ⟨M_26, eM_26⟩ : ∃ z, z = mm_U M_20 q' (.inl (Z.2.1 6, 10, .inr (.inr (.inr (.inr (va_up g lb none)))))) := ⟨_, rfl⟩
  rw [← eM_26] at hM hc_22 hc_23 hc_24 hc_21 hc_25
  have hex2 : mm_Ext M M_26 := by rw [eM_26]; exact hex.UU nq9
  refine lv_aload hx hb dX30_rowOf_76 (lv_at hl 0 rfl) ?_
  exact mm_reta hx hb hr (Or.inl ⟨_, rfl⟩) (Or.inr ⟨_, rfl⟩) hlk hM hS ⟨⟨b, rfl, cr_rec.2 ⟨b, q', _, rfl, hc_25, hc_21, cr_congr _ 0 (fun k h1 h2 => by simp only [va_up]; split <;> first | rfl | exact hgf k h2) (cr.mono hex2.K _ _ _ _ hs9)⟩⟩, hex2⟩ dX30_rowOf_78 (Nat.le_of_ble_eq_true rfl) (Nat.le_of_ble_eq_true rfl)
