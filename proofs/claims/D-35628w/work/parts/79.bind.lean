/-! ===== liken, bind, close ===== -/
set_option maxRecDepth 100000
theorem mm_Ext.uL {M M' : mm_M} (h : mm_Ext M M') : uL M M' := fun _ _ ha => Or.inl (h.at ha)
theorem uCI.lite {Z : mm_G} {M M' : mm_M} {L : List Nat} {vr : Nat → Nat} {S : ts} (hC : uCI Z M L vr S) (hx : mm_Ext M M') : uCI Z M' L vr S := by
  refine hC.light hx.uL rfl rfl (fun v hv => ?_)
  rcases (hC.2.1 v hv).2 with ⟨bd, h1, h2⟩ | ⟨bd, h1, h2⟩
  · exact Or.inl ⟨bd, hx.at h1, h2⟩
  · exact Or.inr ⟨bd, hx.at h1, h2⟩
theorem uX.afterK {M N M' : mm_M} {er : Int32} {E : String} {q : Nat} (h : uX N er E q M') (hK : uK M N) : uX M er E q M' := by
  refine ⟨h.1, ?_, h.2.2.1, hK.trans h.2.2.2⟩
  cases e : M q with
  | none => rfl
  | some x =>
    rcases hK q x e with k | ⟨bd, lv, lk, bd', lv', lk', -, k⟩ | ⟨bd, lv, lk, bd', lv', lk', lc, -, k⟩ | ⟨f, g, sm, bq, rn, sm', bq', rn', -, k, -⟩ | ⟨iv, w, sm, bq, rn, sm', bq', rn', -, k, -⟩ <;> (rw [h.2.1] at k; cases k)
theorem uK.putO {M : mm_M} {a : Nat} {bd bd' : Option Nat} {lv lv' : Int32} {lk lk' : Bool} (h : M a = some (co_E bd lv lk)) : uK M (mm_U M a (co_E bd' lv' lk')) := by
  intro q e he
  by_cases hq : q = a
  · subst hq; rw [h] at he; cases he; exact Or.inr (Or.inl ⟨_, _, _, _, _, _, rfl, mm_U_eq⟩)
  · exact Or.inl ((mm_U_ne hq).trans he)
theorem uK.putR {M : mm_M} {a : Nat} {bd bd' : Option Nat} {lv lv' lc : Int32} {lk lk' : Bool} (h : M a = some (cr_E bd lv lk lc)) : uK M (mm_U M a (cr_E bd' lv' lk' lc)) := by
  intro q e he
  by_cases hq : q = a
  · subst hq; rw [h] at he; cases he; exact Or.inr (Or.inr (Or.inl ⟨_, _, _, _, _, _, _, rfl, mm_U_eq⟩))
  · exact Or.inl ((mm_U_ne hq).trans he)
theorem uK.has {M M' : mm_M} (h : uK M M') {a : Nat} {e : va_E} (ha : M a = some e) : ∃ e', M' a = some e' := by
  rcases h a e ha with k | ⟨bd, lv, lk, bd', lv', lk', -, k⟩ | ⟨bd, lv, lk, bd', lv', lk', lc, -, k⟩ | ⟨f, g, sm, bq, rn, sm', bq', rn', -, k, -⟩ | ⟨iv, w, sm, bq, rn, sm', bq', rn', -, k, -⟩ <;> exact ⟨_, k⟩
/-- the variable's own cell -/
theorem uCI.varO {Z : mm_G} {M N : mm_M} {L : List Nat} {vr : Nat → Nat} {S S1 : ts} (hC : uCI Z N L vr S1) (hL : uL M N) {v : Nat} (hv : v < S1.1) {lv : Int32} {lk : Bool} (h : M (vr v) = some (co_E none lv lk)) : N (vr v) = some (co_E none (S1.2.2.2.2 v) (S1.2.2.1 v)) := by
  have h1 := hL.next h
  rw [unext_co h] at h1
  rcases (hC.2.1 v hv).2 with ⟨bd, h2, -⟩ | ⟨bd, h2, -⟩
  · rw [unext_co h2] at h1; subst h1; exact h2
  · rcases hL _ _ h with k | ⟨bd2, lv2, lk2, lv3, lk3, -, k⟩ | ⟨bd2, lv2, lk2, lv3, lk3, lc3, e2, k⟩
    · rw [h2] at k; simp at k
    · rw [h2] at k; simp at k
    · exfalso; simp at e2
theorem uCI.varR {Z : mm_G} {M N : mm_M} {L : List Nat} {vr : Nat → Nat} {S S1 : ts} (hC : uCI Z N L vr S1) (hL : uL M N) {v : Nat} (hv : v < S1.1) {lv lc : Int32} {lk : Bool} (h : M (vr v) = some (cr_E none lv lk lc)) : N (vr v) = some (cr_E none (S1.2.2.2.2 v) (S1.2.2.1 v) (S1.2.2.2.1 v)) := by
  have h1 := hL.next h
  rw [unext_cr h] at h1
  rcases (hC.2.1 v hv).2 with ⟨bd, h2, -⟩ | ⟨bd, h2, -⟩
  · rcases hL _ _ h with k | ⟨bd2, lv2, lk2, lv3, lk3, e2, k⟩ | ⟨bd2, lv2, lk2, lv3, lk3, lc3, -, k⟩
    · rw [h2] at k; simp at k
    · exfalso; simp at e2
    · rw [h2] at k; simp at k
  · rw [unext_cr h2] at h1; subst h1; exact h2
/-- what is seen of the type that was put stays -/
theorem uap_put {S : ts} (hok : ts_ok S) {v : Nat} {t : ev} (h : uoc v (uap S.2.1 t) = false) : uap (ts_put S v (uap S.2.1 t)).2.1 t = uap S.2.1 t := by
  show uap (fun u => uap (uon v (uap S.2.1 t)) (S.2.1 u)) t = _
  rw [← uap_ap]; exact uap_on_id (hok.can t) h
theorem tp_varO {Z : mm_G} {M : mm_M} {L : List Nat} {vr : Nat → Nat} {n v : Nat} (hv : v < n) (hL : vr v ∈ L) {bd : Option Nat} {lv : Int32} {lk : Bool} (h : M (vr v) = some (co_E bd lv lk)) : tp Z M L vr n (.var v) false (vr v) := by unfold tp; exact ⟨hv, rfl, hL, _, _, _, h⟩
theorem tp_varR {Z : mm_G} {M : mm_M} {L : List Nat} {vr : Nat → Nat} {n v : Nat} (hv : v < n) (hL : vr v ∈ L) {bd : Option Nat} {lv lc : Int32} {lk : Bool} (h : M (vr v) = some (cr_E bd lv lk lc)) : tp Z M L vr n (.var v) true (vr v) := by unfold tp; exact ⟨hv, rfl, hL, _, _, _, _, h⟩
theorem ts_lev_v {S : ts} {x : Int32} {T : ev} {v : Nat} (h : uoc v T = false) : (ts_lev S x T).2.2.2.2 v = S.2.2.2.2 v := by
  show (if uoc v T then _ else _) = _
  rw [h]; rfl

set_option maxHeartbeats 4000000 in
set_option maxRecDepth 100000 in
theorem d_X1_liken (l : Launch) (Z : mm_G) {M : mm_M} (htr : l.stackTraces = false) {L : List Nat} {vr : Nat → Nat} {S : ts} {t T : ev} {a : Nat} (hT : uap S.2.1 t = T) (hC : uCI Z M L vr S) (htp : tp Z M L vr S.1 t false a) : mm_D l Z yX1_liken (ws_ yX1_liken cX1_liken 1 none) { frames := uh T + L.length + 14, cells := 2, slots := 7, locals := 25 * uh T + 20 * L.length + 560 } [.ref a] M (fun v9 M' n9 k9 => v9 = none ∧ n9 = 1 ∧ k9 = 0 ∧ uhf T = false ∧ uL M M' ∧ uCI Z M' L vr (ts_like S T)) (fun E q M' => uhf T = true ∧ uX M 5 E q M') := by
  refine mm_ofWD (cc := cX1_liken) (maxL := 1) (ret := none) (by decide) rfl (Nat.le_of_ble_eq_true rfl) ?_
  intro p e s m below meth c A ls hx hb hr hlk hml hown hmn hts htab hE hST hA hM hS hl
  replace hl : lv_has ls 1 [(0, .ref a)] := hl
  refine lv_aload_n hx hb dX1_liken_0 rfl (lv_at hl 0 rfl) ?_
  refine mm_new (D := Z.1) (ci := 50) (fs := []) (C := "RowenTongue$Likening") (T := mm_TE0) (N := 0) hx hb hts mm_inE0 (fun _ => .int) (fun k h => absurd h (Nat.not_lt_zero k)) hown (hts _ q1180) (hts _ q1181) (hts _ q89) hE.1 hM hS hA mm_cE0 (fun j h => absurd h (Nat.not_lt_zero j)) (Nat.le_of_ble_eq_true rfl) (Nat.le_of_ble_eq_true rfl) dX1_liken_1 (fun q_2 H nq_1 hM hS => ?_)
  have hM : mm_P Z.1 mm_cl A (mm_U M q_2 (.inr (50, []))) H := hM
  have hc_3 : (mm_U M q_2 (.inr (50, []))) q_2 = some (.inr (50, [])) := mm_U_eq
  obtain ⟨M_4, eM_4⟩ : ∃ z, z = mm_U M q_2 (.inr (50, [])) := ⟨_, rfl⟩
  rw [← eM_4] at hM hc_3
  refine lv_dup hx hb dX1_liken_4 rfl ?_
  refine mm_callIN (As := []) (rest := [.ref q_2, .ref a]) ⟨hx, hb, hml, hown, hts⟩ hE hST hA (c_X21_init l Z (M := M_4) (h0 := q_2) hc_3) ⟨va_cnB 0 hts (lw_meth q1184) rfl rfl rfl (hE.2.1 _ q1182 rfl) (hts _ q89) (by decide +kernel) ⟨(by (try dsimp only); omega), (by (try dsimp only); omega)⟩, rfl, hts _ q1183⟩ hM hS rfl hl.1 (Nat.le_of_ble_eq_true rfl) dX1_liken_5 rfl ⟨(Nat.le_of_ble_eq_true rfl), (Nat.le_of_ble_eq_true rfl)⟩ (fun _ _ _ _ _ _ h9 => h9.elim) (fun v_5 M_6 H locs hp_7 hM hS => ?_)
  obtain ⟨rfl, eM_6⟩ := hp_7
  rw [eM_6] at hM
  have hex_8 : mm_Ext M M_4 := by subst eM_4; (try rw [mm_U_U]); exact mm_Ext.U nq_1
  have hL0 := hex_8.uL
  have hC0 := hC.lite hex_8
  refine mm_callSD (As := [.ref a, .ref q_2]) (rest := []) ⟨hx, hb, hml, hown, hts⟩ hE hST hA ((c_through_L l Z htr L vr q_2 (SizeOf.sizeOf T + 1)).1 T t a _ S (Nat.lt_succ_self _) hT hc_3 hC0 (htp.light hL0)) (va_cwS 2 hts (lw_S q1079 q1080 q87 q1081) rfl rfl rfl (by decide +kernel) ⟨(by (try dsimp only); omega), (by (try dsimp only); omega)⟩) hM hS rfl hl.1 (Nat.le_of_ble_eq_true rfl) dX1_liken_8 rfl ⟨(by (try dsimp only); omega), (by (try dsimp only); omega)⟩ (fun E ce q M9 H1 locs1 hp9 hM9 hS9 hce hcv hcl => by exact mm_outxD htab hlk hM9 hS9 hce hcv hcl ⟨hp9.1, hp9.2.after hL0⟩ (by (try dsimp only); omega) (by (try dsimp only); omega)) (fun v_9 M_10 n_12 k_13 H locs hp_11 hM hS => ?_)
  obtain ⟨rfl, rfl, rfl, ho1, hL1, hC1⟩ := hp_11
  exact mm_retvD hx hb hr hlk hM hS ⟨rfl, rfl, rfl, ho1, hL0.trans hL1, hC1⟩ dX1_liken_11 (by (try dsimp only); omega) (by (try dsimp only); omega)
set_option maxHeartbeats 4000000 in
set_option maxRecDepth 100000 in
theorem d_X1_bind (l : Launch) (Z : mm_G) {M : mm_M} (htr : l.stackTraces = false) {L : List Nat} {vr : Nat → Nat} {S : ts} {t T : ev} {v a : Nat} (hT : uap S.2.1 t = T) (hC : uCI Z M L vr S) (hv : v < S.1) (hvO : M (vr v) = some (co_E none (S.2.2.2.2 v) (S.2.2.1 v))) (htp : tp Z M L vr S.1 t false a) (hna : unext M a = none) : mm_D l Z yX1_bind (ws_ yX1_bind cX1_bind 2 none) { frames := uh T + L.length + 16, cells := 4, slots := 24, locals := 25 * uh T + 20 * L.length + 620 } [.ref (vr v), .ref a] M (fun v9 M' n9 k9 => v9 = none ∧ n9 ≤ 2 ∧ k9 ≤ 3 ∧ ∃ S', tBind S v T = .inr S' ∧ uK M M' ∧ uCI Z M' L vr S' ∧ S'.1 = S.1 ∧ uPhi M' L + 1 = uPhi M L ∧ ∀ z, M z ≠ none → z ≠ vr v → unext M' z = unext M z) (fun E q M' => ∃ er, tBind S v T = .inl er ∧ uX M er E q M') := by
  refine mm_ofWD (cc := cX1_bind) (maxL := 2) (ret := none) (by decide) rfl (Nat.le_of_ble_eq_true rfl) ?_
  intro p e s m below meth c A ls hx hb hr hlk hml hown hmn hts htab hE hST hA hM hS hl
  replace hl : lv_has ls 2 [(0, .ref (vr v)), (1, .ref a)] := hl
  refine lv_aload_n hx hb dX1_bind_0 rfl (lv_at hl 1 rfl) ?_
  refine mm_new (D := Z.1) (ci := 15) (fs := mm_f0X18) (C := RX18) (T := TX18) (N := 3) hx hb hts in_X18 tyX18 tyX18_ok hown (hts _ q1063) (hts _ q1064) (hts _ q86) hE.1 hM hS hA mm_cX18 mm_dfX18 (by (try dsimp only); omega) (by (try dsimp only); omega) dX1_bind_1 (fun q_2 H nq_1 hM hS => ?_)
  have hM : mm_P Z.1 mm_cl A (mm_U M q_2 (.inr (15, [.null, .null, .int 0]))) H := hM
  have ne_3 : (vr v) ≠ q_2 := (mm_neN hvO nq_1)
  have hc_4 : (mm_U M q_2 (.inr (15, [.null, .null, .int 0]))) q_2 = some (.inr (15, [.null, .null, .int 0])) := mm_U_eq
  have hc_5 : (mm_U M q_2 (.inr (15, [.null, .null, .int 0]))) (vr v) = some (.inr (9, [.null, .int (S.2.2.2.2 v), .int (mm_b (S.2.2.1 v))])) := (mm_U_ne ne_3).trans hvO
  obtain ⟨M_6, eM_6⟩ : ∃ z, z = mm_U M q_2 (.inr (15, [.null, .null, .int 0])) := ⟨_, rfl⟩
  rw [← eM_6] at hM hc_5 hc_4
  refine lv_dup hx hb dX1_bind_4 rfl ?_
  refine lv_aload_n hx hb dX1_bind_5 rfl (lv_at hl 0 rfl) ?_
  refine lv_null hx hb dX1_bind_6 ?_
  refine lv_aload_n hx hb dX1_bind_7 rfl (lv_at hl 0 rfl) ?_
  refine va_getN (D := Z.1) (ci := 9) (v := .int (S.2.2.2.2 v)) (C := RX11) (T := TX11) (N := 3) hx hb hts in_X11 hown hE.1 (hM.at hc_5) 0 rfl mm_cX11 1 (by decide) (va_Nw.use rfl (hE.2.1 _ q812 rfl)) (fun _ h9 => h9) rfl dX1_bind_8 ?_
  refine mm_callI (As := [.ref (vr v), .null, .int (S.2.2.2.2 v)]) (rest := [.ref q_2, .ref a]) ⟨hx, hb, hml, hown, hts⟩ hE hST hA (c_X18_init l Z (M := M_6) (h0 := q_2) (x1 := (some (vr v))) (x2 := none) (x3 := (S.2.2.2.2 v)) hc_4) (cwI (maxL := 4) 3 hts (lw_meth q1067) rfl rfl rfl (hts _ q86) (hts _ q1065) (hts _ q1066) rfl (by decide +kernel) ⟨(by (try dsimp only); omega), (by (try dsimp only); omega)⟩) hM hS rfl hl.1 (Nat.le_of_ble_eq_true rfl) dX1_bind_11 rfl ⟨(by (try dsimp only); omega), (by (try dsimp only); omega)⟩ (fun _ _ _ _ _ _ h9 => h9.elim) (fun v_7 M_8 H locs hp_9 hM hS => ?_)
  obtain ⟨rfl, eM_8⟩ := hp_9
  rw [eM_8] at hM
  replace hM : mm_P Z.1 mm_cl A (mm_U M_6 q_2 (.inr (15, [.ref (vr v), .null, .int (S.2.2.2.2 v)]))) H := hM
  have hc_10 : (mm_U M_6 q_2 (.inr (15, [.ref (vr v), .null, .int (S.2.2.2.2 v)]))) q_2 = some (.inr (15, [.ref (vr v), .null, .int (S.2.2.2.2 v)])) := mm_U_eq
  have hc_11 : (mm_U M_6 q_2 (.inr (15, [.ref (vr v), .null, .int (S.2.2.2.2 v)]))) (vr v) = some (.inr (9, [.null, .int (S.2.2.2.2 v), .int (mm_b (S.2.2.1 v))])) := (mm_U_ne ne_3).trans hc_5
  obtain ⟨M_12, eM_12⟩ : ∃ z, z = mm_U M_6 q_2 (.inr (15, [.ref (vr v), .null, .int (S.2.2.2.2 v)])) := ⟨_, rfl⟩
  rw [← eM_12] at hM hc_11 hc_10
  have hex_13 : mm_Ext M M_12 := by subst eM_12 eM_6; (try rw [mm_U_U]); exact mm_Ext.U nq_1
  have hL0 := hex_13.uL
  have hC0 := hC.lite hex_13
  have hvk : uVK M_12 false (vr v) := ⟨fun _ => ⟨none, _, _, hc_11⟩, (fun h9 => by cases h9)⟩
  refine mm_callSD (As := [.ref a, .ref q_2]) (rest := []) ⟨hx, hb, hml, hown, hts⟩ hE hST hA ((c_through_W l Z htr L vr v false q_2 (S.2.2.2.2 v) (SizeOf.sizeOf T + 1)).1 T t a _ S (Nat.lt_succ_self _) hT hv hvk hc_10 hC0 (htp.light hL0)) (va_cwS 2 hts (lw_S q1079 q1080 q87 q1081) rfl rfl rfl (by decide +kernel) ⟨(by (try dsimp only); omega), (by (try dsimp only); omega)⟩) hM hS rfl hl.1 (Nat.le_of_ble_eq_true rfl) dX1_bind_14 rfl ⟨(by (try dsimp only); omega), (by (try dsimp only); omega)⟩ (fun E ce q M9 H1 locs1 hp9 hM9 hS9 hce hcv hcl => by exact mm_outxD htab hlk hM9 hS9 hce hcv hcl ⟨3, by unfold tBind; exact if_pos hp9.1, hp9.2.after hL0⟩ (by (try dsimp only); omega) (by (try dsimp only); omega)) (fun v_14 M_15 n_17 k_18 H locs hp_16 hM hS => ?_)
  obtain ⟨rfl, rfl, rfl, ho1, hL1, hC1⟩ := hp_16
  have hv2 := hC1.varO (S := S) (hL0.trans hL1) hv hvO
  have ht2 := htp.light (hL0.trans hL1)
  have hn2 : unext M_15 a = none := by obtain ⟨e9, h9⟩ := htp.some; rw [(hL0.trans hL1).next h9]; exact hna
  have hlv2 := ts_lev_v (S := S) (x := S.2.2.2.2 v) ho1
  rw [hlv2] at hv2
  refine lv_aload_n hx hb dX1_bind_17 rfl (lv_at hl 0 rfl) ?_
  refine lv_aload_n hx hb dX1_bind_18 rfl (lv_at hl 1 rfl) ?_
  refine mm_putN (D := Z.1) (ci := 9) (v := .ref a) (ty := .object "RowenTongue$Type") (C := RX11) (T := TX11) (N := 3) hx hb hts in_X11 tyX11 tyX11_ok nmX11 hown hE.1 hM hS hv2 mm_cX11 0 (by decide) (va_Nw.use rfl (hE.2.1 _ q807 rfl)) (fun _ h9 => h9) rfl (by decide +kernel) rfl rfl (Nat.le_of_ble_eq_true rfl) dX1_bind_19 (fun H locs hM hS => ?_)
  have hM : mm_P Z.1 mm_cl A (mm_U M_15 (vr v) (.inr (9, [.ref a, .int (S.2.2.2.2 v), .int (mm_b (S.2.2.1 v))]))) H := hM
  have hc_19 : (mm_U M_15 (vr v) (.inr (9, [.ref a, .int (S.2.2.2.2 v), .int (mm_b (S.2.2.1 v))]))) (vr v) = some (.inr (9, [.ref a, .int (S.2.2.2.2 v), .int (mm_b (S.2.2.1 v))])) := mm_U_eq
  obtain ⟨M_20, eM_20⟩ : ∃ z, z = mm_U M_15 (vr v) (.inr (9, [.ref a, .int (S.2.2.2.2 v), .int (mm_b (S.2.2.1 v))])) := ⟨_, rfl⟩
  rw [← eM_20] at hM hc_19
  have hoc2 : uoc v (uap (ts_lev S (S.2.2.2.2 v) T).2.1 t) = false := by show uoc v (uap S.2.1 t) = false; rw [hT]; exact ho1
  have hK3 : uK M_15 M_20 := by rw [eM_20]; exact uK.putO (bd' := some a) (lv' := S.2.2.2.2 v) (lk' := S.2.2.1 v) hv2
  have hv3 := hc_19
  obtain ⟨hC3, hP3⟩ := hC1.put hK3 (v := v) (o := a) hv (fun q9 h9 => by rw [eM_20]; exact mm_U_ne h9) (by rw [unext_co hv2]) hn2 (m := false) (t' := t) (tp_varO hv (hC1.2.1 v hv).1 hv2) ht2 hoc2 (Or.inl ⟨_, _, hv2, hv3⟩)
  rw [show uap (ts_lev S (S.2.2.2.2 v) T).2.1 t = T from hT] at hC3
  have hP : uPhi M_20 L + 1 = uPhi M L := by rw [hP3]; exact (hL0.trans hL1).phi hC.2.2.1
  have hK : uK M M_20 := (hL0.trans hL1).K.trans hK3
  have hnx : ∀ z, M z ≠ none → z ≠ vr v → unext M_20 z = unext M z := fun z hz1 hz2 => by
    have h9 : unext M_20 z = unext M_15 z := by unfold unext; rw [eM_20, mm_U_ne hz2]
    rw [h9]
    cases h8 : M z with
    | none => exact absurd h8 hz1
    | some e9 => exact (hL0.trans hL1).next h8
  refine lv_aload_n hx hb dX1_bind_22 rfl (lv_at hl 0 rfl) ?_
  refine va_getN (D := Z.1) (ci := 9) (v := .int (mm_b (S.2.2.1 v))) (C := RX11) (T := TX11) (N := 3) hx hb hts in_X11 hown hE.1 (hM.at hc_19) 0 rfl mm_cX11 2 (by decide) (va_Nw.use rfl (hE.2.1 _ q815 rfl)) (fun _ h9 => h9) rfl dX1_bind_23 ?_
  refine lv_if_eq (tgt := 33) hx hb dX1_bind_26 (by decide) (fun c_21 => ?_) (fun c_21 => ?_)
  · skip
    have hlk9 : S.2.2.1 v = false := (mm_b_0 _).1 c_21
    exact mm_retvD hx hb hr hlk hM hS ⟨rfl, by (try dsimp only); omega, by (try dsimp only); omega, _, by unfold tBind; rw [if_neg (by rw [ho1]; decide), if_neg (by rw [hlk9]; decide)], hK, hC3, rfl, hP, hnx⟩ dX1_bind_33 (by (try dsimp only); omega) (by (try dsimp only); omega)
  · skip
    have hlk9 : S.2.2.1 v = true := by cases h8 : S.2.2.1 v with | true => rfl | false => exact absurd ((mm_b_0 _).2 h8) c_21
    have ht3 := tp.mono hK3 (fun _ h => h) (fun _ _ => rfl) (Nat.le_refl _) _ _ _ ht2
    have hT3 : uap (ts_put (ts_lev S (S.2.2.2.2 v) T) v T).2.1 t = T := by have h9 := uap_put (S := ts_lev S (S.2.2.2.2 v) T) hC1.1.1 (v := v) (t := t) hoc2; rw [show uap (ts_lev S (S.2.2.2.2 v) T).2.1 t = T from hT] at h9; exact h9
    refine lv_aload_n hx hb dX1_bind_29 rfl (lv_at hl 1 rfl) ?_
    refine mm_callSD (As := [.ref a]) (rest := []) ⟨hx, hb, hml, hown, hts⟩ hE hST hA (d_X1_liken l Z htr hT3 hC3 ht3) (va_cwS 1 hts (lw_S q1177 q1178 q50 q1179) rfl rfl rfl (by decide +kernel) ⟨(by (try dsimp only); omega), (by (try dsimp only); omega)⟩) hM hS rfl hl.1 (Nat.le_of_ble_eq_true rfl) dX1_bind_30 rfl ⟨(by (try dsimp only); omega), (by (try dsimp only); omega)⟩ (fun E ce q M9 H1 locs1 hp9 hM9 hS9 hce hcv hcl => by exact mm_outxD htab hlk hM9 hS9 hce hcv hcl ⟨5, by unfold tBind; rw [if_neg (by rw [ho1]; decide), if_pos hlk9]; unfold tLike; exact if_pos hp9.1, hp9.2.afterK hK⟩ (by (try dsimp only); omega) (by (try dsimp only); omega)) (fun v_22 M_23 n_25 k_26 H locs hp_24 hM hS => ?_)
    obtain ⟨rfl, rfl, rfl, ho4, hL4, hC4⟩ := hp_24
    exact mm_retvD hx hb hr hlk hM hS ⟨rfl, by (try dsimp only); omega, by (try dsimp only); omega, _, by unfold tBind; rw [if_neg (by rw [ho1]; decide), if_pos hlk9]; unfold tLike; exact if_neg (by rw [ho4]; decide), hK.trans hL4.K, hC4, rfl, by rw [hL4.phi hC3.2.2.1]; exact hP, fun z hz1 hz2 => by have h9 := hnx z hz1 hz2; rw [← h9]; cases h8 : M z with | none => exact absurd h8 hz1 | some e9 => obtain ⟨e7, h7⟩ : ∃ e7, M_20 z = some e7 := hK.has h8; exact hL4.next h7⟩ dX1_bind_33 (by (try dsimp only); omega) (by (try dsimp only); omega)
set_option maxHeartbeats 4000000 in
set_option maxRecDepth 100000 in
theorem d_X1_close (l : Launch) (Z : mm_G) {M : mm_M} (htr : l.stackTraces = false) {L : List Nat} {vr : Nat → Nat} {S : ts} {t T : ev} {v a : Nat} (hT : uap S.2.1 t = T) (hC : uCI Z M L vr S) (hv : v < S.1) (hvO : M (vr v) = some (cr_E none (S.2.2.2.2 v) (S.2.2.1 v) (S.2.2.2.1 v))) (htp : tp Z M L vr S.1 t true a) (hna : unext M a = none) : mm_D l Z yX1_close (ws_ yX1_close cX1_close 2 none) { frames := uh T + L.length + 16, cells := 4, slots := 24, locals := 25 * uh T + 20 * L.length + 620 } [.ref (vr v), .ref a] M (fun v9 M' n9 k9 => v9 = none ∧ n9 ≤ 2 ∧ k9 ≤ 3 ∧ ∃ S', tClose S v t = .inr S' ∧ uK M M' ∧ uCI Z M' L vr S' ∧ S'.1 = S.1 ∧ uPhi M' L + 1 = uPhi M L ∧ ∀ z, M z ≠ none → z ≠ vr v → unext M' z = unext M z) (fun E q M' => ∃ er, tClose S v t = .inl er ∧ uX M er E q M') := by
  refine mm_ofWD (cc := cX1_close) (maxL := 2) (ret := none) (by decide) rfl (Nat.le_of_ble_eq_true rfl) ?_
  intro p e s m below meth c A ls hx hb hr hlk hml hown hmn hts htab hE hST hA hM hS hl
  replace hl : lv_has ls 2 [(0, .ref (vr v)), (1, .ref a)] := hl
  refine lv_aload_n hx hb dX1_close_0 rfl (lv_at hl 1 rfl) ?_
  refine mm_new (D := Z.1) (ci := 15) (fs := mm_f0X18) (C := RX18) (T := TX18) (N := 3) hx hb hts in_X18 tyX18 tyX18_ok hown (hts _ q1063) (hts _ q1064) (hts _ q86) hE.1 hM hS hA mm_cX18 mm_dfX18 (by (try dsimp only); omega) (by (try dsimp only); omega) dX1_close_1 (fun q_2 H nq_1 hM hS => ?_)
  have hM : mm_P Z.1 mm_cl A (mm_U M q_2 (.inr (15, [.null, .null, .int 0]))) H := hM
  have ne_3 : (vr v) ≠ q_2 := (mm_neN hvO nq_1)
  have hc_4 : (mm_U M q_2 (.inr (15, [.null, .null, .int 0]))) q_2 = some (.inr (15, [.null, .null, .int 0])) := mm_U_eq
  have hc_5 : (mm_U M q_2 (.inr (15, [.null, .null, .int 0]))) (vr v) = some (.inr (12, [.null, .int (S.2.2.2.2 v), .int (mm_b (S.2.2.1 v)), .int (S.2.2.2.1 v)])) := (mm_U_ne ne_3).trans hvO
  obtain ⟨M_6, eM_6⟩ : ∃ z, z = mm_U M q_2 (.inr (15, [.null, .null, .int 0])) := ⟨_, rfl⟩
  rw [← eM_6] at hM hc_5 hc_4
  refine lv_dup hx hb dX1_close_4 rfl ?_
  refine lv_null hx hb dX1_close_5 ?_
  refine lv_aload_n hx hb dX1_close_6 rfl (lv_at hl 0 rfl) ?_
  refine lv_aload_n hx hb dX1_close_7 rfl (lv_at hl 0 rfl) ?_
  refine va_getN (D := Z.1) (ci := 12) (v := .int (S.2.2.2.2 v)) (C := RX15) (T := TX15) (N := 4) hx hb hts in_X15 hown hE.1 (hM.at hc_5) 0 rfl mm_cX15 1 (by decide) (va_Nw.use rfl (hE.2.1 _ q926 rfl)) (fun _ h9 => h9) rfl dX1_close_8 ?_
  refine mm_callI (As := [.null, .ref (vr v), .int (S.2.2.2.2 v)]) (rest := [.ref q_2, .ref a]) ⟨hx, hb, hml, hown, hts⟩ hE hST hA (c_X18_init l Z (M := M_6) (h0 := q_2) (x1 := none) (x2 := (some (vr v))) (x3 := (S.2.2.2.2 v)) hc_4) (cwI (maxL := 4) 3 hts (lw_meth q1067) rfl rfl rfl (hts _ q86) (hts _ q1065) (hts _ q1066) rfl (by decide +kernel) ⟨(by (try dsimp only); omega), (by (try dsimp only); omega)⟩) hM hS rfl hl.1 (Nat.le_of_ble_eq_true rfl) dX1_close_11 rfl ⟨(by (try dsimp only); omega), (by (try dsimp only); omega)⟩ (fun _ _ _ _ _ _ h9 => h9.elim) (fun v_7 M_8 H locs hp_9 hM hS => ?_)
  obtain ⟨rfl, eM_8⟩ := hp_9
  rw [eM_8] at hM
  replace hM : mm_P Z.1 mm_cl A (mm_U M_6 q_2 (.inr (15, [.null, .ref (vr v), .int (S.2.2.2.2 v)]))) H := hM
  have hc_10 : (mm_U M_6 q_2 (.inr (15, [.null, .ref (vr v), .int (S.2.2.2.2 v)]))) q_2 = some (.inr (15, [.null, .ref (vr v), .int (S.2.2.2.2 v)])) := mm_U_eq
  have hc_11 : (mm_U M_6 q_2 (.inr (15, [.null, .ref (vr v), .int (S.2.2.2.2 v)]))) (vr v) = some (.inr (12, [.null, .int (S.2.2.2.2 v), .int (mm_b (S.2.2.1 v)), .int (S.2.2.2.1 v)])) := (mm_U_ne ne_3).trans hc_5
  obtain ⟨M_12, eM_12⟩ : ∃ z, z = mm_U M_6 q_2 (.inr (15, [.null, .ref (vr v), .int (S.2.2.2.2 v)])) := ⟨_, rfl⟩
  rw [← eM_12] at hM hc_11 hc_10
  have hex_13 : mm_Ext M M_12 := by subst eM_12 eM_6; (try rw [mm_U_U]); exact mm_Ext.U nq_1
  have hL0 := hex_13.uL
  have hC0 := hC.lite hex_13
  have hvk : uVK M_12 true (vr v) := ⟨(fun h9 => by cases h9), fun _ => ⟨none, _, _, _, hc_11⟩⟩
  refine mm_callSD (As := [.ref a, .ref q_2]) (rest := []) ⟨hx, hb, hml, hown, hts⟩ hE hST hA ((c_through_W l Z htr L vr v true q_2 (S.2.2.2.2 v) (SizeOf.sizeOf T + 1)).2 T t a _ S (Nat.lt_succ_self _) hT hv hvk hc_10 hC0 (htp.light hL0)) (va_cwS 2 hts (lw_S q1252 q1147 q87 q1148) rfl rfl rfl (by decide +kernel) ⟨(by (try dsimp only); omega), (by (try dsimp only); omega)⟩) hM hS rfl hl.1 (Nat.le_of_ble_eq_true rfl) dX1_close_14 rfl ⟨(by (try dsimp only); omega), (by (try dsimp only); omega)⟩ (fun E ce q M9 H1 locs1 hp9 hM9 hS9 hce hcv hcl => by exact mm_outxD htab hlk hM9 hS9 hce hcv hcl ⟨3, by unfold tClose; rw [hT]; exact if_pos hp9.1, hp9.2.after hL0⟩ (by (try dsimp only); omega) (by (try dsimp only); omega)) (fun v_14 M_15 n_17 k_18 H locs hp_16 hM hS => ?_)
  obtain ⟨rfl, rfl, rfl, ho1, hL1, hC1⟩ := hp_16
  have hv2 := hC1.varR (S := S) (hL0.trans hL1) hv hvO
  have ht2 := htp.light (hL0.trans hL1)
  have hn2 : unext M_15 a = none := by obtain ⟨e9, h9⟩ := htp.some; rw [(hL0.trans hL1).next h9]; exact hna
  have hlv2 := ts_lev_v (S := S) (x := S.2.2.2.2 v) ho1
  rw [hlv2] at hv2
  refine lv_aload_n hx hb dX1_close_17 rfl (lv_at hl 0 rfl) ?_
  refine lv_aload_n hx hb dX1_close_18 rfl (lv_at hl 1 rfl) ?_
  refine mm_putN (D := Z.1) (ci := 12) (v := .ref a) (ty := .object "RowenTongue$Row") (C := RX15) (T := TX15) (N := 4) hx hb hts in_X15 tyX15 tyX15_ok nmX15 hown hE.1 hM hS hv2 mm_cX15 0 (by decide) (va_Nw.use rfl (hE.2.1 _ q921 rfl)) (fun _ h9 => h9) rfl (by decide +kernel) rfl rfl (Nat.le_of_ble_eq_true rfl) dX1_close_19 (fun H locs hM hS => ?_)
  have hM : mm_P Z.1 mm_cl A (mm_U M_15 (vr v) (.inr (12, [.ref a, .int (S.2.2.2.2 v), .int (mm_b (S.2.2.1 v)), .int (S.2.2.2.1 v)]))) H := hM
  have hc_19 : (mm_U M_15 (vr v) (.inr (12, [.ref a, .int (S.2.2.2.2 v), .int (mm_b (S.2.2.1 v)), .int (S.2.2.2.1 v)]))) (vr v) = some (.inr (12, [.ref a, .int (S.2.2.2.2 v), .int (mm_b (S.2.2.1 v)), .int (S.2.2.2.1 v)])) := mm_U_eq
  obtain ⟨M_20, eM_20⟩ : ∃ z, z = mm_U M_15 (vr v) (.inr (12, [.ref a, .int (S.2.2.2.2 v), .int (mm_b (S.2.2.1 v)), .int (S.2.2.2.1 v)])) := ⟨_, rfl⟩
  rw [← eM_20] at hM hc_19
  have hoc2 : uoc v (uap (ts_lev S (S.2.2.2.2 v) T).2.1 t) = false := by show uoc v (uap S.2.1 t) = false; rw [hT]; exact ho1
  have hK3 : uK M_15 M_20 := by rw [eM_20]; exact uK.putR (bd' := some a) (lv' := S.2.2.2.2 v) (lk' := S.2.2.1 v) hv2
  have hv3 := hc_19
  obtain ⟨hC3, hP3⟩ := hC1.put hK3 (v := v) (o := a) hv (fun q9 h9 => by rw [eM_20]; exact mm_U_ne h9) (by rw [unext_cr hv2]) hn2 (m := true) (t' := t) (tp_varR hv (hC1.2.1 v hv).1 hv2) ht2 hoc2 (Or.inr ⟨_, _, _, hv2, hv3⟩)
  rw [show uap (ts_lev S (S.2.2.2.2 v) T).2.1 t = T from hT] at hC3
  have hP : uPhi M_20 L + 1 = uPhi M L := by rw [hP3]; exact (hL0.trans hL1).phi hC.2.2.1
  have hK : uK M M_20 := (hL0.trans hL1).K.trans hK3
  have hnx : ∀ z, M z ≠ none → z ≠ vr v → unext M_20 z = unext M z := fun z hz1 hz2 => by
    have h9 : unext M_20 z = unext M_15 z := by unfold unext; rw [eM_20, mm_U_ne hz2]
    rw [h9]
    cases h8 : M z with
    | none => exact absurd h8 hz1
    | some e9 => exact (hL0.trans hL1).next h8
  exact mm_retvD hx hb hr hlk hM hS ⟨rfl, by (try dsimp only); omega, by (try dsimp only); omega, _, by unfold tClose; rw [hT]; exact if_neg (by rw [ho1]; decide), hK, hC3, rfl, hP, hnx⟩ dX1_close_22 (by (try dsimp only); omega) (by (try dsimp only); omega)
