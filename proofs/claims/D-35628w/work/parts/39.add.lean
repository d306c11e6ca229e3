/-! ===== the component's terms: add ===== -/
set_option maxRecDepth 100000
/-- a term's weight, by its parts -/
def pt_w (T : List pt_R) (ps : List Nat) : Nat := 1 + (ps.map fun j => ((T[j]?).map fun r : pt_R => r.2.2.2.2).getD 0).sum
/-- the parts' array -/
def ct_ps (ad : List Nat) (T : List pt_R) (ps : List Nat) (g : Nat → Option Nat) : Prop := ∀ (i j : Nat), ps[i]? = some j → j < T.length ∧ ∃ b, ad[j]? = some b ∧ g i = some b
theorem pt_w_1 {T : List pt_R} {j : Nat} {ps : List Nat} (h : j < T.length) : pt_w T (j :: ps) = T[j].2.2.2.2 + pt_w T ps := by
  simp [pt_w, List.getElem?_eq_getElem h]; omega
theorem pt_w_0 (T : List pt_R) : pt_w T [] = 1 := rfl
theorem c_X3_init (l : Launch) (Z : mm_G) {M : mm_M} {a q : Nat} {g : Nat → Option Nat} {kn kd wh nm : Int32} {T : List pt_R} {ps ad : List Nat} {F : Nat → Option Nat} (hT : ct_T Z M ad F T) (ha9 : M a = some (.inr (2, [.int 0, .int 0, .int 0, .int 0, .null, .int 0, .null]))) (hq9 : M q = some (ct_A Z ps.length g)) (hps : ct_ps ad T ps g) (hna : ∀ b ∈ ad, b ≠ a) (hlen : ps.length ≤ 3) :
    mm_C l Z yX3_init (ws_ yX3_init cX3_init 11 none) { frames := 1, cells := 0, slots := 0, locals := 40 } [.ref a, .int kn, .int kd, .int wh, .int nm, .ref q] M (fun v M' => v = none ∧ M' = mm_U M a (.inr (2, [.int kn, .int kd, .int wh, .int nm, .ref q, .int (nI (pt_w T ps)), .null]))) mm_nx := by
  have key : ∀ (i j : Nat), ps[i]? = some j → ∃ (b q' : Nat) (hj : j < T.length), g i = some b ∧ M b = some (ct_E j T[j] q' (F j)) ∧ b ≠ a := by
    intro i j hi
    obtain ⟨h0, b, hb, hg⟩ := hps i j hi
    obtain ⟨a', q', g', e1, e2, -⟩ := hT.at h0
    obtain rfl : a' = b := Option.some.inj (e1.symm.trans hb)
    exact ⟨a', q', h0, hg, e2, hna _ (List.mem_of_getElem? hb)⟩
  match ps, hlen, hq9, key with
  | [], _, hq9, _ => exact c_X3_init_0 l Z ha9 hq9
  | [j0], _, hq9, key =>
    obtain ⟨b0, q0, h0, g0, e0, n0⟩ := key 0 j0 rfl
    rw [pt_w_1 h0, pt_w_0, Nat.add_comm]
    exact c_X3_init_1 l Z ha9 hq9 g0 e0 n0
  | [j0, j1], _, hq9, key =>
    obtain ⟨b0, q0, h0, g0, e0, n0⟩ := key 0 j0 rfl
    obtain ⟨b1, q1, h1, g1, e1, n1⟩ := key 1 j1 rfl
    rw [pt_w_1 h0, pt_w_1 h1, pt_w_0, show T[j0].2.2.2.2 + (T[j1].2.2.2.2 + 1) = 1 + T[j0].2.2.2.2 + T[j1].2.2.2.2 by omega]
    exact c_X3_init_2 l Z ha9 hq9 g0 e0 n0 g1 e1 n1
  | [j0, j1, j2], _, hq9, key =>
    obtain ⟨b0, q0, h0, g0, e0, n0⟩ := key 0 j0 rfl
    obtain ⟨b1, q1, h1, g1, e1, n1⟩ := key 1 j1 rfl
    obtain ⟨b2, q2, h2, g2, e2, n2⟩ := key 2 j2 rfl
    rw [pt_w_1 h0, pt_w_1 h1, pt_w_1 h2, pt_w_0, show T[j0].2.2.2.2 + (T[j1].2.2.2.2 + (T[j2].2.2.2.2 + 1)) = 1 + T[j0].2.2.2.2 + T[j1].2.2.2.2 + T[j2].2.2.2.2 by omega]
    exact c_X3_init_3 l Z ha9 hq9 g0 e0 n0 g1 e1 n1 g2 e2 n2
theorem pt_w_le {Z : mm_G} {M : mm_M} {ad : List Nat} {F : Nat → Option Nat} {T : List pt_R} (hT : ct_T Z M ad F T) {ps : List Nat} (hlen : ps.length ≤ 3) : pt_w T ps ≤ 100 := by
  have h : ∀ j : Nat, ((T[j]?).map fun r : pt_R => r.2.2.2.2).getD 0 ≤ 30 := by
    intro j
    cases hj : T[j]? with
    | none => simp
    | some r => exact (hT.2 j r hj).1.1
  match ps, hlen with
  | [], _ => simp [pt_w]
  | [a], _ => have := h a; simp only [pt_w, List.map, List.sum_cons, List.sum_nil]; omega
  | [a, b], _ => have := h a; have := h b; simp only [pt_w, List.map, List.sum_cons, List.sum_nil]; omega
  | [a, b, c], _ => have := h a; have := h b; have := h c; simp only [pt_w, List.map, List.sum_cons, List.sum_nil]; omega
theorem ct_T.in {Z : mm_G} {M : mm_M} {ad : List Nat} {F : Nat → Option Nat} {T : List pt_R} (h : ct_T Z M ad F T) {b : Nat} (hb : b ∈ ad) : ∃ k r q f, M b = some (ct_E k r q f) := by
  obtain ⟨k, hk⟩ := List.mem_iff_getElem?.1 hb
  have hl : k < T.length := by rw [← h.1.1]; exact (List.getElem?_eq_some_iff.mp hk).1
  obtain ⟨a, q, g, h3, h4, -⟩ := h.at hl
  obtain rfl : a = b := Option.some.inj (h3.symm.trans hk)
  exact ⟨_, _, _, _, h4⟩
theorem ct_T.push {Z : mm_G} {M : mm_M} {ad : List Nat} {F : Nat → Option Nat} {T : List pt_R} (h : ct_T Z M ad F T) {kd wh nm : Int32} {ps : List Nat} {a q : Nat} {g : Nat → Option Nat} (hp3 : ps.length ≤ 3) (hw : pt_w T ps ≤ 30) (ha : M a = some (ct_E T.length (kd, wh, nm, ps, pt_w T ps) q none)) (hq : M q = some (ct_A Z ps.length g)) (hps : ct_ps ad T ps g) : ct_T Z M (ad ++ [a]) F (T ++ [(kd, wh, nm, ps, pt_w T ps)]) := by
  obtain ⟨⟨h1, hF⟩, h2⟩ := h
  refine ⟨⟨by simp [h1], fun k hk => hF k (by simp at hk; omega)⟩, fun k r hk => ?_⟩
  by_cases hkl : k < T.length
  · rw [List.getElem?_append_left hkl] at hk
    obtain ⟨h0, a1, q1, g1, e1, e2, e3, e4⟩ := h2 k r hk
    refine ⟨h0, a1, q1, g1, by rw [List.getElem?_append_left (by omega)]; exact e1, e2, e3, fun i j hij => ?_⟩
    obtain ⟨e5, b, e6, e7⟩ := e4 i j hij
    exact ⟨e5, b, by rw [List.getElem?_append_left (by omega)]; exact e6, e7⟩
  · rw [List.getElem?_append_right (by omega)] at hk
    have hk0 : k - T.length = 0 := by have := (List.getElem?_eq_some_iff.mp hk).1; simp at this; omega
    rw [hk0] at hk
    cases hk
    have hkl : k = T.length := by omega
    subst hkl
    refine ⟨⟨hw, hp3⟩, a, q, g, by rw [List.getElem?_append_right (by omega), h1, Nat.sub_self]; rfl, by rw [hF _ (Nat.le_refl _)]; exact ha, hq, fun i j hij => ?_⟩
    obtain ⟨e5, b, e6, e7⟩ := hps i j hij
    exact ⟨e5, b, by rw [List.getElem?_append_left (by omega)]; exact e6, e7⟩

set_option maxHeartbeats 4000000 in
set_option maxRecDepth 100000 in
theorem c_X1_add (l : Launch) (Z : mm_G) {M : mm_M} (htr : l.stackTraces = false) {o tl ar cap : Nat} {er st : Int32} {rs : Option Nat} {ad : List Nat} {F : Nat → Option Nat} {T : List pt_R} (hC9 : co_T Z M o er st rs tl ar cap ad F T) {kd wh nm : Int32} {ps : List Nat} {q : Nat} {g : Nat → Option Nat} (hq9 : M q = some (ct_A Z ps.length g)) (hps9 : ct_ps ad T ps g) (hp3 : ps.length ≤ 3) : mm_C l Z yX1_add (ws_ yX1_add cX1_add 6 (some .int)) { frames := 9, cells := 3, slots := 220, locals := 300 } [.ref o, .int kd, .int wh, .int nm, .ref q] M (fun v M' => (T.length < 120 ∧ pt_w T ps ≤ 30) ∧ v = some (.int (nI T.length)) ∧ (∃ a ar' cap' : Nat, co_T Z M' o er st rs tl ar' cap' (ad ++ [a]) F (T ++ [(kd, wh, nm, ps, pt_w T ps)])) ∧ (∀ q : Nat, M q ≠ none → q ≠ tl → q ≠ ar → M' q = M q)) (fun E _ M' => ¬ (T.length < 120 ∧ pt_w T ps ≤ 30) ∧ E = "java/lang/IllegalStateException" ∧ mm_Ext M M') := by
  refine mm_ofW (cc := cX1_add) (maxL := 6) (ret := (some .int)) (by decide) rfl (Nat.le_of_ble_eq_true rfl) ?_
  intro p e s m below meth c A ls hx hb hr hlk hml hown hmn hts htab hE hST hA hM hS hl
  replace hl : lv_has ls 6 [(0, .ref o), (1, .int kd), (2, .int wh), (3, .int nm), (4, .ref q)] := hl
  have hC8 := hC9
  obtain ⟨ho9, hA9, hcap9, hT9⟩ := hC9
  have hlen9 := ct_len hT9
  have hA8 := hA9
  obtain ⟨md, f, ha, har, hl1, hcap, h0, hf⟩ := hA9
  rw [hlen9] at ha hl1
  have hmk9 : al_mk (ad.map some).length cap ≤ 1 := by unfold al_mk; split <;> omega
  have hms9 : al_ms (ad.map some).length cap ≤ 200 ∨ ¬ T.length < 120 := by unfold al_ms al_cap; rw [hlen9]; split <;> (try split) <;> omega
  have hw9 := pt_w_le hT9 hp3
  refine mm_new (D := Z.1) (ci := 2) (fs := mm_f0X3) (C := RX3) (T := TX3) (N := 7) hx hb hts in_X3 tyX3 tyX3_ok hown (hts _ q270) (hts _ q276) (hts _ q59) hE.1 hM hS hA mm_cX3 mm_dfX3 (Nat.le_of_ble_eq_true rfl) (Nat.le_of_ble_eq_true rfl) dX1_add_0 (fun q_2 H nq_1 hM hS => ?_)
  have hM : mm_P Z.1 mm_cl A (mm_U M q_2 (.inr (2, [.int 0, .int 0, .int 0, .int 0, .null, .int 0, .null]))) H := hM
  have ne_3 : o ≠ q_2 := (mm_neN ho9 nq_1)
  have ne_4 : tl ≠ q_2 := (mm_neN ha nq_1)
  have ne_5 : q ≠ q_2 := (mm_neN hq9 nq_1)
  have hc_6 : (mm_U M q_2 (.inr (2, [.int 0, .int 0, .int 0, .int 0, .null, .int 0, .null]))) q_2 = some (.inr (2, [.int 0, .int 0, .int 0, .int 0, .null, .int 0, .null])) := mm_U_eq
  have hc_7 : (mm_U M q_2 (.inr (2, [.int 0, .int 0, .int 0, .int 0, .null, .int 0, .null]))) o = some (.inr (0, [.ref tl, .int er, .int st, va_rf rs])) := (mm_U_ne ne_3).trans ho9
  have hc_8 : (mm_U M q_2 (.inr (2, [.int 0, .int 0, .int 0, .int 0, .null, .int 0, .null]))) tl = some (.inr (41, [.int md, .ref ar, .int (nI T.length)])) := (mm_U_ne ne_4).trans ha
  have hc_9 : (mm_U M q_2 (.inr (2, [.int 0, .int 0, .int 0, .int 0, .null, .int 0, .null]))) q = some (.inl (Z.2.1 4, ps.length, .inr (.inr (.inr (.inr g))))) := (mm_U_ne ne_5).trans hq9
  obtain ⟨M_10, eM_10⟩ : ∃ z, z = mm_U M q_2 (.inr (2, [.int 0, .int 0, .int 0, .int 0, .null, .int 0, .null])) := ⟨_, rfl⟩
  rw [← eM_10] at hM hc_7 hc_8 hc_9 hc_6
  refine lv_dup hx hb dX1_add_3 rfl ?_
  refine lv_aload_n hx hb dX1_add_4 rfl (lv_at hl 0 rfl) ?_
  refine va_get (D := Z.1) (ci := 0) (v := .ref tl) (C := RX1) (T := TX1) (N := 4) hx hb hts in_X1 hown hE.1 (hM.at hc_7) 0 rfl mm_cX1 0 (by decide) (hts _ q159) (fun _ h9 => h9) rfl dX1_add_5 ?_
  refine mm_callV (As := []) (rest := [.ref q_2, .ref q_2]) ⟨hx, hb, hml, hown, hts⟩ hE hST hA (c_J2_size l Z (M := M_10) (h0 := tl) (f0 := md) (f1 := (some ar)) (f2 := (nI T.length)) hc_8) (cwV 0 hts (lw_V q177 q178 q179 q53 q180) rfl rfl rfl (by decide +kernel) ⟨(Nat.le_of_ble_eq_true rfl), (Nat.le_of_ble_eq_true rfl)⟩) hM hS mm_cJ2 hc_8 rfl hl.1 (Nat.le_of_ble_eq_true rfl) dX1_add_8 rfl ⟨(Nat.le_of_ble_eq_true rfl), (Nat.le_of_ble_eq_true rfl)⟩ (fun _ _ _ _ _ _ h9 => h9.elim) (fun v_11 M_12 H locs hp_13 hM hS => ?_)
  obtain ⟨rfl, eM_12⟩ := hp_13
  rw [eM_12] at hM
  refine lv_iload_n hx hb dX1_add_11 rfl (lv_at hl 1 rfl) ?_
  refine lv_iload_n hx hb dX1_add_12 rfl (lv_at hl 2 rfl) ?_
  refine lv_iload_n hx hb dX1_add_13 rfl (lv_at hl 3 rfl) ?_
  refine lv_aload hx hb dX1_add_14 (lv_at hl 4 rfl) ?_
  have hTn : ct_T Z M_10 ad F T := hT9.ext (fun z hz => by rw [eM_10]; exact mm_U_ne (fun h9 => by rcases hz with ⟨_, _, _, _, hz⟩ | ⟨_, _, hz⟩ <;> rw [h9, nq_1] at hz <;> cases hz))
  have hna : ∀ b ∈ ad, b ≠ q_2 := fun b hb h9 => by obtain ⟨_, _, _, _, hz⟩ := hT9.in hb; rw [h9, nq_1] at hz; cases hz
  refine mm_callI (As := [.int (nI T.length), .int kd, .int wh, .int nm, .ref q]) (rest := [.ref q_2]) ⟨hx, hb, hml, hown, hts⟩ hE hST hA (c_X3_init l Z hTn hc_6 hc_9 hps9 hna hp3) (cwI (maxL := 11) 5 hts (lw_meth q279) rfl rfl rfl (hts _ q59) (hts _ q277) (hts _ q278) rfl (by decide +kernel) ⟨(Nat.le_of_ble_eq_true rfl), (Nat.le_of_ble_eq_true rfl)⟩) hM hS rfl hl.1 (Nat.le_of_ble_eq_true rfl) dX1_add_16 rfl ⟨(Nat.le_of_ble_eq_true rfl), (Nat.le_of_ble_eq_true rfl)⟩ (fun _ _ _ _ _ _ h9 => h9.elim) (fun v_14 M_15 H locs hp_16 hM hS => ?_)
  obtain ⟨rfl, eM_15⟩ := hp_16
  rw [eM_15] at hM
  have hc_17 : (mm_U M_10 q_2 (.inr (2, [.int (nI T.length), .int kd, .int wh, .int nm, .ref q, .int (nI (pt_w T ps)), .null]))) q_2 = some (.inr (2, [.int (nI T.length), .int kd, .int wh, .int nm, .ref q, .int (nI (pt_w T ps)), .null])) := mm_U_eq
  have hc_18 : (mm_U M_10 q_2 (.inr (2, [.int (nI T.length), .int kd, .int wh, .int nm, .ref q, .int (nI (pt_w T ps)), .null]))) o = some (.inr (0, [.ref tl, .int er, .int st, va_rf rs])) := (mm_U_ne ne_3).trans hc_7
  have hc_19 : (mm_U M_10 q_2 (.inr (2, [.int (nI T.length), .int kd, .int wh, .int nm, .ref q, .int (nI (pt_w T ps)), .null]))) tl = some (.inr (41, [.int md, .ref ar, .int (nI T.length)])) := (mm_U_ne ne_4).trans hc_8
  have hc_20 : (mm_U M_10 q_2 (.inr (2, [.int (nI T.length), .int kd, .int wh, .int nm, .ref q, .int (nI (pt_w T ps)), .null]))) q = some (.inl (Z.2.1 4, ps.length, .inr (.inr (.inr (.inr g))))) := (mm_U_ne ne_5).trans hc_9
  obtain ⟨M_21, eM_21⟩ : ∃ z, z = mm_U M_10 q_2 (.inr (2, [.int (nI T.length), .int kd, .int wh, .int nm, .ref q, .int (nI (pt_w T ps)), .null])) := ⟨_, rfl⟩
  rw [← eM_21] at hM hc_18 hc_19 hc_20 hc_17
  refine lv_astore hx hb dX1_add_19 hl (by decide) rfl (fun ls hl => ?_)
  replace hl : lv_has ls 6 [(5, .ref q_2), (0, .ref o), (1, .int kd), (2, .int wh), (3, .int nm), (4, .ref q)] := hl
  refine lv_aload_n hx hb dX1_add_21 rfl (lv_at hl 1 rfl) ?_
  refine va_get (D := Z.1) (ci := 0) (v := .ref tl) (C := RX1) (T := TX1) (N := 4) hx hb hts in_X1 hown hE.1 (hM.at hc_18) 0 rfl mm_cX1 0 (by decide) (hts _ q159) (fun _ h9 => h9) rfl dX1_add_22 ?_
  have hnl : T.length < 2 ^ 20 := by omega
  refine mm_callV (As := []) (rest := []) ⟨hx, hb, hml, hown, hts⟩ hE hST hA (c_J2_size l Z (M := M_21) (h0 := tl) (f0 := md) (f1 := (some ar)) (f2 := (nI T.length)) hc_19) (cwV 0 hts (lw_V q177 q178 q179 q53 q180) rfl rfl rfl (by decide +kernel) ⟨(Nat.le_of_ble_eq_true rfl), (Nat.le_of_ble_eq_true rfl)⟩) hM hS mm_cJ2 hc_19 rfl hl.1 (Nat.le_of_ble_eq_true rfl) dX1_add_25 rfl ⟨(Nat.le_of_ble_eq_true rfl), (Nat.le_of_ble_eq_true rfl)⟩ (fun _ _ _ _ _ _ h9 => h9.elim) (fun v_22 M_23 H locs hp_24 hM hS => ?_)
  obtain ⟨rfl, eM_23⟩ := hp_24
  rw [eM_23] at hM
  refine mm_cutW (v0 := mm_b (decide (T.length < 120 ∧ pt_w T ps ≤ 30))) (pc2 := 48) (ls := ls) (rest := []) (M := M_21) (fun kk => ?_) (fun H locs hM hS => ?_) hM hS
  · skip
    refine lv_bipush (v := 120) hx hb dX1_add_28 (by decide) ?_
    refine lv_icmp_ge (tgt := 47) hx hb dX1_add_30 (by decide) (fun c_25 => ?_) (fun c_25 => ?_)
    · skip
      refine lv_iconst (v := 0) hx hb dX1_add_47 (by decide) ?_
      exact kk _ _ _ hM hS (show (mm_b (decide (T.length < 120 ∧ pt_w T ps ≤ 30)) : Int32) = 0 from by (first | (rw [decide_eq_false (fun h9 => absurd ((nI_lt (b := 120) h9.1 (by omega))) (Int32.not_lt.2 c_25))]; rfl) | (rw [decide_eq_false (fun h9 => absurd (nI_le (b := 30) h9.2 (by omega)) (Int32.not_le.2 c_25))]; rfl) | (rw [decide_eq_true ⟨(nI_ltI (b := 120) (by omega) (by omega)).1 (Int32.not_le.1 c_25), (nI_leI (b := 30) (by omega) (by omega)).1 (Int32.not_lt.1 c_25)⟩]; rfl))).symm
    · skip
      refine lv_aload hx hb dX1_add_33 (lv_at hl 0 rfl) ?_
      refine va_getN (D := Z.1) (ci := 2) (v := .int (nI (pt_w T ps))) (C := RX3) (T := TX3) (N := 7) hx hb hts in_X3 hown hE.1 (hM.at hc_17) 0 rfl mm_cX3 5 (by decide) (va_Nw.use rfl (hE.2.1 _ q299 rfl)) (fun _ h9 => h9) rfl dX1_add_35 ?_
      refine lv_bipush (v := 30) hx hb dX1_add_38 (by decide) ?_
      refine lv_icmp_gt (tgt := 47) hx hb dX1_add_40 (by decide) (fun c_26 => ?_) (fun c_26 => ?_)
      · skip
        refine lv_iconst (v := 0) hx hb dX1_add_47 (by decide) ?_
        exact kk _ _ _ hM hS (show (mm_b (decide (T.length < 120 ∧ pt_w T ps ≤ 30)) : Int32) = 0 from by (first | (rw [decide_eq_false (fun h9 => absurd ((nI_lt (b := 120) h9.1 (by omega))) (Int32.not_lt.2 c_25))]; rfl) | (rw [decide_eq_false (fun h9 => absurd (nI_le (b := 30) h9.2 (by omega)) (Int32.not_le.2 c_26))]; rfl) | (rw [decide_eq_true ⟨(nI_ltI (b := 120) (by omega) (by omega)).1 (Int32.not_le.1 c_25), (nI_leI (b := 30) (by omega) (by omega)).1 (Int32.not_lt.1 c_26)⟩]; rfl))).symm
      · skip
        refine lv_iconst (v := 1) hx hb dX1_add_43 (by decide) ?_
        refine lv_goto (tgt := 48) hx hb dX1_add_44 (by decide) ?_
        exact kk _ _ _ hM hS (show (mm_b (decide (T.length < 120 ∧ pt_w T ps ≤ 30)) : Int32) = 1 from by (first | (rw [decide_eq_false (fun h9 => absurd ((nI_lt (b := 120) h9.1 (by omega))) (Int32.not_lt.2 c_25))]; rfl) | (rw [decide_eq_false (fun h9 => absurd (nI_le (b := 30) h9.2 (by omega)) (Int32.not_le.2 c_26))]; rfl) | (rw [decide_eq_true ⟨(nI_ltI (b := 120) (by omega) (by omega)).1 (Int32.not_le.1 c_25), (nI_leI (b := 30) (by omega) (by omega)).1 (Int32.not_lt.1 c_26)⟩]; rfl))).symm
  have hext : mm_Ext M M_21 := by subst eM_21 eM_10; rw [mm_U_U]; exact mm_Ext.U nq_1
  refine mm_callS (As := [.int (mm_b (decide (T.length < 120 ∧ pt_w T ps ≤ 30)))]) (rest := []) ⟨hx, hb, hml, hown, hts⟩ hE hST hA (c_X1_allowed l Z htr) (va_cwS 1 hts (lw_S q316 q317 q50 q318) rfl rfl rfl (by decide +kernel) ⟨(Nat.le_of_ble_eq_true rfl), (Nat.le_of_ble_eq_true rfl)⟩) hM hS rfl hl.1 (Nat.le_of_ble_eq_true rfl) dX1_add_48 rfl ⟨(Nat.le_of_ble_eq_true rfl), (Nat.le_of_ble_eq_true rfl)⟩ (fun E ce q M9 H1 locs1 hp9 hM9 hS9 hce hcv hcl => mm_outx htab hlk hM9 hS9 hce hcv hcl (⟨of_decide_eq_false hp9.1, hp9.2.1, hp9.2.2 ▸ hext⟩) (Nat.le_of_ble_eq_true rfl) (Nat.le_of_ble_eq_true rfl)) (fun v_25 M_26 H locs hp_27 hM hS => ?_)
  obtain ⟨hhp_27, rfl, eM_26⟩ := hp_27
  rw [eM_26] at hM
  have hok := of_decide_eq_true hhp_27
  refine lv_aload_n hx hb dX1_add_51 rfl (lv_at hl 1 rfl) ?_
  refine va_get (D := Z.1) (ci := 0) (v := .ref tl) (C := RX1) (T := TX1) (N := 4) hx hb hts in_X1 hown hE.1 (hM.at hc_18) 0 rfl mm_cX1 0 (by decide) (hts _ q159) (fun _ h9 => h9) rfl dX1_add_52 ?_
  refine lv_aload hx hb dX1_add_55 (lv_at hl 0 rfl) ?_
  have hAn : AL Z M_21 tl ar cap (ad.map some) := AL.of (by rw [hlen9]; exact hc_19) (hext.at har) (by rw [hlen9]; exact hl1) hcap h0 hf
  have hTm : ct_T Z M_21 ad F T := hT9.ext (fun z hz => hext z (by rcases hz with ⟨_, _, _, _, hz⟩ | ⟨_, _, hz⟩ <;> rw [hz] <;> exact fun h9 => by cases h9))
  have hxs : ∀ y ∈ ad.map some, mm_ok M_21 y := by intro y hy v hv; obtain ⟨b, hb, rfl⟩ := List.mem_map.1 hy; cases hv; obtain ⟨_, _, _, _, hz⟩ := hTm.in hb; exact ⟨_, _, hz⟩
  have hr9 : mm_ok M_21 (some q_2) := by intro v hv; cases hv; exact ⟨_, _, hc_17⟩
  have hms8 : al_ms (ad.map some).length cap ≤ 200 := by omega
  refine mm_callV (As := [.ref q_2]) (rest := []) ⟨hx, hb, hml, hown, hts⟩ hE hST hA (c_J2_add l Z hAn (by omega) hxs hr9) (cwV 1 hts (lw_V q334 q335 q336 q53 q337) rfl rfl rfl (by decide +kernel) ⟨(Nat.le_of_ble_eq_true rfl), (Nat.le_of_ble_eq_true rfl)⟩) hM hS mm_cJ2 hc_19 rfl hl.1 (Nat.le_of_ble_eq_true rfl) dX1_add_57 rfl ⟨(by dsimp only; omega), (by dsimp only; omega)⟩ (fun _ _ _ _ _ _ h9 => h9.elim) (fun v_28 M_29 H locs hp_30 hM hS => ?_)
  obtain ⟨rfl, ar', hA', hfr, har'⟩ := hp_30
  have hK : ∀ z : Nat, M z ≠ none → z ≠ tl → z ≠ ar → M_29 z = M z := fun z h1 h2 h3 => (hfr z h2 (fun h4 => by rcases har' with h5 | h5; exact h3 (h4.trans h5.1); rw [← h4, hext z h1] at h5; exact h1 h5)).trans (hext z h1)
  have hfa : ∀ z e, M_21 z = some e → z ≠ tl → z ≠ ar → M_29 z = some e := fun z e h1 h2 h3 => (hfr z h2 (fun h4 => by rcases har' with h5 | h5; exact h3 (h4.trans h5.1); rw [← h4, h1] at h5; cases h5)).trans h1
  have nta : tl ≠ ar := (mm_neA har ha).symm
  have n1 : q_2 ≠ tl := mm_neC hc_17 hc_19 (by decide)
  have n2 : q_2 ≠ ar := fun h9 => by have := hext.at har; rw [← h9, hc_17] at this; cases this
  have hga : M_29 q_2 = some _ := hfa _ _ hc_17 n1 n2
  have hty : ∀ z n g', M_21 z = some (ct_A Z n g') → z ≠ ar := fun z n g' h1 h2 => by have := hext.at har; rw [← h2, h1] at this; exact mm_tyne hE (i := 4) (j := 3) rfl rfl (by decide) (Prod.mk.inj (Sum.inl.inj (Option.some.inj this))).1
  have hgq : M_29 q = some _ := hfa _ _ hc_20 (mm_neA hc_20 hc_19) (hty _ _ _ hc_20)
  have hgo : M_29 o = some _ := hfa _ _ hc_18 (mm_neC hc_18 hc_19 (by decide)) (fun h9 => by have := hext.at har; rw [← h9, hc_18] at this; cases this)
  have hTn' : ct_T Z M_29 ad F T := hTm.ext (fun z hz => by rcases hz with ⟨_, _, _, _, hz⟩ | ⟨_, _, hz⟩; exact (hfa _ _ hz (mm_neC hz hc_19 (by decide)) (fun h9 => by have := hext.at har; rw [← h9, hz] at this; cases this)).trans hz.symm; exact (hfa _ _ hz (mm_neA hz hc_19) (hty _ _ _ hz)).trans hz.symm)
  refine lv_pop hx hb dX1_add_60 rfl ?_
  refine lv_aload hx hb dX1_add_61 (lv_at hl 0 rfl) ?_
  refine va_getN (D := Z.1) (ci := 2) (v := .int (nI T.length)) (C := RX3) (T := TX3) (N := 7) hx hb hts in_X3 hown hE.1 (hM.at hga) 0 rfl mm_cX3 0 (by decide) (va_Nw.use rfl (hE.2.1 _ q283 rfl)) (fun _ h9 => h9) rfl dX1_add_63 ?_
  exact mm_reti hx hb hr hlk hM hS ⟨hok, rfl, ⟨q_2, ar', _, hgo, by rw [List.map_append]; exact hA', (by unfold al_cap; rw [hlen9]; split <;> (try split) <;> omega), hTn'.push hp3 hok.2 hga hgq hps9⟩, hK⟩ dX1_add_66 (by dsimp only; omega) (by dsimp only; omega)
