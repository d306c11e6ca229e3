/-! ===== the model's terms: the table's picture; isOne, isCases, weightOf, makes ===== -/
set_option maxRecDepth 100000
/-- part i of a term as a number, or -1; its weight, or 0 -/
def pt_i (ps : List Nat) (i : Nat) : Int32 := match ps[i]? with | some j => nI j | none => -1
def pt_wi (T : List pt_R) (ps : List Nat) (i : Nat) : Nat := match ps[i]? with | some j => ((T[j]?).map fun r : pt_R => r.2.2.2.2).getD 0 | none => 0
def pm_wh (r : pt_R) : Int32 := if r.1 = 17 then 10 * r.2.1 + r.2.2.1 else r.2.1
def md_A (Z : mm_G) (M : mm_M) (kd wh f1 f2 f3 wg pl : Nat) (T : List pt_R) : Prop := [kd, wh, f1, f2, f3, wg, pl].Nodup ∧ T.length ≤ 120 ∧ (∃ gp : Nat → Int32, M pl = some (ia_E Z 120 gp)) ∧ ∃ g0 g1 g2 g3 g4 g5 : Nat → Int32, M kd = some (ia_E Z 120 g0) ∧ M wh = some (ia_E Z 120 g1) ∧ M f1 = some (ia_E Z 120 g2) ∧ M f2 = some (ia_E Z 120 g3) ∧ M f3 = some (ia_E Z 120 g4) ∧ M wg = some (ia_E Z 120 g5) ∧
  ∀ (k : Nat) (r : pt_R), T[k]? = some r → g0 k = r.1 ∧ (r.1 ≠ 6 → r.1 ≠ 15 → g1 k = pm_wh r) ∧ g2 k = pt_i r.2.2.2.1 0 ∧ g3 k = pt_i r.2.2.2.1 1 ∧ g4 k = pt_i r.2.2.2.1 2 ∧ g5 k = nI r.2.2.2.2 ∧ r.2.2.2.2 ≤ 30
def pt_is (T : List pt_R) (b : Bool) (i : Int32) : Bool := (List.range T.length).any fun k => decide (i = nI k) && (decide (15 ≤ ((T[k]?).map fun r : pt_R => r.1).getD 0) == b)
theorem pt_is_iff {T : List pt_R} {b : Bool} {i : Int32} : pt_is T b i = true ↔ ∃ (k : Nat) (hk : k < T.length), i = nI k ∧ decide (15 ≤ T[k].1) = b := by
  simp only [pt_is, List.any_eq_true, List.mem_range, Bool.and_eq_true, decide_eq_true_eq, beq_iff_eq]
  constructor
  · rintro ⟨k, hk, h1, h2⟩
    exact ⟨k, hk, h1, by rw [List.getElem?_eq_getElem hk] at h2; exact h2⟩
  · rintro ⟨k, hk, h1, h2⟩
    exact ⟨k, hk, h1, by rw [List.getElem?_eq_getElem hk]; exact h2⟩
theorem mm_term_iff {i : Int32} {n : Nat} (hn : n < 2 ^ 20) : (0 ≤ i ∧ i ≤ nI n - 1) ↔ ∃ k : Nat, k < n ∧ i = nI k := by
  cases n with
  | zero =>
    constructor
    · rintro ⟨h1, h2⟩
      have h3 := Int32.le_iff_toInt_le.1 h1
      have h4 := Int32.le_iff_toInt_le.1 h2
      rw [show (nI 0 - 1).toInt = -1 from by decide] at h4
      rw [show (0 : Int32).toInt = 0 from by decide] at h3
      omega
    · rintro ⟨k, hk, -⟩
      omega
  | succ n =>
    rw [nI_pred]
    constructor
    · rintro ⟨h1, h2⟩
      exact mm_nI_of h1 (Int32.lt_of_le_of_lt h2 (nI_lt (Nat.lt_succ_self n) (by omega))) (by omega)
    · rintro ⟨k, hk, rfl⟩
      exact ⟨nI_pos' (by omega), nI_le (by omega) (by omega)⟩
theorem pt_w_sum {T : List pt_R} {ps : List Nat} (h : ps.length ≤ 3) : 1 + pt_wi T ps 0 + pt_wi T ps 1 + pt_wi T ps 2 = pt_w T ps := by
  match ps, h with
  | [], _ => rfl
  | [a], _ => simp [pt_w, pt_wi]
  | [a, b], _ => simp [pt_w, pt_wi]; omega
  | [a, b, c], _ => simp [pt_w, pt_wi]; omega
theorem c_X2_isOne (l : Launch) (Z : mm_G) {M : mm_M} {a kd wh f1 f2 f3 wg pl : Nat} {ea sp th ak wr tk : Int32} {rt : Option Nat} {fa : Bool} {st : Int64} {T : List pt_R} (hm9 : M a = some (md_E (nI T.length) kd wh f1 f2 f3 wg ea sp rt th ak wr pl tk fa st)) (hA9 : md_A Z M kd wh f1 f2 f3 wg pl T) {i : Int32} :
    mm_C l Z yX2_isOne (ws_ yX2_isOne cX2_isOne 2 (some .boolean)) { frames := 2, cells := 0, slots := 0, locals := 80 } [.ref a, .int i] M (fun v M' => v = some (.int (mm_b (pt_is T false i))) ∧ M' = M) mm_nx := by
  obtain ⟨-, hl, -, g0, g1, g2, g3, g4, g5, h0, -, -, -, -, -, hg⟩ := hA9
  by_cases hi : 0 ≤ i ∧ i ≤ nI T.length - 1
  · obtain ⟨k, hk, rfl⟩ := (mm_term_iff (by omega)).1 hi
    have h1 := (hg k _ (List.getElem?_eq_getElem hk)).1
    have h2 : pt_is T false (nI k) = decide (g0 k < 15) := by
      rw [Bool.eq_iff_iff, pt_is_iff, h1, decide_eq_true_eq]
      constructor
      · rintro ⟨k', hk', h3, h4⟩
        obtain rfl : k = k' := (nI_eq (by omega) (by omega)).1 h3
        exact Int32.not_le.1 (of_decide_eq_false h4)
      · intro h3
        exact ⟨k, hk, rfl, decide_eq_false (Int32.not_le.2 h3)⟩
    rw [h2]
    exact c_X2_isOne_k l Z hm9 hi (by omega) (by omega) h0
  · have h2 : pt_is T false i = false := by
      rw [Bool.eq_false_iff]
      intro h3
      obtain ⟨k, hk, h4, -⟩ := pt_is_iff.1 h3
      exact hi ((mm_term_iff (by omega)).2 ⟨k, hk, h4⟩)
    rw [h2]
    exact c_X2_isOne_n l Z hm9 hi
theorem c_X2_isCases (l : Launch) (Z : mm_G) {M : mm_M} {a kd wh f1 f2 f3 wg pl : Nat} {ea sp th ak wr tk : Int32} {rt : Option Nat} {fa : Bool} {st : Int64} {T : List pt_R} (hm9 : M a = some (md_E (nI T.length) kd wh f1 f2 f3 wg ea sp rt th ak wr pl tk fa st)) (hA9 : md_A Z M kd wh f1 f2 f3 wg pl T) {i : Int32} :
    mm_C l Z yX2_isCases (ws_ yX2_isCases cX2_isCases 2 (some .boolean)) { frames := 2, cells := 0, slots := 0, locals := 80 } [.ref a, .int i] M (fun v M' => v = some (.int (mm_b (pt_is T true i))) ∧ M' = M) mm_nx := by
  obtain ⟨-, hl, -, g0, g1, g2, g3, g4, g5, h0, -, -, -, -, -, hg⟩ := hA9
  by_cases hi : 0 ≤ i ∧ i ≤ nI T.length - 1
  · obtain ⟨k, hk, rfl⟩ := (mm_term_iff (by omega)).1 hi
    have h1 := (hg k _ (List.getElem?_eq_getElem hk)).1
    have h2 : pt_is T true (nI k) = decide (15 ≤ g0 k) := by
      rw [Bool.eq_iff_iff, pt_is_iff, h1, decide_eq_true_eq]
      constructor
      · rintro ⟨k', hk', h3, h4⟩
        obtain rfl : k = k' := (nI_eq (by omega) (by omega)).1 h3
        exact of_decide_eq_true h4
      · intro h3
        exact ⟨k, hk, rfl, decide_eq_true h3⟩
    rw [h2]
    exact c_X2_isCases_k l Z hm9 hi (by omega) (by omega) h0
  · have h2 : pt_is T true i = false := by
      rw [Bool.eq_false_iff]
      intro h3
      obtain ⟨k, hk, h4, -⟩ := pt_is_iff.1 h3
      exact hi ((mm_term_iff (by omega)).2 ⟨k, hk, h4⟩)
    rw [h2]
    exact c_X2_isCases_n l Z hm9 hi
theorem c_X2_weightOf (l : Launch) (Z : mm_G) {M : mm_M} {a kd wh f1 f2 f3 wg pl : Nat} {tm ea sp th ak wr tk : Int32} {rt : Option Nat} {fa : Bool} {st : Int64} {T : List pt_R} {ps : List Nat} {i : Nat} {g : Nat → Int32} (hm9 : M a = some (md_E tm kd wh f1 f2 f3 wg ea sp rt th ak wr pl tk fa st)) (hw9 : M wg = some (ia_E Z 120 g)) (hl : T.length ≤ 120) (hg : ∀ (k : Nat) (r : pt_R), T[k]? = some r → g k = nI r.2.2.2.2) (hps : ∀ j, ps[i]? = some j → j < T.length) :
    mm_C l Z yX2_weightOf (ws_ yX2_weightOf cX2_weightOf 2 (some .int)) { frames := 0, cells := 0, slots := 0, locals := 0 } [.ref a, .int (pt_i ps i)] M (fun v M' => v = some (.int (nI (pt_wi T ps i))) ∧ M' = M) mm_nx := by
  cases h : ps[i]? with
  | none =>
    rw [show pt_i ps i = -1 by simp [pt_i, h], show pt_wi T ps i = 0 by simp [pt_wi, h]]
    exact c_X2_weightOf_n l Z hm9
  | some j =>
    have hj := hps j h
    have h1 := hg j _ (List.getElem?_eq_getElem hj)
    rw [show pt_i ps i = nI j by simp [pt_i, h], show pt_wi T ps i = T[j].2.2.2.2 by simp [pt_wi, h, List.getElem?_eq_getElem hj], ← h1]
    exact c_X2_weightOf_k l Z hm9 (by omega) (by omega) hw9
theorem upd_old {g : Nat → Int32} {n k : Nat} {x : Int32} (h : k < n) : upd g n x k = g k := by simp [upd, Nat.ne_of_lt h]
theorem upd_new {g : Nat → Int32} {n : Nat} {x : Int32} : upd g n x n = x := by simp [upd]
theorem pt_at {T : List pt_R} {r r' : pt_R} {k : Nat} (h : (T ++ [r])[k]? = some r') : (k < T.length ∧ T[k]? = some r') ∨ (k = T.length ∧ r' = r) := by
  by_cases hk : k < T.length
  · rw [List.getElem?_append_left hk] at h
    exact Or.inl ⟨hk, h⟩
  · rw [List.getElem?_append_right (by omega)] at h
    have h0 : k - T.length = 0 := by have := (List.getElem?_eq_some_iff.mp h).1; simp at this; omega
    rw [h0] at h
    cases h
    exact Or.inr ⟨by omega, rfl⟩

set_option maxHeartbeats 4000000 in
set_option maxRecDepth 100000 in
theorem c_X2_makes (l : Launch) (Z : mm_G) {M : mm_M} {a kd wh f1 f2 f3 wg pl : Nat} {ea sp th ak wr tk : Int32} {rt : Option Nat} {fa : Bool} {st : Int64} {T : List pt_R} (hm9 : M a = some (md_E (nI T.length) kd wh f1 f2 f3 wg ea sp rt th ak wr pl tk fa st)) (hA9 : md_A Z M kd wh f1 f2 f3 wg pl T) {what its : Int32} {r : pt_R} (hlen : T.length < 120) (h3 : r.2.2.2.1.length ≤ 3) (hps : ∀ j ∈ r.2.2.2.1, j < T.length) (hw : what = r.1) (hi9 : r.1 ≠ 6 → r.1 ≠ 15 → its = pm_wh r) (hrw : r.2.2.2.2 = pt_w T r.2.2.2.1) (hr30 : r.2.2.2.2 ≤ 30) : mm_C l Z yX2_makes (ws_ yX2_makes cX2_makes 6 (some .int)) { frames := 1, cells := 0, slots := 0, locals := 60 } [.ref a, .int what, .int its, .int (pt_i r.2.2.2.1 0), .int (pt_i r.2.2.2.1 1), .int (pt_i r.2.2.2.1 2)] M (fun v M' => v = some (.int (nI T.length)) ∧ M' a = some (md_E (nI (T.length + 1)) kd wh f1 f2 f3 wg ea sp rt th ak wr pl tk fa st) ∧ md_A Z M' kd wh f1 f2 f3 wg pl (T ++ [r]) ∧ (∀ q : Nat, q ≠ a → q ∉ [kd, wh, f1, f2, f3, wg] → M' q = M q)) mm_nx := by
  refine mm_ofW (cc := cX2_makes) (maxL := 6) (ret := (some .int)) (by decide) rfl (Nat.le_of_ble_eq_true rfl) ?_
  intro p e s m below meth c A ls hx hb hr hlk hml hown hmn hts htab hE hST hA hM hS hl
  replace hl : lv_has ls 6 [(0, .ref a), (1, .int what), (2, .int its), (3, .int (pt_i r.2.2.2.1 0)), (4, .int (pt_i r.2.2.2.1 1)), (5, .int (pt_i r.2.2.2.1 2))] := hl
  obtain ⟨nd, hl9, ⟨gp, hpl⟩, g0, g1, g2, g3, g4, g5, e0, e1, e2, e3, e4, e5, hg⟩ := hA9
  have hpj : ∀ i j, r.2.2.2.1[i]? = some j → j < T.length := fun i j h => hps j (List.mem_of_getElem? h)
  have n_0_1 : kd ≠ wh := by intro h; simp [h] at nd
  have n_0_2 : kd ≠ f1 := by intro h; simp [h] at nd
  have n_1_2 : wh ≠ f1 := by intro h; simp [h] at nd
  have n_0_3 : kd ≠ f2 := by intro h; simp [h] at nd
  have n_1_3 : wh ≠ f2 := by intro h; simp [h] at nd
  have n_2_3 : f1 ≠ f2 := by intro h; simp [h] at nd
  have n_0_4 : kd ≠ f3 := by intro h; simp [h] at nd
  have n_1_4 : wh ≠ f3 := by intro h; simp [h] at nd
  have n_2_4 : f1 ≠ f3 := by intro h; simp [h] at nd
  have n_3_4 : f2 ≠ f3 := by intro h; simp [h] at nd
  have n_0_5 : kd ≠ wg := by intro h; simp [h] at nd
  have n_1_5 : wh ≠ wg := by intro h; simp [h] at nd
  have n_2_5 : f1 ≠ wg := by intro h; simp [h] at nd
  have n_3_5 : f2 ≠ wg := by intro h; simp [h] at nd
  have n_4_5 : f3 ≠ wg := by intro h; simp [h] at nd
  have n_0_6 : kd ≠ pl := by intro h; simp [h] at nd
  have n_1_6 : wh ≠ pl := by intro h; simp [h] at nd
  have n_2_6 : f1 ≠ pl := by intro h; simp [h] at nd
  have n_3_6 : f2 ≠ pl := by intro h; simp [h] at nd
  have n_4_6 : f3 ≠ pl := by intro h; simp [h] at nd
  have n_5_6 : wg ≠ pl := by intro h; simp [h] at nd
  refine lv_aload_n hx hb dX2_makes_0 rfl (lv_at hl 0 rfl) ?_
  refine va_get (D := Z.1) (ci := 1) (v := .ref kd) (C := RX2) (T := TX2) (N := 17) hx hb hts in_X2 hown hE.1 (hM.at hm9) 0 rfl mm_cX2 1 (by decide) (hts _ q2379) (fun _ h9 => h9) rfl dX2_makes_1 ?_
  refine lv_aload_n hx hb dX2_makes_4 rfl (lv_at hl 0 rfl) ?_
  refine va_get (D := Z.1) (ci := 1) (v := .int (nI T.length)) (C := RX2) (T := TX2) (N := 17) hx hb hts in_X2 hown hE.1 (hM.at hm9) 0 rfl mm_cX2 0 (by decide) (hts _ q2378) (fun _ h9 => h9) rfl dX2_makes_5 ?_
  refine lv_iload_n hx hb dX2_makes_8 rfl (lv_at hl 1 rfl) ?_
  refine mm_iastK (k := T.length) hx hb hE hM hS e0 rfl hlen (by omega) dX2_makes_9 (fun H locs hM hS => ?_)
  have hM : mm_P Z.1 mm_cl A (mm_U M kd (.inl (Z.2.1 0, 120, .inl (upd g0 T.length what)))) H := hM
  have hc_1 : (mm_U M kd (.inl (Z.2.1 0, 120, .inl (upd g0 T.length what)))) kd = some (.inl (Z.2.1 0, 120, .inl (upd g0 T.length what))) := mm_U_eq
  have hc_2 : (mm_U M kd (.inl (Z.2.1 0, 120, .inl (upd g0 T.length what)))) a = some (.inr (1, [.int (nI T.length), .ref kd, .ref wh, .ref f1, .ref f2, .ref f3, .ref wg, .int ea, .int sp, va_rf rt, .int th, .int ak, .int wr, .ref pl, .int tk, .int (mm_b fa), .long st])) := (mm_U_ne (Ne.symm (mm_neA e0 hm9))).trans hm9
  have hc_3 : (mm_U M kd (.inl (Z.2.1 0, 120, .inl (upd g0 T.length what)))) wh = some (.inl (Z.2.1 0, 120, .inl g1)) := (mm_U_ne (Ne.symm n_0_1)).trans e1
  have hc_4 : (mm_U M kd (.inl (Z.2.1 0, 120, .inl (upd g0 T.length what)))) f1 = some (.inl (Z.2.1 0, 120, .inl g2)) := (mm_U_ne (Ne.symm n_0_2)).trans e2
  have hc_5 : (mm_U M kd (.inl (Z.2.1 0, 120, .inl (upd g0 T.length what)))) f2 = some (.inl (Z.2.1 0, 120, .inl g3)) := (mm_U_ne (Ne.symm n_0_3)).trans e3
  have hc_6 : (mm_U M kd (.inl (Z.2.1 0, 120, .inl (upd g0 T.length what)))) f3 = some (.inl (Z.2.1 0, 120, .inl g4)) := (mm_U_ne (Ne.symm n_0_4)).trans e4
  have hc_7 : (mm_U M kd (.inl (Z.2.1 0, 120, .inl (upd g0 T.length what)))) wg = some (.inl (Z.2.1 0, 120, .inl g5)) := (mm_U_ne (Ne.symm n_0_5)).trans e5
  have hc_8 : (mm_U M kd (.inl (Z.2.1 0, 120, .inl (upd g0 T.length what)))) pl = some (.inl (Z.2.1 0, 120, .inl gp)) := (mm_U_ne (Ne.symm n_0_6)).trans hpl
  obtain ⟨M_9, eM_9⟩ : ∃ z, z = mm_U M kd (.inl (Z.2.1 0, 120, .inl (upd g0 T.length what))) := ⟨_, rfl⟩
  rw [← eM_9] at hM hc_2 hc_1 hc_3 hc_4 hc_5 hc_6 hc_7 hc_8
  refine lv_aload_n hx hb dX2_makes_10 rfl (lv_at hl 0 rfl) ?_
  refine va_get (D := Z.1) (ci := 1) (v := .ref wh) (C := RX2) (T := TX2) (N := 17) hx hb hts in_X2 hown hE.1 (hM.at hc_2) 0 rfl mm_cX2 2 (by decide) (hts _ q2380) (fun _ h9 => h9) rfl dX2_makes_11 ?_
  refine lv_aload_n hx hb dX2_makes_14 rfl (lv_at hl 0 rfl) ?_
  refine va_get (D := Z.1) (ci := 1) (v := .int (nI T.length)) (C := RX2) (T := TX2) (N := 17) hx hb hts in_X2 hown hE.1 (hM.at hc_2) 0 rfl mm_cX2 0 (by decide) (hts _ q2378) (fun _ h9 => h9) rfl dX2_makes_15 ?_
  refine lv_iload_n hx hb dX2_makes_18 rfl (lv_at hl 2 rfl) ?_
  refine mm_iastK (k := T.length) hx hb hE hM hS hc_3 rfl hlen (by omega) dX2_makes_19 (fun H locs hM hS => ?_)
  have hM : mm_P Z.1 mm_cl A (mm_U M_9 wh (.inl (Z.2.1 0, 120, .inl (upd g1 T.length its)))) H := hM
  have hc_10 : (mm_U M_9 wh (.inl (Z.2.1 0, 120, .inl (upd g1 T.length its)))) wh = some (.inl (Z.2.1 0, 120, .inl (upd g1 T.length its))) := mm_U_eq
  have hc_11 : (mm_U M_9 wh (.inl (Z.2.1 0, 120, .inl (upd g1 T.length its)))) a = some (.inr (1, [.int (nI T.length), .ref kd, .ref wh, .ref f1, .ref f2, .ref f3, .ref wg, .int ea, .int sp, va_rf rt, .int th, .int ak, .int wr, .ref pl, .int tk, .int (mm_b fa), .long st])) := (mm_U_ne (Ne.symm (mm_neA hc_3 hc_2))).trans hc_2
  have hc_12 : (mm_U M_9 wh (.inl (Z.2.1 0, 120, .inl (upd g1 T.length its)))) kd = some (.inl (Z.2.1 0, 120, .inl (upd g0 T.length what))) := (mm_U_ne n_0_1).trans hc_1
  have hc_13 : (mm_U M_9 wh (.inl (Z.2.1 0, 120, .inl (upd g1 T.length its)))) f1 = some (.inl (Z.2.1 0, 120, .inl g2)) := (mm_U_ne (Ne.symm n_1_2)).trans hc_4
  have hc_14 : (mm_U M_9 wh (.inl (Z.2.1 0, 120, .inl (upd g1 T.length its)))) f2 = some (.inl (Z.2.1 0, 120, .inl g3)) := (mm_U_ne (Ne.symm n_1_3)).trans hc_5
  have hc_15 : (mm_U M_9 wh (.inl (Z.2.1 0, 120, .inl (upd g1 T.length its)))) f3 = some (.inl (Z.2.1 0, 120, .inl g4)) := (mm_U_ne (Ne.symm n_1_4)).trans hc_6
  have hc_16 : (mm_U M_9 wh (.inl (Z.2.1 0, 120, .inl (upd g1 T.length its)))) wg = some (.inl (Z.2.1 0, 120, .inl g5)) := (mm_U_ne (Ne.symm n_1_5)).trans hc_7
  have hc_17 : (mm_U M_9 wh (.inl (Z.2.1 0, 120, .inl (upd g1 T.length its)))) pl = some (.inl (Z.2.1 0, 120, .inl gp)) := (mm_U_ne (Ne.symm n_1_6)).trans hc_8
  obtain ⟨M_18, eM_18⟩ : ∃ z, z = mm_U M_9 wh (.inl (Z.2.1 0, 120, .inl (upd g1 T.length its))) := ⟨_, rfl⟩
  rw [← eM_18] at hM hc_11 hc_12 hc_10 hc_13 hc_14 hc_15 hc_16 hc_17
  refine lv_aload_n hx hb dX2_makes_20 rfl (lv_at hl 0 rfl) ?_
  refine va_get (D := Z.1) (ci := 1) (v := .ref f1) (C := RX2) (T := TX2) (N := 17) hx hb hts in_X2 hown hE.1 (hM.at hc_11) 0 rfl mm_cX2 3 (by decide) (hts _ q2381) (fun _ h9 => h9) rfl dX2_makes_21 ?_
  refine lv_aload_n hx hb dX2_makes_24 rfl (lv_at hl 0 rfl) ?_
  refine va_get (D := Z.1) (ci := 1) (v := .int (nI T.length)) (C := RX2) (T := TX2) (N := 17) hx hb hts in_X2 hown hE.1 (hM.at hc_11) 0 rfl mm_cX2 0 (by decide) (hts _ q2378) (fun _ h9 => h9) rfl dX2_makes_25 ?_
  refine lv_iload_n hx hb dX2_makes_28 rfl (lv_at hl 3 rfl) ?_
  refine mm_iastK (k := T.length) hx hb hE hM hS hc_13 rfl hlen (by omega) dX2_makes_29 (fun H locs hM hS => ?_)
  have hM : mm_P Z.1 mm_cl A (mm_U M_18 f1 (.inl (Z.2.1 0, 120, .inl (upd g2 T.length (pt_i r.2.2.2.1 0))))) H := hM
  have hc_19 : (mm_U M_18 f1 (.inl (Z.2.1 0, 120, .inl (upd g2 T.length (pt_i r.2.2.2.1 0))))) f1 = some (.inl (Z.2.1 0, 120, .inl (upd g2 T.length (pt_i r.2.2.2.1 0)))) := mm_U_eq
  have hc_20 : (mm_U M_18 f1 (.inl (Z.2.1 0, 120, .inl (upd g2 T.length (pt_i r.2.2.2.1 0))))) a = some (.inr (1, [.int (nI T.length), .ref kd, .ref wh, .ref f1, .ref f2, .ref f3, .ref wg, .int ea, .int sp, va_rf rt, .int th, .int ak, .int wr, .ref pl, .int tk, .int (mm_b fa), .long st])) := (mm_U_ne (Ne.symm (mm_neA hc_13 hc_11))).trans hc_11
  have hc_21 : (mm_U M_18 f1 (.inl (Z.2.1 0, 120, .inl (upd g2 T.length (pt_i r.2.2.2.1 0))))) kd = some (.inl (Z.2.1 0, 120, .inl (upd g0 T.length what))) := (mm_U_ne n_0_2).trans hc_12
  have hc_22 : (mm_U M_18 f1 (.inl (Z.2.1 0, 120, .inl (upd g2 T.length (pt_i r.2.2.2.1 0))))) wh = some (.inl (Z.2.1 0, 120, .inl (upd g1 T.length its))) := (mm_U_ne n_1_2).trans hc_10
  have hc_23 : (mm_U M_18 f1 (.inl (Z.2.1 0, 120, .inl (upd g2 T.length (pt_i r.2.2.2.1 0))))) f2 = some (.inl (Z.2.1 0, 120, .inl g3)) := (mm_U_ne (Ne.symm n_2_3)).trans hc_14
  have hc_24 : (mm_U M_18 f1 (.inl (Z.2.1 0, 120, .inl (upd g2 T.length (pt_i r.2.2.2.1 0))))) f3 = some (.inl (Z.2.1 0, 120, .inl g4)) := (mm_U_ne (Ne.symm n_2_4)).trans hc_15
  have hc_25 : (mm_U M_18 f1 (.inl (Z.2.1 0, 120, .inl (upd g2 T.length (pt_i r.2.2.2.1 0))))) wg = some (.inl (Z.2.1 0, 120, .inl g5)) := (mm_U_ne (Ne.symm n_2_5)).trans hc_16
  have hc_26 : (mm_U M_18 f1 (.inl (Z.2.1 0, 120, .inl (upd g2 T.length (pt_i r.2.2.2.1 0))))) pl = some (.inl (Z.2.1 0, 120, .inl gp)) := (mm_U_ne (Ne.symm n_2_6)).trans hc_17
  obtain ⟨M_27, eM_27⟩ : ∃ z, z = mm_U M_18 f1 (.inl (Z.2.1 0, 120, .inl (upd g2 T.length (pt_i r.2.2.2.1 0)))) := ⟨_, rfl⟩
  rw [← eM_27] at hM hc_20 hc_21 hc_22 hc_19 hc_23 hc_24 hc_25 hc_26
  refine lv_aload_n hx hb dX2_makes_30 rfl (lv_at hl 0 rfl) ?_
  refine va_get (D := Z.1) (ci := 1) (v := .ref f2) (C := RX2) (T := TX2) (N := 17) hx hb hts in_X2 hown hE.1 (hM.at hc_20) 0 rfl mm_cX2 4 (by decide) (hts _ q2382) (fun _ h9 => h9) rfl dX2_makes_31 ?_
  refine lv_aload_n hx hb dX2_makes_34 rfl (lv_at hl 0 rfl) ?_
  refine va_get (D := Z.1) (ci := 1) (v := .int (nI T.length)) (C := RX2) (T := TX2) (N := 17) hx hb hts in_X2 hown hE.1 (hM.at hc_20) 0 rfl mm_cX2 0 (by decide) (hts _ q2378) (fun _ h9 => h9) rfl dX2_makes_35 ?_
  refine lv_iload hx hb dX2_makes_38 (lv_at hl 4 rfl) ?_
  refine mm_iastK (k := T.length) hx hb hE hM hS hc_23 rfl hlen (by omega) dX2_makes_40 (fun H locs hM hS => ?_)
  have hM : mm_P Z.1 mm_cl A (mm_U M_27 f2 (.inl (Z.2.1 0, 120, .inl (upd g3 T.length (pt_i r.2.2.2.1 1))))) H := hM
  have hc_28 : (mm_U M_27 f2 (.inl (Z.2.1 0, 120, .inl (upd g3 T.length (pt_i r.2.2.2.1 1))))) f2 = some (.inl (Z.2.1 0, 120, .inl (upd g3 T.length (pt_i r.2.2.2.1 1)))) := mm_U_eq
  have hc_29 : (mm_U M_27 f2 (.inl (Z.2.1 0, 120, .inl (upd g3 T.length (pt_i r.2.2.2.1 1))))) a = some (.inr (1, [.int (nI T.length), .ref kd, .ref wh, .ref f1, .ref f2, .ref f3, .ref wg, .int ea, .int sp, va_rf rt, .int th, .int ak, .int wr, .ref pl, .int tk, .int (mm_b fa), .long st])) := (mm_U_ne (Ne.symm (mm_neA hc_23 hc_20))).trans hc_20
  have hc_30 : (mm_U M_27 f2 (.inl (Z.2.1 0, 120, .inl (upd g3 T.length (pt_i r.2.2.2.1 1))))) kd = some (.inl (Z.2.1 0, 120, .inl (upd g0 T.length what))) := (mm_U_ne n_0_3).trans hc_21
  have hc_31 : (mm_U M_27 f2 (.inl (Z.2.1 0, 120, .inl (upd g3 T.length (pt_i r.2.2.2.1 1))))) wh = some (.inl (Z.2.1 0, 120, .inl (upd g1 T.length its))) := (mm_U_ne n_1_3).trans hc_22
  have hc_32 : (mm_U M_27 f2 (.inl (Z.2.1 0, 120, .inl (upd g3 T.length (pt_i r.2.2.2.1 1))))) f1 = some (.inl (Z.2.1 0, 120, .inl (upd g2 T.length (pt_i r.2.2.2.1 0)))) := (mm_U_ne n_2_3).trans hc_19
  have hc_33 : (mm_U M_27 f2 (.inl (Z.2.1 0, 120, .inl (upd g3 T.length (pt_i r.2.2.2.1 1))))) f3 = some (.inl (Z.2.1 0, 120, .inl g4)) := (mm_U_ne (Ne.symm n_3_4)).trans hc_24
  have hc_34 : (mm_U M_27 f2 (.inl (Z.2.1 0, 120, .inl (upd g3 T.length (pt_i r.2.2.2.1 1))))) wg = some (.inl (Z.2.1 0, 120, .inl g5)) := (mm_U_ne (Ne.symm n_3_5)).trans hc_25
  have hc_35 : (mm_U M_27 f2 (.inl (Z.2.1 0, 120, .inl (upd g3 T.length (pt_i r.2.2.2.1 1))))) pl = some (.inl (Z.2.1 0, 120, .inl gp)) := (mm_U_ne (Ne.symm n_3_6)).trans hc_26
  obtain ⟨M_36, eM_36⟩ : ∃ z, z = mm_U M_27 f2 (.inl (Z.2.1 0, 120, .inl (upd g3 T.length (pt_i r.2.2.2.1 1)))) := ⟨_, rfl⟩
  rw [← eM_36] at hM hc_29 hc_30 hc_31 hc_32 hc_28 hc_33 hc_34 hc_35
  refine lv_aload_n hx hb dX2_makes_41 rfl (lv_at hl 0 rfl) ?_
  refine va_get (D := Z.1) (ci := 1) (v := .ref f3) (C := RX2) (T := TX2) (N := 17) hx hb hts in_X2 hown hE.1 (hM.at hc_29) 0 rfl mm_cX2 5 (by decide) (hts _ q2383) (fun _ h9 => h9) rfl dX2_makes_42 ?_
  refine lv_aload_n hx hb dX2_makes_45 rfl (lv_at hl 0 rfl) ?_
  refine va_get (D := Z.1) (ci := 1) (v := .int (nI T.length)) (C := RX2) (T := TX2) (N := 17) hx hb hts in_X2 hown hE.1 (hM.at hc_29) 0 rfl mm_cX2 0 (by decide) (hts _ q2378) (fun _ h9 => h9) rfl dX2_makes_46 ?_
  refine lv_iload hx hb dX2_makes_49 (lv_at hl 5 rfl) ?_
  refine mm_iastK (k := T.length) hx hb hE hM hS hc_33 rfl hlen (by omega) dX2_makes_51 (fun H locs hM hS => ?_)
  have hM : mm_P Z.1 mm_cl A (mm_U M_36 f3 (.inl (Z.2.1 0, 120, .inl (upd g4 T.length (pt_i r.2.2.2.1 2))))) H := hM
  have hc_37 : (mm_U M_36 f3 (.inl (Z.2.1 0, 120, .inl (upd g4 T.length (pt_i r.2.2.2.1 2))))) f3 = some (.inl (Z.2.1 0, 120, .inl (upd g4 T.length (pt_i r.2.2.2.1 2)))) := mm_U_eq
  have hc_38 : (mm_U M_36 f3 (.inl (Z.2.1 0, 120, .inl (upd g4 T.length (pt_i r.2.2.2.1 2))))) a = some (.inr (1, [.int (nI T.length), .ref kd, .ref wh, .ref f1, .ref f2, .ref f3, .ref wg, .int ea, .int sp, va_rf rt, .int th, .int ak, .int wr, .ref pl, .int tk, .int (mm_b fa), .long st])) := (mm_U_ne (Ne.symm (mm_neA hc_33 hc_29))).trans hc_29
  have hc_39 : (mm_U M_36 f3 (.inl (Z.2.1 0, 120, .inl (upd g4 T.length (pt_i r.2.2.2.1 2))))) kd = some (.inl (Z.2.1 0, 120, .inl (upd g0 T.length what))) := (mm_U_ne n_0_4).trans hc_30
  have hc_40 : (mm_U M_36 f3 (.inl (Z.2.1 0, 120, .inl (upd g4 T.length (pt_i r.2.2.2.1 2))))) wh = some (.inl (Z.2.1 0, 120, .inl (upd g1 T.length its))) := (mm_U_ne n_1_4).trans hc_31
  have hc_41 : (mm_U M_36 f3 (.inl (Z.2.1 0, 120, .inl (upd g4 T.length (pt_i r.2.2.2.1 2))))) f1 = some (.inl (Z.2.1 0, 120, .inl (upd g2 T.length (pt_i r.2.2.2.1 0)))) := (mm_U_ne n_2_4).trans hc_32
  have hc_42 : (mm_U M_36 f3 (.inl (Z.2.1 0, 120, .inl (upd g4 T.length (pt_i r.2.2.2.1 2))))) f2 = some (.inl (Z.2.1 0, 120, .inl (upd g3 T.length (pt_i r.2.2.2.1 1)))) := (mm_U_ne n_3_4).trans hc_28
  have hc_43 : (mm_U M_36 f3 (.inl (Z.2.1 0, 120, .inl (upd g4 T.length (pt_i r.2.2.2.1 2))))) wg = some (.inl (Z.2.1 0, 120, .inl g5)) := (mm_U_ne (Ne.symm n_4_5)).trans hc_34
  have hc_44 : (mm_U M_36 f3 (.inl (Z.2.1 0, 120, .inl (upd g4 T.length (pt_i r.2.2.2.1 2))))) pl = some (.inl (Z.2.1 0, 120, .inl gp)) := (mm_U_ne (Ne.symm n_4_6)).trans hc_35
  obtain ⟨M_45, eM_45⟩ : ∃ z, z = mm_U M_36 f3 (.inl (Z.2.1 0, 120, .inl (upd g4 T.length (pt_i r.2.2.2.1 2)))) := ⟨_, rfl⟩
  rw [← eM_45] at hM hc_38 hc_39 hc_40 hc_41 hc_42 hc_37 hc_43 hc_44
  refine lv_aload_n hx hb dX2_makes_52 rfl (lv_at hl 0 rfl) ?_
  refine va_get (D := Z.1) (ci := 1) (v := .ref wg) (C := RX2) (T := TX2) (N := 17) hx hb hts in_X2 hown hE.1 (hM.at hc_38) 0 rfl mm_cX2 6 (by decide) (hts _ q2384) (fun _ h9 => h9) rfl dX2_makes_53 ?_
  refine lv_aload_n hx hb dX2_makes_56 rfl (lv_at hl 0 rfl) ?_
  refine va_get (D := Z.1) (ci := 1) (v := .int (nI T.length)) (C := RX2) (T := TX2) (N := 17) hx hb hts in_X2 hown hE.1 (hM.at hc_38) 0 rfl mm_cX2 0 (by decide) (hts _ q2378) (fun _ h9 => h9) rfl dX2_makes_57 ?_
  refine lv_iconst (v := 1) hx hb dX2_makes_60 (by decide) ?_
  refine lv_aload_n hx hb dX2_makes_61 rfl (lv_at hl 0 rfl) ?_
  refine lv_iload_n hx hb dX2_makes_62 rfl (lv_at hl 3 rfl) ?_
  refine mm_callV (As := [.int (pt_i r.2.2.2.1 0)]) (rest := [.int 1, .int (nI T.length), .ref wg]) ⟨hx, hb, hml, hown, hts⟩ hE hST hA (c_X2_weightOf l Z (T := T) hc_38 hc_43 hl9 (fun k r hk => (hg k r hk).2.2.2.2.2.1) (hpj 0)) (cwV 1 hts (lw_V q2449 q2451 qs30 q54 q2452) rfl rfl rfl (by decide +kernel) ⟨(Nat.le_of_ble_eq_true rfl), (Nat.le_of_ble_eq_true rfl)⟩) hM hS mm_cX2 hc_38 rfl hl.1 (Nat.le_of_ble_eq_true rfl) dX2_makes_63 rfl ⟨(Nat.le_of_ble_eq_true rfl), (Nat.le_of_ble_eq_true rfl)⟩ (fun _ _ _ _ _ _ h9 => h9.elim) (fun v_46 M_47 H locs hp_48 hM hS => ?_)
  obtain ⟨rfl, eM_47⟩ := hp_48
  rw [eM_47] at hM
  refine lv_iadd hx hb dX2_makes_66 ?_
  rw [show (1 + (nI (pt_wi T r.2.2.2.1 0)) : Int32) = nI (1 + pt_wi T r.2.2.2.1 0) from by rw [show (1 : Int32) = nI 1 from by decide, nI_add]]
  refine lv_aload_n hx hb dX2_makes_67 rfl (lv_at hl 0 rfl) ?_
  refine lv_iload hx hb dX2_makes_68 (lv_at hl 4 rfl) ?_
  refine mm_callV (As := [.int (pt_i r.2.2.2.1 1)]) (rest := [.int (nI (1 + pt_wi T r.2.2.2.1 0)), .int (nI T.length), .ref wg]) ⟨hx, hb, hml, hown, hts⟩ hE hST hA (c_X2_weightOf l Z (T := T) hc_38 hc_43 hl9 (fun k r hk => (hg k r hk).2.2.2.2.2.1) (hpj 1)) (cwV 1 hts (lw_V q2449 q2451 qs30 q54 q2452) rfl rfl rfl (by decide +kernel) ⟨(Nat.le_of_ble_eq_true rfl), (Nat.le_of_ble_eq_true rfl)⟩) hM hS mm_cX2 hc_38 rfl hl.1 (Nat.le_of_ble_eq_true rfl) dX2_makes_70 rfl ⟨(Nat.le_of_ble_eq_true rfl), (Nat.le_of_ble_eq_true rfl)⟩ (fun _ _ _ _ _ _ h9 => h9.elim) (fun v_49 M_50 H locs hp_51 hM hS => ?_)
  obtain ⟨rfl, eM_50⟩ := hp_51
  rw [eM_50] at hM
  refine lv_iadd hx hb dX2_makes_73 ?_
  rw [show ((nI (1 + pt_wi T r.2.2.2.1 0)) + (nI (pt_wi T r.2.2.2.1 1)) : Int32) = nI (1 + pt_wi T r.2.2.2.1 0 + pt_wi T r.2.2.2.1 1) from nI_add _ _]
  refine lv_aload_n hx hb dX2_makes_74 rfl (lv_at hl 0 rfl) ?_
  refine lv_iload hx hb dX2_makes_75 (lv_at hl 5 rfl) ?_
  refine mm_callV (As := [.int (pt_i r.2.2.2.1 2)]) (rest := [.int (nI (1 + pt_wi T r.2.2.2.1 0 + pt_wi T r.2.2.2.1 1)), .int (nI T.length), .ref wg]) ⟨hx, hb, hml, hown, hts⟩ hE hST hA (c_X2_weightOf l Z (T := T) hc_38 hc_43 hl9 (fun k r hk => (hg k r hk).2.2.2.2.2.1) (hpj 2)) (cwV 1 hts (lw_V q2449 q2451 qs30 q54 q2452) rfl rfl rfl (by decide +kernel) ⟨(Nat.le_of_ble_eq_true rfl), (Nat.le_of_ble_eq_true rfl)⟩) hM hS mm_cX2 hc_38 rfl hl.1 (Nat.le_of_ble_eq_true rfl) dX2_makes_77 rfl ⟨(Nat.le_of_ble_eq_true rfl), (Nat.le_of_ble_eq_true rfl)⟩ (fun _ _ _ _ _ _ h9 => h9.elim) (fun v_52 M_53 H locs hp_54 hM hS => ?_)
  obtain ⟨rfl, eM_53⟩ := hp_54
  rw [eM_53] at hM
  refine lv_iadd hx hb dX2_makes_80 ?_
  rw [show ((nI (1 + pt_wi T r.2.2.2.1 0 + pt_wi T r.2.2.2.1 1)) + (nI (pt_wi T r.2.2.2.1 2)) : Int32) = nI r.2.2.2.2 from by rw [nI_add, pt_w_sum h3, hrw]]
  refine mm_iastK (k := T.length) hx hb hE hM hS hc_43 rfl hlen (by omega) dX2_makes_81 (fun H locs hM hS => ?_)
  have hM : mm_P Z.1 mm_cl A (mm_U M_45 wg (.inl (Z.2.1 0, 120, .inl (upd g5 T.length (nI r.2.2.2.2))))) H := hM
  have hc_55 : (mm_U M_45 wg (.inl (Z.2.1 0, 120, .inl (upd g5 T.length (nI r.2.2.2.2))))) wg = some (.inl (Z.2.1 0, 120, .inl (upd g5 T.length (nI r.2.2.2.2)))) := mm_U_eq
  have hc_56 : (mm_U M_45 wg (.inl (Z.2.1 0, 120, .inl (upd g5 T.length (nI r.2.2.2.2))))) a = some (.inr (1, [.int (nI T.length), .ref kd, .ref wh, .ref f1, .ref f2, .ref f3, .ref wg, .int ea, .int sp, va_rf rt, .int th, .int ak, .int wr, .ref pl, .int tk, .int (mm_b fa), .long st])) := (mm_U_ne (Ne.symm (mm_neA hc_43 hc_38))).trans hc_38
  have hc_57 : (mm_U M_45 wg (.inl (Z.2.1 0, 120, .inl (upd g5 T.length (nI r.2.2.2.2))))) kd = some (.inl (Z.2.1 0, 120, .inl (upd g0 T.length what))) := (mm_U_ne n_0_5).trans hc_39
  have hc_58 : (mm_U M_45 wg (.inl (Z.2.1 0, 120, .inl (upd g5 T.length (nI r.2.2.2.2))))) wh = some (.inl (Z.2.1 0, 120, .inl (upd g1 T.length its))) := (mm_U_ne n_1_5).trans hc_40
  have hc_59 : (mm_U M_45 wg (.inl (Z.2.1 0, 120, .inl (upd g5 T.length (nI r.2.2.2.2))))) f1 = some (.inl (Z.2.1 0, 120, .inl (upd g2 T.length (pt_i r.2.2.2.1 0)))) := (mm_U_ne n_2_5).trans hc_41
  have hc_60 : (mm_U M_45 wg (.inl (Z.2.1 0, 120, .inl (upd g5 T.length (nI r.2.2.2.2))))) f2 = some (.inl (Z.2.1 0, 120, .inl (upd g3 T.length (pt_i r.2.2.2.1 1)))) := (mm_U_ne n_3_5).trans hc_42
  have hc_61 : (mm_U M_45 wg (.inl (Z.2.1 0, 120, .inl (upd g5 T.length (nI r.2.2.2.2))))) f3 = some (.inl (Z.2.1 0, 120, .inl (upd g4 T.length (pt_i r.2.2.2.1 2)))) := (mm_U_ne n_4_5).trans hc_37
  have hc_62 : (mm_U M_45 wg (.inl (Z.2.1 0, 120, .inl (upd g5 T.length (nI r.2.2.2.2))))) pl = some (.inl (Z.2.1 0, 120, .inl gp)) := (mm_U_ne (Ne.symm n_5_6)).trans hc_44
  obtain ⟨M_63, eM_63⟩ : ∃ z, z = mm_U M_45 wg (.inl (Z.2.1 0, 120, .inl (upd g5 T.length (nI r.2.2.2.2)))) := ⟨_, rfl⟩
  rw [← eM_63] at hM hc_56 hc_57 hc_58 hc_59 hc_60 hc_61 hc_55 hc_62
  refine lv_aload_n hx hb dX2_makes_82 rfl (lv_at hl 0 rfl) ?_
  refine lv_dup hx hb dX2_makes_83 rfl ?_
  refine va_get (D := Z.1) (ci := 1) (v := .int (nI T.length)) (C := RX2) (T := TX2) (N := 17) hx hb hts in_X2 hown hE.1 (hM.at hc_56) 0 rfl mm_cX2 0 (by decide) (hts _ q2378) (fun _ h9 => h9) rfl dX2_makes_84 ?_
  refine lv_iconst (v := 1) hx hb dX2_makes_87 (by decide) ?_
  refine lv_iadd hx hb dX2_makes_88 ?_
  rw [show ((nI T.length) + 1 : Int32) = nI (T.length + 1) from nI_1 _]
  refine mm_put (D := Z.1) (ci := 1) (v := .int (nI (T.length + 1))) (ty := .int) (C := RX2) (T := TX2) (N := 17) hx hb hts in_X2 tyX2 tyX2_ok nmX2 hown hE.1 hM hS hc_56 mm_cX2 0 (by decide) (hts _ q2378) (fun _ h9 => h9) rfl (by decide +kernel) rfl rfl (Nat.le_of_ble_eq_true rfl) dX2_makes_89 (fun H locs hM hS => ?_)
  have hM : mm_P Z.1 mm_cl A (mm_U M_63 a (.inr (1, [.int (nI (T.length + 1)), .ref kd, .ref wh, .ref f1, .ref f2, .ref f3, .ref wg, .int ea, .int sp, va_rf rt, .int th, .int ak, .int wr, .ref pl, .int tk, .int (mm_b fa), .long st]))) H := hM
  have hc_64 : (mm_U M_63 a (.inr (1, [.int (nI (T.length + 1)), .ref kd, .ref wh, .ref f1, .ref f2, .ref f3, .ref wg, .int ea, .int sp, va_rf rt, .int th, .int ak, .int wr, .ref pl, .int tk, .int (mm_b fa), .long st]))) a = some (.inr (1, [.int (nI (T.length + 1)), .ref kd, .ref wh, .ref f1, .ref f2, .ref f3, .ref wg, .int ea, .int sp, va_rf rt, .int th, .int ak, .int wr, .ref pl, .int tk, .int (mm_b fa), .long st])) := mm_U_eq
  have hc_65 : (mm_U M_63 a (.inr (1, [.int (nI (T.length + 1)), .ref kd, .ref wh, .ref f1, .ref f2, .ref f3, .ref wg, .int ea, .int sp, va_rf rt, .int th, .int ak, .int wr, .ref pl, .int tk, .int (mm_b fa), .long st]))) kd = some (.inl (Z.2.1 0, 120, .inl (upd g0 T.length what))) := (mm_U_ne (mm_neA hc_57 hc_56)).trans hc_57
  have hc_66 : (mm_U M_63 a (.inr (1, [.int (nI (T.length + 1)), .ref kd, .ref wh, .ref f1, .ref f2, .ref f3, .ref wg, .int ea, .int sp, va_rf rt, .int th, .int ak, .int wr, .ref pl, .int tk, .int (mm_b fa), .long st]))) wh = some (.inl (Z.2.1 0, 120, .inl (upd g1 T.length its))) := (mm_U_ne (mm_neA hc_58 hc_56)).trans hc_58
  have hc_67 : (mm_U M_63 a (.inr (1, [.int (nI (T.length + 1)), .ref kd, .ref wh, .ref f1, .ref f2, .ref f3, .ref wg, .int ea, .int sp, va_rf rt, .int th, .int ak, .int wr, .ref pl, .int tk, .int (mm_b fa), .long st]))) f1 = some (.inl (Z.2.1 0, 120, .inl (upd g2 T.length (pt_i r.2.2.2.1 0)))) := (mm_U_ne (mm_neA hc_59 hc_56)).trans hc_59
  have hc_68 : (mm_U M_63 a (.inr (1, [.int (nI (T.length + 1)), .ref kd, .ref wh, .ref f1, .ref f2, .ref f3, .ref wg, .int ea, .int sp, va_rf rt, .int th, .int ak, .int wr, .ref pl, .int tk, .int (mm_b fa), .long st]))) f2 = some (.inl (Z.2.1 0, 120, .inl (upd g3 T.length (pt_i r.2.2.2.1 1)))) := (mm_U_ne (mm_neA hc_60 hc_56)).trans hc_60
  have hc_69 : (mm_U M_63 a (.inr (1, [.int (nI (T.length + 1)), .ref kd, .ref wh, .ref f1, .ref f2, .ref f3, .ref wg, .int ea, .int sp, va_rf rt, .int th, .int ak, .int wr, .ref pl, .int tk, .int (mm_b fa), .long st]))) f3 = some (.inl (Z.2.1 0, 120, .inl (upd g4 T.length (pt_i r.2.2.2.1 2)))) := (mm_U_ne (mm_neA hc_61 hc_56)).trans hc_61
  have hc_70 : (mm_U M_63 a (.inr (1, [.int (nI (T.length + 1)), .ref kd, .ref wh, .ref f1, .ref f2, .ref f3, .ref wg, .int ea, .int sp, va_rf rt, .int th, .int ak, .int wr, .ref pl, .int tk, .int (mm_b fa), .long st]))) wg = some (.inl (Z.2.1 0, 120, .inl (upd g5 T.length (nI r.2.2.2.2)))) := (mm_U_ne (mm_neA hc_55 hc_56)).trans hc_55
  have hc_71 : (mm_U M_63 a (.inr (1, [.int (nI (T.length + 1)), .ref kd, .ref wh, .ref f1, .ref f2, .ref f3, .ref wg, .int ea, .int sp, va_rf rt, .int th, .int ak, .int wr, .ref pl, .int tk, .int (mm_b fa), .long st]))) pl = some (.inl (Z.2.1 0, 120, .inl gp)) := (mm_U_ne (mm_neA hc_62 hc_56)).trans hc_62
  obtain ⟨M_72, eM_72⟩ : ∃ z, z = mm_U M_63 a (.inr (1, [.int (nI (T.length + 1)), .ref kd, .ref wh, .ref f1, .ref f2, .ref f3, .ref wg, .int ea, .int sp, va_rf rt, .int th, .int ak, .int wr, .ref pl, .int tk, .int (mm_b fa), .long st])) := ⟨_, rfl⟩
  rw [← eM_72] at hM hc_64 hc_65 hc_66 hc_67 hc_68 hc_69 hc_70 hc_71
  refine lv_aload_n hx hb dX2_makes_92 rfl (lv_at hl 0 rfl) ?_
  refine va_get (D := Z.1) (ci := 1) (v := .int (nI (T.length + 1))) (C := RX2) (T := TX2) (N := 17) hx hb hts in_X2 hown hE.1 (hM.at hc_64) 0 rfl mm_cX2 0 (by decide) (hts _ q2378) (fun _ h9 => h9) rfl dX2_makes_93 ?_
  refine lv_iconst (v := 1) hx hb dX2_makes_96 (by decide) ?_
  refine lv_isub hx hb dX2_makes_97 ?_
  rw [show ((nI (T.length + 1)) - 1 : Int32) = nI T.length from nI_pred _]
  have hfin : some (Value.int (nI T.length)) = some (Value.int (nI T.length)) ∧ M_72 a = some (md_E (nI (T.length + 1)) kd wh f1 f2 f3 wg ea sp rt th ak wr pl tk fa st) ∧ md_A Z M_72 kd wh f1 f2 f3 wg pl (T ++ [r]) ∧ (∀ q : Nat, q ≠ a → q ∉ [kd, wh, f1, f2, f3, wg] → M_72 q = M q) := by
    refine ⟨rfl, hc_64, ⟨nd, by simp; omega, ⟨_, hc_71⟩, _, _, _, _, _, _, hc_65, hc_66, hc_67, hc_68, hc_69, hc_70, fun k r' hk => ?_⟩, fun q h1 h2 => ?_⟩
    · rcases pt_at hk with ⟨h1, h2⟩ | ⟨rfl, rfl⟩
      · simp only [upd_old h1]; exact hg k r' h2
      · simp only [upd_new]; exact ⟨hw, hi9, trivial, trivial, trivial, trivial, hr30⟩
    · simp only [List.mem_cons, List.not_mem_nil, or_false, not_or] at h2
      subst eM_72 eM_63 eM_45 eM_36 eM_27 eM_18 eM_9
      simp [mm_U, h1, h2]
  exact mm_reti hx hb hr hlk hM hS hfin dX2_makes_98 (Nat.le_of_ble_eq_true rfl) (Nat.le_of_ble_eq_true rfl)
