/-! ===== renewing, walked ===== -/
set_option maxRecDepth 100000
/-- something that is none of it comes in, or is filled -/
theorem RN.ext9 {Z : mm_G} {B M M' : mm_M} {L : List Nat} {vr : Nat → Nat} {S : ts} {gl : List Nat} {rk : Nat} {q ar cp : Nat → Nat} {lv : Int32} {co cr : List (Nat × Nat)} {nw : List Nat} (h : RN Z B M L vr S gl rk q ar cp lv co cr nw) (hex : mm_Ext B M') (hns : ∀ z ci fs, B z = none → M z = some (.inr (ci, fs)) → (z ∈ nw ∨ z = rk) → M' z = some (.inr (ci, fs))) (hT : uT M M') (hRL : RL Z B M' q ar cp (RX vr co cr)) : RN Z B M' L vr S gl rk q ar cp lv co cr nw := by
  obtain ⟨⟨h1, h2, h3⟩, ⟨h4, h5⟩, h6, ⟨h7, h8⟩, h9, ⟨h12, h13⟩, h14⟩ := h
  refine ⟨⟨hex, h2, h3⟩, ⟨h4, hns rk _ _ h4 h5 (Or.inr rfl)⟩, hRL, ⟨fun p hp => ?_, fun p hp => ?_⟩, h9, ⟨h12, fun x hx => ?_⟩, fun b hb => ⟨fun f g sm rn hk => ((h14 b hb).1 f g sm rn hk).mono hT (fun _ h => h) (fun _ h => h), fun iv w sm rn hk => ((h14 b hb).2 iv w sm rn hk).mono hT (fun _ h => h) (fun _ h => h)⟩⟩
  · obtain ⟨k1, k2, k3, k4⟩ := h7 p hp; exact ⟨k1, k2, k3, hns p.2 _ _ (h13 _ k2).1 k4 (Or.inl k2)⟩
  · obtain ⟨k1, k2, k3, k4⟩ := h8 p hp; exact ⟨k1, k2, k3, hns p.2 _ _ (h13 _ k2).1 k4 (Or.inl k2)⟩
  · obtain ⟨k1, k2⟩ := h13 x hx
    refine ⟨k1, ?_⟩
    rcases k2 with ⟨p, hp, e⟩ | ⟨t9, k3, k4⟩
    · exact Or.inl ⟨p, hp, e⟩
    · refine Or.inr ⟨t9, k3.mono hT (fun _ h => h) (fun _ h => h), ?_⟩
      rcases k4 with ⟨f7, g7, k4⟩ | ⟨iv7, w7, k4⟩
      · exact Or.inl ⟨f7, g7, hns x _ _ k1 k4 (Or.inl hx)⟩
      · exact Or.inr ⟨iv7, w7, hns x _ _ k1 k4 (Or.inl hx)⟩
theorem RN.ext {Z : mm_G} {B M M' : mm_M} {L : List Nat} {vr : Nat → Nat} {S : ts} {gl : List Nat} {rk : Nat} {q ar cp : Nat → Nat} {lv : Int32} {co cr : List (Nat × Nat)} {nw : List Nat} (h : RN Z B M L vr S gl rk q ar cp lv co cr nw) (hx : mm_Ext M M') : RN Z B M' L vr S gl rk q ar cp lv co cr nw :=
  h.ext9 (h.1.1.trans hx) (fun z ci fs _ hm _ => hx.at hm) hx.uK.T (h.2.2.1.ext hx)
/-- a new cell is filled -/
theorem RN.fill {Z : mm_G} {B M M' : mm_M} {L : List Nat} {vr : Nat → Nat} {S : ts} {gl : List Nat} {rk : Nat} {q ar cp : Nat → Nat} {lv : Int32} {co cr : List (Nat × Nat)} {nw : List Nat} (h : RN Z B M L vr S gl rk q ar cp lv co cr nw) {a : Nat} {e : va_E} (han : M a = some (ce_E 0 none none)) (haB : B a = none) (hanw : a ∉ nw) (harw : a ≠ rk) (hM' : M' = mm_U M a e) : RN Z B M' L vr S gl rk q ar cp lv co cr nw ∧ uT M M' := by
  have hk : ∀ z, z ≠ a → M' z = M z := fun z hz => by rw [hM']; exact mm_U_ne hz
  have hex : mm_Ext B M' := fun z hz => by rw [hk z (fun e => hz (e ▸ haB)), h.1.1 z hz]
  have hT : uT M M' := uNS.T (rk := rk) (fun z ci fs hz hm hc n1 n2 n3 => by
    rw [hk z (fun e => by subst e; rw [han] at hm; exact n3 0 none none (Or.inl rfl) (Option.some.inj hm).symm)]; exact hm) h.1.1 (uY.rf rk B) hex
  refine ⟨h.ext9 hex (fun z ci fs _ hm hz => by rw [hk z (fun e => by rcases hz with hz | hz; exact hanw (e ▸ hz); exact harw (e.symm.trans hz))]; exact hm) hT ?_, hT⟩
  refine ⟨fun i hi => ?_, h.2.2.1.2⟩
  obtain ⟨⟨md, fz, l1, l2, l3⟩, k⟩ := h.2.2.1.1 i hi
  exact ⟨⟨md, fz, by rw [hk _ (fun e => by rw [e, han] at l1; simp at l1)]; exact l1, by rw [hk _ (fun e => by rw [e, han] at l2; simp at l2)]; exact l2, l3⟩, k⟩
theorem RN.nrk {Z : mm_G} {B M : mm_M} {L : List Nat} {vr : Nat → Nat} {S : ts} {gl : List Nat} {rk : Nat} {q ar cp : Nat → Nat} {lv : Int32} {co cr : List (Nat × Nat)} {nw : List Nat} (h : RN Z B M L vr S gl rk q ar cp lv co cr nw) {a : Nat} (ha : M a = none) : a ∉ nw ∧ a ≠ rk ∧ B a = none := by
  refine ⟨fun hx => ?_, fun e => ?_, h.1.1.none ha⟩
  · obtain ⟨ci, fs, k, -⟩ := h.obj hx; rw [ha] at k; cases k
  · have k := h.2.1.2; rw [← e, ha] at k; cases k

theorem RN.TF {Z : mm_G} {B M M' : mm_M} {L : List Nat} {vr : Nat → Nat} {S : ts} {gl : List Nat} {rk : Nat} {q ar cp : Nat → Nat} {lv : Int32} {co cr : List (Nat × Nat)} {nw : List Nat} (h : RN Z B M L vr S gl rk q ar cp lv co cr nw) {b a : Nat} {f g : Nat} {bq rn : Option Nat} (hBb : B b = some (cf_E (some f) (some g) none bq rn)) (han : M a = some (cf_E none none none none none)) (haB : B a = none) (hbM : M' b = some (cf_E (some f) (some g) none (some rk) (some a))) (hk : ∀ z, z ≠ a → z ≠ b → M' z = M z) : uT M M' := by
  have hex : mm_Ext (mm_U B b (cf_E (some f) (some g) none (some rk) (some a))) M' := fun z hz => by
    by_cases e : z = b
    · subst e; rw [mm_U_eq]; exact hbM
    · rw [mm_U_ne e] at hz ⊢
      rw [hk z (fun e2 => hz (e2 ▸ haB)) e, h.1.1 z hz]
  exact uNS.T (fun z ci fs hz hm hc n1 n2 n3 => by
    rw [hk z (fun e => by
      subst e
      rw [han] at hm
      exact n1 none none (Or.inl rfl) none none none (Option.some.inj hm).symm) (fun e => by rw [e, hBb] at hz; cases hz)]; exact hm) h.1.1 (uY.putF (rk := rk) hBb) hex

theorem RN.TB {Z : mm_G} {B M M' : mm_M} {L : List Nat} {vr : Nat → Nat} {S : ts} {gl : List Nat} {rk : Nat} {q ar cp : Nat → Nat} {lv : Int32} {co cr : List (Nat × Nat)} {nw : List Nat} (h : RN Z B M L vr S gl rk q ar cp lv co cr nw) {b a : Nat} {iv : Bool} {w : Nat} {bq rn : Option Nat} (hBb : B b = some (cb_E iv (some w) none bq rn)) (han : M a = some (cb_E false none none none none)) (haB : B a = none) (hbM : M' b = some (cb_E iv (some w) none (some rk) (some a))) (hk : ∀ z, z ≠ a → z ≠ b → M' z = M z) : uT M M' := by
  have hex : mm_Ext (mm_U B b (cb_E iv (some w) none (some rk) (some a))) M' := fun z hz => by
    by_cases e : z = b
    · subst e; rw [mm_U_eq]; exact hbM
    · rw [mm_U_ne e] at hz ⊢
      rw [hk z (fun e2 => hz (e2 ▸ haB)) e, h.1.1 z hz]
  exact uNS.T (fun z ci fs hz hm hc n1 n2 n3 => by
    rw [hk z (fun e => by
      subst e
      rw [han] at hm
      exact n2 false none none none (Option.some.inj hm).symm) (fun e => by rw [e, hBb] at hz; cases hz)]; exact hm) h.1.1 (uY.putB (rk := rk) hBb) hex

/-- what is asked of a renewed type (row) -/
def rnK (Z : mm_G) (L : List Nat) (vr : Nat → Nat) (S : ts) (gl : List Nat) (m : Bool) (T : ev) : Nat → mm_M → List (Nat × Nat) → List Nat → Prop := fun a M' cs nw' => ∃ t', RPt Z M' L vr S.1 gl nw' cs t' m a ∧ uap S.2.1 t' = uap (uth gl S.1) T ∧ ∀ g ∈ gl, uoc g T = true → ∃ x, (g, x) ∈ cs
theorem uth_not {gl : List Nat} {n v : Nat} (h : v ∉ gl) : uth gl n v = .var v := if_neg h
theorem uth_in {gl : List Nat} {n v : Nat} (h : v ∈ gl) : uth gl n v = .var (n + gl.idxOf v) := if_pos h

set_option maxHeartbeats 4000000 in
set_option maxRecDepth 100000 in
theorem c_renew (l : Launch) (Z : mm_G) (L : List Nat) (vr : Nat → Nat) (S : ts) (kd : Nat → Bool) (gl : List Nat) (rk : Nat) (q : Nat → Nat) (lv : Int32) (hgl : ∀ g ∈ gl, g < S.1) (hgK : gl.length < 2 ^ 15) (N : Nat) : (∀ (T t : ev) (a : Nat) (M B : mm_M) (ar cp : Nat → Nat) (co cr : List (Nat × Nat)) (nw : List Nat), SizeOf.sizeOf T < N → uap S.2.1 t = T → uwf (uG S kd) false T → (∀ v, uoc v T = true → (S.2.2.2.2 v = 1048576 ↔ v ∈ gl)) → RN Z B M L vr S gl rk q ar cp lv co cr nw → tp Z B L vr S.1 t false a → mm_D l Z yX10_of (ws_ yX10_of cX10_of 4 (some (.object "RowenTongue$Type"))) { frames := (uz T) + L.length + 12, cells := 11 * uNu B L rk + 3 * (gl.length - (co.length + cr.length)) + 0 + 11 * (uz T), slots := (35 * uNu B L rk + 20 * gl.length + 160 + 3 * 0 + 35 * (uz T)) - (4 * (cp 0 + cp 1 + cp 2 + cp 3) + 4 * (co.length + cr.length)), locals := 23 * (uz T) + 20 * L.length + 420 } [.ref rk, .ref a] M (rnP Z L vr S gl rk q lv B M cp co cr nw 0 (3 * 0) (SizeOf.sizeOf T) (rnK Z L vr S gl false T)) mm_nx) ∧
    (∀ (T t : ev) (a : Nat) (M B : mm_M) (ar cp : Nat → Nat) (co cr : List (Nat × Nat)) (nw : List Nat), SizeOf.sizeOf T < N → uap S.2.1 t = T → uwf (uG S kd) true T → (∀ v, uoc v T = true → (S.2.2.2.2 v = 1048576 ↔ v ∈ gl)) → RN Z B M L vr S gl rk q ar cp lv co cr nw → tp Z B L vr S.1 t true a → mm_D l Z yX10_of_2 (ws_ yX10_of_2 cX10_of_2 4 (some (.object "RowenTongue$Row"))) { frames := (urn T + uz T + 1) + L.length + 12, cells := 11 * uNu B L rk + 3 * (gl.length - (co.length + cr.length)) + (urn T) + 11 * (urn T + uz T + 1), slots := (35 * uNu B L rk + 20 * gl.length + 160 + 3 * (urn T) + 35 * (urn T + uz T + 1)) - (4 * (cp 0 + cp 1 + cp 2 + cp 3) + 4 * (co.length + cr.length)), locals := 23 * (urn T + uz T + 1) + 20 * L.length + 420 } [.ref rk, .ref a] M (rnP Z L vr S gl rk q lv B M cp co cr nw (urn T) (3 * (urn T)) (SizeOf.sizeOf T) (rnK Z L vr S gl true T)) mm_nx) := by
  induction N with
  | zero => exact ⟨fun _ _ _ _ _ _ _ _ _ _ h => absurd h (Nat.not_lt_zero _), fun _ _ _ _ _ _ _ _ _ _ h => absurd h (Nat.not_lt_zero _)⟩
  | succ N ih =>
  obtain ⟨ihT, ihR⟩ := ih
  have hF : ∀ (x y : ev) (b f g : Nat) (bq rn : Option Nat) (M B : mm_M) (ar cp : Nat → Nat) (co cr : List (Nat × Nat)) (nw : List Nat), SizeOf.sizeOf (uap S.2.1 x) < N → SizeOf.sizeOf (uap S.2.1 y) < N → uwf (uG S kd) false (uap S.2.1 x) → uwf (uG S kd) false (uap S.2.1 y) → (∀ v, (uoc v (uap S.2.1 x) || uoc v (uap S.2.1 y)) = true → (S.2.2.2.2 v = 1048576 ↔ v ∈ gl)) → RN Z B M L vr S gl rk q ar cp lv co cr nw → b ∈ L → B b = some (cf_E (some f) (some g) none bq rn) → tp Z B L vr S.1 x false f → tp Z B L vr S.1 y false g → mm_D l Z yX10_renewedFunction (ws_ yX10_renewedFunction cX10_renewedFunction 3 (some (.object "RowenTongue$Function"))) { frames := (max (uz (uap S.2.1 x)) (uz (uap S.2.1 y)) + 1) + L.length + 12, cells := 11 * uNu B L rk + 3 * (gl.length - (co.length + cr.length)) + 0 + 11 * (max (uz (uap S.2.1 x)) (uz (uap S.2.1 y)) + 1), slots := (35 * uNu B L rk + 20 * gl.length + 160 + 3 * 0 + 35 * (max (uz (uap S.2.1 x)) (uz (uap S.2.1 y)) + 1)) - (4 * (cp 0 + cp 1 + cp 2 + cp 3) + 4 * (co.length + cr.length)), locals := 23 * (max (uz (uap S.2.1 x)) (uz (uap S.2.1 y)) + 1) + 20 * L.length + 420 } [.ref rk, .ref b] M (rnP Z L vr S gl rk q lv B M cp co cr nw 0 (3 * 0) (SizeOf.sizeOf (Lean.Grind.CommRing.Expr.sub (uap S.2.1 x) (uap S.2.1 y))) (rnK Z L vr S gl false (.sub (uap S.2.1 x) (uap S.2.1 y)))) mm_nx := by
    intro x y b f g bq rn M B ar cp co cr nw hzx hzy hwx hwy hgen hN hbL hBb hfB hgB
    refine mm_ofWD (cc := cX10_renewedFunction) (maxL := 3) (ret := (some (.object "RowenTongue$Function"))) (by decide) rfl (Nat.le_of_ble_eq_true rfl) ?_
    intro p e s m below meth c A ls hx hb hr hlk hml hown hmn hts htab hE hST hA hM hS hl
    replace hl : lv_has ls 3 [(0, .ref rk), (1, .ref b)] := hl
    have hle := hN.le
    obtain ⟨hc0, hc1, hc2, hc3⟩ := hN.caps
    have hrk := hN.2.1.2
    have hexB := hN.1.1
    have hCB := hN.1.2.1
    have hC := hCB.lite hexB
    have hbM := hexB.at hBb
    have hsub : tp Z B L vr S.1 (.sub x y) false b := by simp only [tp]; exact ⟨f, g, none, bq, rn, hbL, hBb, hfB, hgB⟩
    refine lv_aload_n hx hb dX10_renewedFunction_0 rfl (lv_at hl 1 rfl) ?_
    refine va_getN (D := Z.1) (ci := 10) (v := va_rf bq) (C := RX12) (T := TX12) (N := 5) hx hb hts in_X12 hown hE.1 (hM.at hbM) 0 rfl mm_cX12 3 (by decide) (va_Nw.use rfl (hE.2.1 _ q849 rfl)) (fun _ h9 => h9) rfl dX10_renewedFunction_1 ?_
    refine lv_aload_n hx hb dX10_renewedFunction_4 rfl (lv_at hl 0 rfl) ?_
    refine lv_acmp_eq (rx := bq) (ry := (some rk)) (tgt := 42) hx hb dX10_renewedFunction_5 (by decide) (fun c_1 => ?_) (fun c_1 => ?_)
    · skip
      have hbq : bq = some rk := by first | exact c_1 | exact Classical.not_not.1 c_1
      subst hbq
      obtain ⟨a', t', rfl, hRP, hsee⟩ := (hN.2.2.2.2.2.2 b hbL).1 _ _ _ _ hBb
      have hs := hsee _ hsub
      refine lv_aload_n hx hb dX10_renewedFunction_42 rfl (lv_at hl 1 rfl) ?_
      refine va_getN (D := Z.1) (ci := 10) (v := .ref a') (C := RX12) (T := TX12) (N := 5) hx hb hts in_X12 hown hE.1 (hM.at hbM) 0 rfl mm_cX12 4 (by decide) (va_Nw.use rfl (hE.2.1 _ q850 rfl)) (fun _ h9 => h9) rfl dX10_renewedFunction_43 ?_
      exact mm_retaD hx hb hr (Or.inl ⟨_, rfl⟩) (Or.inr ⟨_, rfl⟩) hlk hM hS ⟨a', B, ar, cp, co, cr, nw, rfl, hN, uY.rf _ _, uNS.rf _ _, fun _ h => h, fun _ h => h, Nat.le_refl _, by (try dsimp only); omega, by (try dsimp only); omega, (fun _ _ _ _ _ => rfl), t', hRP, hs.1, hs.2⟩ dX10_renewedFunction_46 (by (try dsimp only); omega) (by (try dsimp only); omega)
    · skip
      have hbq : bq ≠ some rk := c_1
      refine mm_new (D := Z.1) (ci := 10) (fs := mm_f0X12) (C := RX12) (T := TX12) (N := 5) hx hb hts in_X12 tyX12 tyX12_ok hown (hts _ q826) (hts _ q831) (hts _ q79) hE.1 hM hS hA mm_cX12 mm_dfX12 (by (try dsimp only); omega) (by (try dsimp only); omega) dX10_renewedFunction_8 (fun q_3 H nq_2 hM hS => ?_)
      have hM : mm_P Z.1 mm_cl A (mm_U M q_3 (.inr (10, [.null, .null, .null, .null, .null]))) H := hM
      have ne_4 : rk ≠ q_3 := (mm_neN hrk nq_2)
      have ne_5 : b ≠ q_3 := (mm_neN hbM nq_2)
      have hc_6 : (mm_U M q_3 (.inr (10, [.null, .null, .null, .null, .null]))) q_3 = some (.inr (10, [.null, .null, .null, .null, .null])) := mm_U_eq
      have hc_7 : (mm_U M q_3 (.inr (10, [.null, .null, .null, .null, .null]))) rk = some (.inr (8, [.ref (q 0), .ref (q 1), .ref (q 2), .ref (q 3), .int lv])) := (mm_U_ne ne_4).trans hrk
      have hc_8 : (mm_U M q_3 (.inr (10, [.null, .null, .null, .null, .null]))) b = some (.inr (10, [.ref f, .ref g, .null, va_rf bq, va_rf rn])) := (mm_U_ne ne_5).trans hbM
      obtain ⟨M_9, eM_9⟩ : ∃ z, z = mm_U M q_3 (.inr (10, [.null, .null, .null, .null, .null])) := ⟨_, rfl⟩
      rw [← eM_9] at hM hc_7 hc_8 hc_6
      have hex1 : mm_Ext M M_9 := by subst eM_9; exact mm_Ext.U nq_2
      have hN0 := hN.ext hex1
      obtain ⟨hqnw, hqrk, hqB⟩ := hN.nrk nq_2
      have hq1 := hc_6
      refine lv_dup hx hb dX10_renewedFunction_11 rfl ?_
      refine lv_aload_n hx hb dX10_renewedFunction_12 rfl (lv_at hl 0 rfl) ?_
      refine lv_aload_n hx hb dX10_renewedFunction_13 rfl (lv_at hl 1 rfl) ?_
      refine va_getN (D := Z.1) (ci := 10) (v := .ref f) (C := RX12) (T := TX12) (N := 5) hx hb hts in_X12 hown hE.1 (hM.at hc_8) 0 rfl mm_cX12 0 (by decide) (va_Nw.use rfl (hE.2.1 _ q838 rfl)) (fun _ h9 => h9) rfl dX10_renewedFunction_14 ?_
      refine mm_callVD (As := [.ref f]) (rest := [.ref q_3, .ref q_3]) ⟨hx, hb, hml, hown, hts⟩ hE hST hA (ihT (uap S.2.1 x) x f _ B ar cp co cr nw hzx rfl hwx (fun v hv => hgen v (by rw [hv]; rfl)) hN0 hfB) (cwV 1 hts (lw_V q832 q702 q703 q76 q704) rfl rfl rfl (by decide +kernel) ⟨(by (try dsimp only); omega), (by (try dsimp only); omega)⟩) hM hS mm_cX10 hc_7 rfl hl.1 (Nat.le_of_ble_eq_true rfl) dX10_renewedFunction_17 rfl ⟨(by (try dsimp only); omega), (by (try dsimp only); omega)⟩ (fun _ _ _ _ _ _ h9 => h9.elim) (fun v_10 M_11 n_13 k_14 H locs hp_12 hM hS => ?_)
      obtain ⟨a1, B1, ar1, cp1, co1, cr1, nw1, rfl, hN1, hY1, hns1, hcs1, hnw1, hle1, hn1, hk1, hsz1, hK1⟩ := hp_12
      have hrk1 := hN1.2.1.2
      have hleg1 := hN1.le
      obtain ⟨hc01, hc11, hc21, hc31⟩ := hN1.caps
      have hq2 := hns1 _ _ _ hqB hq1 (by decide)
      have hqB1 := hY1.1 _ hqB
      have hk1' := hsz1 b hbL _ hsub (by show _ < SizeOf.sizeOf (Lean.Grind.CommRing.Expr.sub (uap S.2.1 x) (uap S.2.1 y)); have e9 : SizeOf.sizeOf (Lean.Grind.CommRing.Expr.sub (uap S.2.1 x) (uap S.2.1 y)) = 1 + SizeOf.sizeOf (uap S.2.1 x) + SizeOf.sizeOf (uap S.2.1 y) := rfl; omega)
      have hBb1 := hk1'.trans hBb
      have hsub1 := tp.monoT hY1.T (fun _ h => h) (fun _ _ => rfl) (Nat.le_refl _) _ _ _ hsub
      have hgB1 := tp.monoT hY1.T (fun _ h => h) (fun _ _ => rfl) (Nat.le_refl _) _ _ _ hgB
      have hb2 := hN1.1.1.at hBb1
      refine lv_aload_n hx hb dX10_renewedFunction_20 rfl (lv_at hl 0 rfl) ?_
      refine lv_aload_n hx hb dX10_renewedFunction_21 rfl (lv_at hl 1 rfl) ?_
      refine va_getN (D := Z.1) (ci := 10) (v := .ref g) (C := RX12) (T := TX12) (N := 5) hx hb hts in_X12 hown hE.1 (hM.at hb2) 0 rfl mm_cX12 1 (by decide) (va_Nw.use rfl (hE.2.1 _ q843 rfl)) (fun _ h9 => h9) rfl dX10_renewedFunction_22 ?_
      refine mm_callVD (As := [.ref g]) (rest := [.ref a1, .ref q_3, .ref q_3]) ⟨hx, hb, hml, hown, hts⟩ hE hST hA (ihT (uap S.2.1 y) y g _ B1 ar1 cp1 co1 cr1 nw1 hzy rfl hwy (fun v hv => hgen v (by rw [hv, Bool.or_true])) hN1 hgB1) (cwV 1 hts (lw_V q832 q702 q703 q76 q704) rfl rfl rfl (by decide +kernel) ⟨(by (try dsimp only); omega), (by (try dsimp only); omega)⟩) hM hS mm_cX10 hrk1 rfl hl.1 (Nat.le_of_ble_eq_true rfl) dX10_renewedFunction_25 rfl ⟨(by (try dsimp only); omega), (by (try dsimp only); omega)⟩ (fun _ _ _ _ _ _ h9 => h9.elim) (fun v_15 M_16 n_18 k_19 H locs hp_17 hM hS => ?_)
      obtain ⟨a2, B2, ar2, cp2, co2, cr2, nw2, rfl, hN2, hY2, hns2, hcs2, hnw2, hle2, hn2, hk2, hsz2, hK2⟩ := hp_17
      have hrk2 := hN2.2.1.2
      have hleg2 := hN2.le
      obtain ⟨hc02, hc12, hc22, hc32⟩ := hN2.caps
      have hq3 := hns2 _ _ _ hqB1 hq2 (by decide)
      have hqB2 := hY2.1 _ hqB1
      have hk2' := hsz2 b hbL _ hsub1 (by show _ < SizeOf.sizeOf (Lean.Grind.CommRing.Expr.sub (uap S.2.1 x) (uap S.2.1 y)); have e9 : SizeOf.sizeOf (Lean.Grind.CommRing.Expr.sub (uap S.2.1 x) (uap S.2.1 y)) = 1 + SizeOf.sizeOf (uap S.2.1 x) + SizeOf.sizeOf (uap S.2.1 y) := rfl; omega)
      have hBb2 := hk2'.trans hBb1
      have hb3 := hN2.1.1.at hBb2
      refine mm_callI (As := [.ref a1, .ref a2]) (rest := [.ref q_3]) ⟨hx, hb, hml, hown, hts⟩ hE hST hA (c_X12_init l Z (M := M_16) (h0 := q_3) (x1 := (some a1)) (x2 := (some a2)) hq3) (cwI (maxL := 3) 2 hts (lw_meth q835) rfl rfl rfl (hts _ q79) (hts _ q833) (hts _ q834) rfl (by decide +kernel) ⟨(by (try dsimp only); omega), (by (try dsimp only); omega)⟩) hM hS rfl hl.1 (Nat.le_of_ble_eq_true rfl) dX10_renewedFunction_28 rfl ⟨(by (try dsimp only); omega), (by (try dsimp only); omega)⟩ (fun _ _ _ _ _ _ h9 => h9.elim) (fun v_20 M_21 H locs hp_22 hM hS => ?_)
      obtain ⟨rfl, eM_21⟩ := hp_22
      rw [eM_21] at hM
      replace hM : mm_P Z.1 mm_cl A (mm_U M_16 q_3 (.inr (10, [.ref a1, .ref a2, .null, .null, .null]))) H := hM
      have hc_23 : (mm_U M_16 q_3 (.inr (10, [.ref a1, .ref a2, .null, .null, .null]))) q_3 = some (.inr (10, [.ref a1, .ref a2, .null, .null, .null])) := mm_U_eq
      have hc_24 : (mm_U M_16 q_3 (.inr (10, [.ref a1, .ref a2, .null, .null, .null]))) rk = some (.inr (8, [.ref (q 0), .ref (q 1), .ref (q 2), .ref (q 3), .int lv])) := (mm_U_ne ne_4).trans hrk2
      have hc_25 : (mm_U M_16 q_3 (.inr (10, [.ref a1, .ref a2, .null, .null, .null]))) b = some (.inr (10, [.ref f, .ref g, .null, va_rf bq, va_rf rn])) := (mm_U_ne (fun h9 => by rw [h9, hqB] at hBb; cases hBb)).trans hb3
      obtain ⟨M_26, eM_26⟩ : ∃ z, z = mm_U M_16 q_3 (.inr (10, [.ref a1, .ref a2, .null, .null, .null])) := ⟨_, rfl⟩
      rw [← eM_26] at hM hc_24 hc_25 hc_23
      refine lv_astore_n hx hb dX10_renewedFunction_31 rfl hl (by decide) rfl (fun ls hl => ?_)
      replace hl : lv_has ls 3 [(2, .ref q_3), (0, .ref rk), (1, .ref b)] := hl
      refine lv_aload_n hx hb dX10_renewedFunction_32 rfl (lv_at hl 2 rfl) ?_
      refine lv_aload_n hx hb dX10_renewedFunction_33 rfl (lv_at hl 1 rfl) ?_
      refine mm_putN (D := Z.1) (ci := 10) (v := .ref rk) (ty := .object "RowenTongue$Renewal") (C := RX12) (T := TX12) (N := 5) hx hb hts in_X12 tyX12 tyX12_ok nmX12 hown hE.1 hM hS hc_25 mm_cX12 3 (by decide) (va_Nw.use rfl (hE.2.1 _ q849 rfl)) (fun _ h9 => h9) rfl (by decide +kernel) rfl rfl (Nat.le_of_ble_eq_true rfl) dX10_renewedFunction_34 (fun H locs hM hS => ?_)
      have hM : mm_P Z.1 mm_cl A (mm_U M_26 b (.inr (10, [.ref f, .ref g, .null, .ref rk, va_rf rn]))) H := hM
      have hc_27 : (mm_U M_26 b (.inr (10, [.ref f, .ref g, .null, .ref rk, va_rf rn]))) b = some (.inr (10, [.ref f, .ref g, .null, .ref rk, va_rf rn])) := mm_U_eq
      have hc_28 : (mm_U M_26 b (.inr (10, [.ref f, .ref g, .null, .ref rk, va_rf rn]))) rk = some (.inr (8, [.ref (q 0), .ref (q 1), .ref (q 2), .ref (q 3), .int lv])) := (mm_U_ne (mm_neC hc_24 hc_25 (by decide))).trans hc_24
      have hc_29 : (mm_U M_26 b (.inr (10, [.ref f, .ref g, .null, .ref rk, va_rf rn]))) q_3 = some (.inr (10, [.ref a1, .ref a2, .null, .null, .null])) := (mm_U_ne (Ne.symm (fun h9 => by rw [h9, hqB] at hBb; cases hBb))).trans hc_23
      obtain ⟨M_30, eM_30⟩ : ∃ z, z = mm_U M_26 b (.inr (10, [.ref f, .ref g, .null, .ref rk, va_rf rn])) := ⟨_, rfl⟩
      rw [← eM_30] at hM hc_28 hc_27 hc_29
      refine lv_aload_n hx hb dX10_renewedFunction_37 rfl (lv_at hl 2 rfl) ?_
      refine lv_aload_n hx hb dX10_renewedFunction_38 rfl (lv_at hl 0 rfl) ?_
      refine mm_putN (D := Z.1) (ci := 10) (v := .ref q_3) (ty := .object "RowenTongue$Function") (C := RX12) (T := TX12) (N := 5) hx hb hts in_X12 tyX12 tyX12_ok nmX12 hown hE.1 hM hS hc_27 mm_cX12 4 (by decide) (va_Nw.use rfl (hE.2.1 _ q850 rfl)) (fun _ h9 => h9) rfl (by decide +kernel) rfl rfl (Nat.le_of_ble_eq_true rfl) dX10_renewedFunction_39 (fun H locs hM hS => ?_)
      have hM : mm_P Z.1 mm_cl A (mm_U M_30 b (.inr (10, [.ref f, .ref g, .null, .ref rk, .ref q_3]))) H := hM
      have hc_31 : (mm_U M_30 b (.inr (10, [.ref f, .ref g, .null, .ref rk, .ref q_3]))) b = some (.inr (10, [.ref f, .ref g, .null, .ref rk, .ref q_3])) := mm_U_eq
      have hc_32 : (mm_U M_30 b (.inr (10, [.ref f, .ref g, .null, .ref rk, .ref q_3]))) rk = some (.inr (8, [.ref (q 0), .ref (q 1), .ref (q 2), .ref (q 3), .int lv])) := (mm_U_ne (mm_neC hc_28 hc_27 (by decide))).trans hc_28
      have hc_33 : (mm_U M_30 b (.inr (10, [.ref f, .ref g, .null, .ref rk, .ref q_3]))) q_3 = some (.inr (10, [.ref a1, .ref a2, .null, .null, .null])) := (mm_U_ne (Ne.symm (fun h9 => by rw [h9, hqB] at hBb; cases hBb))).trans hc_29
      obtain ⟨M_34, eM_34⟩ : ∃ z, z = mm_U M_30 b (.inr (10, [.ref f, .ref g, .null, .ref rk, .ref q_3])) := ⟨_, rfl⟩
      rw [← eM_34] at hM hc_32 hc_31 hc_33
      have hkk : ∀ z, z ≠ q_3 → z ≠ b → M_34 z = M_16 z := fun z h8 h9 => by subst eM_34 eM_30 eM_26; simp only [mm_U_ne h8, mm_U_ne h9]
      have hqn2 : q_3 ∉ nw2 := fun hx => by
        rcases (hN2.2.2.2.2.2.1.2 _ hx).2 with ⟨p, hp, e⟩ | ⟨t9, k3, ⟨f7, g7, k4⟩ | ⟨iv7, w7, k4⟩⟩
        · rcases List.mem_append.1 hp with hp | hp
          · obtain ⟨-, -, -, k⟩ := hN2.2.2.2.1.1 p hp; rw [e, hq3] at k; simp at k
          · obtain ⟨-, -, -, k⟩ := hN2.2.2.2.1.2 p hp; rw [e, hq3] at k; simp at k
        · rw [hq3] at k4; simp [va_rf] at k4
        · rw [hq3] at k4; simp at k4
      obtain ⟨t1, hR1, hS1, hG1⟩ := hK1
      obtain ⟨t2, hR2, hS2, hG2⟩ := hK2
      have hT23 : uT M_11 M_16 := hns2.T' hN1.1.1 hY2 hN2.1.1
      have hT36 : uT M_16 M_34 := hN2.TF hBb2 hq3 hqB2 hc_31 hkk
      have hRn : RPt Z M_34 L vr S.1 gl (q_3 :: nw2) (co2 ++ cr2) (.sub t1 t2) false q_3 := fun vr9 h1 h2 => by
        simp only [tp]
        exact ⟨a1, a2, none, none, none, List.mem_append_left _ List.mem_cons_self, hc_33, ((hR1.mono hT23 hnw2 hcs2).mono hT36 (fun _ h => List.mem_cons_of_mem _ h) (fun _ h => h)) vr9 h1 h2, (hR2.mono hT36 (fun _ h => List.mem_cons_of_mem _ h) (fun _ h => h)) vr9 h1 h2⟩
      have hsee : uap S.2.1 (.sub t1 t2) = uap (uth gl S.1) (.sub (uap S.2.1 x) (uap S.2.1 y)) := by simp only [uap]; rw [hS1, hS2]
      have hgens : ∀ g ∈ gl, uoc g (Lean.Grind.CommRing.Expr.sub (uap S.2.1 x) (uap S.2.1 y)) = true → ∃ z, (g, z) ∈ co2 ++ cr2 := fun g9 hg9 ho => by
        simp only [uoc, Bool.or_eq_true] at ho
        rcases ho with ho | ho
        · obtain ⟨z, hz⟩ := hG1 g9 hg9 ho; exact ⟨z, hcs2 _ hz⟩
        · exact hG2 g9 hg9 ho
      obtain ⟨hN6, hns6, -⟩ := hN2.renF (f9 := a1) (g9 := a2) hbL hBb2 hq3 hqB2 hqn2 hqrk hc_33 hc_31 hkk hRn (fun t9 ht9 => by
        have e9 : t9 = .sub x y := (tp.uniq hN2.1.2.1.1.2.2.1 _ _ _ _ _ ht9 (tp.monoT hY2.T (fun _ h => h) (fun _ _ => rfl) (Nat.le_refl _) _ _ _ hsub1)).1
        subst e9
        exact ⟨hsee, hgens⟩)
      have hYn := uY.putF (rk := rk) (rn' := some q_3) hBb2
      have hnun := uNu_putF (rk := rk) (rn' := some q_3) hN2.1.2.1 hbL hBb2 hbq
      have hns06 : uNS B M M_34 := fun z ci fs hz hm hc => by
        have hzq : z ≠ q_3 := fun e => by rw [e, nq_2] at hm; cases hm
        exact hns6 z ci fs hzq (hY2.1 _ (hY1.1 _ hz)) (hns2 z ci fs (hY1.1 _ hz) (hns1 z ci fs hz (hex1.at hm) hc) hc) hc
      refine lv_aload_n hx hb dX10_renewedFunction_42 rfl (lv_at hl 2 rfl) ?_
      refine va_getN (D := Z.1) (ci := 10) (v := .ref q_3) (C := RX12) (T := TX12) (N := 5) hx hb hts in_X12 hown hE.1 (hM.at hc_31) 0 rfl mm_cX12 4 (by decide) (va_Nw.use rfl (hE.2.1 _ q850 rfl)) (fun _ h9 => h9) rfl dX10_renewedFunction_43 ?_
      refine mm_retaD hx hb hr (Or.inl ⟨_, rfl⟩) (Or.inr ⟨_, rfl⟩) hlk hM hS ⟨q_3, _, ar2, cp2, co2, cr2, q_3 :: nw2, rfl, hN6, (hY1.trans hY2).trans hYn, hns06, fun p hp => hcs2 p (hcs1 p hp), fun z hz => List.mem_cons_of_mem _ (hnw2 z (hnw1 z hz)), Nat.le_trans hle1 hle2, by (try dsimp only); omega, by (try dsimp only); omega, fun b' hb' t9 ht9 hs9 => ?_, .sub t1 t2, hRn, hsee, hgens⟩ dX10_renewedFunction_46 (by (try dsimp only); omega) (by (try dsimp only); omega)
      have e9 : SizeOf.sizeOf (Lean.Grind.CommRing.Expr.sub (uap S.2.1 x) (uap S.2.1 y)) = 1 + SizeOf.sizeOf (uap S.2.1 x) + SizeOf.sizeOf (uap S.2.1 y) := rfl
      have hne : b' ≠ b := fun e => by
        subst e
        have e8 : t9 = .sub x y := (tp.uniq hCB.1.2.2.1 _ _ _ _ _ ht9 hsub).1
        subst e8
        exact absurd hs9 (by show ¬ _ < SizeOf.sizeOf (uap S.2.1 (.sub x y)); simp only [uap]; omega)
      have ht91 := tp.monoT hY1.T (fun _ h => h) (fun _ _ => rfl) (Nat.le_refl _) _ _ _ ht9
      rw [mm_U_ne hne, hsz2 b' hb' t9 ht91 (by omega), hsz1 b' hb' t9 ht9 (by omega)]
  have hBg : ∀ (r : ev) (b w : Nat) (iv : Bool) (bq rn : Option Nat) (M B : mm_M) (ar cp : Nat → Nat) (co cr : List (Nat × Nat)) (nw : List Nat), SizeOf.sizeOf (uap S.2.1 r) < N → uwf (uG S kd) true (uap S.2.1 r) → (∀ v, uoc v (uap S.2.1 r) = true → (S.2.2.2.2 v = 1048576 ↔ v ∈ gl)) → RN Z B M L vr S gl rk q ar cp lv co cr nw → b ∈ L → B b = some (cb_E iv (some w) none bq rn) → tp Z B L vr S.1 r true w → mm_D l Z yX10_renewedBag (ws_ yX10_renewedBag cX10_renewedBag 3 (some (.object "RowenTongue$Bag"))) { frames := (urn (uap S.2.1 r) + uz (uap S.2.1 r) + 2) + L.length + 12, cells := 11 * uNu B L rk + 3 * (gl.length - (co.length + cr.length)) + 0 + 11 * (urn (uap S.2.1 r) + uz (uap S.2.1 r) + 2), slots := (35 * uNu B L rk + 20 * gl.length + 160 + 3 * 0 + 35 * (urn (uap S.2.1 r) + uz (uap S.2.1 r) + 2)) - (4 * (cp 0 + cp 1 + cp 2 + cp 3) + 4 * (co.length + cr.length)), locals := 23 * (urn (uap S.2.1 r) + uz (uap S.2.1 r) + 2) + 20 * L.length + 420 } [.ref rk, .ref b] M (rnP Z L vr S gl rk q lv B M cp co cr nw 0 (3 * 0) (SizeOf.sizeOf (Lean.Grind.CommRing.Expr.pow (uap S.2.1 r) iv.toNat)) (rnK Z L vr S gl false (.pow (uap S.2.1 r) iv.toNat))) mm_nx := by
    intro r b w iv bq rn M B ar cp co cr nw hzr hwr hgen hN hbL hBb hwB
    refine mm_ofWD (cc := cX10_renewedBag) (maxL := 3) (ret := (some (.object "RowenTongue$Bag"))) (by decide) rfl (Nat.le_of_ble_eq_true rfl) ?_
    intro p e s m below meth c A ls hx hb hr hlk hml hown hmn hts htab hE hST hA hM hS hl
    replace hl : lv_has ls 3 [(0, .ref rk), (1, .ref b)] := hl
    have hle := hN.le
    obtain ⟨hc0, hc1, hc2, hc3⟩ := hN.caps
    have hrk := hN.2.1.2
    have hexB := hN.1.1
    have hCB := hN.1.2.1
    have hC := hCB.lite hexB
    have hbM := hexB.at hBb
    have hrn10 := urn_le hwr
    have hsub : tp Z B L vr S.1 (.pow r iv.toNat) false b := by simp only [tp]; exact ⟨iv, w, none, bq, rn, hbL, rfl, hBb, hwB⟩
    refine lv_aload_n hx hb dX10_renewedBag_0 rfl (lv_at hl 1 rfl) ?_
    refine va_getN (D := Z.1) (ci := 6) (v := va_rf bq) (C := RX8) (T := TX8) (N := 5) hx hb hts in_X8 hown hE.1 (hM.at hbM) 0 rfl mm_cX8 3 (by decide) (va_Nw.use rfl (hE.2.1 _ q630 rfl)) (fun _ h9 => h9) rfl dX10_renewedBag_1 ?_
    refine lv_aload_n hx hb dX10_renewedBag_4 rfl (lv_at hl 0 rfl) ?_
    refine lv_acmp_eq (rx := bq) (ry := (some rk)) (tgt := 38) hx hb dX10_renewedBag_5 (by decide) (fun c_1 => ?_) (fun c_1 => ?_)
    · skip
      have hbq : bq = some rk := by first | exact c_1 | exact Classical.not_not.1 c_1
      subst hbq
      obtain ⟨a', t', rfl, hRP, hsee⟩ := (hN.2.2.2.2.2.2 b hbL).2 _ _ _ _ hBb
      have hs := hsee _ hsub
      refine lv_aload_n hx hb dX10_renewedBag_38 rfl (lv_at hl 1 rfl) ?_
      refine va_getN (D := Z.1) (ci := 6) (v := .ref a') (C := RX8) (T := TX8) (N := 5) hx hb hts in_X8 hown hE.1 (hM.at hbM) 0 rfl mm_cX8 4 (by decide) (va_Nw.use rfl (hE.2.1 _ q631 rfl)) (fun _ h9 => h9) rfl dX10_renewedBag_39 ?_
      exact mm_retaD hx hb hr (Or.inl ⟨_, rfl⟩) (Or.inr ⟨_, rfl⟩) hlk hM hS ⟨a', B, ar, cp, co, cr, nw, rfl, hN, uY.rf _ _, uNS.rf _ _, fun _ h => h, fun _ h => h, Nat.le_refl _, by (try dsimp only); omega, by (try dsimp only); omega, (fun _ _ _ _ _ => rfl), t', hRP, hs.1, hs.2⟩ dX10_renewedBag_42 (by (try dsimp only); omega) (by (try dsimp only); omega)
    · skip
      have hbq : bq ≠ some rk := c_1
      refine mm_new (D := Z.1) (ci := 6) (fs := mm_f0X8) (C := RX8) (T := TX8) (N := 5) hx hb hts in_X8 tyX8 tyX8_ok hown (hts _ q862) (hts _ q607) (hts _ q74) hE.1 hM hS hA mm_cX8 mm_dfX8 (by (try dsimp only); omega) (by (try dsimp only); omega) dX10_renewedBag_8 (fun q_3 H nq_2 hM hS => ?_)
      have hM : mm_P Z.1 mm_cl A (mm_U M q_3 (.inr (6, [.int 0, .null, .null, .null, .null]))) H := hM
      have ne_4 : rk ≠ q_3 := (mm_neN hrk nq_2)
      have ne_5 : b ≠ q_3 := (mm_neN hbM nq_2)
      have hc_6 : (mm_U M q_3 (.inr (6, [.int 0, .null, .null, .null, .null]))) q_3 = some (.inr (6, [.int 0, .null, .null, .null, .null])) := mm_U_eq
      have hc_7 : (mm_U M q_3 (.inr (6, [.int 0, .null, .null, .null, .null]))) rk = some (.inr (8, [.ref (q 0), .ref (q 1), .ref (q 2), .ref (q 3), .int lv])) := (mm_U_ne ne_4).trans hrk
      have hc_8 : (mm_U M q_3 (.inr (6, [.int 0, .null, .null, .null, .null]))) b = some (.inr (6, [.int (mm_b iv), .ref w, .null, va_rf bq, va_rf rn])) := (mm_U_ne ne_5).trans hbM
      obtain ⟨M_9, eM_9⟩ : ∃ z, z = mm_U M q_3 (.inr (6, [.int 0, .null, .null, .null, .null])) := ⟨_, rfl⟩
      rw [← eM_9] at hM hc_7 hc_8 hc_6
      have hex1 : mm_Ext M M_9 := by subst eM_9; exact mm_Ext.U nq_2
      have hN0 := hN.ext hex1
      obtain ⟨hqnw, hqrk, hqB⟩ := hN.nrk nq_2
      have hq1 := hc_6
      refine lv_dup hx hb dX10_renewedBag_11 rfl ?_
      refine lv_aload_n hx hb dX10_renewedBag_12 rfl (lv_at hl 1 rfl) ?_
      refine va_getN (D := Z.1) (ci := 6) (v := .int (mm_b iv)) (C := RX8) (T := TX8) (N := 5) hx hb hts in_X8 hown hE.1 (hM.at hc_8) 0 rfl mm_cX8 0 (by decide) (va_Nw.use rfl (hE.2.1 _ q618 rfl)) (fun _ h9 => h9) rfl dX10_renewedBag_13 ?_
      refine lv_aload_n hx hb dX10_renewedBag_16 rfl (lv_at hl 0 rfl) ?_
      refine lv_aload_n hx hb dX10_renewedBag_17 rfl (lv_at hl 1 rfl) ?_
      refine va_getN (D := Z.1) (ci := 6) (v := .ref w) (C := RX8) (T := TX8) (N := 5) hx hb hts in_X8 hown hE.1 (hM.at hc_8) 0 rfl mm_cX8 1 (by decide) (va_Nw.use rfl (hE.2.1 _ q624 rfl)) (fun _ h9 => h9) rfl dX10_renewedBag_18 ?_
      refine mm_callVD (As := [.ref w]) (rest := [.int (mm_b iv), .ref q_3, .ref q_3]) ⟨hx, hb, hml, hown, hts⟩ hE hST hA (ihR (uap S.2.1 r) r w _ B ar cp co cr nw hzr rfl hwr hgen hN0 hwB) (cwV 1 hts (lw_V q867 q868 q869 q76 q870) rfl rfl rfl (by decide +kernel) ⟨(by (try dsimp only); omega), (by (try dsimp only); omega)⟩) hM hS mm_cX10 hc_7 rfl hl.1 (Nat.le_of_ble_eq_true rfl) dX10_renewedBag_21 rfl ⟨(by (try dsimp only); omega), (by (try dsimp only); omega)⟩ (fun _ _ _ _ _ _ h9 => h9.elim) (fun v_10 M_11 n_13 k_14 H locs hp_12 hM hS => ?_)
      obtain ⟨a2, B2, ar2, cp2, co2, cr2, nw2, rfl, hN2, hY2, hns2, hcs2, hnw2, hle2, hn2, hk2, hsz2, hK2⟩ := hp_12
      have hrk2 := hN2.2.1.2
      have hleg2 := hN2.le
      obtain ⟨hc02, hc12, hc22, hc32⟩ := hN2.caps
      have hq3 := hns2 _ _ _ hqB hq1 (by decide)
      have hqB2 := hY2.1 _ hqB
      have hk2' := hsz2 b hbL _ hsub (by show _ < SizeOf.sizeOf (Lean.Grind.CommRing.Expr.pow (uap S.2.1 r) iv.toNat); have e9 : SizeOf.sizeOf (Lean.Grind.CommRing.Expr.pow (uap S.2.1 r) iv.toNat) = 1 + SizeOf.sizeOf (uap S.2.1 r) + SizeOf.sizeOf iv.toNat := rfl; omega)
      have hBb2 := hk2'.trans hBb
      have hb3 := hN2.1.1.at hBb2
      refine mm_callI (As := [.int (mm_b iv), .ref a2]) (rest := [.ref q_3]) ⟨hx, hb, hml, hown, hts⟩ hE hST hA (c_X8_init l Z (M := M_11) (h0 := q_3) (x1 := iv) (x2 := (some a2)) hq3) (cwI (maxL := 3) 2 hts (lw_meth q612) rfl rfl rfl (hts _ q74) (hts _ q944) (hts _ q611) rfl (by decide +kernel) ⟨(by (try dsimp only); omega), (by (try dsimp only); omega)⟩) hM hS rfl hl.1 (Nat.le_of_ble_eq_true rfl) dX10_renewedBag_24 rfl ⟨(by (try dsimp only); omega), (by (try dsimp only); omega)⟩ (fun _ _ _ _ _ _ h9 => h9.elim) (fun v_15 M_16 H locs hp_17 hM hS => ?_)
      obtain ⟨rfl, eM_16⟩ := hp_17
      rw [eM_16] at hM
      replace hM : mm_P Z.1 mm_cl A (mm_U M_11 q_3 (.inr (6, [.int (mm_b iv), .ref a2, .null, .null, .null]))) H := hM
      have hc_18 : (mm_U M_11 q_3 (.inr (6, [.int (mm_b iv), .ref a2, .null, .null, .null]))) q_3 = some (.inr (6, [.int (mm_b iv), .ref a2, .null, .null, .null])) := mm_U_eq
      have hc_19 : (mm_U M_11 q_3 (.inr (6, [.int (mm_b iv), .ref a2, .null, .null, .null]))) rk = some (.inr (8, [.ref (q 0), .ref (q 1), .ref (q 2), .ref (q 3), .int lv])) := (mm_U_ne ne_4).trans hrk2
      have hc_20 : (mm_U M_11 q_3 (.inr (6, [.int (mm_b iv), .ref a2, .null, .null, .null]))) b = some (.inr (6, [.int (mm_b iv), .ref w, .null, va_rf bq, va_rf rn])) := (mm_U_ne (fun h9 => by rw [h9, hqB] at hBb; cases hBb)).trans hb3
      obtain ⟨M_21, eM_21⟩ : ∃ z, z = mm_U M_11 q_3 (.inr (6, [.int (mm_b iv), .ref a2, .null, .null, .null])) := ⟨_, rfl⟩
      rw [← eM_21] at hM hc_19 hc_20 hc_18
      refine lv_astore_n hx hb dX10_renewedBag_27 rfl hl (by decide) rfl (fun ls hl => ?_)
      replace hl : lv_has ls 3 [(2, .ref q_3), (0, .ref rk), (1, .ref b)] := hl
      refine lv_aload_n hx hb dX10_renewedBag_28 rfl (lv_at hl 2 rfl) ?_
      refine lv_aload_n hx hb dX10_renewedBag_29 rfl (lv_at hl 1 rfl) ?_
      refine mm_putN (D := Z.1) (ci := 6) (v := .ref rk) (ty := .object "RowenTongue$Renewal") (C := RX8) (T := TX8) (N := 5) hx hb hts in_X8 tyX8 tyX8_ok nmX8 hown hE.1 hM hS hc_20 mm_cX8 3 (by decide) (va_Nw.use rfl (hE.2.1 _ q630 rfl)) (fun _ h9 => h9) rfl (by decide +kernel) rfl rfl (Nat.le_of_ble_eq_true rfl) dX10_renewedBag_30 (fun H locs hM hS => ?_)
      have hM : mm_P Z.1 mm_cl A (mm_U M_21 b (.inr (6, [.int (mm_b iv), .ref w, .null, .ref rk, va_rf rn]))) H := hM
      have hc_22 : (mm_U M_21 b (.inr (6, [.int (mm_b iv), .ref w, .null, .ref rk, va_rf rn]))) b = some (.inr (6, [.int (mm_b iv), .ref w, .null, .ref rk, va_rf rn])) := mm_U_eq
      have hc_23 : (mm_U M_21 b (.inr (6, [.int (mm_b iv), .ref w, .null, .ref rk, va_rf rn]))) rk = some (.inr (8, [.ref (q 0), .ref (q 1), .ref (q 2), .ref (q 3), .int lv])) := (mm_U_ne (mm_neC hc_19 hc_20 (by decide))).trans hc_19
      have hc_24 : (mm_U M_21 b (.inr (6, [.int (mm_b iv), .ref w, .null, .ref rk, va_rf rn]))) q_3 = some (.inr (6, [.int (mm_b iv), .ref a2, .null, .null, .null])) := (mm_U_ne (Ne.symm (fun h9 => by rw [h9, hqB] at hBb; cases hBb))).trans hc_18
      obtain ⟨M_25, eM_25⟩ : ∃ z, z = mm_U M_21 b (.inr (6, [.int (mm_b iv), .ref w, .null, .ref rk, va_rf rn])) := ⟨_, rfl⟩
      rw [← eM_25] at hM hc_23 hc_22 hc_24
      refine lv_aload_n hx hb dX10_renewedBag_33 rfl (lv_at hl 2 rfl) ?_
      refine lv_aload_n hx hb dX10_renewedBag_34 rfl (lv_at hl 0 rfl) ?_
      refine mm_putN (D := Z.1) (ci := 6) (v := .ref q_3) (ty := .object "RowenTongue$Bag") (C := RX8) (T := TX8) (N := 5) hx hb hts in_X8 tyX8 tyX8_ok nmX8 hown hE.1 hM hS hc_22 mm_cX8 4 (by decide) (va_Nw.use rfl (hE.2.1 _ q631 rfl)) (fun _ h9 => h9) rfl (by decide +kernel) rfl rfl (Nat.le_of_ble_eq_true rfl) dX10_renewedBag_35 (fun H locs hM hS => ?_)
      have hM : mm_P Z.1 mm_cl A (mm_U M_25 b (.inr (6, [.int (mm_b iv), .ref w, .null, .ref rk, .ref q_3]))) H := hM
      have hc_26 : (mm_U M_25 b (.inr (6, [.int (mm_b iv), .ref w, .null, .ref rk, .ref q_3]))) b = some (.inr (6, [.int (mm_b iv), .ref w, .null, .ref rk, .ref q_3])) := mm_U_eq
      have hc_27 : (mm_U M_25 b (.inr (6, [.int (mm_b iv), .ref w, .null, .ref rk, .ref q_3]))) rk = some (.inr (8, [.ref (q 0), .ref (q 1), .ref (q 2), .ref (q 3), .int lv])) := (mm_U_ne (mm_neC hc_23 hc_22 (by decide))).trans hc_23
      have hc_28 : (mm_U M_25 b (.inr (6, [.int (mm_b iv), .ref w, .null, .ref rk, .ref q_3]))) q_3 = some (.inr (6, [.int (mm_b iv), .ref a2, .null, .null, .null])) := (mm_U_ne (Ne.symm (fun h9 => by rw [h9, hqB] at hBb; cases hBb))).trans hc_24
      obtain ⟨M_29, eM_29⟩ : ∃ z, z = mm_U M_25 b (.inr (6, [.int (mm_b iv), .ref w, .null, .ref rk, .ref q_3])) := ⟨_, rfl⟩
      rw [← eM_29] at hM hc_27 hc_26 hc_28
      have hkk : ∀ z, z ≠ q_3 → z ≠ b → M_29 z = M_11 z := fun z h8 h9 => by subst eM_29 eM_25 eM_21; simp only [mm_U_ne h8, mm_U_ne h9]
      have hqn2 : q_3 ∉ nw2 := fun hx => by
        rcases (hN2.2.2.2.2.2.1.2 _ hx).2 with ⟨p, hp, e⟩ | ⟨t9, k3, ⟨f7, g7, k4⟩ | ⟨iv7, w7, k4⟩⟩
        · rcases List.mem_append.1 hp with hp | hp
          · obtain ⟨-, -, -, k⟩ := hN2.2.2.2.1.1 p hp; rw [e, hq3] at k; simp at k
          · obtain ⟨-, -, -, k⟩ := hN2.2.2.2.1.2 p hp; rw [e, hq3] at k; simp at k
        · rw [hq3] at k4; simp at k4
        · rw [hq3] at k4; simp [va_rf] at k4
      obtain ⟨t1, hR1, hS1, hG1⟩ := hK2
      have hT36 : uT M_11 M_29 := hN2.TB hBb2 hq3 hqB2 hc_26 hkk
      have hRn : RPt Z M_29 L vr S.1 gl (q_3 :: nw2) (co2 ++ cr2) (.pow t1 iv.toNat) false q_3 := fun vr9 h1 h2 => by
        simp only [tp]
        exact ⟨iv, a2, none, none, none, List.mem_append_left _ List.mem_cons_self, rfl, hc_28, (hR1.mono hT36 (fun _ h => List.mem_cons_of_mem _ h) (fun _ h => h)) vr9 h1 h2⟩
      have hsee : uap S.2.1 (.pow t1 iv.toNat) = uap (uth gl S.1) (.pow (uap S.2.1 r) iv.toNat) := by simp only [uap]; rw [hS1]
      have hgens : ∀ g ∈ gl, uoc g (Lean.Grind.CommRing.Expr.pow (uap S.2.1 r) iv.toNat) = true → ∃ z, (g, z) ∈ co2 ++ cr2 := fun g9 hg9 ho => hG1 g9 hg9 ho
      obtain ⟨hN6, hns6, -⟩ := hN2.renB (iv9 := iv) (w9 := a2) hbL hBb2 hq3 hqB2 hqn2 hqrk hc_28 hc_26 hkk hRn (fun t9 ht9 => by
        have e9 : t9 = .pow r iv.toNat := (tp.uniq hN2.1.2.1.1.2.2.1 _ _ _ _ _ ht9 (tp.monoT hY2.T (fun _ h => h) (fun _ _ => rfl) (Nat.le_refl _) _ _ _ hsub)).1
        subst e9
        exact ⟨hsee, hgens⟩)
      have hYn := uY.putB (rk := rk) (rn' := some q_3) hBb2
      have hnun := uNu_putB (rk := rk) (rn' := some q_3) hN2.1.2.1 hbL hBb2 hbq
      have hns06 : uNS B M M_29 := fun z ci fs hz hm hc => by
        have hzq : z ≠ q_3 := fun e => by rw [e, nq_2] at hm; cases hm
        exact hns6 z ci fs hzq (hY2.1 _ hz) (hns2 z ci fs hz (hex1.at hm) hc) hc
      refine lv_aload_n hx hb dX10_renewedBag_38 rfl (lv_at hl 2 rfl) ?_
      refine va_getN (D := Z.1) (ci := 6) (v := .ref q_3) (C := RX8) (T := TX8) (N := 5) hx hb hts in_X8 hown hE.1 (hM.at hc_26) 0 rfl mm_cX8 4 (by decide) (va_Nw.use rfl (hE.2.1 _ q631 rfl)) (fun _ h9 => h9) rfl dX10_renewedBag_39 ?_
      refine mm_retaD hx hb hr (Or.inl ⟨_, rfl⟩) (Or.inr ⟨_, rfl⟩) hlk hM hS ⟨q_3, _, ar2, cp2, co2, cr2, q_3 :: nw2, rfl, hN6, hY2.trans hYn, hns06, hcs2, fun z hz => List.mem_cons_of_mem _ (hnw2 z hz), hle2, by (try dsimp only); omega, by (try dsimp only); omega, fun b' hb' t9 ht9 hs9 => ?_, .pow t1 iv.toNat, hRn, hsee, hgens⟩ dX10_renewedBag_42 (by (try dsimp only); omega) (by (try dsimp only); omega)
      have e9 : SizeOf.sizeOf (Lean.Grind.CommRing.Expr.pow (uap S.2.1 r) iv.toNat) = 1 + SizeOf.sizeOf (uap S.2.1 r) + SizeOf.sizeOf iv.toNat := rfl
      have hne : b' ≠ b := fun e => by
        subst e
        have e8 : t9 = .pow r iv.toNat := (tp.uniq hCB.1.2.2.1 _ _ _ _ _ ht9 hsub).1
        subst e8
        exact absurd hs9 (by show ¬ _ < SizeOf.sizeOf (uap S.2.1 (.pow r iv.toNat)); simp only [uap]; omega)
      rw [mm_U_ne hne, hsz2 b' hb' t9 ht9 (by omega)]
  refine ⟨fun T t a M B ar cp co cr nw hz hT hw hgen hN htpB => ?_, fun T t a M B ar cp co cr nw hz hT hw hgen hN htpB => ?_⟩
  · skip
    refine mm_ofWD (cc := cX10_of) (maxL := 4) (ret := (some (.object "RowenTongue$Type"))) (by decide) rfl (Nat.le_of_ble_eq_true rfl) ?_
    intro p e s m below meth c A ls hx hb hr hlk hml hown hmn hts htab hE hST hA hM hS hl
    replace hl : lv_has ls 4 [(0, .ref rk), (1, .ref a)] := hl
    have hle := hN.le
    obtain ⟨hc0, hc1, hc2, hc3⟩ := hN.caps
    have hrk := hN.2.1.2
    have hexB := hN.1.1
    have hCB := hN.1.2.1
    have hC := hCB.lite hexB
    obtain ⟨d1, b1, t1, hd1, hn1, htb, he1, hcs⟩ := hCB.nowT htpB
    have hn1' := hn1.ext hexB
    refine lv_aload_n hx hb dX10_of_0 rfl (lv_at hl 1 rfl) ?_
    refine mm_cutR (b := b1) (pc2 := 4) (ls := ls) (rest := []) (M := M) (fun kk9 => ?_) (fun H locs hM hS => ?_) hM hS
    · skip
      have hw9 := c_now l Z hn1'
      obtain ⟨sm9, hq9⟩ := hn1'.at
      rcases hq9 with ⟨lv9, lk9, hq9⟩ | ⟨f9, t9, b9, r9, hq9⟩ | ⟨i9, w9, b9, r9, hq9⟩ | ⟨rfl, hq9⟩
      · skip
        refine mm_callU (As := []) (rest := []) ⟨hx, hb, hml, hown, hts⟩ hE hST hA (hw9.1 _ _ _ hq9) (va_cwO (x := ⟨"RowenTongue$Type", "now", "()LRowenTongue$Type;"⟩) (C := RX11) (owner := "RowenTongue$Type") 0 hts (lw_app (lw_in _ [705, 707, 706, 720, 715, 78] (by decide +kernel) (by decide +kernel)) (lw_meth q716)) rfl rfl rfl q721 (by decide +kernel) ⟨(by (try dsimp only); omega), (by (try dsimp only); omega)⟩) hM hS mm_cX11 hq9 rfl hl.1 (Nat.le_of_ble_eq_true rfl) dX10_of_1 rfl ⟨(by (try dsimp only); omega), (by (try dsimp only); omega)⟩ (fun _ _ _ _ _ _ h9 => h9.elim) (fun v_1 M_2 H locs hp_3 hM hS => ?_)
        obtain ⟨rfl, eM_2⟩ := hp_3
        rw [eM_2] at hM
        exact kk9 _ _ hM hS
      · skip
        refine mm_callU (As := []) (rest := []) ⟨hx, hb, hml, hown, hts⟩ hE hST hA (hw9.2.1 _ _ _ _ _ hq9) (va_cwO (x := ⟨"RowenTongue$Type", "now", "()LRowenTongue$Type;"⟩) (C := RX12) (owner := "RowenTongue$Type") 0 hts (lw_app (lw_in _ [705, 707, 706, 718, 712, 79] (by decide +kernel) (by decide +kernel)) (lw_meth q713)) rfl rfl rfl q721 (by decide +kernel) ⟨(by (try dsimp only); omega), (by (try dsimp only); omega)⟩) hM hS mm_cX12 hq9 rfl hl.1 (Nat.le_of_ble_eq_true rfl) dX10_of_1 rfl ⟨(by (try dsimp only); omega), (by (try dsimp only); omega)⟩ (fun _ _ _ _ _ _ h9 => h9.elim) (fun v_1 M_2 H locs hp_3 hM hS => ?_)
        obtain ⟨rfl, eM_2⟩ := hp_3
        rw [eM_2] at hM
        exact kk9 _ _ hM hS
      · skip
        refine mm_callU (As := []) (rest := []) ⟨hx, hb, hml, hown, hts⟩ hE hST hA (hw9.2.2.1 _ _ _ _ _ hq9) (va_cwO (x := ⟨"RowenTongue$Type", "now", "()LRowenTongue$Type;"⟩) (C := RX8) (owner := "RowenTongue$Type") 0 hts (lw_app (lw_in _ [705, 707, 706, 708, 709, 74] (by decide +kernel) (by decide +kernel)) (lw_meth q710)) rfl rfl rfl q721 (by decide +kernel) ⟨(by (try dsimp only); omega), (by (try dsimp only); omega)⟩) hM hS mm_cX8 hq9 rfl hl.1 (Nat.le_of_ble_eq_true rfl) dX10_of_1 rfl ⟨(by (try dsimp only); omega), (by (try dsimp only); omega)⟩ (fun _ _ _ _ _ _ h9 => h9.elim) (fun v_1 M_2 H locs hp_3 hM hS => ?_)
        obtain ⟨rfl, eM_2⟩ := hp_3
        rw [eM_2] at hM
        exact kk9 _ _ hM hS
      · skip
        refine mm_callU (As := []) (rest := []) ⟨hx, hb, hml, hown, hts⟩ hE hST hA (hw9.2.2.2 hq9) (va_cwU (x := ⟨"RowenTongue$Type", "now", "()LRowenTongue$Type;"⟩) (C := "RowenTongue$Numbers") (owner := "RowenTongue$Type") 0 hts (lw_app (lw_in _ [705, 707, 719, 706, 73] (by decide +kernel) (by decide +kernel)) (lw_meth q721)) rfl rfl rfl rfl (by decide +kernel) ⟨(by (try dsimp only); omega), (by (try dsimp only); omega)⟩) hM hS mm_cE1 hq9 rfl hl.1 (Nat.le_of_ble_eq_true rfl) dX10_of_1 rfl ⟨(by (try dsimp only); omega), (by (try dsimp only); omega)⟩ (fun _ _ _ _ _ _ h9 => h9.elim) (fun v_1 M_2 H locs hp_3 hM hS => ?_)
        obtain ⟨rfl, eM_2⟩ := hp_3
        rw [eM_2] at hM
        exact kk9 _ _ hM hS
    refine lv_astore_n hx hb dX10_of_4 rfl hl (by decide) rfl (fun ls hl => ?_)
    replace hl : lv_has ls 4 [(2, .ref b1), (0, .ref rk), (1, .ref a)] := hl
    refine lv_aload_n hx hb dX10_of_5 rfl (lv_at hl 0 rfl) ?_
    rcases hcs with ⟨eT, hb0, hbN⟩ | ⟨u, hu, eT, hsu, hbu, hbL, hbO⟩ | ⟨x1, y1, f1, g1, bq1, rn1, eT, hbL, hbF, hf1, hg1⟩ | ⟨r1, iv1, w1, bq1, rn1, eT, hbL, hbB, hw1⟩
    · skip
      rw [hT] at eT
      subst eT
      refine va_instNo (C := "RowenTongue$Numbers") hx hb hown (hts _ q722) (hE.2.2.2.1 _ _ (by decide +kernel)) (mm_recv hE hM mm_cE1 (hexB.at hbN)) dX10_of_6 ?_
      refine lv_if_eq (tgt := 36) hx hb dX10_of_9 (by decide) (fun _ => ?_) (fun h9 => absurd (by decide) h9)
      refine lv_aload_n hx hb dX10_of_36 rfl (lv_at hl 0 rfl) ?_
      refine va_instNo (C := "RowenTongue$Numbers") hx hb hown (hts _ q826) (hE.2.2.2.1 _ _ (by decide +kernel)) (mm_recv hE hM mm_cE1 (hexB.at hbN)) dX10_of_37 ?_
      refine lv_if_eq (tgt := 54) hx hb dX10_of_40 (by decide) (fun _ => ?_) (fun h9 => absurd (by decide) h9)
      refine lv_aload_n hx hb dX10_of_54 rfl (lv_at hl 0 rfl) ?_
      refine va_instNo (C := "RowenTongue$Numbers") hx hb hown (hts _ q862) (hE.2.2.2.1 _ _ (by decide +kernel)) (mm_recv hE hM mm_cE1 (hexB.at hbN)) dX10_of_55 ?_
      refine lv_if_eq (tgt := 74) hx hb dX10_of_58 (by decide) (fun _ => ?_) (fun h9 => absurd (by decide) h9)
      refine lv_aload_n hx hb dX10_of_74 rfl (lv_at hl 0 rfl) ?_
      exact mm_retaD hx hb hr (Or.inl ⟨_, rfl⟩) (Or.inr ⟨_, rfl⟩) hlk hM hS ⟨b1, B, ar, cp, co, cr, nw, rfl, hN, uY.rf _ _, uNS.rf _ _, fun _ h => h, fun _ h => h, Nat.le_refl _, by (try dsimp only); omega, by (try dsimp only); omega, (fun _ _ _ _ _ => rfl), t1, (RPt.old (htb.light hexB.uL)), by rw [he1, hT]; rfl, fun g hg ho => by simp [uoc] at ho⟩ dX10_of_75 (by (try dsimp only); omega) (by (try dsimp only); omega)
    · skip
      rw [hT] at eT
      subst hbu
      subst eT
      refine va_instS hx hb hown (hts _ q722) (hE.1.1 9 _ mm_cX11).2 (mm_recv hE hM mm_cX11 (hexB.at hbO)) dX10_of_6 ?_
      refine lv_if_eq (tgt := 36) hx hb dX10_of_9 (by decide) (fun h9 => absurd h9 (by decide)) (fun _ => ?_)
      refine lv_aload_n hx hb dX10_of_12 rfl (lv_at hl 0 rfl) ?_
      refine va_castS hx hb hown (hts _ q722) (hE.1.1 9 _ mm_cX11).2 (mm_recv hE hM mm_cX11 (hexB.at hbO)) dX10_of_13 ?_
      refine lv_astore_n hx hb dX10_of_16 rfl hl (by decide) rfl (fun ls hl => ?_)
      replace hl : lv_has ls 4 [(3, .ref (vr u)), (2, .ref (vr u)), (0, .ref rk), (1, .ref a)] := hl
      refine lv_aload_n hx hb dX10_of_17 rfl (lv_at hl 0 rfl) ?_
      refine va_getN (D := Z.1) (ci := 9) (v := .int (S.2.2.2.2 u)) (C := RX11) (T := TX11) (N := 3) hx hb hts in_X11 hown hE.1 (hM.at (hexB.at hbO)) 0 rfl mm_cX11 1 (by decide) (va_Nw.use rfl (hE.2.1 _ q810 rfl)) (fun _ h9 => h9) rfl dX10_of_18 ?_
      refine lv_ldc (v := 1048576) hx hb hown (hts _ q723) dX10_of_21 ?_
      refine lv_icmp_ne (tgt := 34) hx hb dX10_of_23 (by decide) (fun c_1 => ?_) (fun c_1 => ?_)
      · skip
        have hng : u ∉ gl := fun h9 => c_1 ((hgen u (by simp [uoc])).2 h9)
        refine lv_aload_n hx hb dX10_of_34 rfl (lv_at hl 0 rfl) ?_
        exact mm_retaD hx hb hr (Or.inl ⟨_, rfl⟩) (Or.inr ⟨_, rfl⟩) hlk hM hS ⟨(vr u), B, ar, cp, co, cr, nw, rfl, hN, uY.rf _ _, uNS.rf _ _, fun _ h => h, fun _ h => h, Nat.le_refl _, by (try dsimp only); omega, by (try dsimp only); omega, (fun _ _ _ _ _ => rfl), t1, (RPt.old (htb.light hexB.uL)), by rw [he1, hT]; simp only [uap]; exact (uth_not hng).symm, fun g hg ho => by simp only [uoc, beq_iff_eq] at ho; exact absurd (ho ▸ hg) hng⟩ dX10_of_35 (by (try dsimp only); omega) (by (try dsimp only); omega)
      · skip
        have hug : u ∈ gl := (hgen u (by simp [uoc])).1 (by first | exact c_1 | exact Classical.not_not.1 c_1)
        refine lv_aload_n hx hb dX10_of_26 rfl (lv_at hl 2 rfl) ?_
        refine lv_aload_n hx hb dX10_of_27 rfl (lv_at hl 0 rfl) ?_
        refine mm_callVD (As := [.ref (vr u)]) (rest := []) ⟨hx, hb, hml, hown, hts⟩ hE hST hA (d_X10_renewedOpen l Z hgl hgK hN hug hbO) (cwV 1 hts (lw_V q724 q726 qs8 q76 q727) rfl rfl rfl (by decide +kernel) ⟨(by (try dsimp only); omega), (by (try dsimp only); omega)⟩) hM hS mm_cX10 hrk rfl hl.1 (Nat.le_of_ble_eq_true rfl) dX10_of_28 rfl ⟨(by (try dsimp only); omega), (by (try dsimp only); omega)⟩ (fun _ _ _ _ _ _ h9 => h9.elim) (fun v_2 M_3 n_5 k_6 H locs hp_4 hM hS => ?_)
        obtain ⟨a1, B1, ar1, cp1, co1, cr1, nw1, rfl, hN1, hY1, hns1, hcs1, hnw1, hle1, hn1, hk1, hsz1, hK1, hK2, hK3⟩ := hp_4
        have hleg1 := hN1.le
        obtain ⟨hc01, hc11, hc21, hc31⟩ := hN1.caps
        have hRn : RPt Z M_3 L vr S.1 gl nw1 (co1 ++ cr1) (.var (S.1 + gl.idxOf u)) false a1 := fun vr9 h1 h2 => by
          simp only [tp]
          exact ⟨Nat.add_lt_add_left (List.idxOf_lt_length_of_mem hug) _, (h2 _ hK1).symm, List.mem_append_left _ hK2, _, _, _, hK3⟩
        refine lv_goto (tgt := 35) hx hb dX10_of_31 (by decide) ?_
        exact mm_retaD hx hb hr (Or.inl ⟨_, rfl⟩) (Or.inr ⟨_, rfl⟩) hlk hM hS ⟨a1, B1, ar1, cp1, co1, cr1, nw1, rfl, hN1, hY1, hns1, hcs1, hnw1, hle1, by (try dsimp only); omega, by (try dsimp only); omega, (fun b hb t9 h9 h8 => hsz1 b hb t9 h9 (by omega)), _, hRn, by rw [show uap (uth gl S.1) (.var u) = .var (S.1 + gl.idxOf u) from uth_in hug]; exact hCB.1.2.2.2.1 _ (Nat.le_add_right _ _), fun g hg ho => by simp only [uoc, beq_iff_eq] at ho; subst ho; exact ⟨_, hK1⟩⟩ dX10_of_35 (by (try dsimp only); omega) (by (try dsimp only); omega)
    · skip
      rw [hT] at eT
      subst eT
      have hsz : SizeOf.sizeOf (Lean.Grind.CommRing.Expr.sub (uap S.2.1 x1) (uap S.2.1 y1)) = 1 + SizeOf.sizeOf (uap S.2.1 x1) + SizeOf.sizeOf (uap S.2.1 y1) := rfl
      have huz : uz (Lean.Grind.CommRing.Expr.sub (uap S.2.1 x1) (uap S.2.1 y1)) = max (uz (uap S.2.1 x1)) (uz (uap S.2.1 y1)) + 2 := rfl
      simp only [uwf] at hw
      refine va_instNo (C := RX12) hx hb hown (hts _ q722) (hE.2.2.2.1 _ _ (by decide +kernel)) (mm_recv hE hM mm_cX12 (hexB.at hbF)) dX10_of_6 ?_
      refine lv_if_eq (tgt := 36) hx hb dX10_of_9 (by decide) (fun _ => ?_) (fun h9 => absurd (by decide) h9)
      refine lv_aload_n hx hb dX10_of_36 rfl (lv_at hl 0 rfl) ?_
      refine va_instS hx hb hown (hts _ q826) (hE.1.1 10 _ mm_cX12).2 (mm_recv hE hM mm_cX12 (hexB.at hbF)) dX10_of_37 ?_
      refine lv_if_eq (tgt := 54) hx hb dX10_of_40 (by decide) (fun h9 => absurd h9 (by decide)) (fun _ => ?_)
      refine lv_aload_n hx hb dX10_of_43 rfl (lv_at hl 0 rfl) ?_
      refine va_castS hx hb hown (hts _ q826) (hE.1.1 10 _ mm_cX12).2 (mm_recv hE hM mm_cX12 (hexB.at hbF)) dX10_of_44 ?_
      refine lv_astore_n hx hb dX10_of_47 rfl hl (by decide) rfl (fun ls hl => ?_)
      replace hl : lv_has ls 4 [(3, .ref b1), (2, .ref b1), (0, .ref rk), (1, .ref a)] := hl
      refine lv_aload_n hx hb dX10_of_48 rfl (lv_at hl 2 rfl) ?_
      refine lv_aload_n hx hb dX10_of_49 rfl (lv_at hl 0 rfl) ?_
      refine mm_callVD (As := [.ref b1]) (rest := []) ⟨hx, hb, hml, hown, hts⟩ hE hST hA (hF x1 y1 b1 f1 g1 bq1 rn1 _ B ar cp co cr nw (by omega) (by omega) hw.1 hw.2 hgen hN hbL hbF hf1 hg1) (cwV 1 hts (lw_V q827 q829 qs9 q76 q830) rfl rfl rfl (by decide +kernel) ⟨(by (try dsimp only); omega), (by (try dsimp only); omega)⟩) hM hS mm_cX10 hrk rfl hl.1 (Nat.le_of_ble_eq_true rfl) dX10_of_50 rfl ⟨(by (try dsimp only); omega), (by (try dsimp only); omega)⟩ (fun _ _ _ _ _ _ h9 => h9.elim) (fun v_1 M_2 n_4 k_5 H locs hp_3 hM hS => ?_)
      obtain ⟨a1, B1, ar1, cp1, co1, cr1, nw1, rfl, hN1, hY1, hns1, hcs1, hnw1, hle1, hn1, hk1, hsz1, hK1⟩ := hp_3
      have hleg1 := hN1.le
      obtain ⟨hc01, hc11, hc21, hc31⟩ := hN1.caps
      exact mm_retaD hx hb hr (Or.inl ⟨_, rfl⟩) (Or.inr ⟨_, rfl⟩) hlk hM hS ⟨a1, B1, ar1, cp1, co1, cr1, nw1, rfl, hN1, hY1, hns1, hcs1, hnw1, hle1, by (try dsimp only); omega, by (try dsimp only); omega, hsz1, hK1⟩ dX10_of_53 (by (try dsimp only); omega) (by (try dsimp only); omega)
    · skip
      rw [hT] at eT
      subst eT
      have hsz : SizeOf.sizeOf (Lean.Grind.CommRing.Expr.pow (uap S.2.1 r1) iv1.toNat) = 1 + SizeOf.sizeOf (uap S.2.1 r1) + SizeOf.sizeOf iv1.toNat := rfl
      have huz : uz (Lean.Grind.CommRing.Expr.pow (uap S.2.1 r1) iv1.toNat) = urn (uap S.2.1 r1) + uz (uap S.2.1 r1) + 3 := rfl
      simp only [uwf] at hw
      refine va_instNo (C := RX8) hx hb hown (hts _ q722) (hE.2.2.2.1 _ _ (by decide +kernel)) (mm_recv hE hM mm_cX8 (hexB.at hbB)) dX10_of_6 ?_
      refine lv_if_eq (tgt := 36) hx hb dX10_of_9 (by decide) (fun _ => ?_) (fun h9 => absurd (by decide) h9)
      refine lv_aload_n hx hb dX10_of_36 rfl (lv_at hl 0 rfl) ?_
      refine va_instNo (C := RX8) hx hb hown (hts _ q826) (hE.2.2.2.1 _ _ (by decide +kernel)) (mm_recv hE hM mm_cX8 (hexB.at hbB)) dX10_of_37 ?_
      refine lv_if_eq (tgt := 54) hx hb dX10_of_40 (by decide) (fun _ => ?_) (fun h9 => absurd (by decide) h9)
      refine lv_aload_n hx hb dX10_of_54 rfl (lv_at hl 0 rfl) ?_
      refine va_instS hx hb hown (hts _ q862) (hE.1.1 6 _ mm_cX8).2 (mm_recv hE hM mm_cX8 (hexB.at hbB)) dX10_of_55 ?_
      refine lv_if_eq (tgt := 74) hx hb dX10_of_58 (by decide) (fun h9 => absurd h9 (by decide)) (fun _ => ?_)
      refine lv_aload_n hx hb dX10_of_61 rfl (lv_at hl 0 rfl) ?_
      refine va_castS hx hb hown (hts _ q862) (hE.1.1 6 _ mm_cX8).2 (mm_recv hE hM mm_cX8 (hexB.at hbB)) dX10_of_62 ?_
      refine lv_astore_n hx hb dX10_of_65 rfl hl (by decide) rfl (fun ls hl => ?_)
      replace hl : lv_has ls 4 [(3, .ref b1), (2, .ref b1), (0, .ref rk), (1, .ref a)] := hl
      refine lv_aload_n hx hb dX10_of_66 rfl (lv_at hl 2 rfl) ?_
      refine lv_aload_n hx hb dX10_of_67 rfl (lv_at hl 0 rfl) ?_
      refine mm_callVD (As := [.ref b1]) (rest := []) ⟨hx, hb, hml, hown, hts⟩ hE hST hA (hBg r1 b1 w1 iv1 bq1 rn1 _ B ar cp co cr nw (by omega) hw hgen hN hbL hbB hw1) (cwV 1 hts (lw_V q863 q865 qs10 q76 q866) rfl rfl rfl (by decide +kernel) ⟨(by (try dsimp only); omega), (by (try dsimp only); omega)⟩) hM hS mm_cX10 hrk rfl hl.1 (Nat.le_of_ble_eq_true rfl) dX10_of_68 rfl ⟨(by (try dsimp only); omega), (by (try dsimp only); omega)⟩ (fun _ _ _ _ _ _ h9 => h9.elim) (fun v_1 M_2 n_4 k_5 H locs hp_3 hM hS => ?_)
      obtain ⟨a1, B1, ar1, cp1, co1, cr1, nw1, rfl, hN1, hY1, hns1, hcs1, hnw1, hle1, hn1, hk1, hsz1, hK1⟩ := hp_3
      have hleg1 := hN1.le
      obtain ⟨hc01, hc11, hc21, hc31⟩ := hN1.caps
      refine lv_goto (tgt := 75) hx hb dX10_of_71 (by decide) ?_
      exact mm_retaD hx hb hr (Or.inl ⟨_, rfl⟩) (Or.inr ⟨_, rfl⟩) hlk hM hS ⟨a1, B1, ar1, cp1, co1, cr1, nw1, rfl, hN1, hY1, hns1, hcs1, hnw1, hle1, by (try dsimp only); omega, by (try dsimp only); omega, hsz1, hK1⟩ dX10_of_75 (by (try dsimp only); omega) (by (try dsimp only); omega)
  · skip
    refine mm_ofWD (cc := cX10_of_2) (maxL := 4) (ret := (some (.object "RowenTongue$Row"))) (by decide) rfl (Nat.le_of_ble_eq_true rfl) ?_
    intro p e s m below meth c A ls hx hb hr hlk hml hown hmn hts htab hE hST hA hM hS hl
    replace hl : lv_has ls 4 [(0, .ref rk), (1, .ref a)] := hl
    have hle := hN.le
    obtain ⟨hc0, hc1, hc2, hc3⟩ := hN.caps
    have hrk := hN.2.1.2
    have hexB := hN.1.1
    have hCB := hN.1.2.1
    have hC := hCB.lite hexB
    obtain ⟨d1, b1, t1, hd1, hn1, htb, he1, hcs⟩ := hCB.nowR htpB
    have hn1' := hn1.ext hexB
    refine lv_aload_n hx hb dX10_of_2_0 rfl (lv_at hl 1 rfl) ?_
    refine mm_cutR (b := b1) (pc2 := 4) (ls := ls) (rest := []) (M := M) (fun kk9 => ?_) (fun H locs hM hS => ?_) hM hS
    · skip
      have hw9 := c_nowR l Z hn1'
      obtain ⟨sm9, hq9⟩ := hn1'.at
      rcases hq9 with ⟨lv9, lk9, lc9, hq9⟩ | ⟨rfl, lb9, ty9, rs9, hq9⟩ | ⟨rfl, hq9⟩
      · skip
        refine mm_callU (As := []) (rest := []) ⟨hx, hb, hml, hown, hts⟩ hE hST hA (hw9.1 _ _ _ _ hq9) (va_cwO (x := ⟨"RowenTongue$Row", "now", "()LRowenTongue$Row;"⟩) (C := RX15) (owner := "RowenTongue$Row") 0 hts (lw_app (lw_in _ [871, 873, 872, 876, 877, 82] (by decide +kernel) (by decide +kernel)) (lw_meth q878)) rfl rfl rfl q880 (by decide +kernel) ⟨(by (try dsimp only); omega), (by (try dsimp only); omega)⟩) hM hS mm_cX15 hq9 rfl hl.1 (Nat.le_of_ble_eq_true rfl) dX10_of_2_1 rfl ⟨(by (try dsimp only); omega), (by (try dsimp only); omega)⟩ (fun _ _ _ _ _ _ h9 => h9.elim) (fun v_1 M_2 H locs hp_3 hM hS => ?_)
        obtain ⟨rfl, eM_2⟩ := hp_3
        rw [eM_2] at hM
        exact kk9 _ _ hM hS
      · skip
        refine mm_callU (As := []) (rest := []) ⟨hx, hb, hml, hown, hts⟩ hE hST hA (hw9.2 (Or.inl ⟨_, _, _, hq9⟩)) (va_cwU (x := ⟨"RowenTongue$Row", "now", "()LRowenTongue$Row;"⟩) (C := RX14) (owner := "RowenTongue$Row") 0 hts (lw_app (lw_in _ [871, 873, 874, 872, 80] (by decide +kernel) (by decide +kernel)) (lw_meth q880)) rfl rfl rfl rfl (by decide +kernel) ⟨(by (try dsimp only); omega), (by (try dsimp only); omega)⟩) hM hS mm_cX14 hq9 rfl hl.1 (Nat.le_of_ble_eq_true rfl) dX10_of_2_1 rfl ⟨(by (try dsimp only); omega), (by (try dsimp only); omega)⟩ (fun _ _ _ _ _ _ h9 => h9.elim) (fun v_1 M_2 H locs hp_3 hM hS => ?_)
        obtain ⟨rfl, eM_2⟩ := hp_3
        rw [eM_2] at hM
        exact kk9 _ _ hM hS
      · skip
        refine mm_callU (As := []) (rest := []) ⟨hx, hb, hml, hown, hts⟩ hE hST hA (hw9.2 (Or.inr hq9)) (va_cwU (x := ⟨"RowenTongue$Row", "now", "()LRowenTongue$Row;"⟩) (C := "RowenTongue$Nothing") (owner := "RowenTongue$Row") 0 hts (lw_app (lw_in _ [871, 873, 875, 872, 80] (by decide +kernel) (by decide +kernel)) (lw_meth q880)) rfl rfl rfl rfl (by decide +kernel) ⟨(by (try dsimp only); omega), (by (try dsimp only); omega)⟩) hM hS mm_cE2 hq9 rfl hl.1 (Nat.le_of_ble_eq_true rfl) dX10_of_2_1 rfl ⟨(by (try dsimp only); omega), (by (try dsimp only); omega)⟩ (fun _ _ _ _ _ _ h9 => h9.elim) (fun v_1 M_2 H locs hp_3 hM hS => ?_)
        obtain ⟨rfl, eM_2⟩ := hp_3
        rw [eM_2] at hM
        exact kk9 _ _ hM hS
    refine lv_astore_n hx hb dX10_of_2_4 rfl hl (by decide) rfl (fun ls hl => ?_)
    replace hl : lv_has ls 4 [(2, .ref b1), (0, .ref rk), (1, .ref a)] := hl
    refine lv_aload_n hx hb dX10_of_2_5 rfl (lv_at hl 0 rfl) ?_
    rcases hcs with ⟨eT, hb0, hbN⟩ | ⟨u, hu, eT, hsu, hbu, hbL, hbO⟩ | ⟨x1, k1, r1, ty1, rs1, eT, hk10, hbC, hx1, hr1⟩
    · skip
      rw [hT] at eT
      subst eT
      refine va_instNo (C := "RowenTongue$Nothing") hx hb hown (hts _ q881) (hE.2.2.2.1 _ _ (by decide +kernel)) (mm_recv hE hM mm_cE2 (hexB.at hbN)) dX10_of_2_6 ?_
      refine lv_if_eq (tgt := 45) hx hb dX10_of_2_9 (by decide) (fun _ => ?_) (fun h9 => absurd (by decide) h9)
      refine lv_aload_n hx hb dX10_of_2_45 rfl (lv_at hl 0 rfl) ?_
      refine va_instNo (C := "RowenTongue$Nothing") hx hb hown (hts _ q910) (hE.2.2.2.1 _ _ (by decide +kernel)) (mm_recv hE hM mm_cE2 (hexB.at hbN)) dX10_of_2_46 ?_
      refine lv_if_eq (tgt := 74) hx hb dX10_of_2_49 (by decide) (fun _ => ?_) (fun h9 => absurd (by decide) h9)
      refine lv_aload_n hx hb dX10_of_2_74 rfl (lv_at hl 0 rfl) ?_
      exact mm_retaD hx hb hr (Or.inl ⟨_, rfl⟩) (Or.inr ⟨_, rfl⟩) hlk hM hS ⟨b1, B, ar, cp, co, cr, nw, rfl, hN, uY.rf _ _, uNS.rf _ _, fun _ h => h, fun _ h => h, Nat.le_refl _, by (try dsimp only); omega, by (try dsimp only); omega, (fun _ _ _ _ _ => rfl), t1, (RPt.old (htb.light hexB.uL)), by rw [he1, hT]; rfl, fun g hg ho => by simp [uoc] at ho⟩ dX10_of_2_75 (by (try dsimp only); omega) (by (try dsimp only); omega)
    · skip
      rw [hT] at eT
      subst hbu
      subst eT
      refine va_instNo (C := RX15) hx hb hown (hts _ q881) (hE.2.2.2.1 _ _ (by decide +kernel)) (mm_recv hE hM mm_cX15 (hexB.at hbO)) dX10_of_2_6 ?_
      refine lv_if_eq (tgt := 45) hx hb dX10_of_2_9 (by decide) (fun _ => ?_) (fun h9 => absurd (by decide) h9)
      refine lv_aload_n hx hb dX10_of_2_45 rfl (lv_at hl 0 rfl) ?_
      refine va_instS hx hb hown (hts _ q910) (hE.1.1 12 _ mm_cX15).2 (mm_recv hE hM mm_cX15 (hexB.at hbO)) dX10_of_2_46 ?_
      refine lv_if_eq (tgt := 74) hx hb dX10_of_2_49 (by decide) (fun h9 => absurd h9 (by decide)) (fun _ => ?_)
      refine lv_aload_n hx hb dX10_of_2_52 rfl (lv_at hl 0 rfl) ?_
      refine va_castS hx hb hown (hts _ q910) (hE.1.1 12 _ mm_cX15).2 (mm_recv hE hM mm_cX15 (hexB.at hbO)) dX10_of_2_53 ?_
      refine lv_astore_n hx hb dX10_of_2_56 rfl hl (by decide) rfl (fun ls hl => ?_)
      replace hl : lv_has ls 4 [(3, .ref (vr u)), (2, .ref (vr u)), (0, .ref rk), (1, .ref a)] := hl
      refine lv_aload_n hx hb dX10_of_2_57 rfl (lv_at hl 0 rfl) ?_
      refine va_getN (D := Z.1) (ci := 12) (v := .int (S.2.2.2.2 u)) (C := RX15) (T := TX15) (N := 4) hx hb hts in_X15 hown hE.1 (hM.at (hexB.at hbO)) 0 rfl mm_cX15 1 (by decide) (va_Nw.use rfl (hE.2.1 _ q925 rfl)) (fun _ h9 => h9) rfl dX10_of_2_58 ?_
      refine lv_ldc (v := 1048576) hx hb hown (hts _ q723) dX10_of_2_61 ?_
      refine lv_icmp_ne (tgt := 74) hx hb dX10_of_2_63 (by decide) (fun c_1 => ?_) (fun c_1 => ?_)
      · skip
        have hng : u ∉ gl := fun h9 => c_1 ((hgen u (by simp [uoc])).2 h9)
        refine lv_aload_n hx hb dX10_of_2_74 rfl (lv_at hl 1 rfl) ?_
        exact mm_retaD hx hb hr (Or.inl ⟨_, rfl⟩) (Or.inr ⟨_, rfl⟩) hlk hM hS ⟨(vr u), B, ar, cp, co, cr, nw, rfl, hN, uY.rf _ _, uNS.rf _ _, fun _ h => h, fun _ h => h, Nat.le_refl _, by (try dsimp only); omega, by (try dsimp only); omega, (fun _ _ _ _ _ => rfl), t1, (RPt.old (htb.light hexB.uL)), by rw [he1, hT]; simp only [uap]; exact (uth_not hng).symm, fun g hg ho => by simp only [uoc, beq_iff_eq] at ho; exact absurd (ho ▸ hg) hng⟩ dX10_of_2_75 (by (try dsimp only); omega) (by (try dsimp only); omega)
      · skip
        have hug : u ∈ gl := (hgen u (by simp [uoc])).1 (by first | exact c_1 | exact Classical.not_not.1 c_1)
        refine lv_aload_n hx hb dX10_of_2_66 rfl (lv_at hl 2 rfl) ?_
        refine lv_aload_n hx hb dX10_of_2_67 rfl (lv_at hl 0 rfl) ?_
        refine mm_callVD (As := [.ref (vr u)]) (rest := []) ⟨hx, hb, hml, hown, hts⟩ hE hST hA (d_X10_renewedOpenRow l Z hgl hgK hN hug hbO) (cwV 1 hts (lw_V q911 q912 q913 q76 q914) rfl rfl rfl (by decide +kernel) ⟨(by (try dsimp only); omega), (by (try dsimp only); omega)⟩) hM hS mm_cX10 hrk rfl hl.1 (Nat.le_of_ble_eq_true rfl) dX10_of_2_68 rfl ⟨(by (try dsimp only); omega), (by (try dsimp only); omega)⟩ (fun _ _ _ _ _ _ h9 => h9.elim) (fun v_2 M_3 n_5 k_6 H locs hp_4 hM hS => ?_)
        obtain ⟨a1, B1, ar1, cp1, co1, cr1, nw1, rfl, hN1, hY1, hns1, hcs1, hnw1, hle1, hn1, hk1, hsz1, hK1, hK2, hK3⟩ := hp_4
        have hleg1 := hN1.le
        obtain ⟨hc01, hc11, hc21, hc31⟩ := hN1.caps
        have hRn : RPt Z M_3 L vr S.1 gl nw1 (co1 ++ cr1) (.var (S.1 + gl.idxOf u)) true a1 := fun vr9 h1 h2 => by
          simp only [tp]
          exact ⟨Nat.add_lt_add_left (List.idxOf_lt_length_of_mem hug) _, (h2 _ hK1).symm, List.mem_append_left _ hK2, _, _, _, _, hK3⟩
        refine lv_goto (tgt := 75) hx hb dX10_of_2_71 (by decide) ?_
        exact mm_retaD hx hb hr (Or.inl ⟨_, rfl⟩) (Or.inr ⟨_, rfl⟩) hlk hM hS ⟨a1, B1, ar1, cp1, co1, cr1, nw1, rfl, hN1, hY1, hns1, hcs1, hnw1, hle1, by (try dsimp only); omega, by (try dsimp only); omega, (fun b hb t9 h9 h8 => hsz1 b hb t9 h9 (by omega)), _, hRn, by rw [show uap (uth gl S.1) (.var u) = .var (S.1 + gl.idxOf u) from uth_in hug]; exact hCB.1.2.2.2.1 _ (Nat.le_add_right _ _), fun g hg ho => by simp only [uoc, beq_iff_eq] at ho; subst ho; exact ⟨_, hK1⟩⟩ dX10_of_2_75 (by (try dsimp only); omega) (by (try dsimp only); omega)
    · skip
      rw [hT] at eT
      have hsz : SizeOf.sizeOf T = 1 + (1 + SizeOf.sizeOf (uap S.2.1 x1) + SizeOf.sizeOf k1) + SizeOf.sizeOf (uap S.2.1 r1) := by rw [eT, uins_size]
      have hww := uwf_ins_inv _ (by rw [eT] at hw; exact hw)
      have huz : uz T = max (uz (uap S.2.1 x1)) (uz (uap S.2.1 r1)) := by rw [eT, uz_ins _ hww.2.row.1]
      have hun : urn T = urn (uap S.2.1 r1) + 1 := by rw [eT, urn_ins]
      have hor : ∀ u, uoc u T = (uoc u (uap S.2.1 x1) || uoc u (uap S.2.1 r1)) := fun u => by rw [eT]; exact uins_oc _
      refine va_instS hx hb hown (hts _ q881) (hE.1.1 11 _ mm_cX14).2 (mm_recv hE hM mm_cX14 (hexB.at hbC)) dX10_of_2_6 ?_
      refine lv_if_eq (tgt := 45) hx hb dX10_of_2_9 (by decide) (fun h9 => absurd h9 (by decide)) (fun _ => ?_)
      refine lv_aload_n hx hb dX10_of_2_12 rfl (lv_at hl 0 rfl) ?_
      refine va_castS hx hb hown (hts _ q881) (hE.1.1 11 _ mm_cX14).2 (mm_recv hE hM mm_cX14 (hexB.at hbC)) dX10_of_2_13 ?_
      refine lv_astore_n hx hb dX10_of_2_16 rfl hl (by decide) rfl (fun ls hl => ?_)
      replace hl : lv_has ls 4 [(3, .ref b1), (2, .ref b1), (0, .ref rk), (1, .ref a)] := hl
      refine mm_new (D := Z.1) (ci := 11) (fs := mm_f0X14) (C := RX14) (T := TX14) (N := 3) hx hb hts in_X14 tyX14 tyX14_ok hown (hts _ q881) (hts _ q882) (hts _ q81) hE.1 hM hS hA mm_cX14 mm_dfX14 (by (try dsimp only); omega) (by (try dsimp only); omega) dX10_of_2_17 (fun q_2 H nq_1 hM hS => ?_)
      have hM : mm_P Z.1 mm_cl A (mm_U M q_2 (.inr (11, [.int 0, .null, .null]))) H := hM
      have ne_3 : rk ≠ q_2 := (mm_neN hrk nq_1)
      have ne_4 : b1 ≠ q_2 := (mm_neN (hexB.at hbC) nq_1)
      have hc_5 : (mm_U M q_2 (.inr (11, [.int 0, .null, .null]))) q_2 = some (.inr (11, [.int 0, .null, .null])) := mm_U_eq
      have hc_6 : (mm_U M q_2 (.inr (11, [.int 0, .null, .null]))) rk = some (.inr (8, [.ref (q 0), .ref (q 1), .ref (q 2), .ref (q 3), .int lv])) := (mm_U_ne ne_3).trans hrk
      have hc_7 : (mm_U M q_2 (.inr (11, [.int 0, .null, .null]))) b1 = some (.inr (11, [.int (nI k1), .ref ty1, .ref rs1])) := (mm_U_ne ne_4).trans (hexB.at hbC)
      obtain ⟨M_8, eM_8⟩ : ∃ z, z = mm_U M q_2 (.inr (11, [.int 0, .null, .null])) := ⟨_, rfl⟩
      rw [← eM_8] at hM hc_6 hc_7 hc_5
      have hex1 : mm_Ext M M_8 := by subst eM_8; exact mm_Ext.U nq_1
      have hN0 := hN.ext hex1
      obtain ⟨hqnw, hqrk, hqB⟩ := hN.nrk nq_1
      have hq1 := hc_5
      refine lv_dup hx hb dX10_of_2_20 rfl ?_
      refine lv_aload_n hx hb dX10_of_2_21 rfl (lv_at hl 0 rfl) ?_
      refine va_getN (D := Z.1) (ci := 11) (v := .int (nI k1)) (C := RX14) (T := TX14) (N := 3) hx hb hts in_X14 hown hE.1 (hM.at hc_7) 0 rfl mm_cX14 0 (by decide) (va_Nw.use rfl (hE.2.1 _ q892 rfl)) (fun _ h9 => h9) rfl dX10_of_2_22 ?_
      refine lv_aload_n hx hb dX10_of_2_25 rfl (lv_at hl 2 rfl) ?_
      refine lv_aload_n hx hb dX10_of_2_26 rfl (lv_at hl 0 rfl) ?_
      refine va_getN (D := Z.1) (ci := 11) (v := .ref ty1) (C := RX14) (T := TX14) (N := 3) hx hb hts in_X14 hown hE.1 (hM.at hc_7) 0 rfl mm_cX14 1 (by decide) (va_Nw.use rfl (hE.2.1 _ q897 rfl)) (fun _ h9 => h9) rfl dX10_of_2_27 ?_
      refine mm_callVD (As := [.ref ty1]) (rest := [.int (nI k1), .ref q_2, .ref q_2]) ⟨hx, hb, hml, hown, hts⟩ hE hST hA (ihT (uap S.2.1 x1) x1 ty1 _ B ar cp co cr nw (by omega) rfl hww.1 (fun v hv => hgen v (by rw [hor, hv]; rfl)) hN0 hx1) (cwV 1 hts (lw_V q832 q702 q703 q76 q704) rfl rfl rfl (by decide +kernel) ⟨(by (try dsimp only); omega), (by (try dsimp only); omega)⟩) hM hS mm_cX10 hc_6 rfl hl.1 (Nat.le_of_ble_eq_true rfl) dX10_of_2_30 rfl ⟨(by (try dsimp only); omega), (by (try dsimp only); omega)⟩ (fun _ _ _ _ _ _ h9 => h9.elim) (fun v_9 M_10 n_12 k_13 H locs hp_11 hM hS => ?_)
      obtain ⟨a1, B1, ar1, cp1, co1, cr1, nw1, rfl, hN1, hY1, hns1, hcs1, hnw1, hle1, hn1, hk1, hsz1, hK1⟩ := hp_11
      have hrk1 := hN1.2.1.2
      have hleg1 := hN1.le
      obtain ⟨hc01, hc11, hc21, hc31⟩ := hN1.caps
      have hq2 := hns1 _ _ _ hqB hq1 (by decide)
      have hqB1 := hY1.1 _ hqB
      have hbC2 := hN1.1.1.at (hY1.atC hbC (by decide))
      have hrB1 := tp.monoT hY1.T (fun _ h => h) (fun _ _ => rfl) (Nat.le_refl _) _ _ _ hr1
      refine lv_aload_n hx hb dX10_of_2_33 rfl (lv_at hl 2 rfl) ?_
      refine lv_aload_n hx hb dX10_of_2_34 rfl (lv_at hl 0 rfl) ?_
      refine va_getN (D := Z.1) (ci := 11) (v := .ref rs1) (C := RX14) (T := TX14) (N := 3) hx hb hts in_X14 hown hE.1 (hM.at hbC2) 0 rfl mm_cX14 2 (by decide) (va_Nw.use rfl (hE.2.1 _ q901 rfl)) (fun _ h9 => h9) rfl dX10_of_2_35 ?_
      refine mm_callVD (As := [.ref rs1]) (rest := [.ref a1, .int (nI k1), .ref q_2, .ref q_2]) ⟨hx, hb, hml, hown, hts⟩ hE hST hA (ihR (uap S.2.1 r1) r1 rs1 _ B1 ar1 cp1 co1 cr1 nw1 (by omega) rfl hww.2 (fun v hv => hgen v (by rw [hor, hv, Bool.or_true])) hN1 hrB1) (cwV 1 hts (lw_V q867 q868 q869 q76 q870) rfl rfl rfl (by decide +kernel) ⟨(by (try dsimp only); omega), (by (try dsimp only); omega)⟩) hM hS mm_cX10 hrk1 rfl hl.1 (Nat.le_of_ble_eq_true rfl) dX10_of_2_38 rfl ⟨(by (try dsimp only); omega), (by (try dsimp only); omega)⟩ (fun _ _ _ _ _ _ h9 => h9.elim) (fun v_14 M_15 n_17 k_18 H locs hp_16 hM hS => ?_)
      obtain ⟨a2, B2, ar2, cp2, co2, cr2, nw2, rfl, hN2, hY2, hns2, hcs2, hnw2, hle2, hn2, hk2, hsz2, hK2⟩ := hp_16
      have hrk2 := hN2.2.1.2
      have hleg2 := hN2.le
      obtain ⟨hc02, hc12, hc22, hc32⟩ := hN2.caps
      have hq3 := hns2 _ _ _ hqB1 hq2 (by decide)
      have hqB2 := hY2.1 _ hqB1
      refine mm_callI (As := [.int (nI k1), .ref a1, .ref a2]) (rest := [.ref q_2]) ⟨hx, hb, hml, hown, hts⟩ hE hST hA (c_X14_init l Z (M := M_15) (h0 := q_2) (x1 := (nI k1)) (x2 := (some a1)) (x3 := (some a2)) hq3) (cwI (maxL := 4) 3 hts (lw_meth q885) rfl rfl rfl (hts _ q81) (hts _ q883) (hts _ q884) rfl (by decide +kernel) ⟨(by (try dsimp only); omega), (by (try dsimp only); omega)⟩) hM hS rfl hl.1 (Nat.le_of_ble_eq_true rfl) dX10_of_2_41 rfl ⟨(by (try dsimp only); omega), (by (try dsimp only); omega)⟩ (fun _ _ _ _ _ _ h9 => h9.elim) (fun v_19 M_20 H locs hp_21 hM hS => ?_)
      obtain ⟨rfl, eM_20⟩ := hp_21
      rw [eM_20] at hM
      replace hM : mm_P Z.1 mm_cl A (mm_U M_15 q_2 (.inr (11, [.int (nI k1), .ref a1, .ref a2]))) H := hM
      have hc_22 : (mm_U M_15 q_2 (.inr (11, [.int (nI k1), .ref a1, .ref a2]))) q_2 = some (.inr (11, [.int (nI k1), .ref a1, .ref a2])) := mm_U_eq
      have hc_23 : (mm_U M_15 q_2 (.inr (11, [.int (nI k1), .ref a1, .ref a2]))) rk = some (.inr (8, [.ref (q 0), .ref (q 1), .ref (q 2), .ref (q 3), .int lv])) := (mm_U_ne ne_3).trans hrk2
      obtain ⟨M_24, eM_24⟩ : ∃ z, z = mm_U M_15 q_2 (.inr (11, [.int (nI k1), .ref a1, .ref a2])) := ⟨_, rfl⟩
      rw [← eM_24] at hM hc_23 hc_22
      have hqn2 : q_2 ∉ nw2 := fun hx => by
        rcases (hN2.2.2.2.2.2.1.2 _ hx).2 with ⟨p, hp, e⟩ | ⟨t9, k3, ⟨f7, g7, k4⟩ | ⟨iv7, w7, k4⟩⟩
        · rcases List.mem_append.1 hp with hp | hp
          · obtain ⟨-, -, -, k⟩ := hN2.2.2.2.1.1 p hp; rw [e, hq3] at k; simp at k
          · obtain ⟨-, -, -, k⟩ := hN2.2.2.2.1.2 p hp; rw [e, hq3] at k; simp at k
        · rw [hq3] at k4; simp at k4
        · rw [hq3] at k4; simp at k4
      obtain ⟨hN4, hT34⟩ := hN2.fill hq3 hqB2 hqn2 hqrk eM_24
      obtain ⟨t1', hR1, hS1, hG1⟩ := hK1
      obtain ⟨t2', hR2, hS2, hG2⟩ := hK2
      have hT23 : uT M_10 M_15 := hns2.T' hN1.1.1 hY2 hN2.1.1
      have hRn : RPt Z M_24 L vr S.1 gl nw2 (co2 ++ cr2) (.add (.pow t1' k1) t2') true q_2 := fun vr9 h1 h2 => by
        simp only [tp]
        exact ⟨a1, a2, hk10, hc_22, ((hR1.mono hT23 hnw2 hcs2).mono hT34 (fun _ h => h) (fun _ h => h)) vr9 h1 h2, (hR2.mono hT34 (fun _ h => h) (fun _ h => h)) vr9 h1 h2⟩
      have hsee : uap S.2.1 (.add (.pow t1' k1) t2') = uap (uth gl S.1) T := by rw [eT, uap_ins]; simp only [uap]; rw [hS1, hS2]
      have hns04 : uNS B M M_24 := fun z ci fs hz hm hc => by
        have hzq : z ≠ q_2 := fun e => by rw [e, nq_1] at hm; cases hm
        rw [eM_24, mm_U_ne hzq]; exact hns2 z ci fs (hY1.1 _ hz) (hns1 z ci fs hz (hex1.at hm) hc) hc
      refine mm_retaD hx hb hr (Or.inl ⟨_, rfl⟩) (Or.inr ⟨_, rfl⟩) hlk hM hS ⟨q_2, B2, ar2, cp2, co2, cr2, nw2, rfl, hN4, hY1.trans hY2, hns04, fun p hp => hcs2 p (hcs1 p hp), fun z hz => hnw2 z (hnw1 z hz), Nat.le_trans hle1 hle2, by (try dsimp only); omega, by (try dsimp only); omega, fun b' hb' t9 ht9 hs9 => ?_, _, hRn, hsee, fun g9 hg9 ho => ?_⟩ dX10_of_2_44 (by (try dsimp only); omega) (by (try dsimp only); omega)
      · rw [hsz2 b' hb' t9 (tp.monoT hY1.T (fun _ h => h) (fun _ _ => rfl) (Nat.le_refl _) _ _ _ ht9) (by omega), hsz1 b' hb' t9 ht9 (by omega)]
      · rw [hor, Bool.or_eq_true] at ho
        rcases ho with ho | ho
        · obtain ⟨z, hz⟩ := hG1 g9 hg9 ho; exact ⟨z, hcs2 _ hz⟩
        · exact hG2 g9 hg9 ho
