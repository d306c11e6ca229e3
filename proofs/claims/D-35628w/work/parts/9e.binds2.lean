/-! ===== the model: binds ===== -/
set_option maxRecDepth 100000
theorem mL.nextA {mark : Int64} {M M' : mm_M} (h : mL mark M M') {z : Nat} (hz : M z ≠ none) : mnext M' z = mnext M z := by
  cases he : M z with
  | none => exact absurd he hz
  | some e =>
    rcases h z e he with k1 | ⟨k2, is2, fr2, to2, rw2, cm2, sn2, cp2, cm3, sn3, cp3, e9, k1, -⟩ | ⟨is2, lk2, cm2, cm3, e9, k1⟩
    · unfold mnext; rw [k1, he]
    · subst e9; rw [mnext_t k1, mnext_t he]
    · subst e9; rw [mnext_r k1, mnext_r he]
theorem mCI.lev {M : mm_M} {L : List Nat} {vr : Nat → Nat} {D : Nat → Bool} {S S' : ts} (hC : mCI M L vr D S) (h1 : S'.1 = S.1) (h2 : S'.2.1 = S.2.1) (h3 : S'.2.2.1 = S.2.2.1) (h4 : S'.2.2.2.1 = S.2.2.2.1) : mCI M L vr D S' :=
  hC.light (mark := 0) (mL.rf M) h1 h2 (fun v hD => by rw [h3, h4]; exact (hC.2.1 v hD).2)
theorem mCI.likeT {M : mm_M} {L : List Nat} {vr : Nat → Nat} {D : Nat → Bool} {S : ts} (hC : mCI M L vr D S) {v : Nat} (hD : D v = true) {k : Int32} {is fr to rw cp : Option Nat} {cm : Bool} {sn : Int64} (h : M (vr v) = some (mt_E k is fr to rw cm sn cp)) : cm = S.2.2.1 v ∧ (is = none ↔ S.2.1 v = .var v) := by
  rcases (hC.2.1 v hD).2 with ⟨is, sn, cp, h1, h2⟩ | ⟨is, h1, h2⟩
  · rw [h] at h1; obtain ⟨-, rfl, -, -, -, rfl, -⟩ := mt_inj (Option.some.inj h1); exact ⟨rfl, h2⟩
  · rw [h] at h1; exact absurd (Option.some.inj h1) mt_ne_mr
theorem mCI.likeR {M : mm_M} {L : List Nat} {vr : Nat → Nat} {D : Nat → Bool} {S : ts} (hC : mCI M L vr D S) {v : Nat} (hD : D v = true) {k lb lk : Int32} {is ty rs : Option Nat} {cm : Bool} (h : M (vr v) = some (mr_E k is lb ty rs lk cm)) : cm = S.2.2.1 v ∧ lk = S.2.2.2.1 v ∧ (is = none ↔ S.2.1 v = .var v) := by
  rcases (hC.2.1 v hD).2 with ⟨is, sn, cp, h1, h2⟩ | ⟨is, h1, h2⟩
  · rw [h] at h1; exact absurd (Option.some.inj h1).symm mt_ne_mr
  · rw [h] at h1; obtain ⟨-, rfl, -, -, -, rfl, rfl⟩ := mr_inj (Option.some.inj h1); exact ⟨rfl, rfl, h2⟩
theorem mK.putT {M : mm_M} {a : Nat} {k : Int32} {is is' fr to rw cp cp' : Option Nat} {cm cm' : Bool} {sn sn' : Int64} (h : M a = some (mt_E k is fr to rw cm sn cp)) : mK M (mm_U M a (mt_E k is' fr to rw cm' sn' cp')) := fun q e he => by
  by_cases hq : q = a
  · subst hq; rw [h] at he; cases he; exact Or.inr (Or.inl ⟨_, _, _, _, _, _, _, _, _, _, _, _, rfl, mm_U_eq⟩)
  · exact Or.inl ((mm_U_ne hq).trans he)
theorem mK.putR {M : mm_M} {a : Nat} {is is' : Option Nat} {lk : Int32} {cm cm' : Bool} (h : M a = some (mr_E 0 is 0 none none lk cm)) : mK M (mm_U M a (mr_E 0 is' 0 none none lk cm')) := fun q e he => by
  by_cases hq : q = a
  · subst hq; rw [h] at he; cases he; exact Or.inr (Or.inr (Or.inl ⟨_, _, _, _, _, rfl, mm_U_eq⟩))
  · exact Or.inl ((mm_U_ne hq).trans he)

set_option maxHeartbeats 4000000 in
set_option maxRecDepth 100000 in
theorem d_X2_binds (l : Launch) (Z : mm_G) {M : mm_M} {md kd wh f1 f2 f3 wg pl : Nat} {tm ea sp th ak wr tk : Int32} {rt : Option Nat} {fa : Bool} {k : Nat} {L : List Nat} {vr : Nat → Nat} {D : Nat → Bool} {S : ts} {t T : ev} {v a : Nat} {sn : Int64} {cp : Option Nat} (hmd : M md = some (md_E tm kd wh f1 f2 f3 wg ea sp rt th ak wr pl tk fa (nJ k))) (hSt : mSt M L k) (hk : k + 2 < 2 ^ 62) (hT : uap S.2.1 t = T) (hC : mCI M L vr D S) (hv : D v = true) (hvO : M (vr v) = some (mt_E 0 none none none none (S.2.2.1 v) sn cp)) (htp : mtp M L vr D t false a) (hna : mnext M a = none) : mm_D l Z yX2_binds (ws_ yX2_binds cX2_binds 3 none) { frames := 2 * uh T + 10, cells := 1, slots := 8, locals := 30 * uh T + 400 } [.ref md, .ref (vr v), .ref a] M (fun v9 M' n9 k9 => v9 = none ∧ n9 = 0 ∧ k9 = 0 ∧ ∃ S' k', tBind S v T = .inr S' ∧ mK M M' ∧ mCI M' L vr D S' ∧ S'.1 = S.1 ∧ mPhi M' L + 1 = mPhi M L ∧ (∀ z, M z ≠ none → z ≠ vr v → mnext M' z = mnext M z) ∧ mPd D S S' ∧ k' ≤ k + 2 ∧ M' md = some (md_E tm kd wh f1 f2 f3 wg ea sp rt th ak wr pl tk fa (nJ k')) ∧ mSt M' L k') (fun E q M' => ∃ er, tBind S v T = .inl er ∧ mX M er E q M') := by
  refine mm_ofWD (cc := cX2_binds) (maxL := 3) (ret := none) (by decide) rfl (Nat.le_of_ble_eq_true rfl) ?_
  intro p e s m below meth c A ls hx hb hr hlk hml hown hmn hts htab hE hST hA hM hS hl
  replace hl : lv_has ls 3 [(0, .ref md), (1, .ref (vr v)), (2, .ref a)] := hl
  have hvmd : vr v ≠ md := fun e => by rw [e, hmd] at hvO; exact absurd (Prod.mk.inj (Sum.inr.inj (Option.some.inj hvO))).1 (by decide)
  refine lv_aload_n hx hb dX2_binds_0 rfl (lv_at hl 1 rfl) ?_
  refine lv_null hx hb dX2_binds_1 ?_
  refine lv_aload_n hx hb dX2_binds_2 rfl (lv_at hl 2 rfl) ?_
  refine lv_aload_n hx hb dX2_binds_3 rfl (lv_at hl 0 rfl) ?_
  refine mm_callV (As := []) (rest := [.ref a, .null, .ref (vr v)]) ⟨hx, hb, hml, hown, hts⟩ hE hST hA (c_X2_nextStamp l Z (f0 := tm) (f1 := some kd) (f2 := some wh) (f3 := some f1) (f4 := some f2) (f5 := some f3) (f6 := some wg) (f7 := ea) (f8 := sp) (f9 := rt) (f10 := th) (f11 := ak) (f12 := wr) (f13 := some pl) (f14 := tk) (f15 := fa) (f16 := nJ k) hmd) (cwV 0 hts (lw_V q2563 q2565 qs37 q54 q2566) rfl rfl rfl (by decide +kernel) ⟨(by (try dsimp only); omega), (by (try dsimp only); omega)⟩) hM hS mm_cX2 hmd rfl hl.1 (Nat.le_of_ble_eq_true rfl) dX2_binds_4 rfl ⟨(by (try dsimp only); omega), (by (try dsimp only); omega)⟩ (fun _ _ _ _ _ _ h9 => h9.elim) (fun v_1 M_2 H locs hp_3 hM hS => ?_)
  obtain ⟨rfl, eM_2⟩ := hp_3
  rw [nJ_1] at eM_2
  rw [nJ_1]
  have hs_4K : mK M M_2 := by rw [eM_2]; exact mK.putM hmd
  have hs_4C : mCI M_2 L vr D S := by rw [eM_2]; exact mCI.putM hC hmd
  have hs_4S : mSt M_2 L k := by rw [eM_2]; exact mSt.putM hSt hmd
  have hs_4M : M_2 md = some (md_E tm kd wh f1 f2 f3 wg ea sp rt th ak wr pl tk fa (nJ (k + 1))) := by rw [eM_2]; exact mm_U_eq
  have hs_4q : ∀ q, q ≠ md → M_2 q = M q := fun q h => by rw [eM_2]; exact mm_U_ne h
  have hs_4N : ∀ z, mnext M_2 z = mnext M z := fun z => by
    unfold mnext
    by_cases h : z = md
    · rw [h, hmd, hs_4M]; rfl
    · rw [hs_4q z h]
  have hvO1 := (hs_4q (vr v) hvmd).trans hvO
  have htp1 : mtp M_2 L vr D t false a := mtp.mono hs_4K (fun _ h => h) (fun _ h => ⟨h, rfl⟩) _ _ _ htp
  refine mm_callS (As := [.ref (vr v), .null, .ref a, .long (nJ (k + 1))]) (rest := []) ⟨hx, hb, hml, hown, hts⟩ hE hST hA ((c_isWithin l Z L vr D S v false (nJ (k + 1)) _).1 T t a _ (Nat.lt_succ_self _) hT hv ⟨fun _ => ⟨_, _, _, _, hvO1⟩, fun h9 => by cases h9⟩ hs_4C htp1 (fun b hb hm => (hs_4S.no (by omega) hb hm).elim)) (va_cwS 4 hts (lw_S q2662 q2663 q54 q2664) rfl rfl rfl (by decide +kernel) ⟨(by (try dsimp only); omega), (by (try dsimp only); omega)⟩) hM hS rfl hl.1 (Nat.le_of_ble_eq_true rfl) dX2_binds_7 rfl ⟨(by (try dsimp only); omega), (by (try dsimp only); omega)⟩ (fun _ _ _ _ _ _ h9 => h9.elim) (fun v_5 M_6 H locs hp_7 hM hS => ?_)
  obtain ⟨rfl, hS2, hw2⟩ := hp_7
  have hC2 := hs_4C.seen hS2
  have hSt2 := hs_4S.light hs_4C hS2.L (by omega)
  have hmd2 := hS2.atC hs_4M (by decide)
  obtain ⟨sn2, hv2, -⟩ := hS2.t (k := 0) (is := none) (fr := none) (to := none) (rw := none) (cm := S.2.2.1 v) (sn := sn) (cp := cp) hvO1
  have htp2 := htp1.light hS2.L
  refine lv_if_eq (tgt := 22) hx hb dX2_binds_10 (by decide) (fun c_8 => ?_) (fun c_8 => ?_)
  · skip
    have hoc : uoc v T = false := (mm_b_0 _).1 c_8
    have hmda : a ≠ md := fun e => by obtain ⟨-, k9, is9, fr9, to9, rw9, cm9, sn9, cp9, hq9⟩ := htp.cellT; rw [e, hmd] at hq9; exact absurd (Prod.mk.inj (Sum.inr.inj (Option.some.inj hq9))).1 (by decide)
    have hna2 : mnext M_6 a = none := by rw [hS2.L.next htp1]; unfold mnext; rw [hs_4q a hmda]; exact hna
    have hph2 : mPhi M_6 L = mPhi M L := by rw [hS2.L.phi hs_4C.2.2.1]; unfold mPhi; exact List.countP_congr fun q hq => by obtain ⟨m9, t9, h9⟩ := hC.2.2.1 q hq; have hqm : q ≠ md := fun e => (by rw [e] at h9; cases m9 with | false => (obtain ⟨-, k9, is9, fr9, to9, rw9, cm9, sn9, cp9, hq9⟩ := h9.cellT; rw [hmd] at hq9; exact absurd (Prod.mk.inj (Sum.inr.inj (Option.some.inj hq9))).1 (by decide)) | true => (obtain ⟨k9, is9, lb9, ty9, rs9, lk9, cm9, hq9, -⟩ := h9.cellR; rw [hmd] at hq9; exact absurd (Prod.mk.inj (Sum.inr.inj (Option.some.inj hq9))).1 (by decide))); unfold mnext; rw [hs_4q q hqm]
    have hnx2 : ∀ z, M z ≠ none → mnext M_6 z = mnext M z := fun z hz => by rw [← hs_4N z]; exact hS2.L.nextA (hs_4K.hasN hz)
    refine lv_aload_n hx hb dX2_binds_22 rfl (lv_at hl 1 rfl) ?_
    refine va_get (D := Z.1) (ci := 20) (v := .int (mm_b (S.2.2.1 v))) (C := RX25) (T := TX25) (N := 8) hx hb hts in_X25 hown hE.1 (hM.at hv2) 0 rfl mm_cX25 5 (by decide) (hts _ q2510) (fun _ h9 => h9) rfl dX2_binds_23 ?_
    refine lv_if_eq (tgt := 37) hx hb dX2_binds_26 (by decide) (fun c_9 => ?_) (fun c_9 => ?_)
    · skip
      have hlk9 : S.2.2.1 v = false := (mm_b_0 _).1 c_9
      refine lv_aload_n hx hb dX2_binds_37 rfl (lv_at hl 1 rfl) ?_
      refine lv_aload_n hx hb dX2_binds_38 rfl (lv_at hl 2 rfl) ?_
      refine mm_put (D := Z.1) (ci := 20) (v := .ref a) (ty := .object "RowenTongueModel$Type") (C := RX25) (T := TX25) (N := 8) hx hb hts in_X25 tyX25 tyX25_ok nmX25 hown hE.1 hM hS hv2 mm_cX25 1 (by decide) (hts _ q2506) (fun _ h9 => h9) rfl (by decide +kernel) rfl rfl (Nat.le_of_ble_eq_true rfl) dX2_binds_39 (fun H locs hM hS => ?_)
      have hM : mm_P Z.1 mm_cl A (mm_U M_6 (vr v) (.inr (20, [.int 0, .ref a, .null, .null, .null, .int (mm_b (S.2.2.1 v)), .long sn2, va_rf cp]))) H := hM
      have hc_10 : (mm_U M_6 (vr v) (.inr (20, [.int 0, .ref a, .null, .null, .null, .int (mm_b (S.2.2.1 v)), .long sn2, va_rf cp]))) (vr v) = some (.inr (20, [.int 0, .ref a, .null, .null, .null, .int (mm_b (S.2.2.1 v)), .long sn2, va_rf cp])) := mm_U_eq
      have hc_11 : (mm_U M_6 (vr v) (.inr (20, [.int 0, .ref a, .null, .null, .null, .int (mm_b (S.2.2.1 v)), .long sn2, va_rf cp]))) md = some (.inr (1, [.int tm, .ref kd, .ref wh, .ref f1, .ref f2, .ref f3, .ref wg, .int ea, .int sp, va_rf rt, .int th, .int ak, .int wr, .ref pl, .int tk, .int (mm_b fa), .long (nJ (k + 1))])) := (mm_U_ne (mm_neC hmd2 hv2 (by decide))).trans hmd2
      obtain ⟨M_12, eM_12⟩ : ∃ z, z = mm_U M_6 (vr v) (.inr (20, [.int 0, .ref a, .null, .null, .null, .int (mm_b (S.2.2.1 v)), .long sn2, va_rf cp])) := ⟨_, rfl⟩
      rw [← eM_12] at hM hc_11 hc_10
      have hK6 : mK M_6 M_12 := by rw [eM_12]; exact mK.putT (is' := some a) (cm' := (S.2.2.1 v)) (sn' := sn2) (cp' := cp) hv2
      have hq6 : ∀ q, q ≠ vr v → M_12 q = M_6 q := fun q hq => by rw [eM_12]; exact mm_U_ne hq
      obtain ⟨hC6, hph6⟩ := hC2.put hK6 hv hq6 (mnext_t hv2) hna2 (m := false) (t' := t) (mtp_varT hv (hC.2.1 v hv).1 hv2) htp2 (by show uoc v (uap S.2.1 t) = false; rw [hT]; exact hoc) (Or.inl ⟨_, _, _, hv2, by rw [eM_12]; exact mm_U_eq⟩)
      replace hC6 : mCI M_12 L vr D (ts_put S v (uap S.2.1 t)) := hC6
      have hmd6 := hc_11
      have hSt6 : mSt M_12 L (k + 1) := by rw [eM_12]; exact mSt.put (is' := some a) (cm' := (S.2.2.1 v)) hSt2 hv2
      exact mm_retvD hx hb hr hlk hM hS ⟨rfl, rfl, rfl, (ts_put (ts_lev S (S.2.2.2.2 v) T) v T), k + 1, by unfold tBind; simp [hoc, hlk9], (hs_4K.trans hS2.L.K).trans hK6, by rw [hT] at hC6; exact hC6.lev rfl rfl rfl rfl, rfl, by omega, fun z hz hzv => (by unfold mnext; rw [hq6 z hzv]; exact hnx2 z hz), (mPd.put hv : mPd D S (ts_put S v T)), by omega, hmd6, hSt6⟩ dX2_binds_42 (by (try dsimp only); omega) (by (try dsimp only); omega)
    · skip
      have hlk9 : S.2.2.1 v = true := by cases h8 : S.2.2.1 v with | true => rfl | false => exact absurd ((mm_b_0 _).2 h8) c_9
      refine lv_aload_n hx hb dX2_binds_29 rfl (lv_at hl 2 rfl) ?_
      refine lv_aload_n hx hb dX2_binds_30 rfl (lv_at hl 0 rfl) ?_
      refine mm_callV (As := []) (rest := [.ref a]) ⟨hx, hb, hml, hown, hts⟩ hE hST hA (c_X2_nextStamp l Z (f0 := tm) (f1 := some kd) (f2 := some wh) (f3 := some f1) (f4 := some f2) (f5 := some f3) (f6 := some wg) (f7 := ea) (f8 := sp) (f9 := rt) (f10 := th) (f11 := ak) (f12 := wr) (f13 := some pl) (f14 := tk) (f15 := fa) (f16 := nJ (k + 1)) hmd2) (cwV 0 hts (lw_V q2563 q2565 qs37 q54 q2566) rfl rfl rfl (by decide +kernel) ⟨(by (try dsimp only); omega), (by (try dsimp only); omega)⟩) hM hS mm_cX2 hmd2 rfl hl.1 (Nat.le_of_ble_eq_true rfl) dX2_binds_31 rfl ⟨(by (try dsimp only); omega), (by (try dsimp only); omega)⟩ (fun _ _ _ _ _ _ h9 => h9.elim) (fun v_10 M_11 H locs hp_12 hM hS => ?_)
      obtain ⟨rfl, eM_11⟩ := hp_12
      rw [nJ_1] at eM_11
      rw [nJ_1]
      have hs_13K : mK M_6 M_11 := by rw [eM_11]; exact mK.putM hmd2
      have hs_13C : mCI M_11 L vr D S := by rw [eM_11]; exact mCI.putM hC2 hmd2
      have hs_13S : mSt M_11 L (k + 1) := by rw [eM_11]; exact mSt.putM hSt2 hmd2
      have hs_13M : M_11 md = some (md_E tm kd wh f1 f2 f3 wg ea sp rt th ak wr pl tk fa (nJ ((k + 1) + 1))) := by rw [eM_11]; exact mm_U_eq
      have hs_13q : ∀ q, q ≠ md → M_11 q = M_6 q := fun q h => by rw [eM_11]; exact mm_U_ne h
      have hs_13N : ∀ z, mnext M_11 z = mnext M_6 z := fun z => by
        unfold mnext
        by_cases h : z = md
        · rw [h, hmd2, hs_13M]; rfl
        · rw [hs_13q z h]
      have hv3 := (hs_13q (vr v) hvmd).trans hv2
      have htp3 : mtp M_11 L vr D t false a := mtp.mono hs_13K (fun _ h => h) (fun _ h => ⟨h, rfl⟩) _ _ _ htp2
      have hnx3 : ∀ z, M z ≠ none → mnext M_11 z = mnext M z := fun z hz => by rw [← hnx2 z hz]; exact hs_13N z
      refine mm_callSD (As := [.ref a, .long (nJ ((k + 1) + 1))]) (rest := []) ⟨hx, hb, hml, hown, hts⟩ hE hST hA (c_compares l Z L vr D (nJ (k + 1 + 1)) _ T t a _ S (Nat.lt_succ_self _) hT hs_13C htp3 (fun b hb hm => (hs_13S.no (by omega) hb hm).elim)) (va_cwS 2 hts (lw_S q2668 q2669 q54 q2670) rfl rfl rfl (by decide +kernel) ⟨(by (try dsimp only); omega), (by (try dsimp only); omega)⟩) hM hS rfl hl.1 (Nat.le_of_ble_eq_true rfl) dX2_binds_34 rfl ⟨(by (try dsimp only); omega), (by (try dsimp only); omega)⟩ (fun E ce q M9 H1 locs1 hp9 hM9 hS9 hce hcv hcl => by exact mm_outxD htab hlk hM9 hS9 hce hcv hcl ⟨5, by unfold tBind tLike; simp [hoc, hlk9, hp9.1], hp9.2.after ((hs_4K.trans hS2.L.K).trans hs_13K)⟩ (by (try dsimp only); omega) (by (try dsimp only); omega)) (fun v_14 M_15 n_17 k_18 H locs hp_16 hM hS => ?_)
      obtain ⟨rfl, rfl, rfl, hhf, hL4, hC4, -⟩ := hp_16
      have hSt4 := hs_13S.light hs_13C hL4 (by omega)
      have hmd4 := hL4.atC hs_13M (by decide)
      obtain ⟨cm4, sn4, cp4, hv4, -⟩ := hL4.t (k := 0) (is := none) (fr := none) (to := none) (rw := none) (cm := S.2.2.1 v) (sn := sn2) (cp := cp) hv3
      have htp4 := htp3.light hL4
      have hnx4 : ∀ z, M z ≠ none → mnext M_15 z = mnext M z := fun z hz => by rw [← hnx3 z hz]; exact hL4.nextA (((hs_4K.trans hS2.L.K).trans hs_13K).hasN hz)
      have hph4 : mPhi M_15 L = mPhi M L := by unfold mPhi; exact List.countP_congr fun q hq => by obtain ⟨m9, t9, h9⟩ := hC.2.2.1 q hq; rw [hnx4 q (by cases m9 with | false => (obtain ⟨-, k9, is9, fr9, to9, rw9, cm9, sn9, cp9, hq9⟩ := h9.cellT; rw [hq9]; exact fun e => by cases e) | true => (obtain ⟨k9, is9, lb9, ty9, rs9, lk9, cm9, hq9, -⟩ := h9.cellR; rw [hq9]; exact fun e => by cases e))]
      have hna4 : mnext M_15 a = none := by rw [hnx4 a (by obtain ⟨-, k9, is9, fr9, to9, rw9, cm9, sn9, cp9, hq9⟩ := htp.cellT; rw [hq9]; exact fun e => by cases e)]; exact hna
      refine lv_aload_n hx hb dX2_binds_37 rfl (lv_at hl 1 rfl) ?_
      refine lv_aload_n hx hb dX2_binds_38 rfl (lv_at hl 2 rfl) ?_
      refine mm_put (D := Z.1) (ci := 20) (v := .ref a) (ty := .object "RowenTongueModel$Type") (C := RX25) (T := TX25) (N := 8) hx hb hts in_X25 tyX25 tyX25_ok nmX25 hown hE.1 hM hS hv4 mm_cX25 1 (by decide) (hts _ q2506) (fun _ h9 => h9) rfl (by decide +kernel) rfl rfl (Nat.le_of_ble_eq_true rfl) dX2_binds_39 (fun H locs hM hS => ?_)
      have hM : mm_P Z.1 mm_cl A (mm_U M_15 (vr v) (.inr (20, [.int 0, .ref a, .null, .null, .null, .int (mm_b cm4), .long sn4, va_rf cp4]))) H := hM
      have hc_19 : (mm_U M_15 (vr v) (.inr (20, [.int 0, .ref a, .null, .null, .null, .int (mm_b cm4), .long sn4, va_rf cp4]))) (vr v) = some (.inr (20, [.int 0, .ref a, .null, .null, .null, .int (mm_b cm4), .long sn4, va_rf cp4])) := mm_U_eq
      have hc_20 : (mm_U M_15 (vr v) (.inr (20, [.int 0, .ref a, .null, .null, .null, .int (mm_b cm4), .long sn4, va_rf cp4]))) md = some (.inr (1, [.int tm, .ref kd, .ref wh, .ref f1, .ref f2, .ref f3, .ref wg, .int ea, .int sp, va_rf rt, .int th, .int ak, .int wr, .ref pl, .int tk, .int (mm_b fa), .long (nJ (k + 1 + 1))])) := (mm_U_ne (mm_neC hmd4 hv4 (by decide))).trans hmd4
      obtain ⟨M_21, eM_21⟩ : ∃ z, z = mm_U M_15 (vr v) (.inr (20, [.int 0, .ref a, .null, .null, .null, .int (mm_b cm4), .long sn4, va_rf cp4])) := ⟨_, rfl⟩
      rw [← eM_21] at hM hc_20 hc_19
      have hK6 : mK M_15 M_21 := by rw [eM_21]; exact mK.putT (is' := some a) (cm' := cm4) (sn' := sn4) (cp' := cp4) hv4
      have hq6 : ∀ q, q ≠ vr v → M_21 q = M_15 q := fun q hq => by rw [eM_21]; exact mm_U_ne hq
      obtain ⟨hC6, hph6⟩ := hC4.put hK6 hv hq6 (mnext_t hv4) hna4 (m := false) (t' := t) (mtp_varT hv (hC.2.1 v hv).1 hv4) htp4 (by show uoc v (uap S.2.1 t) = false; rw [hT]; exact hoc) (Or.inl ⟨_, _, _, hv4, by rw [eM_21]; exact mm_U_eq⟩)
      replace hC6 : mCI M_21 L vr D (ts_put (ts_like S T) v (uap S.2.1 t)) := hC6
      have hmd6 := hc_20
      have hSt6 : mSt M_21 L (k + 1 + 1) := by rw [eM_21]; exact mSt.put (is' := some a) (cm' := cm4) hSt4 hv4
      exact mm_retvD hx hb hr hlk hM hS ⟨rfl, rfl, rfl, (ts_like (ts_put (ts_lev S (S.2.2.2.2 v) T) v T) T), k + 1 + 1, by unfold tBind tLike; simp [hoc, hlk9, hhf], (((hs_4K.trans hS2.L.K).trans hs_13K).trans hL4.K).trans hK6, by rw [hT] at hC6; exact hC6.lev rfl rfl rfl rfl, rfl, by omega, fun z hz hzv => (by unfold mnext; rw [hq6 z hzv]; exact hnx4 z hz), (by have h1 := mPd.like hC htp; rw [hT] at h1; exact h1.trans (mPd.put (S := ts_like S T) (T := T) hv) (Nat.le_refl _)), by omega, hmd6, hSt6⟩ dX2_binds_42 (by (try dsimp only); omega) (by (try dsimp only); omega)
  · skip
    have hoc : uoc v T = true := by cases h8 : uoc v T with | true => rfl | false => exact absurd ((mm_b_0 _).2 h8) c_8
    refine mm_new (D := Z.1) (ci := 21) (fs := mm_f0X26) (C := RX26) (T := TX26) (N := 7) hx hb hts in_X26 tyX26 tyX26_ok hown (hts _ q2492) (hts _ q2530) (hts _ q99) hE.1 hM hS hA mm_cX26 mm_dfX26 (by (try dsimp only); omega) (by (try dsimp only); omega) dX2_binds_13 (fun q_10 H nq_9 hM hS => ?_)
    have hM : mm_P Z.1 mm_cl A (mm_U M_6 q_10 (.inr (21, [.null, .null, .null, .null, .null, .int 0, .int 0]))) H := hM
    have ne_11 : md ≠ q_10 := (mm_neN hmd2 nq_9)
    have ne_12 : (vr v) ≠ q_10 := (mm_neN hv2 nq_9)
    have hc_13 : (mm_U M_6 q_10 (.inr (21, [.null, .null, .null, .null, .null, .int 0, .int 0]))) q_10 = some (.inr (21, [.null, .null, .null, .null, .null, .int 0, .int 0])) := mm_U_eq
    have hc_14 : (mm_U M_6 q_10 (.inr (21, [.null, .null, .null, .null, .null, .int 0, .int 0]))) md = some (.inr (1, [.int tm, .ref kd, .ref wh, .ref f1, .ref f2, .ref f3, .ref wg, .int ea, .int sp, va_rf rt, .int th, .int ak, .int wr, .ref pl, .int tk, .int (mm_b fa), .long (nJ (k + 1))])) := (mm_U_ne ne_11).trans hmd2
    have hc_15 : (mm_U M_6 q_10 (.inr (21, [.null, .null, .null, .null, .null, .int 0, .int 0]))) (vr v) = some (.inr (20, [.int 0, .null, .null, .null, .null, .int (mm_b (S.2.2.1 v)), .long sn2, va_rf cp])) := (mm_U_ne ne_12).trans hv2
    obtain ⟨M_16, eM_16⟩ : ∃ z, z = mm_U M_6 q_10 (.inr (21, [.null, .null, .null, .null, .null, .int 0, .int 0])) := ⟨_, rfl⟩
    rw [← eM_16] at hM hc_14 hc_15 hc_13
    refine lv_dup hx hb dX2_binds_16 rfl ?_
    refine lv_iconst (v := 3) hx hb dX2_binds_17 (by decide) ?_
    refine mm_callI (As := [.int 3]) (rest := [.ref q_10]) ⟨hx, hb, hml, hown, hts⟩ hE hST hA (c_X26_init l Z (er := 3) hc_13) (cwI (maxL := 2) 1 hts (lw_meth q2540) rfl rfl rfl (hts _ q99) (hts _ q2538) (hts _ q2539) rfl (by decide +kernel) ⟨(by (try dsimp only); omega), (by (try dsimp only); omega)⟩) hM hS rfl hl.1 (Nat.le_of_ble_eq_true rfl) dX2_binds_18 rfl ⟨(by (try dsimp only); omega), (by (try dsimp only); omega)⟩ (fun _ _ _ _ _ _ h9 => h9.elim) (fun v_17 M_18 H locs hp_19 hM hS => ?_)
    obtain ⟨rfl, eM_18⟩ := hp_19
    rw [eM_18] at hM
    have hc_20 : (mm_U M_16 q_10 (.inr (21, [.null, .null, .null, .null, .null, .int 0, .int 3]))) q_10 = some (.inr (21, [.null, .null, .null, .null, .null, .int 0, .int 3])) := mm_U_eq
    have hc_21 : (mm_U M_16 q_10 (.inr (21, [.null, .null, .null, .null, .null, .int 0, .int 3]))) md = some (.inr (1, [.int tm, .ref kd, .ref wh, .ref f1, .ref f2, .ref f3, .ref wg, .int ea, .int sp, va_rf rt, .int th, .int ak, .int wr, .ref pl, .int tk, .int (mm_b fa), .long (nJ (k + 1))])) := (mm_U_ne ne_11).trans hc_14
    have hc_22 : (mm_U M_16 q_10 (.inr (21, [.null, .null, .null, .null, .null, .int 0, .int 3]))) (vr v) = some (.inr (20, [.int 0, .null, .null, .null, .null, .int (mm_b (S.2.2.1 v)), .long sn2, va_rf cp])) := (mm_U_ne ne_12).trans hc_15
    obtain ⟨M_23, eM_23⟩ : ∃ z, z = mm_U M_16 q_10 (.inr (21, [.null, .null, .null, .null, .null, .int 0, .int 3])) := ⟨_, rfl⟩
    rw [← eM_23] at hM hc_21 hc_22 hc_20
    exact mm_athrowD hx hb htab hlk hE hM hS hc_20 mm_cX26 ⟨3, by unfold tBind; rw [if_pos hoc], (mX.of ⟨rfl, nq_9, by subst eM_23 eM_16; simp only [mm_U_U]⟩).after (hs_4K.trans hS2.L.K)⟩ dX2_binds_21 (by (try dsimp only); omega) (by (try dsimp only); omega)
