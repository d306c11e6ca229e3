/-! ===== the model: endsRow, comparesAll ===== -/
set_option maxRecDepth 100000
theorem mS.atA {mark : Int64} {M M' : mm_M} {a : Nat} {x : ClassId × vp_A} (h : mS mark M M') (ha : M a = some (.inl x)) : M' a = some (.inl x) := by
  rcases h a _ ha with k1 | ⟨k2, is2, fr2, to2, rw2, cm2, sn2, cp2, sn3, e, -⟩
  · exact k1
  · cases e
theorem mL.atA {mark : Int64} {M M' : mm_M} {a : Nat} {x : ClassId × vp_A} (h : mL mark M M') (ha : M a = some (.inl x)) : M' a = some (.inl x) := by
  rcases h a _ ha with k1 | ⟨k2, is2, fr2, to2, rw2, cm2, sn2, cp2, cm3, sn3, cp3, e, -⟩ | ⟨is2, lk2, cm2, cm3, e, -⟩
  · exact k1
  · cases e
  · cases e
theorem mSt.putR {M : mm_M} {L : List Nat} {n a : Nat} {k lb lk k' lb' lk' : Int32} {is ty rs is' ty' rs' : Option Nat} {cm cm' : Bool} (h : mSt M L n) : mSt (mm_U M a (mr_E k' is' lb' ty' rs' lk' cm')) L n := h.eq fun b hb k2 is2 fr2 to2 rw2 cm2 sn2 cp2 h1 => by
  by_cases hba : b = a
  · subst hba
    rw [mm_U_eq] at h1
    exact absurd (Option.some.inj h1).symm mt_ne_mr
  · rw [mm_U_ne hba] at h1; exact ⟨_, _, _, _, _, _, _, h1⟩
theorem mtp_varV {M : mm_M} {L : List Nat} {vr : Nat → Nat} {D : Nat → Bool} {S : ts} (hC : mCI M L vr D S) {v : Nat} (hD : D v = true) {is : Option Nat} {lk : Int32} {cm : Bool} (h : M (vr v) = some (mr_E 0 is 0 none none lk cm)) : mtp M L vr D (.var v) true (vr v) := mtp_varR hD (hC.2.1 v hD).1 h

set_option maxHeartbeats 4000000 in
set_option maxRecDepth 100000 in
theorem d_X2_endsRow (l : Launch) (Z : mm_G) {M : mm_M} {md kd wh f1 f2 f3 wg pl : Nat} {tm ea sp th ak wr tk : Int32} {rt : Option Nat} {fa : Bool} {k : Nat} {L : List Nat} {vr : Nat → Nat} {D : Nat → Bool} {S : ts} {v q rb Hh : Nat} {st9 : Int32} {g : Nat → Option ev} {f : Nat → Option Nat} {er R9 : ev} (hmd : M md = some (md_E tm kd wh f1 f2 f3 wg ea sp rt th ak wr pl tk fa (nJ k))) (hSt : mSt M L k) (hk : k + 1 < 2 ^ 62) (hC : mCI M L vr D S) (hv : D v = true) (hvO : M (vr v) = some (mr_E 0 none 0 none none (S.2.2.2.1 v) (S.2.2.1 v))) (hqA : M q = some (ty_A Z f)) (hX : mXG M L vr D g f) (hset : ∀ l, l < 10 → uhs st9 l = true → g l ≠ none) (htp : mtp M L vr D er true rb) (hrb : mnext M rb = none) (hoe : uoc v (uap S.2.1 er) = false) (hR : uap S.2.1 R9 = uap S.2.1 (usome g st9 er 10)) (hH : ∀ l x, l < 10 → g l = some x → uh (uap S.2.1 x) ≤ Hh) : mm_D l Z yX2_endsRow (ws_ yX2_endsRow cX2_endsRow 8 none) { frames := 2 * Hh + 10, cells := 11, slots := 80, locals := 30 * Hh + 400 } [.ref md, .ref (vr v), .ref q, .int st9, .ref rb] M (fun v9 M' n9 k9 => v9 = none ∧ n9 ≤ 10 ∧ k9 ≤ 70 ∧ ∃ S', tClose S v R9 = .inr S' ∧ S'.2.1 = (ts_put S v (uap S.2.1 R9)).2.1 ∧ S'.2.2.1 = S.2.2.1 ∧ S'.2.2.2.1 = S.2.2.2.1 ∧ mK M M' ∧ mCI M' L vr D S' ∧ S'.1 = S.1 ∧ mPhi M' L + 1 = mPhi M L ∧ (∀ z, M z ≠ none → z ≠ vr v → mnext M' z = mnext M z) ∧ mPd D S S' ∧ M' md = some (md_E tm kd wh f1 f2 f3 wg ea sp rt th ak wr pl tk fa (nJ (k + 1))) ∧ mSt M' L (k + 1)) (fun E q M' => tClose S v R9 = .inl 3 ∧ mX M 3 E q M') := by
  refine mm_ofWD (cc := cX2_endsRow) (maxL := 8) (ret := none) (by decide) rfl (Nat.le_of_ble_eq_true rfl) ?_
  intro p e s m below meth c A ls hx hb hr hlk hml hown hmn hts htab hE hST hA hM hS hl
  replace hl : lv_has ls 8 [(0, .ref md), (1, .ref (vr v)), (2, .ref q), (3, .int st9), (4, .ref rb)] := hl
  have hvmd : vr v ≠ md := fun e => by rw [e, hmd] at hvO; exact absurd (Prod.mk.inj (Sum.inr.inj (Option.some.inj hvO))).1 (by decide)
  have hqmd : q ≠ md := fun e => by rw [e, hmd] at hqA; cases hqA
  refine lv_aload_n hx hb dX2_endsRow_0 rfl (lv_at hl 0 rfl) ?_
  refine mm_callV (As := []) (rest := []) ⟨hx, hb, hml, hown, hts⟩ hE hST hA (c_X2_nextStamp l Z (f0 := tm) (f1 := some kd) (f2 := some wh) (f3 := some f1) (f4 := some f2) (f5 := some f3) (f6 := some wg) (f7 := ea) (f8 := sp) (f9 := rt) (f10 := th) (f11 := ak) (f12 := wr) (f13 := some pl) (f14 := tk) (f15 := fa) (f16 := nJ k) hmd) (cwV 0 hts (lw_V q2563 q2565 qs37 q54 q2566) rfl rfl rfl (by decide +kernel) ⟨(by (try dsimp only); omega), (by (try dsimp only); omega)⟩) hM hS mm_cX2 hmd rfl hl.1 (Nat.le_of_ble_eq_true rfl) dX2_endsRow_1 rfl ⟨(by (try dsimp only); omega), (by (try dsimp only); omega)⟩ (fun _ _ _ _ _ _ h9 => h9.elim) (fun v_1 M_2 H locs hp_3 hM hS => ?_)
  obtain ⟨rfl, eM_2⟩ := hp_3
  rw [nJ_1] at eM_2
  rw [nJ_1]
  have hs_4K : mK M M_2 := by rw [eM_2]; exact mK.putM hmd
  have hs_4C : mCI M_2 L vr D S := by rw [eM_2]; exact mCI.putM hC hmd
  have hs_4S : mSt M_2 L k := by rw [eM_2]; exact mSt.putM hSt hmd
  have hs_4M : M_2 md = some (md_E tm kd wh f1 f2 f3 wg ea sp rt th ak wr pl tk fa (nJ (k + 1))) := by rw [eM_2]; exact mm_U_eq
  have hs_4q : ∀ q, q ≠ md → M_2 q = M q := fun q h => by rw [eM_2]; exact mm_U_ne h
  have hs_4N : ∀ z, mnext M_2 z = mnext M z := fun z => by
    unfold mnext
    by_cases h : z = md
    · rw [h, hmd, hs_4M]; rfl
    · rw [hs_4q z h]
  have hvO1 := (hs_4q (vr v) hvmd).trans hvO
  have hqA1 := (hs_4q q hqmd).trans hqA
  have hX1 := hX.K hs_4K
  have htp1 : mtp M_2 L vr D er true rb := mtp.mono hs_4K (fun _ h => h) (fun _ h => ⟨h, rfl⟩) _ _ _ htp
  have hrb1 : mnext M_2 rb = none := (hs_4N rb).trans hrb
  refine lv_lstore hx hb dX2_endsRow_4 hl (by decide) rfl (fun ls hl => ?_)
  replace hl : lv_has ls 8 [(5, .long (nJ (k + 1))), (0, .ref md), (1, .ref (vr v)), (2, .ref q), (3, .int st9), (4, .ref rb)] := hl
  refine lv_iconst (v := 0) hx hb dX2_endsRow_6 (by decide) ?_
  refine lv_istore hx hb dX2_endsRow_7 hl (by decide) rfl (fun ls hl => ?_)
  replace hl : lv_has ls 8 [(7, .int 0), (5, .long (nJ (k + 1))), (0, .ref md), (1, .ref (vr v)), (2, .ref q), (3, .int st9), (4, .ref rb)] := hl
  refine mm_loopW (fun k9 M' ls cells slots => ∃ (i : Nat), k9 = 10 - i ∧ i ≤ 10 ∧ lv_has ls 8 [(7, .int (nI i)), (0, .ref md), (1, .ref (vr v)), (2, .ref q), (3, .int st9), (4, .ref rb), (5, .long (nJ (k + 1)))] ∧ mS (nJ (k + 1)) M_2 M' ∧ (∀ s, mW M' L vr D S (nJ (k + 1)) v s) ∧ (∀ l y, l < i → uhs st9 l = true → g l = some y → uoc v (uap S.2.1 y) = false) ∧ cells = 0 ∧ slots = 0) (fun k9 M2 ls H locs cells slots ih hI hM hS => ?_) ⟨0, rfl, by omega, lv_sub hl [0, 2, 3, 4, 5, 6, 1] rfl, mS.rf _, (fun s b hb hm => (hs_4S.no (by omega) hb hm).elim), (fun l y hl => absurd hl (Nat.not_lt_zero l)), rfl, rfl⟩ hM hS
  obtain ⟨i, rfl, hi9, hl, hS2, hW, hno, rfl, rfl⟩ := hI
  have hC2 := hs_4C.seen hS2
  have hmd2 := hS2.atC hs_4M (by decide)
  have hqA2 := hS2.atA hqA1
  have hvO2 := hS2.r hvO1
  have hX2 := hX1.K hS2.L.K
  refine lv_iload hx hb dX2_endsRow_9 (lv_at hl 0 rfl) ?_
  refine lv_bipush (v := 10) hx hb dX2_endsRow_11 (by decide) ?_
  refine lv_icmp_ge (tgt := 55) hx hb dX2_endsRow_13 (by decide) (fun c_5 => ?_) (fun c_5 => ?_)
  · skip
    obtain rfl : i = 10 := by have := (nI_leI (a := 10) (b := i) (by omega) (by omega)).1 c_5; omega
    have hoc : uoc v (uap S.2.1 (usome g st9 er 10)) = false := by
      cases h8 : uoc v (uap S.2.1 (usome g st9 er 10)) with
      | false => rfl
      | true =>
        rcases (usome_oc 10 er).1 h8 with h7 | ⟨l, y, h1, h2, h3, h4⟩
        · rw [hoe] at h7; cases h7
        · rw [hno l y h1 h2 h3] at h4; cases h4
    have htp2 := htp1.light hS2.L
    have hrb2 : mnext M2 rb = none := (hS2.L.nextA htp1.has).trans hrb1
    refine lv_aload_n hx hb dX2_endsRow_55 rfl (lv_at hl 2 rfl) ?_
    refine lv_aload_n hx hb dX2_endsRow_56 rfl (lv_at hl 3 rfl) ?_
    refine lv_iload_n hx hb dX2_endsRow_57 rfl (lv_at hl 4 rfl) ?_
    refine lv_aload hx hb dX2_endsRow_58 (lv_at hl 5 rfl) ?_
    refine mm_callSD (As := [.ref q, .int st9, .ref rb]) (rest := [.ref (vr v)]) ⟨hx, hb, hml, hown, hts⟩ hE hST hA (d_X2_rowOf l Z hqA2 hX2 hset htp2 hrb2) (va_cwS 3 hts (lw_S q2686 q2687 q54 q2688) rfl rfl rfl (by decide +kernel) ⟨(by (try dsimp only); omega), (by (try dsimp only); omega)⟩) hM hS rfl hl.1 (Nat.le_of_ble_eq_true rfl) dX2_endsRow_60 rfl ⟨(by (try dsimp only); omega), (by (try dsimp only); omega)⟩ (fun _ _ _ _ _ _ h9 => h9.elim) (fun v_6 M_7 n_9 k_10 H locs hp_8 hM hS => ?_)
    obtain ⟨rr, rfl, hn5, hk5, hex, htr, hrr⟩ := hp_8
    have hC3 := hC2.ext hex
    have hvO3 := hex.at hvO2
    have hmd3 := hex.at hmd2
    refine mm_put (D := Z.1) (ci := 22) (v := .ref rr) (ty := .object "RowenTongueModel$Row") (C := RX27) (T := TX27) (N := 7) hx hb hts in_X27 tyX27 tyX27_ok nmX27 hown hE.1 hM hS hvO3 mm_cX27 1 (by decide) (hts _ q2579) (fun _ h9 => h9) rfl (by decide +kernel) rfl rfl (Nat.le_of_ble_eq_true rfl) dX2_endsRow_63 (fun H locs hM hS => ?_)
    have hM : mm_P Z.1 mm_cl A (mm_U M_7 (vr v) (.inr (22, [.int 0, .ref rr, .int 0, .null, .null, .int (S.2.2.2.1 v), .int (mm_b (S.2.2.1 v))]))) H := hM
    have hc_11 : (mm_U M_7 (vr v) (.inr (22, [.int 0, .ref rr, .int 0, .null, .null, .int (S.2.2.2.1 v), .int (mm_b (S.2.2.1 v))]))) (vr v) = some (.inr (22, [.int 0, .ref rr, .int 0, .null, .null, .int (S.2.2.2.1 v), .int (mm_b (S.2.2.1 v))])) := mm_U_eq
    have hc_12 : (mm_U M_7 (vr v) (.inr (22, [.int 0, .ref rr, .int 0, .null, .null, .int (S.2.2.2.1 v), .int (mm_b (S.2.2.1 v))]))) md = some (.inr (1, [.int tm, .ref kd, .ref wh, .ref f1, .ref f2, .ref f3, .ref wg, .int ea, .int sp, va_rf rt, .int th, .int ak, .int wr, .ref pl, .int tk, .int (mm_b fa), .long (nJ (k + 1))])) := (mm_U_ne (mm_neC hmd3 hvO3 (by decide))).trans hmd3
    obtain ⟨M_13, eM_13⟩ : ∃ z, z = mm_U M_7 (vr v) (.inr (22, [.int 0, .ref rr, .int 0, .null, .null, .int (S.2.2.2.1 v), .int (mm_b (S.2.2.1 v))])) := ⟨_, rfl⟩
    rw [← eM_13] at hM hc_12 hc_11
    have hK4 : mK M_7 M_13 := by rw [eM_13]; exact mK.putR (is' := some rr) (cm' := (S.2.2.1 v)) hvO3
    have hq4 : ∀ q, q ≠ vr v → M_13 q = M_7 q := fun q hq => by rw [eM_13]; exact mm_U_ne hq
    obtain ⟨hC4, hph4⟩ := hC3.put hK4 hv hq4 (mnext_r hvO3) hrr (mtp_varV hC3 hv hvO3) htr hoc (Or.inr ⟨_, _, hvO3, by rw [eM_13]; exact mm_U_eq⟩)
    have hmd4 := hc_12
    have hSt4 : mSt M_13 L (k + 1) := by rw [eM_13]; exact mSt.putR (k := 0) (lb := 0) (lk := 0) (is := none) (ty := none) (rs := none) (cm := false) (is' := some rr) (ty' := none) (rs' := none) (cm' := S.2.2.1 v) ((hs_4S.light hs_4C hS2.L (by omega)).ext hC2 hex)
    have hnx4 : ∀ z, M z ≠ none → mnext M_7 z = mnext M z := fun z hz => by rw [← hs_4N z, ← hS2.L.nextA (hs_4K.hasN hz)]; unfold mnext; rw [hex z (hS2.L.K.hasN (hs_4K.hasN hz))]
    have hph3 : mPhi M_7 L = mPhi M L := by unfold mPhi; exact List.countP_congr fun z hz => by obtain ⟨m9, t9, h9⟩ := hC.2.2.1 z hz; rw [hnx4 z h9.has]
    have htc : tClose S v R9 = .inr (ts_put (ts_lev S (S.2.2.2.2 v) (uap S.2.1 R9)) v (uap S.2.1 R9)) := by unfold tClose; rw [hR, hoc]; rfl
    exact mm_retvD hx hb hr hlk hM hS ⟨rfl, by (try dsimp only); omega, by (try dsimp only); omega, _, htc, rfl, rfl, rfl, ((hs_4K.trans hS2.L.K).trans hex.mK).trans hK4, by rw [← hR] at hC4; exact hC4.lev rfl rfl rfl rfl, rfl, by omega, fun z hz hzv => (by rw [← hnx4 z hz]; unfold mnext; rw [hq4 z hzv]), (mPd.put (S := S) (T := uap S.2.1 R9) hv), hmd4, hSt4⟩ dX2_endsRow_66 (by (try dsimp only); omega) (by (try dsimp only); omega)
  · skip
    have hi : i < 10 := by have : ¬ 10 ≤ i := fun h9 => c_5 ((nI_leI (a := 10) (b := i) (by omega) (by omega)).2 h9); omega
    refine lv_iload_n hx hb dX2_endsRow_16 rfl (lv_at hl 4 rfl) ?_
    refine lv_iload hx hb dX2_endsRow_17 (lv_at hl 0 rfl) ?_
    refine lv_ishr hx hb dX2_endsRow_19 ?_
    refine lv_iconst (v := 1) hx hb dX2_endsRow_20 (by decide) ?_
    refine lv_iand hx hb dX2_endsRow_21 ?_
    refine lv_iconst (v := 1) hx hb dX2_endsRow_22 (by decide) ?_
    refine lv_icmp_ne (tgt := 49) hx hb dX2_endsRow_23 (by decide) (fun c_6 => ?_) (fun c_6 => ?_)
    · skip
      have hu9 : uhs st9 i = false := uhs_f c_6
      obtain ⟨x_7, ex_7⟩ : ∃ z : Int32, z = (nI i) + 1 := ⟨_, rfl⟩
      refine lv_iinc (v := x_7) (lv' := [(7, .int x_7), (0, .ref md), (1, .ref (vr v)), (2, .ref q), (3, .int st9), (4, .ref rb), (5, .long (nJ (k + 1)))]) hx hb dX2_endsRow_49 hl (k := 0) rfl (by rw [ex_7]; rfl) (by decide) rfl (fun ls hl => ?_)
      rw [show x_7 = nI (i + 1) from by rw [ex_7]; exact nI_1 i] at hl
      refine lv_goto (tgt := 9) hx hb dX2_endsRow_52 (by decide) ?_
      refine ih (10 - (i + 1)) (by omega) _ _ _ _ _ _ ⟨i + 1, rfl, by omega, lv_sub hl [0, 1, 2, 3, 4, 5, 6] rfl, hS2, hW, (fun l y h1 h2 h3 => by rcases Nat.lt_succ_iff_lt_or_eq.1 h1 with h4 | h4; exact hno l y h4 h2 h3; rw [h4, hu9] at h2; cases h2), rfl, rfl⟩ hM hS
    · skip
      have hu9 : uhs st9 i = true := uhs_t (by first | exact c_6 | exact Classical.not_not.1 c_6)
      rcases hX2 i hi with ⟨h8, -⟩ | ⟨x1, ad, hg, hf, hx1⟩
      · exact absurd h8 (hset i hi hu9)
      have hh1 := hH i x1 hi hg
      refine lv_null hx hb dX2_endsRow_26 ?_
      refine lv_aload_n hx hb dX2_endsRow_27 rfl (lv_at hl 2 rfl) ?_
      refine lv_aload_n hx hb dX2_endsRow_28 rfl (lv_at hl 3 rfl) ?_
      refine lv_iload hx hb dX2_endsRow_29 (lv_at hl 0 rfl) ?_
      refine mm_aald (k := i) hx hb hE hM 8 hqA2 rfl rfl hi (by decide) dX2_endsRow_31 ?_
      rw [hf]
      refine lv_lload hx hb dX2_endsRow_32 (lv_at hl 6 rfl) ?_
      refine mm_callS (As := [.null, .ref (vr v), .ref ad, .long (nJ (k + 1))]) (rest := []) ⟨hx, hb, hml, hown, hts⟩ hE hST hA ((c_isWithin l Z L vr D S v true (nJ (k + 1)) _).1 (uap S.2.1 x1) x1 ad _ (Nat.lt_succ_self _) rfl hv ⟨fun h9 => (by cases h9), fun _ => ⟨_, _, _, hvO2⟩⟩ hC2 hx1 (hW _)) (va_cwS 4 hts (lw_S q2662 q2663 q54 q2664) rfl rfl rfl (by decide +kernel) ⟨(by (try dsimp only); omega), (by (try dsimp only); omega)⟩) hM hS rfl hl.1 (Nat.le_of_ble_eq_true rfl) dX2_endsRow_34 rfl ⟨(by (try dsimp only); omega), (by (try dsimp only); omega)⟩ (fun _ _ _ _ _ _ h9 => h9.elim) (fun v_7 M_8 H locs hp_9 hM hS => ?_)
      obtain ⟨rfl, hS3, hw3⟩ := hp_9
      refine lv_if_eq (tgt := 49) hx hb dX2_endsRow_37 (by decide) (fun c_10 => ?_) (fun c_10 => ?_)
      · skip
        have hoc : uoc v (uap S.2.1 x1) = false := (mm_b_0 _).1 c_10
        obtain ⟨x_11, ex_11⟩ : ∃ z : Int32, z = (nI i) + 1 := ⟨_, rfl⟩
        refine lv_iinc (v := x_11) (lv' := [(7, .int x_11), (0, .ref md), (1, .ref (vr v)), (2, .ref q), (3, .int st9), (4, .ref rb), (5, .long (nJ (k + 1)))]) hx hb dX2_endsRow_49 hl (k := 0) rfl (by rw [ex_11]; rfl) (by decide) rfl (fun ls hl => ?_)
        rw [show x_11 = nI (i + 1) from by rw [ex_11]; exact nI_1 i] at hl
        refine lv_goto (tgt := 9) hx hb dX2_endsRow_52 (by decide) ?_
        refine ih (10 - (i + 1)) (by omega) _ _ _ _ _ _ ⟨i + 1, rfl, by omega, lv_sub hl [0, 1, 2, 3, 4, 5, 6] rfl, hS2.trans hS3, (fun s => (hW s).next hC2 (hw3 hoc) hS3.L), (fun l y h1 h2 h3 => by rcases Nat.lt_succ_iff_lt_or_eq.1 h1 with h4 | h4; exact hno l y h4 h2 h3; subst h4; rw [hg] at h3; cases h3; exact hoc), rfl, rfl⟩ hM hS
      · skip
        have hoc : uoc v (uap S.2.1 x1) = true := by cases h8 : uoc v (uap S.2.1 x1) with | true => rfl | false => exact absurd ((mm_b_0 _).2 h8) c_10
        refine mm_new (D := Z.1) (ci := 21) (fs := mm_f0X26) (C := RX26) (T := TX26) (N := 7) hx hb hts in_X26 tyX26 tyX26_ok hown (hts _ q2492) (hts _ q2530) (hts _ q99) hE.1 hM hS hA mm_cX26 mm_dfX26 (by (try dsimp only); omega) (by (try dsimp only); omega) dX2_endsRow_40 (fun q_12 H nq_11 hM hS => ?_)
        have hM : mm_P Z.1 mm_cl A (mm_U M_8 q_12 (.inr (21, [.null, .null, .null, .null, .null, .int 0, .int 0]))) H := hM
        have hc_13 : (mm_U M_8 q_12 (.inr (21, [.null, .null, .null, .null, .null, .int 0, .int 0]))) q_12 = some (.inr (21, [.null, .null, .null, .null, .null, .int 0, .int 0])) := mm_U_eq
        obtain ⟨M_14, eM_14⟩ : ∃ z, z = mm_U M_8 q_12 (.inr (21, [.null, .null, .null, .null, .null, .int 0, .int 0])) := ⟨_, rfl⟩
        rw [← eM_14] at hM hc_13
        refine lv_dup hx hb dX2_endsRow_43 rfl ?_
        refine lv_iconst (v := 3) hx hb dX2_endsRow_44 (by decide) ?_
        refine mm_callI (As := [.int 3]) (rest := [.ref q_12]) ⟨hx, hb, hml, hown, hts⟩ hE hST hA (c_X26_init l Z (er := 3) hc_13) (cwI (maxL := 2) 1 hts (lw_meth q2540) rfl rfl rfl (hts _ q99) (hts _ q2538) (hts _ q2539) rfl (by decide +kernel) ⟨(by (try dsimp only); omega), (by (try dsimp only); omega)⟩) hM hS rfl hl.1 (Nat.le_of_ble_eq_true rfl) dX2_endsRow_45 rfl ⟨(by (try dsimp only); omega), (by (try dsimp only); omega)⟩ (fun _ _ _ _ _ _ h9 => h9.elim) (fun v_15 M_16 H locs hp_17 hM hS => ?_)
        obtain ⟨rfl, eM_16⟩ := hp_17
        rw [eM_16] at hM
        have hc_18 : (mm_U M_14 q_12 (.inr (21, [.null, .null, .null, .null, .null, .int 0, .int 3]))) q_12 = some (.inr (21, [.null, .null, .null, .null, .null, .int 0, .int 3])) := mm_U_eq
        obtain ⟨M_19, eM_19⟩ : ∃ z, z = mm_U M_14 q_12 (.inr (21, [.null, .null, .null, .null, .null, .int 0, .int 3])) := ⟨_, rfl⟩
        rw [← eM_19] at hM hc_18
        exact mm_athrowD hx hb htab hlk hE hM hS hc_18 mm_cX26 ⟨by unfold tClose; rw [hR, (usome_oc 10 er).2 (Or.inr ⟨i, x1, hi, hu9, hg, hoc⟩)]; rfl, (mX.of ⟨rfl, nq_11, by subst eM_19 eM_14; simp only [mm_U_U]⟩).after ((hs_4K.trans hS2.L.K).trans hS3.L.K)⟩ dX2_endsRow_48 (by (try dsimp only); omega) (by (try dsimp only); omega)
set_option maxHeartbeats 4000000 in
set_option maxRecDepth 100000 in
theorem d_X2_comparesAll (l : Launch) (Z : mm_G) {M : mm_M} {md kd wh f1 f2 f3 wg pl : Nat} {tm ea sp th ak wr tk : Int32} {rt : Option Nat} {fa : Bool} {k : Nat} {L : List Nat} {vr : Nat → Nat} {D : Nat → Bool} {S : ts} {q Hh : Nat} {iz : Bool} {st9 : Int32} {g : Nat → Option ev} {f : Nat → Option Nat} {er T : ev} (hmd : M md = some (md_E tm kd wh f1 f2 f3 wg ea sp rt th ak wr pl tk fa (nJ k))) (hSt : mSt M L k) (hk : k + 1 < 2 ^ 62) (hC : mCI M L vr D S) (hqA : M q = some (ty_A Z f)) (hX : mXG M L vr D g f) (hset : ∀ l, l < 10 → uhs st9 l = true → g l ≠ none) (hT : uap S.2.1 (usome g st9 er 10) = T) (he1 : uhf (uap S.2.1 er) = false) (he2 : iz = true → ∀ u, uoc u (uap S.2.1 er) = true → S.2.2.1 u = true) (hH : ∀ l x, l < 10 → g l = some x → uh (uap S.2.1 x) ≤ Hh) : mm_D l Z yX2_comparesAll (ws_ yX2_comparesAll cX2_comparesAll 7 none) { frames := Hh + 10, cells := 1, slots := 8, locals := 30 * Hh + 400 } [.ref md, .int (mm_b iz), .ref q, .int st9] M (fun v9 M' n9 k9 => v9 = none ∧ n9 = 0 ∧ k9 = 0 ∧ (iz = true → uhf T = false) ∧ mK M M' ∧ mCI M' L vr D (if iz then ts_like S T else S) ∧ (∀ z, M z ≠ none → mnext M' z = mnext M z) ∧ M' md = some (md_E tm kd wh f1 f2 f3 wg ea sp rt th ak wr pl tk fa (nJ (k + 1))) ∧ mSt M' L (k + 1)) (fun E q M' => iz = true ∧ uhf T = true ∧ mX M 5 E q M') := by
  refine mm_ofWD (cc := cX2_comparesAll) (maxL := 7) (ret := none) (by decide) rfl (Nat.le_of_ble_eq_true rfl) ?_
  intro p e s m below meth c A ls hx hb hr hlk hml hown hmn hts htab hE hST hA hM hS hl
  replace hl : lv_has ls 7 [(0, .ref md), (1, .int (mm_b iz)), (2, .ref q), (3, .int st9)] := hl
  have hqmd : q ≠ md := fun e => by rw [e, hmd] at hqA; cases hqA
  refine lv_aload_n hx hb dX2_comparesAll_0 rfl (lv_at hl 0 rfl) ?_
  refine mm_callV (As := []) (rest := []) ⟨hx, hb, hml, hown, hts⟩ hE hST hA (c_X2_nextStamp l Z (f0 := tm) (f1 := some kd) (f2 := some wh) (f3 := some f1) (f4 := some f2) (f5 := some f3) (f6 := some wg) (f7 := ea) (f8 := sp) (f9 := rt) (f10 := th) (f11 := ak) (f12 := wr) (f13 := some pl) (f14 := tk) (f15 := fa) (f16 := nJ k) hmd) (cwV 0 hts (lw_V q2563 q2565 qs37 q54 q2566) rfl rfl rfl (by decide +kernel) ⟨(by (try dsimp only); omega), (by (try dsimp only); omega)⟩) hM hS mm_cX2 hmd rfl hl.1 (Nat.le_of_ble_eq_true rfl) dX2_comparesAll_1 rfl ⟨(by (try dsimp only); omega), (by (try dsimp only); omega)⟩ (fun _ _ _ _ _ _ h9 => h9.elim) (fun v_1 M_2 H locs hp_3 hM hS => ?_)
  obtain ⟨rfl, eM_2⟩ := hp_3
  rw [nJ_1] at eM_2
  rw [nJ_1]
  have hs_4K : mK M M_2 := by rw [eM_2]; exact mK.putM hmd
  have hs_4C : mCI M_2 L vr D S := by rw [eM_2]; exact mCI.putM hC hmd
  have hs_4S : mSt M_2 L k := by rw [eM_2]; exact mSt.putM hSt hmd
  have hs_4M : M_2 md = some (md_E tm kd wh f1 f2 f3 wg ea sp rt th ak wr pl tk fa (nJ (k + 1))) := by rw [eM_2]; exact mm_U_eq
  have hs_4q : ∀ q, q ≠ md → M_2 q = M q := fun q h => by rw [eM_2]; exact mm_U_ne h
  have hs_4N : ∀ z, mnext M_2 z = mnext M z := fun z => by
    unfold mnext
    by_cases h : z = md
    · rw [h, hmd, hs_4M]; rfl
    · rw [hs_4q z h]
  have hqA1 := (hs_4q q hqmd).trans hqA
  have hX1 := hX.K hs_4K
  refine lv_lstore hx hb dX2_comparesAll_4 hl (by decide) rfl (fun ls hl => ?_)
  replace hl : lv_has ls 7 [(4, .long (nJ (k + 1))), (0, .ref md), (1, .int (mm_b iz)), (2, .ref q), (3, .int st9)] := hl
  refine lv_iconst (v := 0) hx hb dX2_comparesAll_6 (by decide) ?_
  refine lv_istore hx hb dX2_comparesAll_7 hl (by decide) rfl (fun ls hl => ?_)
  replace hl : lv_has ls 7 [(6, .int 0), (4, .long (nJ (k + 1))), (0, .ref md), (1, .int (mm_b iz)), (2, .ref q), (3, .int st9)] := hl
  cases iz
  · skip
    refine lv_iload hx hb dX2_comparesAll_9 (lv_at hl 0 rfl) ?_
    refine lv_bipush (v := 10) hx hb dX2_comparesAll_11 (by decide) ?_
    refine lv_icmp_ge (tgt := 45) hx hb dX2_comparesAll_13 (by decide) (fun h9 => absurd h9 (by decide)) (fun _ => ?_)
    refine lv_iload_n hx hb dX2_comparesAll_16 rfl (lv_at hl 3 rfl) ?_
    refine lv_if_eq (tgt := 45) hx hb dX2_comparesAll_17 (by decide) (fun _ => ?_) (fun h9 => absurd (rfl : mm_b false = 0) h9)
    exact mm_retvD hx hb hr hlk hM hS ⟨rfl, rfl, rfl, (fun h9 => by cases h9), hs_4K, hs_4C, (fun z hz => hs_4N z), hs_4M, hs_4S.light hs_4C (mL.rf _) (by omega)⟩ dX2_comparesAll_45 (by (try dsimp only); omega) (by (try dsimp only); omega)
  · skip
    refine mm_loopW (fun k9 M' ls cells slots => ∃ (i : Nat), k9 = 10 - i ∧ i ≤ 10 ∧ lv_has ls 7 [(6, .int (nI i)), (0, .ref md), (1, .int (mm_b true)), (2, .ref q), (3, .int st9), (4, .long (nJ (k + 1)))] ∧ mL (nJ (k + 1)) M_2 M' ∧ mCI M' L vr D (ts_like S (uap S.2.1 (usome g st9 er i))) ∧ (∀ s, mY M' L vr D (ts_like S (uap S.2.1 (usome g st9 er i))) (nJ (k + 1)) s) ∧ uhf (uap S.2.1 (usome g st9 er i)) = false ∧ cells = 0 ∧ slots = 0) (fun k9 M2 ls H locs cells slots ih hI hM hS => ?_) ⟨0, rfl, by omega, lv_sub hl [0, 2, 3, 4, 5, 1] rfl, mL.rf _, by rw [show ts_like S (uap S.2.1 (usome g st9 er 0)) = S from ts_like_self (he2 rfl)]; exact hs_4C, (fun s b hb hm => (hs_4S.no (by omega) hb hm).elim), he1, rfl, rfl⟩ hM hS
    obtain ⟨i, rfl, hi9, hl, hL2, hC2, hY, hhf, rfl, rfl⟩ := hI
    have hmd2 := hL2.atC hs_4M (by decide)
    have hqA2 := hL2.atA hqA1
    have hX2 := hX1.K hL2.K
    have hnx2 : ∀ z, M z ≠ none → mnext M2 z = mnext M z := fun z hz => by rw [← hs_4N z]; exact hL2.nextA (hs_4K.hasN hz)
    refine lv_iload hx hb dX2_comparesAll_9 (lv_at hl 0 rfl) ?_
    refine lv_bipush (v := 10) hx hb dX2_comparesAll_11 (by decide) ?_
    refine lv_icmp_ge (tgt := 45) hx hb dX2_comparesAll_13 (by decide) (fun c_5 => ?_) (fun c_5 => ?_)
    · skip
      obtain rfl : i = 10 := by have := (nI_leI (a := 10) (b := i) (by omega) (by omega)).1 c_5; omega
      exact mm_retvD hx hb hr hlk hM hS ⟨rfl, rfl, rfl, (fun _ => by rw [← hT]; exact hhf), hs_4K.trans hL2.K, by rw [← hT]; exact hC2, hnx2, hmd2, hs_4S.light hs_4C hL2 (by omega)⟩ dX2_comparesAll_45 (by (try dsimp only); omega) (by (try dsimp only); omega)
    · skip
      have hi : i < 10 := by have : ¬ 10 ≤ i := fun h9 => c_5 ((nI_leI (a := 10) (b := i) (by omega) (by omega)).2 h9); omega
      refine lv_iload_n hx hb dX2_comparesAll_16 rfl (lv_at hl 2 rfl) ?_
      refine lv_if_eq (tgt := 45) hx hb dX2_comparesAll_17 (by decide) (fun h9 => absurd h9 (by decide)) (fun _ => ?_)
      refine lv_iload_n hx hb dX2_comparesAll_20 rfl (lv_at hl 4 rfl) ?_
      refine lv_iload hx hb dX2_comparesAll_21 (lv_at hl 0 rfl) ?_
      refine lv_ishr hx hb dX2_comparesAll_23 ?_
      refine lv_iconst (v := 1) hx hb dX2_comparesAll_24 (by decide) ?_
      refine lv_iand hx hb dX2_comparesAll_25 ?_
      refine lv_iconst (v := 1) hx hb dX2_comparesAll_26 (by decide) ?_
      refine lv_icmp_ne (tgt := 39) hx hb dX2_comparesAll_27 (by decide) (fun c_6 => ?_) (fun c_6 => ?_)
      · skip
        have hu9 : uhs st9 i = false := uhs_f c_6
        have hus : usome g st9 er (i + 1) = usome g st9 er i := by simp only [usome, hu9]
        obtain ⟨x_7, ex_7⟩ : ∃ z : Int32, z = (nI i) + 1 := ⟨_, rfl⟩
        refine lv_iinc (v := x_7) (lv' := [(6, .int x_7), (0, .ref md), (1, .int (mm_b true)), (2, .ref q), (3, .int st9), (4, .long (nJ (k + 1)))]) hx hb dX2_comparesAll_39 hl (k := 0) rfl (by rw [ex_7]; rfl) (by decide) rfl (fun ls hl => ?_)
        rw [show x_7 = nI (i + 1) from by rw [ex_7]; exact nI_1 i] at hl
        refine lv_goto (tgt := 9) hx hb dX2_comparesAll_42 (by decide) ?_
        refine ih (10 - (i + 1)) (by omega) _ _ _ _ _ _ ⟨i + 1, rfl, by omega, lv_sub hl [0, 1, 2, 3, 4, 5] rfl, hL2, by rw [hus]; exact hC2, by rw [hus]; exact hY, by rw [hus]; exact hhf, rfl, rfl⟩ hM hS
      · skip
        have hu9 : uhs st9 i = true := uhs_t (by first | exact c_6 | exact Classical.not_not.1 c_6)
        rcases hX2 i hi with ⟨h8, -⟩ | ⟨x1, ad, hg, hf, hx1⟩
        · exact absurd h8 (hset i hi hu9)
        have hh1 := hH i x1 hi hg
        have hoc : ∀ u, uoc u (uap S.2.1 (usome g st9 er (i + 1))) = (uoc u (uap S.2.1 (usome g st9 er i)) || uoc u (uap S.2.1 x1)) := fun u => by
          rw [Bool.eq_iff_iff, Bool.or_eq_true, usome_oc, usome_oc]
          constructor
          · rintro (h | ⟨l, y, h1, h2, h3, h4⟩)
            · exact Or.inl (Or.inl h)
            · by_cases e : l = i
              · subst e; rw [hg] at h3; cases h3; exact Or.inr h4
              · exact Or.inl (Or.inr ⟨l, y, by omega, h2, h3, h4⟩)
          · rintro ((h | ⟨l, y, h1, h2, h3, h4⟩) | h)
            · exact Or.inl h
            · exact Or.inr ⟨l, y, by omega, h2, h3, h4⟩
            · exact Or.inr ⟨i, x1, Nat.lt_succ_self i, hu9, hg, h⟩
        refine lv_aload_n hx hb dX2_comparesAll_30 rfl (lv_at hl 3 rfl) ?_
        refine lv_iload hx hb dX2_comparesAll_31 (lv_at hl 0 rfl) ?_
        refine mm_aald (k := i) hx hb hE hM 8 hqA2 rfl rfl hi (by decide) dX2_comparesAll_33 ?_
        rw [hf]
        refine lv_lload hx hb dX2_comparesAll_34 (lv_at hl 5 rfl) ?_
        refine mm_callSD (As := [.ref ad, .long (nJ (k + 1))]) (rest := []) ⟨hx, hb, hml, hown, hts⟩ hE hST hA (c_compares l Z L vr D (nJ (k + 1)) _ (uap S.2.1 x1) x1 ad _ (ts_like S (uap S.2.1 (usome g st9 er i))) (Nat.lt_succ_self _) rfl hC2 hx1 (hY _)) (va_cwS 2 hts (lw_S q2668 q2669 q54 q2670) rfl rfl rfl (by decide +kernel) ⟨(by (try dsimp only); omega), (by (try dsimp only); omega)⟩) hM hS rfl hl.1 (Nat.le_of_ble_eq_true rfl) dX2_comparesAll_36 rfl ⟨(by (try dsimp only); omega), (by (try dsimp only); omega)⟩ (fun E ce q M9 H1 locs1 hp9 hM9 hS9 hce hcv hcl => by exact mm_outxD htab hlk hM9 hS9 hce hcv hcl ⟨rfl, by rw [← hT]; exact (usome_hf 10 er).2 (Or.inr ⟨i, x1, hi, hu9, hg, hp9.1⟩), hp9.2.after (hs_4K.trans hL2.K)⟩ (by (try dsimp only); omega) (by (try dsimp only); omega)) (fun v_7 M_8 n_10 k_11 H locs hp_9 hM hS => ?_)
        obtain ⟨rfl, rfl, rfl, ho5, hL5, hC5, hy5⟩ := hp_9
        have hts : ts_like (ts_like S (uap S.2.1 (usome g st9 er i))) (uap S.2.1 x1) = ts_like S (uap S.2.1 (usome g st9 er (i + 1))) := ts_like_or hoc
        have hh5 : uhf (uap S.2.1 (usome g st9 er (i + 1))) = false := by
          cases h8 : uhf (uap S.2.1 (usome g st9 er (i + 1))) with
          | false => rfl
          | true =>
            rcases (usome_hf _ er).1 h8 with h7 | ⟨l, y, h1, h2, h3, h4⟩
            · rw [he1] at h7; cases h7
            · by_cases e : l = i
              · subst e; rw [hg] at h3; cases h3; rw [ho5] at h4; cases h4
              · have h6 := (usome_hf i er).2 (Or.inr ⟨l, y, by omega, h2, h3, h4⟩)
                rw [hhf] at h6; cases h6
        obtain ⟨x_12, ex_12⟩ : ∃ z : Int32, z = (nI i) + 1 := ⟨_, rfl⟩
        refine lv_iinc (v := x_12) (lv' := [(6, .int x_12), (0, .ref md), (1, .int (mm_b true)), (2, .ref q), (3, .int st9), (4, .long (nJ (k + 1)))]) hx hb dX2_comparesAll_39 hl (k := 0) rfl (by rw [ex_12]; rfl) (by decide) rfl (fun ls hl => ?_)
        rw [show x_12 = nI (i + 1) from by rw [ex_12]; exact nI_1 i] at hl
        refine lv_goto (tgt := 9) hx hb dX2_comparesAll_42 (by decide) ?_
        refine ih (10 - (i + 1)) (by omega) _ _ _ _ _ _ ⟨i + 1, rfl, by omega, lv_sub hl [0, 1, 2, 3, 4, 5] rfl, hL2.trans hL5, by rw [← hts]; exact hC5, (fun s => by rw [← hts]; exact (hY s).next hC2 hy5 hL5 rfl (ts_like_mono _ _)), hh5, rfl, rfl⟩ hM hS
