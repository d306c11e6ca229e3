/-! ===== the model: same ===== -/
set_option maxRecDepth 100000
set_option maxHeartbeats 4000000 in
set_option maxRecDepth 100000 in
theorem d_X2_same_s (l : Launch) (Z : mm_G) {M : mm_M} {md kd wh f1 f2 f3 wg pl : Nat} {tm ea sp th ak wr tk : Int32} {rt : Option Nat} {fa : Bool} {n k : Nat} (ih : mUn l Z n md (fun st => md_E tm kd wh f1 f2 f3 wg ea sp rt th ak wr pl tk fa st)) {L : List Nat} {vr : Nat → Nat} {D : Nat → Bool} {S : ts} {kn : Nat → Bool} {x y : ev} {ax ay : Nat} {r : te} {Hh d Dd b : Nat} (hmd : M md = some (md_E tm kd wh f1 f2 f3 wg ea sp rt th ak wr pl tk fa (nJ k))) (hSt : mSt M L k) (hk : k + 8 * mPhi M L + 4 * Dd + 8 < 2 ^ 62) (hC : mCI M L vr D S) (hG : usg S kn) (ht1 : mtp M L vr D x false ax) (ht2 : mtp M L vr D y false ay) (hw1 : uwf (uG S kn) false (uap S.2.1 x)) (hw2 : uwf (uG S kn) false (uap S.2.1 y)) (hr9 : tU (n + 1) S x y = some r) (hB9 : mB M L vr D S b) (hH : 2 * b + 3 ≤ Hh) (hD : Dd + d = Hh) (hdp : mDeep M L vr D S x d) : mm_D l Z yX2_same (ws_ yX2_same cX2_same 7 none) { frames := 2 * Hh + 24 + 2 * Dd, cells := 27 * mPhi M L + 9 * Dd + 40, slots := 180 * mPhi M L + 40 * Dd + 260, locals := 30 * Hh + 800 + 60 * Dd } [.ref md, .ref ax, .ref ay] M (mUP md (fun st => md_E tm kd wh f1 f2 f3 wg ea sp rt th ak wr pl tk fa st) M L vr D S x 0 r k) (fun E9 q M' => ∃ er, r = .inl er ∧ mX M er E9 q M') := by
  refine mm_ofWD (cc := cX2_same) (maxL := 7) (ret := none) (by decide) rfl (Nat.le_of_ble_eq_true rfl) ?_
  intro p e s m below meth c A ls hx hb hr hlk hml hown hmn hts htab hE hST hA hM hS hl
  replace hl : lv_has ls 7 [(0, .ref md), (1, .ref ax), (2, .ref ay)] := hl
  have hdl := hdp.le hC hB9
  have hhx := hC.heightB hB9 ht1
  have hhy := hC.heightB hB9 ht2
  simp only [Bool.toNat_false, Nat.add_zero] at hhx hhy
  obtain ⟨d1, b1, t1, hn1, htb1, he1, hbL1, hcs1⟩ := hC.nowT ht1
  obtain ⟨d2, b2, t2, hn2, htb2, he2, hbL2, hcs2⟩ := hC.nowT ht2
  refine lv_aload_n hx hb dX2_same_0 rfl (lv_at hl 1 rfl) ?_
  obtain ⟨-, k9, is9, fr9, to9, rw9, cm9, sn9, cp9, hq9⟩ := (ht1).cellT
  refine mm_callV (As := []) (rest := []) ⟨hx, hb, hml, hown, hts⟩ hE hST hA (c_X25_now l Z hn1) (cwV 0 hts (lw_V q2604 q2605 q2606 q98 q2607) rfl rfl rfl (by decide +kernel) ⟨(by (try dsimp only); omega), (by (try dsimp only); omega)⟩) hM hS mm_cX25 hq9 rfl hl.1 (Nat.le_of_ble_eq_true rfl) dX2_same_1 rfl ⟨(by (try dsimp only); omega), (by (try dsimp only); omega)⟩ (fun _ _ _ _ _ _ h9 => h9.elim) (fun v_1 M_2 H locs hp_3 hM hS => ?_)
  obtain ⟨rfl, eM_2⟩ := hp_3
  rw [eM_2] at hM
  refine lv_astore_n hx hb dX2_same_4 rfl hl (by decide) rfl (fun ls hl => ?_)
  replace hl : lv_has ls 7 [(3, .ref b1), (0, .ref md), (1, .ref ax), (2, .ref ay)] := hl
  refine lv_aload_n hx hb dX2_same_5 rfl (lv_at hl 3 rfl) ?_
  obtain ⟨-, k9, is9, fr9, to9, rw9, cm9, sn9, cp9, hq9⟩ := (ht2).cellT
  refine mm_callV (As := []) (rest := []) ⟨hx, hb, hml, hown, hts⟩ hE hST hA (c_X25_now l Z hn2) (cwV 0 hts (lw_V q2604 q2605 q2606 q98 q2607) rfl rfl rfl (by decide +kernel) ⟨(by (try dsimp only); omega), (by (try dsimp only); omega)⟩) hM hS mm_cX25 hq9 rfl hl.1 (Nat.le_of_ble_eq_true rfl) dX2_same_6 rfl ⟨(by (try dsimp only); omega), (by (try dsimp only); omega)⟩ (fun _ _ _ _ _ _ h9 => h9.elim) (fun v_4 M_5 H locs hp_6 hM hS => ?_)
  obtain ⟨rfl, eM_5⟩ := hp_6
  rw [eM_5] at hM
  refine lv_astore hx hb dX2_same_9 hl (by decide) rfl (fun ls hl => ?_)
  replace hl : lv_has ls 7 [(4, .ref b2), (3, .ref b1), (0, .ref md), (1, .ref ax), (2, .ref ay)] := hl
  refine lv_aload_n hx hb dX2_same_11 rfl (lv_at hl 1 rfl) ?_
  refine lv_aload hx hb dX2_same_12 (lv_at hl 0 rfl) ?_
  refine lv_acmp_ne (rx := (some b1)) (ry := (some b2)) (tgt := 18) hx hb dX2_same_14 (by decide) (fun c_7 => ?_) (fun c_7 => ?_)
  rotate_left
  · skip
    have hbb : b1 = b2 := by first | exact Option.some.inj c_7 | exact c_7
    subst hbb
    have hee : uap S.2.1 x = uap S.2.1 y := by rw [← he1, ← he2, (mtp.uniq hC.1.2.2.1 t1 t2 false false b1 htb1 htb2).1]
    have hrr := tU_same (n + 1) S kn x y r hG hw1 hee hr9
    exact mm_retvD hx hb hr hlk hM hS ⟨rfl, S, L, vr, D, k, hrr, mK.rf _, hC, fun _ h => h, fun _ h => ⟨h, rfl⟩, Nat.le_refl _, fun v9 => ⟨Or.inl, fun h9 => h9.elim id (fun h8 => absurd h8.2 (Nat.not_lt.2 h8.1))⟩, mPd.rf _ _, by (try dsimp only); omega, by (try dsimp only); omega, Nat.le_refl _, Nat.le_refl _, mNw.rf _ _, hmd, hSt, by omega, fun z h7 h8 h9 => absurd h8 h9⟩ dX2_same_17 (by (try dsimp only); omega) (by (try dsimp only); omega)
  · skip
    have hbb : b1 ≠ b2 := fun h9 => by first | exact c_7 h9 | exact c_7 (congrArg some h9)
    rcases hcs1 with ⟨eT1, cm1, sn1, cp1, hc1⟩ | ⟨v1, hv1, eT1, hs1, rfl, sn1, cp1, hc1⟩ | ⟨xa1, xb1, pf1, pg1, cm1, sn1, cp1, eT1, hc1, hta1, htb1'⟩ | ⟨r1, iv1, w1, cm1, sn1, cp1, eT1, hc1, htw1⟩
    · skip
      rcases hcs2 with ⟨eT2, cm2, sn2, cp2, hc2⟩ | ⟨v2, hv2, eT2, hs2, rfl, sn2, cp2, hc2⟩ | ⟨xa2, xb2, pf2, pg2, cm2, sn2, cp2, eT2, hc2, hta2, htb2'⟩ | ⟨r2, iv2, w2, cm2, sn2, cp2, eT2, hc2, htw2⟩
      · skip
        have hr8 := hr9
        unfold tU at hr8
        rw [eT1, eT2] at hr8
        dsimp only at hr8
        refine lv_aload_n hx hb dX2_same_18 rfl (lv_at hl 1 rfl) ?_
        refine va_get (D := Z.1) (ci := 20) (v := .int 1) (C := RX25) (T := TX25) (N := 8) hx hb hts in_X25 hown hE.1 (hM.at hc1) 0 rfl mm_cX25 0 (by decide) (hts _ q2504) (fun _ h9 => h9) rfl dX2_same_19 ?_
        refine lv_if_ne (tgt := 35) hx hb dX2_same_22 (by decide) (fun _ => ?_) (fun h9 => absurd h9 (by decide))
        refine lv_aload hx hb dX2_same_35 (lv_at hl 0 rfl) ?_
        refine va_get (D := Z.1) (ci := 20) (v := .int 1) (C := RX25) (T := TX25) (N := 8) hx hb hts in_X25 hown hE.1 (hM.at hc2) 0 rfl mm_cX25 0 (by decide) (hts _ q2504) (fun _ h9 => h9) rfl dX2_same_37 ?_
        refine lv_if_ne (tgt := 53) hx hb dX2_same_40 (by decide) (fun _ => ?_) (fun h9 => absurd h9 (by decide))
        refine lv_aload_n hx hb dX2_same_53 rfl (lv_at hl 1 rfl) ?_
        refine va_get (D := Z.1) (ci := 20) (v := .int 1) (C := RX25) (T := TX25) (N := 8) hx hb hts in_X25 hown hE.1 (hM.at hc1) 0 rfl mm_cX25 0 (by decide) (hts _ q2504) (fun _ h9 => h9) rfl dX2_same_54 ?_
        refine lv_aload hx hb dX2_same_57 (lv_at hl 0 rfl) ?_
        refine va_get (D := Z.1) (ci := 20) (v := .int 1) (C := RX25) (T := TX25) (N := 8) hx hb hts in_X25 hown hE.1 (hM.at hc2) 0 rfl mm_cX25 0 (by decide) (hts _ q2504) (fun _ h9 => h9) rfl dX2_same_59 ?_
        refine lv_icmp_eq (tgt := 74) hx hb dX2_same_62 (by decide) (fun _ => ?_) (fun h9 => absurd (by decide) h9)
        refine lv_aload_n hx hb dX2_same_74 rfl (lv_at hl 1 rfl) ?_
        refine va_get (D := Z.1) (ci := 20) (v := .int 1) (C := RX25) (T := TX25) (N := 8) hx hb hts in_X25 hown hE.1 (hM.at hc1) 0 rfl mm_cX25 0 (by decide) (hts _ q2504) (fun _ h9 => h9) rfl dX2_same_75 ?_
        refine lv_iconst (v := 2) hx hb dX2_same_78 (by decide) ?_
        refine lv_icmp_ne (tgt := 111) hx hb dX2_same_79 (by decide) (fun _ => ?_) (fun h9 => absurd h9 (by decide))
        refine lv_aload_n hx hb dX2_same_111 rfl (lv_at hl 1 rfl) ?_
        refine va_get (D := Z.1) (ci := 20) (v := .int 1) (C := RX25) (T := TX25) (N := 8) hx hb hts in_X25 hown hE.1 (hM.at hc1) 0 rfl mm_cX25 0 (by decide) (hts _ q2504) (fun _ h9 => h9) rfl dX2_same_112 ?_
        refine lv_iconst (v := 1) hx hb dX2_same_115 (by decide) ?_
        refine lv_icmp_eq (tgt := 132) hx hb dX2_same_116 (by decide) (fun _ => ?_) (fun h9 => absurd (by decide) h9)
        obtain rfl : r = .inr S := (Option.some.inj hr8).symm
        obtain ⟨S6, hS6⟩ : ∃ z, z = S := ⟨_, rfl⟩
        obtain ⟨L6, hL6⟩ : ∃ z, z = L := ⟨_, rfl⟩
        have hK := mK.rf M
        have hC6 : mCI M L6 vr D S6 := by rw [hS6, hL6]; exact hC
        have hLL : ∀ a ∈ L, a ∈ L6 := fun a h => by rw [hL6]; exact h
        have hvv : ∀ v, D v = true → D v = true ∧ vr v = vr v := fun _ h => ⟨h, rfl⟩
        replace hr9 : tU (n + 1) S x y = some (.inr S6) := by rw [hS6]; exact hr9
        have hz7 : ∀ z, M z ≠ none → mnext M z = none → mnext M z ≠ none → mVar M z ∨ ∃ t, mtp M L6 vr D t false z ∧ ∀ s, SizeOf.sizeOf (uap s (uap S6.2.1 t)) < SizeOf.sizeOf (uap s (uap S6.2.1 x)) := fun z h7 h8 h9 => absurd h8 h9
        obtain ⟨vr6, hvr6⟩ : ∃ z, z = vr := ⟨_, rfl⟩
        obtain ⟨D6, hD6⟩ : ∃ z, z = D := ⟨_, rfl⟩
        obtain ⟨k6, hk6⟩ : ∃ z, z = k := ⟨_, rfl⟩
        rw [← hvr6, ← hD6] at hC6
        replace hvv : ∀ v, D v = true → D6 v = true ∧ vr6 v = vr v := by rw [hD6, hvr6]; exact hvv
        replace hz7 : ∀ z, M z ≠ none → mnext M z = none → mnext M z ≠ none → mVar M z ∨ ∃ t, mtp M L6 vr6 D6 t false z ∧ ∀ s, SizeOf.sizeOf (uap s (uap S6.2.1 t)) < SizeOf.sizeOf (uap s (uap S6.2.1 x)) := fun z h7 h8 h9 => absurd h8 h9
        have hnn : S.1 ≤ S6.1 := by rw [hS6]; exact Nat.le_refl _
        have hDD : ∀ v, D6 v = true ↔ D v = true ∨ (S.1 ≤ v ∧ v < S6.1) := by rw [hD6, hS6]; exact fun v9 => ⟨Or.inl, fun h9 => h9.elim id (fun h8 => absurd h8.2 (Nat.not_lt.2 h8.1))⟩
        have hpd : mPd D S S6 := by rw [hS6]; exact mPd.rf _ _
        have hN6 : mNw M L L6 := by rw [hL6]; exact mNw.rf _ _
        have hmd6 : M md = some (md_E tm kd wh f1 f2 f3 wg ea sp rt th ak wr pl tk fa (nJ k6)) := by rw [hk6]; exact hmd
        have hSt6 : mSt M L6 k6 := by rw [hL6, hk6]; exact hSt
        have hlp : mPhi M L6 = mPhi M L ∧ L6.length = L.length := by rw [hL6]; exact ⟨rfl, rfl⟩
        rw [show (Sum.inr S : te) = .inr S6 from by rw [hS6]]
        obtain ⟨kn6, hgo, heq⟩ := tU_good (n + 1) S kn x y S6 hG hw1 hw2 hr9
        have hx6 : uap S6.2.1 t1 = uap S6.2.1 x := by rw [← hgo.2.2 t1, he1, hgo.2.2 x]
        have hy6 : uap S6.2.1 t2 = uap S6.2.1 x := by rw [← hgo.2.2 t2, he2, hgo.2.2 y, heq]
        have hf61 := mtp.mono hK hLL hvv _ _ _ htb1
        have hu61 : mnext M b1 = none := Classical.byContradiction fun h9 => by
          rcases hz7 b1 htb1.has (mnext_t hc1) h9 with h5 | ⟨t, ht, hs⟩
          · exact h5.notT hc1 (by decide)
          · have h8 := hs .var
            rw [(mtp.uniq hC6.1.2.2.1 _ _ _ _ _ ht hf61).1, hx6] at h8
            exact Nat.lt_irrefl _ h8
        obtain ⟨is61, cm61, sn61, cp61, hc61⟩ := hK.T hc1
        have hi61 := hu61
        rw [mnext_t hc61] at hi61; subst hi61
        have hn61 : mt_now M 0 b1 b1 := ⟨rfl, _, _, _, _, _, _, _, hc61⟩
        have hf62 := mtp.mono hK hLL hvv _ _ _ htb2
        have hu62 : mnext M b2 = none := Classical.byContradiction fun h9 => by
          rcases hz7 b2 htb2.has (mnext_t hc2) h9 with h5 | ⟨t, ht, hs⟩
          · exact h5.notT hc2 (by decide)
          · have h8 := hs .var
            rw [(mtp.uniq hC6.1.2.2.1 _ _ _ _ _ ht hf62).1, hy6] at h8
            exact Nat.lt_irrefl _ h8
        obtain ⟨is62, cm62, sn62, cp62, hc62⟩ := hK.T hc2
        have hi62 := hu62
        rw [mnext_t hc62] at hi62; subst hi62
        have hn62 : mt_now M 0 b2 b2 := ⟨rfl, _, _, _, _, _, _, _, hc62⟩
        refine lv_aload_n hx hb dX2_same_132 rfl (lv_at hl 1 rfl) ?_
        refine mm_callV (As := []) (rest := []) ⟨hx, hb, hml, hown, hts⟩ hE hST hA (c_X25_now l Z hn61) (cwV 0 hts (lw_V q2604 q2605 q2606 q98 q2607) rfl rfl rfl (by decide +kernel) ⟨(by (try dsimp only); omega), (by (try dsimp only); omega)⟩) hM hS mm_cX25 hc61 rfl hl.1 (Nat.le_of_ble_eq_true rfl) dX2_same_133 rfl ⟨(by (try dsimp only); omega), (by (try dsimp only); omega)⟩ (fun _ _ _ _ _ _ h9 => h9.elim) (fun v_8 M_9 H locs hp_10 hM hS => ?_)
        obtain ⟨rfl, eM_9⟩ := hp_10
        rw [eM_9] at hM
        refine lv_astore hx hb dX2_same_136 hl (by decide) rfl (fun ls hl => ?_)
        replace hl : lv_has ls 7 [(5, .ref b1), (4, .ref b2), (3, .ref b1), (0, .ref md), (1, .ref ax), (2, .ref ay)] := hl
        refine lv_aload hx hb dX2_same_138 (lv_at hl 1 rfl) ?_
        refine mm_callV (As := []) (rest := []) ⟨hx, hb, hml, hown, hts⟩ hE hST hA (c_X25_now l Z hn62) (cwV 0 hts (lw_V q2604 q2605 q2606 q98 q2607) rfl rfl rfl (by decide +kernel) ⟨(by (try dsimp only); omega), (by (try dsimp only); omega)⟩) hM hS mm_cX25 hc62 rfl hl.1 (Nat.le_of_ble_eq_true rfl) dX2_same_140 rfl ⟨(by (try dsimp only); omega), (by (try dsimp only); omega)⟩ (fun _ _ _ _ _ _ h9 => h9.elim) (fun v_11 M_12 H locs hp_13 hM hS => ?_)
        obtain ⟨rfl, eM_12⟩ := hp_13
        rw [eM_12] at hM
        refine lv_astore hx hb dX2_same_143 hl (by decide) rfl (fun ls hl => ?_)
        replace hl : lv_has ls 7 [(6, .ref b2), (5, .ref b1), (4, .ref b2), (3, .ref b1), (0, .ref md), (1, .ref ax), (2, .ref ay)] := hl
        refine lv_aload hx hb dX2_same_145 (lv_at hl 1 rfl) ?_
        refine lv_aload hx hb dX2_same_147 (lv_at hl 0 rfl) ?_
        refine lv_acmp_eq (rx := (some b1)) (ry := (some b2)) (tgt := 159) hx hb dX2_same_149 (by decide) (fun c_14 => ?_) (fun c_14 => ?_)
        · skip
          exact absurd (Option.some.inj c_14) hbb
        · skip
          refine lv_aload hx hb dX2_same_152 (lv_at hl 1 rfl) ?_
          refine lv_aload hx hb dX2_same_154 (lv_at hl 0 rfl) ?_
          refine mm_put (D := Z.1) (ci := 20) (v := .ref b2) (ty := .object "RowenTongueModel$Type") (C := RX25) (T := TX25) (N := 8) hx hb hts in_X25 tyX25 tyX25_ok nmX25 hown hE.1 hM hS hc61 mm_cX25 1 (by decide) (hts _ q2506) (fun _ h9 => h9) rfl (by decide +kernel) rfl rfl (Nat.le_of_ble_eq_true rfl) dX2_same_156 (fun H locs hM hS => ?_)
          have hM : mm_P Z.1 mm_cl A (mm_U M b1 (.inr (20, [.int 1, .ref b2, .null, .null, .null, .int (mm_b cm61), .long sn61, va_rf cp61]))) H := hM
          have hc_15 : (mm_U M b1 (.inr (20, [.int 1, .ref b2, .null, .null, .null, .int (mm_b cm61), .long sn61, va_rf cp61]))) b1 = some (.inr (20, [.int 1, .ref b2, .null, .null, .null, .int (mm_b cm61), .long sn61, va_rf cp61])) := mm_U_eq
          have hc_16 : (mm_U M b1 (.inr (20, [.int 1, .ref b2, .null, .null, .null, .int (mm_b cm61), .long sn61, va_rf cp61]))) md = some (.inr (1, [.int tm, .ref kd, .ref wh, .ref f1, .ref f2, .ref f3, .ref wg, .int ea, .int sp, va_rf rt, .int th, .int ak, .int wr, .ref pl, .int tk, .int (mm_b fa), .long (nJ k6)])) := (mm_U_ne (mm_neC hmd6 hc61 (by decide))).trans hmd6
          obtain ⟨M_17, eM_17⟩ : ∃ z, z = mm_U M b1 (.inr (20, [.int 1, .ref b2, .null, .null, .null, .int (mm_b cm61), .long sn61, va_rf cp61])) := ⟨_, rfl⟩
          rw [← eM_17] at hM hc_15 hc_16
          have hK7 : mK M M_17 := by rw [eM_17]; exact mK.putT (is' := some b2) (cm' := cm61) (sn' := sn61) (cp' := cp61) hc61
          obtain ⟨hC7, hP7⟩ := hC6.fwd0 hK7 (a := b1) (o := b2) (fun q9 h9 => by rw [eM_17]; exact mm_U_ne h9) (hLL _ hbL1) hu61 (by unfold mnext; rw [hc_15]; rfl) hu62 (Ne.symm hbb) hf61 hf62 (fun h9 => h9.notT hc61 (by decide)) (hx6.trans hy6.symm)
          have hSt7 : mSt M_17 L6 k6 := by rw [eM_17]; exact mSt.put (is' := some b2) (cm' := cm61) hSt6 hc61
          have hmd7 := hc_16
          refine mm_retvD hx hb hr hlk hM hS ⟨rfl, S6, L6, vr6, D6, k6, rfl, hK.trans hK7, hC7, hLL, hvv, hnn, hDD, hpd, by (try dsimp only); omega, by (try dsimp only); omega, by omega, by omega, (hN6.trans hK7 (mNw.rf _ _)), hmd7, hSt7, by omega, fun z h7 h8 h9 => ?_⟩ dX2_same_159 (by (try dsimp only); omega) (by (try dsimp only); omega)
          by_cases h6 : z = b1
          · subst h6; exact Or.inr ⟨_, mtp.mono hK7 (fun _ h => h) (fun _ h => ⟨h, rfl⟩) _ _ _ hf61, fun s => by rw [hx6]; exact Nat.le_refl _⟩
          · have h5 : mnext M_17 z = mnext M z := by unfold mnext; rw [eM_17, mm_U_ne h6]
            rcases hz7 z h7 h8 (by rw [← h5]; exact h9) with h4 | ⟨t, ht, hs⟩
            · exact Or.inl h4
            · exact Or.inr ⟨t, mtp.mono hK7 (fun _ h => h) (fun _ h => ⟨h, rfl⟩) _ _ _ ht, fun s => Nat.le_of_lt (hs s)⟩
      · skip
        refine lv_aload_n hx hb dX2_same_18 rfl (lv_at hl 1 rfl) ?_
        refine va_get (D := Z.1) (ci := 20) (v := .int 1) (C := RX25) (T := TX25) (N := 8) hx hb hts in_X25 hown hE.1 (hM.at hc1) 0 rfl mm_cX25 0 (by decide) (hts _ q2504) (fun _ h9 => h9) rfl dX2_same_19 ?_
        refine lv_if_ne (tgt := 35) hx hb dX2_same_22 (by decide) (fun _ => ?_) (fun h9 => absurd h9 (by decide))
        refine lv_aload hx hb dX2_same_35 (lv_at hl 0 rfl) ?_
        refine va_get (D := Z.1) (ci := 20) (v := .int 0) (C := RX25) (T := TX25) (N := 8) hx hb hts in_X25 hown hE.1 (hM.at hc2) 0 rfl mm_cX25 0 (by decide) (hts _ q2504) (fun _ h9 => h9) rfl dX2_same_37 ?_
        refine lv_if_ne (tgt := 53) hx hb dX2_same_40 (by decide) (fun h9 => absurd (by decide) h9) (fun _ => ?_)
        refine lv_aload_n hx hb dX2_same_43 rfl (lv_at hl 2 rfl) ?_
        refine lv_aload hx hb dX2_same_44 (lv_at hl 0 rfl) ?_
        refine lv_aload_n hx hb dX2_same_46 rfl (lv_at hl 1 rfl) ?_
        have hrr := tU_var2 hr9 eT2 (fun v h9 => by rw [eT1] at h9; cases h9)
        refine mm_callVD (As := [.ref (vr v2), .ref b1]) (rest := []) ⟨hx, hb, hml, hown, hts⟩ hE hST hA (d_X2_binds l Z (t := t1) (T := uap S.2.1 x) hmd hSt (by omega) he1 hC hv2 hc2 htb1 (mnext_t hc1)) (cwV 2 hts (lw_V q2658 q2660 qs39 q54 q2661) rfl rfl rfl (by decide +kernel) ⟨(by (try dsimp only); omega), (by (try dsimp only); omega)⟩) hM hS mm_cX2 hmd rfl hl.1 (Nat.le_of_ble_eq_true rfl) dX2_same_47 rfl ⟨(by (try dsimp only); omega), (by (try dsimp only); omega)⟩ (fun E ce q M9 H1 locs1 hp9 hM9 hS9 hce hcv hcl => by obtain ⟨er9, he9, hx9⟩ := hp9; exact mm_outxD htab hlk hM9 hS9 hce hcv hcl ⟨er9, hrr.trans he9, hx9⟩ (by (try dsimp only); omega) (by (try dsimp only); omega)) (fun v_8 M_9 n_11 k_12 H locs hp_10 hM hS => ?_)
        obtain ⟨rfl, rfl, rfl, S5, k5, hS5, hK5, hC5, hS51, hP5, hz5, hpd5, hk5, hmd5, hSt5⟩ := hp_10
        refine lv_goto (tgt := 159) hx hb dX2_same_50 (by decide) ?_
        refine mm_retvD hx hb hr hlk hM hS ⟨rfl, S5, L, vr, D, k5, hrr.trans hS5, hK5, hC5, fun _ h => h, fun _ h => ⟨h, rfl⟩, Nat.le_of_eq hS51.symm, fun v9 => ⟨Or.inl, fun h9 => h9.elim id (fun h8 => absurd h8.2 (Nat.not_lt.2 (by rw [hS51]; exact h8.1)))⟩, hpd5, by (try dsimp only); omega, by (try dsimp only); omega, by omega, by omega, mNw.rf _ _, hmd5, hSt5, by omega, fun z h7 h8 h9 => ?_⟩ dX2_same_159 (by (try dsimp only); omega) (by (try dsimp only); omega)
        by_cases h6 : z = vr v2
        · exact Or.inl (h6 ▸ hC.isVar hv2)
        · exact absurd ((hz5 z h7 h6).trans h8) h9
      · skip
        have hr8 := hr9
        unfold tU at hr8
        rw [eT1, eT2] at hr8
        dsimp only at hr8
        have hrr : r = .inl 2 := (Option.some.inj hr8).symm
        refine lv_aload_n hx hb dX2_same_18 rfl (lv_at hl 1 rfl) ?_
        refine va_get (D := Z.1) (ci := 20) (v := .int 1) (C := RX25) (T := TX25) (N := 8) hx hb hts in_X25 hown hE.1 (hM.at hc1) 0 rfl mm_cX25 0 (by decide) (hts _ q2504) (fun _ h9 => h9) rfl dX2_same_19 ?_
        refine lv_if_ne (tgt := 35) hx hb dX2_same_22 (by decide) (fun _ => ?_) (fun h9 => absurd h9 (by decide))
        refine lv_aload hx hb dX2_same_35 (lv_at hl 0 rfl) ?_
        refine va_get (D := Z.1) (ci := 20) (v := .int 2) (C := RX25) (T := TX25) (N := 8) hx hb hts in_X25 hown hE.1 (hM.at hc2) 0 rfl mm_cX25 0 (by decide) (hts _ q2504) (fun _ h9 => h9) rfl dX2_same_37 ?_
        refine lv_if_ne (tgt := 53) hx hb dX2_same_40 (by decide) (fun _ => ?_) (fun h9 => absurd h9 (by decide))
        refine lv_aload_n hx hb dX2_same_53 rfl (lv_at hl 1 rfl) ?_
        refine va_get (D := Z.1) (ci := 20) (v := .int 1) (C := RX25) (T := TX25) (N := 8) hx hb hts in_X25 hown hE.1 (hM.at hc1) 0 rfl mm_cX25 0 (by decide) (hts _ q2504) (fun _ h9 => h9) rfl dX2_same_54 ?_
        refine lv_aload hx hb dX2_same_57 (lv_at hl 0 rfl) ?_
        refine va_get (D := Z.1) (ci := 20) (v := .int 2) (C := RX25) (T := TX25) (N := 8) hx hb hts in_X25 hown hE.1 (hM.at hc2) 0 rfl mm_cX25 0 (by decide) (hts _ q2504) (fun _ h9 => h9) rfl dX2_same_59 ?_
        refine lv_icmp_eq (tgt := 74) hx hb dX2_same_62 (by decide) (fun h9 => absurd h9 (by decide)) (fun _ => ?_)
        refine mm_new (D := Z.1) (ci := 21) (fs := mm_f0X26) (C := RX26) (T := TX26) (N := 7) hx hb hts in_X26 tyX26 tyX26_ok hown (hts _ q2492) (hts _ q2530) (hts _ q99) hE.1 hM hS hA mm_cX26 mm_dfX26 (by (try dsimp only); omega) (by (try dsimp only); omega) dX2_same_65 (fun q_9 H nq_8 hM hS => ?_)
        have hM : mm_P Z.1 mm_cl A (mm_U M q_9 (.inr (21, [.null, .null, .null, .null, .null, .int 0, .int 0]))) H := hM
        have ne_10 : b1 ≠ q_9 := (mm_neN hc1 nq_8)
        have ne_11 : b2 ≠ q_9 := (mm_neN hc2 nq_8)
        have ne_12 : md ≠ q_9 := (mm_neN hmd nq_8)
        have hc_13 : (mm_U M q_9 (.inr (21, [.null, .null, .null, .null, .null, .int 0, .int 0]))) q_9 = some (.inr (21, [.null, .null, .null, .null, .null, .int 0, .int 0])) := mm_U_eq
        have hc_14 : (mm_U M q_9 (.inr (21, [.null, .null, .null, .null, .null, .int 0, .int 0]))) b1 = some (.inr (20, [.int 1, .null, .null, .null, .null, .int (mm_b cm1), .long sn1, va_rf cp1])) := (mm_U_ne ne_10).trans hc1
        have hc_15 : (mm_U M q_9 (.inr (21, [.null, .null, .null, .null, .null, .int 0, .int 0]))) b2 = some (.inr (20, [.int 2, .null, .ref pf2, .ref pg2, .null, .int (mm_b cm2), .long sn2, va_rf cp2])) := (mm_U_ne ne_11).trans hc2
        have hc_16 : (mm_U M q_9 (.inr (21, [.null, .null, .null, .null, .null, .int 0, .int 0]))) md = some (.inr (1, [.int tm, .ref kd, .ref wh, .ref f1, .ref f2, .ref f3, .ref wg, .int ea, .int sp, va_rf rt, .int th, .int ak, .int wr, .ref pl, .int tk, .int (mm_b fa), .long (nJ k)])) := (mm_U_ne ne_12).trans hmd
        obtain ⟨M_17, eM_17⟩ : ∃ z, z = mm_U M q_9 (.inr (21, [.null, .null, .null, .null, .null, .int 0, .int 0])) := ⟨_, rfl⟩
        rw [← eM_17] at hM hc_14 hc_15 hc_16 hc_13
        refine lv_dup hx hb dX2_same_68 rfl ?_
        refine lv_iconst (v := 2) hx hb dX2_same_69 (by decide) ?_
        refine mm_callI (As := [.int 2]) (rest := [.ref q_9]) ⟨hx, hb, hml, hown, hts⟩ hE hST hA (c_X26_init l Z (er := 2) hc_13) (cwI (maxL := 2) 1 hts (lw_meth q2540) rfl rfl rfl (hts _ q99) (hts _ q2538) (hts _ q2539) rfl (by decide +kernel) ⟨(by (try dsimp only); omega), (by (try dsimp only); omega)⟩) hM hS rfl hl.1 (Nat.le_of_ble_eq_true rfl) dX2_same_70 rfl ⟨(by (try dsimp only); omega), (by (try dsimp only); omega)⟩ (fun _ _ _ _ _ _ h9 => h9.elim) (fun v_18 M_19 H locs hp_20 hM hS => ?_)
        obtain ⟨rfl, eM_19⟩ := hp_20
        rw [eM_19] at hM
        have hc_21 : (mm_U M_17 q_9 (.inr (21, [.null, .null, .null, .null, .null, .int 0, .int 2]))) q_9 = some (.inr (21, [.null, .null, .null, .null, .null, .int 0, .int 2])) := mm_U_eq
        have hc_22 : (mm_U M_17 q_9 (.inr (21, [.null, .null, .null, .null, .null, .int 0, .int 2]))) b1 = some (.inr (20, [.int 1, .null, .null, .null, .null, .int (mm_b cm1), .long sn1, va_rf cp1])) := (mm_U_ne ne_10).trans hc_14
        have hc_23 : (mm_U M_17 q_9 (.inr (21, [.null, .null, .null, .null, .null, .int 0, .int 2]))) b2 = some (.inr (20, [.int 2, .null, .ref pf2, .ref pg2, .null, .int (mm_b cm2), .long sn2, va_rf cp2])) := (mm_U_ne ne_11).trans hc_15
        have hc_24 : (mm_U M_17 q_9 (.inr (21, [.null, .null, .null, .null, .null, .int 0, .int 2]))) md = some (.inr (1, [.int tm, .ref kd, .ref wh, .ref f1, .ref f2, .ref f3, .ref wg, .int ea, .int sp, va_rf rt, .int th, .int ak, .int wr, .ref pl, .int tk, .int (mm_b fa), .long (nJ k)])) := (mm_U_ne ne_12).trans hc_16
        obtain ⟨M_25, eM_25⟩ : ∃ z, z = mm_U M_17 q_9 (.inr (21, [.null, .null, .null, .null, .null, .int 0, .int 2])) := ⟨_, rfl⟩
        rw [← eM_25] at hM hc_22 hc_23 hc_24 hc_21
        exact mm_athrowD hx hb htab hlk hE hM hS hc_21 mm_cX26 ⟨2, hrr, mX.of ⟨rfl, nq_8, by subst eM_25 eM_17; simp only [mm_U_U]⟩⟩ dX2_same_73 (by (try dsimp only); omega) (by (try dsimp only); omega)
      · skip
        cases iv2
        · skip
          replace hc2 : M b2 = some (mt_E 3 none none none (some w2) cm2 sn2 cp2) := hc2
          have hr8 := hr9
          unfold tU at hr8
          rw [eT1, eT2] at hr8
          dsimp only at hr8
          have hrr : r = .inl 2 := (Option.some.inj hr8).symm
          refine lv_aload_n hx hb dX2_same_18 rfl (lv_at hl 1 rfl) ?_
          refine va_get (D := Z.1) (ci := 20) (v := .int 1) (C := RX25) (T := TX25) (N := 8) hx hb hts in_X25 hown hE.1 (hM.at hc1) 0 rfl mm_cX25 0 (by decide) (hts _ q2504) (fun _ h9 => h9) rfl dX2_same_19 ?_
          refine lv_if_ne (tgt := 35) hx hb dX2_same_22 (by decide) (fun _ => ?_) (fun h9 => absurd h9 (by decide))
          refine lv_aload hx hb dX2_same_35 (lv_at hl 0 rfl) ?_
          refine va_get (D := Z.1) (ci := 20) (v := .int 3) (C := RX25) (T := TX25) (N := 8) hx hb hts in_X25 hown hE.1 (hM.at hc2) 0 rfl mm_cX25 0 (by decide) (hts _ q2504) (fun _ h9 => h9) rfl dX2_same_37 ?_
          refine lv_if_ne (tgt := 53) hx hb dX2_same_40 (by decide) (fun _ => ?_) (fun h9 => absurd h9 (by decide))
          refine lv_aload_n hx hb dX2_same_53 rfl (lv_at hl 1 rfl) ?_
          refine va_get (D := Z.1) (ci := 20) (v := .int 1) (C := RX25) (T := TX25) (N := 8) hx hb hts in_X25 hown hE.1 (hM.at hc1) 0 rfl mm_cX25 0 (by decide) (hts _ q2504) (fun _ h9 => h9) rfl dX2_same_54 ?_
          refine lv_aload hx hb dX2_same_57 (lv_at hl 0 rfl) ?_
          refine va_get (D := Z.1) (ci := 20) (v := .int 3) (C := RX25) (T := TX25) (N := 8) hx hb hts in_X25 hown hE.1 (hM.at hc2) 0 rfl mm_cX25 0 (by decide) (hts _ q2504) (fun _ h9 => h9) rfl dX2_same_59 ?_
          refine lv_icmp_eq (tgt := 74) hx hb dX2_same_62 (by decide) (fun h9 => absurd h9 (by decide)) (fun _ => ?_)
          refine mm_new (D := Z.1) (ci := 21) (fs := mm_f0X26) (C := RX26) (T := TX26) (N := 7) hx hb hts in_X26 tyX26 tyX26_ok hown (hts _ q2492) (hts _ q2530) (hts _ q99) hE.1 hM hS hA mm_cX26 mm_dfX26 (by (try dsimp only); omega) (by (try dsimp only); omega) dX2_same_65 (fun q_9 H nq_8 hM hS => ?_)
          have hM : mm_P Z.1 mm_cl A (mm_U M q_9 (.inr (21, [.null, .null, .null, .null, .null, .int 0, .int 0]))) H := hM
          have ne_10 : b1 ≠ q_9 := (mm_neN hc1 nq_8)
          have ne_11 : b2 ≠ q_9 := (mm_neN hc2 nq_8)
          have ne_12 : md ≠ q_9 := (mm_neN hmd nq_8)
          have hc_13 : (mm_U M q_9 (.inr (21, [.null, .null, .null, .null, .null, .int 0, .int 0]))) q_9 = some (.inr (21, [.null, .null, .null, .null, .null, .int 0, .int 0])) := mm_U_eq
          have hc_14 : (mm_U M q_9 (.inr (21, [.null, .null, .null, .null, .null, .int 0, .int 0]))) b1 = some (.inr (20, [.int 1, .null, .null, .null, .null, .int (mm_b cm1), .long sn1, va_rf cp1])) := (mm_U_ne ne_10).trans hc1
          have hc_15 : (mm_U M q_9 (.inr (21, [.null, .null, .null, .null, .null, .int 0, .int 0]))) b2 = some (.inr (20, [.int 3, .null, .null, .null, .ref w2, .int (mm_b cm2), .long sn2, va_rf cp2])) := (mm_U_ne ne_11).trans hc2
          have hc_16 : (mm_U M q_9 (.inr (21, [.null, .null, .null, .null, .null, .int 0, .int 0]))) md = some (.inr (1, [.int tm, .ref kd, .ref wh, .ref f1, .ref f2, .ref f3, .ref wg, .int ea, .int sp, va_rf rt, .int th, .int ak, .int wr, .ref pl, .int tk, .int (mm_b fa), .long (nJ k)])) := (mm_U_ne ne_12).trans hmd
          obtain ⟨M_17, eM_17⟩ : ∃ z, z = mm_U M q_9 (.inr (21, [.null, .null, .null, .null, .null, .int 0, .int 0])) := ⟨_, rfl⟩
          rw [← eM_17] at hM hc_14 hc_15 hc_16 hc_13
          refine lv_dup hx hb dX2_same_68 rfl ?_
          refine lv_iconst (v := 2) hx hb dX2_same_69 (by decide) ?_
          refine mm_callI (As := [.int 2]) (rest := [.ref q_9]) ⟨hx, hb, hml, hown, hts⟩ hE hST hA (c_X26_init l Z (er := 2) hc_13) (cwI (maxL := 2) 1 hts (lw_meth q2540) rfl rfl rfl (hts _ q99) (hts _ q2538) (hts _ q2539) rfl (by decide +kernel) ⟨(by (try dsimp only); omega), (by (try dsimp only); omega)⟩) hM hS rfl hl.1 (Nat.le_of_ble_eq_true rfl) dX2_same_70 rfl ⟨(by (try dsimp only); omega), (by (try dsimp only); omega)⟩ (fun _ _ _ _ _ _ h9 => h9.elim) (fun v_18 M_19 H locs hp_20 hM hS => ?_)
          obtain ⟨rfl, eM_19⟩ := hp_20
          rw [eM_19] at hM
          have hc_21 : (mm_U M_17 q_9 (.inr (21, [.null, .null, .null, .null, .null, .int 0, .int 2]))) q_9 = some (.inr (21, [.null, .null, .null, .null, .null, .int 0, .int 2])) := mm_U_eq
          have hc_22 : (mm_U M_17 q_9 (.inr (21, [.null, .null, .null, .null, .null, .int 0, .int 2]))) b1 = some (.inr (20, [.int 1, .null, .null, .null, .null, .int (mm_b cm1), .long sn1, va_rf cp1])) := (mm_U_ne ne_10).trans hc_14
          have hc_23 : (mm_U M_17 q_9 (.inr (21, [.null, .null, .null, .null, .null, .int 0, .int 2]))) b2 = some (.inr (20, [.int 3, .null, .null, .null, .ref w2, .int (mm_b cm2), .long sn2, va_rf cp2])) := (mm_U_ne ne_11).trans hc_15
          have hc_24 : (mm_U M_17 q_9 (.inr (21, [.null, .null, .null, .null, .null, .int 0, .int 2]))) md = some (.inr (1, [.int tm, .ref kd, .ref wh, .ref f1, .ref f2, .ref f3, .ref wg, .int ea, .int sp, va_rf rt, .int th, .int ak, .int wr, .ref pl, .int tk, .int (mm_b fa), .long (nJ k)])) := (mm_U_ne ne_12).trans hc_16
          obtain ⟨M_25, eM_25⟩ : ∃ z, z = mm_U M_17 q_9 (.inr (21, [.null, .null, .null, .null, .null, .int 0, .int 2])) := ⟨_, rfl⟩
          rw [← eM_25] at hM hc_22 hc_23 hc_24 hc_21
          exact mm_athrowD hx hb htab hlk hE hM hS hc_21 mm_cX26 ⟨2, hrr, mX.of ⟨rfl, nq_8, by subst eM_25 eM_17; simp only [mm_U_U]⟩⟩ dX2_same_73 (by (try dsimp only); omega) (by (try dsimp only); omega)
        · skip
          replace hc2 : M b2 = some (mt_E 4 none none none (some w2) cm2 sn2 cp2) := hc2
          have hr8 := hr9
          unfold tU at hr8
          rw [eT1, eT2] at hr8
          dsimp only at hr8
          have hrr : r = .inl 2 := (Option.some.inj hr8).symm
          refine lv_aload_n hx hb dX2_same_18 rfl (lv_at hl 1 rfl) ?_
          refine va_get (D := Z.1) (ci := 20) (v := .int 1) (C := RX25) (T := TX25) (N := 8) hx hb hts in_X25 hown hE.1 (hM.at hc1) 0 rfl mm_cX25 0 (by decide) (hts _ q2504) (fun _ h9 => h9) rfl dX2_same_19 ?_
          refine lv_if_ne (tgt := 35) hx hb dX2_same_22 (by decide) (fun _ => ?_) (fun h9 => absurd h9 (by decide))
          refine lv_aload hx hb dX2_same_35 (lv_at hl 0 rfl) ?_
          refine va_get (D := Z.1) (ci := 20) (v := .int 4) (C := RX25) (T := TX25) (N := 8) hx hb hts in_X25 hown hE.1 (hM.at hc2) 0 rfl mm_cX25 0 (by decide) (hts _ q2504) (fun _ h9 => h9) rfl dX2_same_37 ?_
          refine lv_if_ne (tgt := 53) hx hb dX2_same_40 (by decide) (fun _ => ?_) (fun h9 => absurd h9 (by decide))
          refine lv_aload_n hx hb dX2_same_53 rfl (lv_at hl 1 rfl) ?_
          refine va_get (D := Z.1) (ci := 20) (v := .int 1) (C := RX25) (T := TX25) (N := 8) hx hb hts in_X25 hown hE.1 (hM.at hc1) 0 rfl mm_cX25 0 (by decide) (hts _ q2504) (fun _ h9 => h9) rfl dX2_same_54 ?_
          refine lv_aload hx hb dX2_same_57 (lv_at hl 0 rfl) ?_
          refine va_get (D := Z.1) (ci := 20) (v := .int 4) (C := RX25) (T := TX25) (N := 8) hx hb hts in_X25 hown hE.1 (hM.at hc2) 0 rfl mm_cX25 0 (by decide) (hts _ q2504) (fun _ h9 => h9) rfl dX2_same_59 ?_
          refine lv_icmp_eq (tgt := 74) hx hb dX2_same_62 (by decide) (fun h9 => absurd h9 (by decide)) (fun _ => ?_)
          refine mm_new (D := Z.1) (ci := 21) (fs := mm_f0X26) (C := RX26) (T := TX26) (N := 7) hx hb hts in_X26 tyX26 tyX26_ok hown (hts _ q2492) (hts _ q2530) (hts _ q99) hE.1 hM hS hA mm_cX26 mm_dfX26 (by (try dsimp only); omega) (by (try dsimp only); omega) dX2_same_65 (fun q_9 H nq_8 hM hS => ?_)
          have hM : mm_P Z.1 mm_cl A (mm_U M q_9 (.inr (21, [.null, .null, .null, .null, .null, .int 0, .int 0]))) H := hM
          have ne_10 : b1 ≠ q_9 := (mm_neN hc1 nq_8)
          have ne_11 : b2 ≠ q_9 := (mm_neN hc2 nq_8)
          have ne_12 : md ≠ q_9 := (mm_neN hmd nq_8)
          have hc_13 : (mm_U M q_9 (.inr (21, [.null, .null, .null, .null, .null, .int 0, .int 0]))) q_9 = some (.inr (21, [.null, .null, .null, .null, .null, .int 0, .int 0])) := mm_U_eq
          have hc_14 : (mm_U M q_9 (.inr (21, [.null, .null, .null, .null, .null, .int 0, .int 0]))) b1 = some (.inr (20, [.int 1, .null, .null, .null, .null, .int (mm_b cm1), .long sn1, va_rf cp1])) := (mm_U_ne ne_10).trans hc1
          have hc_15 : (mm_U M q_9 (.inr (21, [.null, .null, .null, .null, .null, .int 0, .int 0]))) b2 = some (.inr (20, [.int 4, .null, .null, .null, .ref w2, .int (mm_b cm2), .long sn2, va_rf cp2])) := (mm_U_ne ne_11).trans hc2
          have hc_16 : (mm_U M q_9 (.inr (21, [.null, .null, .null, .null, .null, .int 0, .int 0]))) md = some (.inr (1, [.int tm, .ref kd, .ref wh, .ref f1, .ref f2, .ref f3, .ref wg, .int ea, .int sp, va_rf rt, .int th, .int ak, .int wr, .ref pl, .int tk, .int (mm_b fa), .long (nJ k)])) := (mm_U_ne ne_12).trans hmd
          obtain ⟨M_17, eM_17⟩ : ∃ z, z = mm_U M q_9 (.inr (21, [.null, .null, .null, .null, .null, .int 0, .int 0])) := ⟨_, rfl⟩
          rw [← eM_17] at hM hc_14 hc_15 hc_16 hc_13
          refine lv_dup hx hb dX2_same_68 rfl ?_
          refine lv_iconst (v := 2) hx hb dX2_same_69 (by decide) ?_
          refine mm_callI (As := [.int 2]) (rest := [.ref q_9]) ⟨hx, hb, hml, hown, hts⟩ hE hST hA (c_X26_init l Z (er := 2) hc_13) (cwI (maxL := 2) 1 hts (lw_meth q2540) rfl rfl rfl (hts _ q99) (hts _ q2538) (hts _ q2539) rfl (by decide +kernel) ⟨(by (try dsimp only); omega), (by (try dsimp only); omega)⟩) hM hS rfl hl.1 (Nat.le_of_ble_eq_true rfl) dX2_same_70 rfl ⟨(by (try dsimp only); omega), (by (try dsimp only); omega)⟩ (fun _ _ _ _ _ _ h9 => h9.elim) (fun v_18 M_19 H locs hp_20 hM hS => ?_)
          obtain ⟨rfl, eM_19⟩ := hp_20
          rw [eM_19] at hM
          have hc_21 : (mm_U M_17 q_9 (.inr (21, [.null, .null, .null, .null, .null, .int 0, .int 2]))) q_9 = some (.inr (21, [.null, .null, .null, .null, .null, .int 0, .int 2])) := mm_U_eq
          have hc_22 : (mm_U M_17 q_9 (.inr (21, [.null, .null, .null, .null, .null, .int 0, .int 2]))) b1 = some (.inr (20, [.int 1, .null, .null, .null, .null, .int (mm_b cm1), .long sn1, va_rf cp1])) := (mm_U_ne ne_10).trans hc_14
          have hc_23 : (mm_U M_17 q_9 (.inr (21, [.null, .null, .null, .null, .null, .int 0, .int 2]))) b2 = some (.inr (20, [.int 4, .null, .null, .null, .ref w2, .int (mm_b cm2), .long sn2, va_rf cp2])) := (mm_U_ne ne_11).trans hc_15
          have hc_24 : (mm_U M_17 q_9 (.inr (21, [.null, .null, .null, .null, .null, .int 0, .int 2]))) md = some (.inr (1, [.int tm, .ref kd, .ref wh, .ref f1, .ref f2, .ref f3, .ref wg, .int ea, .int sp, va_rf rt, .int th, .int ak, .int wr, .ref pl, .int tk, .int (mm_b fa), .long (nJ k)])) := (mm_U_ne ne_12).trans hc_16
          obtain ⟨M_25, eM_25⟩ : ∃ z, z = mm_U M_17 q_9 (.inr (21, [.null, .null, .null, .null, .null, .int 0, .int 2])) := ⟨_, rfl⟩
          rw [← eM_25] at hM hc_22 hc_23 hc_24 hc_21
          exact mm_athrowD hx hb htab hlk hE hM hS hc_21 mm_cX26 ⟨2, hrr, mX.of ⟨rfl, nq_8, by subst eM_25 eM_17; simp only [mm_U_U]⟩⟩ dX2_same_73 (by (try dsimp only); omega) (by (try dsimp only); omega)
    · skip
      refine lv_aload_n hx hb dX2_same_18 rfl (lv_at hl 1 rfl) ?_
      refine va_get (D := Z.1) (ci := 20) (v := .int 0) (C := RX25) (T := TX25) (N := 8) hx hb hts in_X25 hown hE.1 (hM.at hc1) 0 rfl mm_cX25 0 (by decide) (hts _ q2504) (fun _ h9 => h9) rfl dX2_same_19 ?_
      refine lv_if_ne (tgt := 35) hx hb dX2_same_22 (by decide) (fun h9 => absurd (by decide) h9) (fun _ => ?_)
      refine lv_aload_n hx hb dX2_same_25 rfl (lv_at hl 2 rfl) ?_
      refine lv_aload_n hx hb dX2_same_26 rfl (lv_at hl 1 rfl) ?_
      refine lv_aload hx hb dX2_same_27 (lv_at hl 0 rfl) ?_
      have hny : uap S.2.1 y ≠ .var v1 := fun h9 => by
        rcases hcs2 with ⟨eT2, cm2, sn2, cp2, hc2⟩ | ⟨v2, hv2, eT2, hs2, rfl, sn2, cp2, hc2⟩ | ⟨xa2, xb2, pf2, pg2, cm2, sn2, cp2, eT2, hc2, hta2, htb2'⟩ | ⟨r2, iv2, w2, cm2, sn2, cp2, eT2, hc2, htw2⟩
        · rw [eT2] at h9; cases h9
        · rw [eT2] at h9; cases h9; exact hbb rfl
        · rw [eT2] at h9; cases h9
        · rw [eT2] at h9; cases h9
      have hrr := tU_var1 hr9 eT1 hny
      have hnb2 : mnext M b2 = none := by
        rcases hcs2 with ⟨eT2, cm2, sn2, cp2, hc2⟩ | ⟨v2, hv2, eT2, hs2, rfl, sn2, cp2, hc2⟩ | ⟨xa2, xb2, pf2, pg2, cm2, sn2, cp2, eT2, hc2, hta2, htb2'⟩ | ⟨r2, iv2, w2, cm2, sn2, cp2, eT2, hc2, htw2⟩
        · exact mnext_t hc2
        · exact mnext_t hc2
        · exact mnext_t hc2
        · exact mnext_t hc2
      refine mm_callVD (As := [.ref (vr v1), .ref b2]) (rest := []) ⟨hx, hb, hml, hown, hts⟩ hE hST hA (d_X2_binds l Z (t := t2) (T := uap S.2.1 y) hmd hSt (by omega) he2 hC hv1 hc1 htb2 hnb2) (cwV 2 hts (lw_V q2658 q2660 qs39 q54 q2661) rfl rfl rfl (by decide +kernel) ⟨(by (try dsimp only); omega), (by (try dsimp only); omega)⟩) hM hS mm_cX2 hmd rfl hl.1 (Nat.le_of_ble_eq_true rfl) dX2_same_29 rfl ⟨(by (try dsimp only); omega), (by (try dsimp only); omega)⟩ (fun E ce q M9 H1 locs1 hp9 hM9 hS9 hce hcv hcl => by obtain ⟨er9, he9, hx9⟩ := hp9; exact mm_outxD htab hlk hM9 hS9 hce hcv hcl ⟨er9, hrr.trans he9, hx9⟩ (by (try dsimp only); omega) (by (try dsimp only); omega)) (fun v_8 M_9 n_11 k_12 H locs hp_10 hM hS => ?_)
      obtain ⟨rfl, rfl, rfl, S5, k5, hS5, hK5, hC5, hS51, hP5, hz5, hpd5, hk5, hmd5, hSt5⟩ := hp_10
      refine lv_goto (tgt := 159) hx hb dX2_same_32 (by decide) ?_
      refine mm_retvD hx hb hr hlk hM hS ⟨rfl, S5, L, vr, D, k5, hrr.trans hS5, hK5, hC5, fun _ h => h, fun _ h => ⟨h, rfl⟩, Nat.le_of_eq hS51.symm, fun v9 => ⟨Or.inl, fun h9 => h9.elim id (fun h8 => absurd h8.2 (Nat.not_lt.2 (by rw [hS51]; exact h8.1)))⟩, hpd5, by (try dsimp only); omega, by (try dsimp only); omega, by omega, by omega, mNw.rf _ _, hmd5, hSt5, by omega, fun z h7 h8 h9 => ?_⟩ dX2_same_159 (by (try dsimp only); omega) (by (try dsimp only); omega)
      by_cases h6 : z = vr v1
      · exact Or.inl (h6 ▸ hC.isVar hv1)
      · exact absurd ((hz5 z h7 h6).trans h8) h9
    · skip
      rcases hcs2 with ⟨eT2, cm2, sn2, cp2, hc2⟩ | ⟨v2, hv2, eT2, hs2, rfl, sn2, cp2, hc2⟩ | ⟨xa2, xb2, pf2, pg2, cm2, sn2, cp2, eT2, hc2, hta2, htb2'⟩ | ⟨r2, iv2, w2, cm2, sn2, cp2, eT2, hc2, htw2⟩
      · skip
        have hr8 := hr9
        unfold tU at hr8
        rw [eT1, eT2] at hr8
        dsimp only at hr8
        have hrr : r = .inl 2 := (Option.some.inj hr8).symm
        refine lv_aload_n hx hb dX2_same_18 rfl (lv_at hl 1 rfl) ?_
        refine va_get (D := Z.1) (ci := 20) (v := .int 2) (C := RX25) (T := TX25) (N := 8) hx hb hts in_X25 hown hE.1 (hM.at hc1) 0 rfl mm_cX25 0 (by decide) (hts _ q2504) (fun _ h9 => h9) rfl dX2_same_19 ?_
        refine lv_if_ne (tgt := 35) hx hb dX2_same_22 (by decide) (fun _ => ?_) (fun h9 => absurd h9 (by decide))
        refine lv_aload hx hb dX2_same_35 (lv_at hl 0 rfl) ?_
        refine va_get (D := Z.1) (ci := 20) (v := .int 1) (C := RX25) (T := TX25) (N := 8) hx hb hts in_X25 hown hE.1 (hM.at hc2) 0 rfl mm_cX25 0 (by decide) (hts _ q2504) (fun _ h9 => h9) rfl dX2_same_37 ?_
        refine lv_if_ne (tgt := 53) hx hb dX2_same_40 (by decide) (fun _ => ?_) (fun h9 => absurd h9 (by decide))
        refine lv_aload_n hx hb dX2_same_53 rfl (lv_at hl 1 rfl) ?_
        refine va_get (D := Z.1) (ci := 20) (v := .int 2) (C := RX25) (T := TX25) (N := 8) hx hb hts in_X25 hown hE.1 (hM.at hc1) 0 rfl mm_cX25 0 (by decide) (hts _ q2504) (fun _ h9 => h9) rfl dX2_same_54 ?_
        refine lv_aload hx hb dX2_same_57 (lv_at hl 0 rfl) ?_
        refine va_get (D := Z.1) (ci := 20) (v := .int 1) (C := RX25) (T := TX25) (N := 8) hx hb hts in_X25 hown hE.1 (hM.at hc2) 0 rfl mm_cX25 0 (by decide) (hts _ q2504) (fun _ h9 => h9) rfl dX2_same_59 ?_
        refine lv_icmp_eq (tgt := 74) hx hb dX2_same_62 (by decide) (fun h9 => absurd h9 (by decide)) (fun _ => ?_)
        refine mm_new (D := Z.1) (ci := 21) (fs := mm_f0X26) (C := RX26) (T := TX26) (N := 7) hx hb hts in_X26 tyX26 tyX26_ok hown (hts _ q2492) (hts _ q2530) (hts _ q99) hE.1 hM hS hA mm_cX26 mm_dfX26 (by (try dsimp only); omega) (by (try dsimp only); omega) dX2_same_65 (fun q_9 H nq_8 hM hS => ?_)
        have hM : mm_P Z.1 mm_cl A (mm_U M q_9 (.inr (21, [.null, .null, .null, .null, .null, .int 0, .int 0]))) H := hM
        have ne_10 : b1 ≠ q_9 := (mm_neN hc1 nq_8)
        have ne_11 : b2 ≠ q_9 := (mm_neN hc2 nq_8)
        have ne_12 : md ≠ q_9 := (mm_neN hmd nq_8)
        have hc_13 : (mm_U M q_9 (.inr (21, [.null, .null, .null, .null, .null, .int 0, .int 0]))) q_9 = some (.inr (21, [.null, .null, .null, .null, .null, .int 0, .int 0])) := mm_U_eq
        have hc_14 : (mm_U M q_9 (.inr (21, [.null, .null, .null, .null, .null, .int 0, .int 0]))) b1 = some (.inr (20, [.int 2, .null, .ref pf1, .ref pg1, .null, .int (mm_b cm1), .long sn1, va_rf cp1])) := (mm_U_ne ne_10).trans hc1
        have hc_15 : (mm_U M q_9 (.inr (21, [.null, .null, .null, .null, .null, .int 0, .int 0]))) b2 = some (.inr (20, [.int 1, .null, .null, .null, .null, .int (mm_b cm2), .long sn2, va_rf cp2])) := (mm_U_ne ne_11).trans hc2
        have hc_16 : (mm_U M q_9 (.inr (21, [.null, .null, .null, .null, .null, .int 0, .int 0]))) md = some (.inr (1, [.int tm, .ref kd, .ref wh, .ref f1, .ref f2, .ref f3, .ref wg, .int ea, .int sp, va_rf rt, .int th, .int ak, .int wr, .ref pl, .int tk, .int (mm_b fa), .long (nJ k)])) := (mm_U_ne ne_12).trans hmd
        obtain ⟨M_17, eM_17⟩ : ∃ z, z = mm_U M q_9 (.inr (21, [.null, .null, .null, .null, .null, .int 0, .int 0])) := ⟨_, rfl⟩
        rw [← eM_17] at hM hc_14 hc_15 hc_16 hc_13
        refine lv_dup hx hb dX2_same_68 rfl ?_
        refine lv_iconst (v := 2) hx hb dX2_same_69 (by decide) ?_
        refine mm_callI (As := [.int 2]) (rest := [.ref q_9]) ⟨hx, hb, hml, hown, hts⟩ hE hST hA (c_X26_init l Z (er := 2) hc_13) (cwI (maxL := 2) 1 hts (lw_meth q2540) rfl rfl rfl (hts _ q99) (hts _ q2538) (hts _ q2539) rfl (by decide +kernel) ⟨(by (try dsimp only); omega), (by (try dsimp only); omega)⟩) hM hS rfl hl.1 (Nat.le_of_ble_eq_true rfl) dX2_same_70 rfl ⟨(by (try dsimp only); omega), (by (try dsimp only); omega)⟩ (fun _ _ _ _ _ _ h9 => h9.elim) (fun v_18 M_19 H locs hp_20 hM hS => ?_)
        obtain ⟨rfl, eM_19⟩ := hp_20
        rw [eM_19] at hM
        have hc_21 : (mm_U M_17 q_9 (.inr (21, [.null, .null, .null, .null, .null, .int 0, .int 2]))) q_9 = some (.inr (21, [.null, .null, .null, .null, .null, .int 0, .int 2])) := mm_U_eq
        have hc_22 : (mm_U M_17 q_9 (.inr (21, [.null, .null, .null, .null, .null, .int 0, .int 2]))) b1 = some (.inr (20, [.int 2, .null, .ref pf1, .ref pg1, .null, .int (mm_b cm1), .long sn1, va_rf cp1])) := (mm_U_ne ne_10).trans hc_14
        have hc_23 : (mm_U M_17 q_9 (.inr (21, [.null, .null, .null, .null, .null, .int 0, .int 2]))) b2 = some (.inr (20, [.int 1, .null, .null, .null, .null, .int (mm_b cm2), .long sn2, va_rf cp2])) := (mm_U_ne ne_11).trans hc_15
        have hc_24 : (mm_U M_17 q_9 (.inr (21, [.null, .null, .null, .null, .null, .int 0, .int 2]))) md = some (.inr (1, [.int tm, .ref kd, .ref wh, .ref f1, .ref f2, .ref f3, .ref wg, .int ea, .int sp, va_rf rt, .int th, .int ak, .int wr, .ref pl, .int tk, .int (mm_b fa), .long (nJ k)])) := (mm_U_ne ne_12).trans hc_16
        obtain ⟨M_25, eM_25⟩ : ∃ z, z = mm_U M_17 q_9 (.inr (21, [.null, .null, .null, .null, .null, .int 0, .int 2])) := ⟨_, rfl⟩
        rw [← eM_25] at hM hc_22 hc_23 hc_24 hc_21
        exact mm_athrowD hx hb htab hlk hE hM hS hc_21 mm_cX26 ⟨2, hrr, mX.of ⟨rfl, nq_8, by subst eM_25 eM_17; simp only [mm_U_U]⟩⟩ dX2_same_73 (by (try dsimp only); omega) (by (try dsimp only); omega)
      · skip
        refine lv_aload_n hx hb dX2_same_18 rfl (lv_at hl 1 rfl) ?_
        refine va_get (D := Z.1) (ci := 20) (v := .int 2) (C := RX25) (T := TX25) (N := 8) hx hb hts in_X25 hown hE.1 (hM.at hc1) 0 rfl mm_cX25 0 (by decide) (hts _ q2504) (fun _ h9 => h9) rfl dX2_same_19 ?_
        refine lv_if_ne (tgt := 35) hx hb dX2_same_22 (by decide) (fun _ => ?_) (fun h9 => absurd h9 (by decide))
        refine lv_aload hx hb dX2_same_35 (lv_at hl 0 rfl) ?_
        refine va_get (D := Z.1) (ci := 20) (v := .int 0) (C := RX25) (T := TX25) (N := 8) hx hb hts in_X25 hown hE.1 (hM.at hc2) 0 rfl mm_cX25 0 (by decide) (hts _ q2504) (fun _ h9 => h9) rfl dX2_same_37 ?_
        refine lv_if_ne (tgt := 53) hx hb dX2_same_40 (by decide) (fun h9 => absurd (by decide) h9) (fun _ => ?_)
        refine lv_aload_n hx hb dX2_same_43 rfl (lv_at hl 2 rfl) ?_
        refine lv_aload hx hb dX2_same_44 (lv_at hl 0 rfl) ?_
        refine lv_aload_n hx hb dX2_same_46 rfl (lv_at hl 1 rfl) ?_
        have hrr := tU_var2 hr9 eT2 (fun v h9 => by rw [eT1] at h9; cases h9)
        refine mm_callVD (As := [.ref (vr v2), .ref b1]) (rest := []) ⟨hx, hb, hml, hown, hts⟩ hE hST hA (d_X2_binds l Z (t := t1) (T := uap S.2.1 x) hmd hSt (by omega) he1 hC hv2 hc2 htb1 (mnext_t hc1)) (cwV 2 hts (lw_V q2658 q2660 qs39 q54 q2661) rfl rfl rfl (by decide +kernel) ⟨(by (try dsimp only); omega), (by (try dsimp only); omega)⟩) hM hS mm_cX2 hmd rfl hl.1 (Nat.le_of_ble_eq_true rfl) dX2_same_47 rfl ⟨(by (try dsimp only); omega), (by (try dsimp only); omega)⟩ (fun E ce q M9 H1 locs1 hp9 hM9 hS9 hce hcv hcl => by obtain ⟨er9, he9, hx9⟩ := hp9; exact mm_outxD htab hlk hM9 hS9 hce hcv hcl ⟨er9, hrr.trans he9, hx9⟩ (by (try dsimp only); omega) (by (try dsimp only); omega)) (fun v_8 M_9 n_11 k_12 H locs hp_10 hM hS => ?_)
        obtain ⟨rfl, rfl, rfl, S5, k5, hS5, hK5, hC5, hS51, hP5, hz5, hpd5, hk5, hmd5, hSt5⟩ := hp_10
        refine lv_goto (tgt := 159) hx hb dX2_same_50 (by decide) ?_
        refine mm_retvD hx hb hr hlk hM hS ⟨rfl, S5, L, vr, D, k5, hrr.trans hS5, hK5, hC5, fun _ h => h, fun _ h => ⟨h, rfl⟩, Nat.le_of_eq hS51.symm, fun v9 => ⟨Or.inl, fun h9 => h9.elim id (fun h8 => absurd h8.2 (Nat.not_lt.2 (by rw [hS51]; exact h8.1)))⟩, hpd5, by (try dsimp only); omega, by (try dsimp only); omega, by omega, by omega, mNw.rf _ _, hmd5, hSt5, by omega, fun z h7 h8 h9 => ?_⟩ dX2_same_159 (by (try dsimp only); omega) (by (try dsimp only); omega)
        by_cases h6 : z = vr v2
        · exact Or.inl (h6 ▸ hC.isVar hv2)
        · exact absurd ((hz5 z h7 h6).trans h8) h9
      · skip
        have hr8 := hr9
        unfold tU at hr8
        rw [eT1, eT2] at hr8
        dsimp only at hr8
        have hu1 := hw1
        have hu2 := hw2
        have hrt1 : uap S.2.1 (uap S.2.1 x) = uap S.2.1 x := hC.1.1.le x
        have hrt2 : uap S.2.1 (uap S.2.1 y) = uap S.2.1 y := hC.1.1.le y
        rw [eT1] at hrt1 hu1; rw [eT2] at hrt2 hu2
        simp only [uap, Lean.Grind.CommRing.Expr.sub.injEq] at hrt1 hrt2
        simp only [uwf] at hu1 hu2
        rw [tU_cg (x' := xa1) (y' := xa2) hrt1.1 hrt2.1] at hr8
        have hd1' : mDeep M L vr D S xa1 (d + 1) := hdp.to (y := xa1) (k := 1) (fun s => by rw [eT1]; simp only [uap, uh]; omega)
        have hd2' : mDeep M L vr D S xb1 (d + 1) := hdp.to (y := xb1) (k := 1) (fun s => by rw [eT1]; simp only [uap, uh]; omega)
        have hdl1 := hd1'.le hC hB9
        cases hru : tU n S xa1 xa2 with
        | none => rw [hru] at hr8; cases hr8
        | some ru =>
          rw [hru] at hr8
          refine lv_aload_n hx hb dX2_same_18 rfl (lv_at hl 1 rfl) ?_
          refine va_get (D := Z.1) (ci := 20) (v := .int 2) (C := RX25) (T := TX25) (N := 8) hx hb hts in_X25 hown hE.1 (hM.at hc1) 0 rfl mm_cX25 0 (by decide) (hts _ q2504) (fun _ h9 => h9) rfl dX2_same_19 ?_
          refine lv_if_ne (tgt := 35) hx hb dX2_same_22 (by decide) (fun _ => ?_) (fun h9 => absurd h9 (by decide))
          refine lv_aload hx hb dX2_same_35 (lv_at hl 0 rfl) ?_
          refine va_get (D := Z.1) (ci := 20) (v := .int 2) (C := RX25) (T := TX25) (N := 8) hx hb hts in_X25 hown hE.1 (hM.at hc2) 0 rfl mm_cX25 0 (by decide) (hts _ q2504) (fun _ h9 => h9) rfl dX2_same_37 ?_
          refine lv_if_ne (tgt := 53) hx hb dX2_same_40 (by decide) (fun _ => ?_) (fun h9 => absurd h9 (by decide))
          refine lv_aload_n hx hb dX2_same_53 rfl (lv_at hl 1 rfl) ?_
          refine va_get (D := Z.1) (ci := 20) (v := .int 2) (C := RX25) (T := TX25) (N := 8) hx hb hts in_X25 hown hE.1 (hM.at hc1) 0 rfl mm_cX25 0 (by decide) (hts _ q2504) (fun _ h9 => h9) rfl dX2_same_54 ?_
          refine lv_aload hx hb dX2_same_57 (lv_at hl 0 rfl) ?_
          refine va_get (D := Z.1) (ci := 20) (v := .int 2) (C := RX25) (T := TX25) (N := 8) hx hb hts in_X25 hown hE.1 (hM.at hc2) 0 rfl mm_cX25 0 (by decide) (hts _ q2504) (fun _ h9 => h9) rfl dX2_same_59 ?_
          refine lv_icmp_eq (tgt := 74) hx hb dX2_same_62 (by decide) (fun _ => ?_) (fun h9 => absurd (by decide) h9)
          refine lv_aload_n hx hb dX2_same_74 rfl (lv_at hl 1 rfl) ?_
          refine va_get (D := Z.1) (ci := 20) (v := .int 2) (C := RX25) (T := TX25) (N := 8) hx hb hts in_X25 hown hE.1 (hM.at hc1) 0 rfl mm_cX25 0 (by decide) (hts _ q2504) (fun _ h9 => h9) rfl dX2_same_75 ?_
          refine lv_iconst (v := 2) hx hb dX2_same_78 (by decide) ?_
          refine lv_icmp_ne (tgt := 111) hx hb dX2_same_79 (by decide) (fun h9 => absurd (by decide) h9) (fun _ => ?_)
          refine lv_aload_n hx hb dX2_same_82 rfl (lv_at hl 2 rfl) ?_
          refine lv_aload_n hx hb dX2_same_83 rfl (lv_at hl 1 rfl) ?_
          refine va_get (D := Z.1) (ci := 20) (v := .ref pf1) (C := RX25) (T := TX25) (N := 8) hx hb hts in_X25 hown hE.1 (hM.at hc1) 0 rfl mm_cX25 2 (by decide) (hts _ q2507) (fun _ h9 => h9) rfl dX2_same_84 ?_
          refine lv_aload hx hb dX2_same_87 (lv_at hl 0 rfl) ?_
          refine va_get (D := Z.1) (ci := 20) (v := .ref pf2) (C := RX25) (T := TX25) (N := 8) hx hb hts in_X25 hown hE.1 (hM.at hc2) 0 rfl mm_cX25 2 (by decide) (hts _ q2507) (fun _ h9 => h9) rfl dX2_same_89 ?_
          refine mm_callVD (As := [.ref pf1, .ref pf2]) (rest := []) ⟨hx, hb, hml, hown, hts⟩ hE hST hA (ih M L vr D S kn xa1 xa2 pf1 pf2 ru Hh (d + 1) (Dd - 1) b k hmd hSt (by omega) hC hG hta1 hta2 hu1.1 hu2.1 hru hB9 hH (by omega) hd1') (cwV 2 hts (lw_V q2654 q2656 qs38 q54 q2657) rfl rfl rfl (by decide +kernel) ⟨(by (try dsimp only); omega), (by (try dsimp only); omega)⟩) hM hS mm_cX2 hmd rfl hl.1 (Nat.le_of_ble_eq_true rfl) dX2_same_92 rfl ⟨(by (try dsimp only); omega), (by (try dsimp only); omega)⟩ (fun E ce q M9 H1 locs1 hp9 hM9 hS9 hce hcv hcl => by obtain ⟨er9, he9, hx9⟩ := hp9; exact mm_outxD htab hlk hM9 hS9 hce hcv hcl ⟨er9, by rw [he9] at hr8; exact (Option.some.inj hr8).symm, hx9⟩ (by (try dsimp only); omega) (by (try dsimp only); omega)) (fun v_8 M_9 n_11 k_12 H locs hp_10 hM hS => ?_)
          obtain ⟨rfl, S5, L5, vr5, D5, k5, hrS, hK5, hC5, hL5, hv5, hn5, hD5, hpd5, hc5, hs5, hl5, hP5, hN5, hmd5, hSt5, hk5, hz5⟩ := hp_10
          subst hrS
          obtain ⟨kn5, hg5, heq5⟩ := tU_good n S kn xa1 xa2 S5 hG hu1.1 hu2.1 hru
          obtain ⟨is51, cm51, sn51, cp51, hc51⟩ := hK5.T hc1
          have ht51 := mtp.mono hK5 hL5 hv5 _ _ _ htb1'
          have hwf51 := hg5.wf hu1.2
          obtain ⟨is52, cm52, sn52, cp52, hc52⟩ := hK5.T hc2
          have ht52 := mtp.mono hK5 hL5 hv5 _ _ _ htb2'
          have hwf52 := hg5.wf hu2.2
          replace hr8 : tU n S5 xb1 xb2 = some r := by rw [← tU_cg (n := n) (hg5.2.2 xb1) (hg5.2.2 xb2)]; exact hr8
          have hB95 := hB9.goR hC hC5 hK5 hL5 hv5 hg5.2.2 hN5
          have hd5 := hd2'.mono hK5 hL5 hv5 hg5.2.2
          have hdl5 := hd5.le hC5 hB95
          refine lv_aload_n hx hb dX2_same_95 rfl (lv_at hl 2 rfl) ?_
          refine lv_aload_n hx hb dX2_same_96 rfl (lv_at hl 1 rfl) ?_
          refine va_get (D := Z.1) (ci := 20) (v := .ref pg1) (C := RX25) (T := TX25) (N := 8) hx hb hts in_X25 hown hE.1 (hM.at hc51) 0 rfl mm_cX25 3 (by decide) (hts _ q2508) (fun _ h9 => h9) rfl dX2_same_97 ?_
          refine lv_aload hx hb dX2_same_100 (lv_at hl 0 rfl) ?_
          refine va_get (D := Z.1) (ci := 20) (v := .ref pg2) (C := RX25) (T := TX25) (N := 8) hx hb hts in_X25 hown hE.1 (hM.at hc52) 0 rfl mm_cX25 3 (by decide) (hts _ q2508) (fun _ h9 => h9) rfl dX2_same_102 ?_
          refine mm_callVD (As := [.ref pg1, .ref pg2]) (rest := []) ⟨hx, hb, hml, hown, hts⟩ hE hST hA (ih M_9 L5 vr5 D5 S5 kn5 xb1 xb2 pg1 pg2 r Hh (d + 1) (Dd - 1) b k5 hmd5 hSt5 (by omega) hC5 hg5.2.1 ht51 ht52 hwf51 hwf52 hr8 hB95 hH (by omega) hd5) (cwV 2 hts (lw_V q2654 q2656 qs38 q54 q2657) rfl rfl rfl (by decide +kernel) ⟨(by (try dsimp only); omega), (by (try dsimp only); omega)⟩) hM hS mm_cX2 hmd5 rfl hl.1 (Nat.le_of_ble_eq_true rfl) dX2_same_105 rfl ⟨(by (try dsimp only); omega), (by (try dsimp only); omega)⟩ (fun E ce q M9 H1 locs1 hp9 hM9 hS9 hce hcv hcl => by obtain ⟨er9, he9, hx9⟩ := hp9; exact mm_outxD htab hlk hM9 hS9 hce hcv hcl ⟨er9, he9, hx9.after hK5⟩ (by (try dsimp only); omega) (by (try dsimp only); omega)) (fun v_13 M_14 n_16 k_17 H locs hp_15 hM hS => ?_)
          obtain ⟨rfl, S6, L6, vr6, D6, k6, hrS, hK6, hC6, hL6, hv6, hn6, hD6, hpd6, hc6, hs6, hl6, hP6, hN6', hmd6, hSt6, hk6, hz6⟩ := hp_15
          subst hrS
          obtain ⟨kn7, hg6, -⟩ := tU_good n S5 kn5 xb1 xb2 S6 hg5.2.1 hwf51 hwf52 hr8
          have hK := hK5.trans hK6
          have hgo0 := hg5.trans hg6
          have hLL : ∀ a ∈ L, a ∈ L6 := fun a h => hL6 a (hL5 a h)
          have hvv : ∀ v, D v = true → D6 v = true ∧ vr6 v = vr v := fun v h => ⟨(hv6 v (hv5 v h).1).1, (hv6 v (hv5 v h).1).2.trans (hv5 v h).2⟩
          have hnn := Nat.le_trans hn5 hn6
          have hN6 := hN5.trans hK6 hN6'
          have hDD : ∀ v, D6 v = true ↔ D v = true ∨ (S.1 ≤ v ∧ v < S6.1) := fun v => by
            rw [hD6 v, hD5 v]
            constructor
            · rintro ((h | h) | h)
              · exact Or.inl h
              · exact Or.inr ⟨h.1, by omega⟩
              · exact Or.inr ⟨by omega, h.2⟩
            · rintro (h | h)
              · exact Or.inl (Or.inl h)
              · by_cases h9 : v < S5.1
                · exact Or.inl (Or.inr ⟨h.1, h9⟩)
                · exact Or.inr ⟨by omega, h.2⟩
          have hpd : mPd D S S6 := fun v h1 h2 => by
            obtain ⟨a1, a2, a3⟩ := hpd5 v h1 h2
            have hd9 : D5 v = false := by cases h8 : D5 v with | false => rfl | true => rcases (hD5 v).1 h8 with h7 | h7; (rw [h7] at h1; cases h1); (exact absurd h7.1 (by omega))
            obtain ⟨b1, b2, b3⟩ := hpd6 v hd9 (by omega)
            exact ⟨fun h => b1 (a1 h), b2.trans a2, b3.trans a3⟩
          have hsz6 : ∀ s, uap s (uap S6.2.1 x) = .sub (uap s (uap S6.2.1 xa1)) (uap s (uap S6.2.1 xb1)) := fun s => by rw [← hgo0.2.2 x, eT1]; simp only [uap]; rw [hgo0.2.2 xa1, hgo0.2.2 xb1]
          have hz7 : ∀ z, M z ≠ none → mnext M z = none → mnext M_14 z ≠ none → mVar M z ∨ ∃ t, mtp M_14 L6 vr6 D6 t false z ∧ ∀ s, SizeOf.sizeOf (uap s (uap S6.2.1 t)) < SizeOf.sizeOf (uap s (uap S6.2.1 x)) := by
            intro z h7 h8 h9
            have hlt : ∀ s, SizeOf.sizeOf (uap s (uap S6.2.1 xa1)) < SizeOf.sizeOf (uap s (uap S6.2.1 x)) ∧ SizeOf.sizeOf (uap s (uap S6.2.1 xb1)) < SizeOf.sizeOf (uap s (uap S6.2.1 x)) := fun s => by
              rw [hsz6 s]
              have e9 : SizeOf.sizeOf (Lean.Grind.CommRing.Expr.sub (uap s (uap S6.2.1 xa1)) (uap s (uap S6.2.1 xb1))) = 1 + SizeOf.sizeOf (uap s (uap S6.2.1 xa1)) + SizeOf.sizeOf (uap s (uap S6.2.1 xb1)) := rfl
              omega
            by_cases h6 : mnext M_9 z = none
            · rcases hz6 z (hK5.hasN h7) h6 h9 with h5 | ⟨t, ht, hs⟩
              · exact Or.inl (h5.back hK5 h7)
              · exact Or.inr ⟨t, ht, fun s => Nat.lt_of_le_of_lt (hs s) (hlt s).2⟩
            · rcases hz5 z h7 h8 h6 with h5 | ⟨t, ht, hs⟩
              · exact Or.inl h5
              · refine Or.inr ⟨t, mtp.mono hK6 hL6 hv6 _ _ _ ht, fun s => Nat.lt_of_le_of_lt ?_ (hlt s).1⟩
                have h9 := hs (fun v => uap s (S6.2.1 v))
                rw [← uap_ap, ← uap_ap, hg6.2.2 t, hg6.2.2 xa1] at h9; exact h9
          refine lv_goto (tgt := 132) hx hb dX2_same_108 (by decide) ?_
          obtain ⟨kn6, hgo, heq⟩ := tU_good (n + 1) S kn x y S6 hG hw1 hw2 hr9
          have hx6 : uap S6.2.1 t1 = uap S6.2.1 x := by rw [← hgo.2.2 t1, he1, hgo.2.2 x]
          have hy6 : uap S6.2.1 t2 = uap S6.2.1 x := by rw [← hgo.2.2 t2, he2, hgo.2.2 y, heq]
          have hf61 := mtp.mono hK hLL hvv _ _ _ htb1
          have hu61 : mnext M_14 b1 = none := Classical.byContradiction fun h9 => by
            rcases hz7 b1 htb1.has (mnext_t hc1) h9 with h5 | ⟨t, ht, hs⟩
            · exact h5.notT hc1 (by decide)
            · have h8 := hs .var
              rw [(mtp.uniq hC6.1.2.2.1 _ _ _ _ _ ht hf61).1, hx6] at h8
              exact Nat.lt_irrefl _ h8
          obtain ⟨is61, cm61, sn61, cp61, hc61⟩ := hK.T hc1
          have hi61 := hu61
          rw [mnext_t hc61] at hi61; subst hi61
          have hn61 : mt_now M_14 0 b1 b1 := ⟨rfl, _, _, _, _, _, _, _, hc61⟩
          have hf62 := mtp.mono hK hLL hvv _ _ _ htb2
          have hu62 : mnext M_14 b2 = none := Classical.byContradiction fun h9 => by
            rcases hz7 b2 htb2.has (mnext_t hc2) h9 with h5 | ⟨t, ht, hs⟩
            · exact h5.notT hc2 (by decide)
            · have h8 := hs .var
              rw [(mtp.uniq hC6.1.2.2.1 _ _ _ _ _ ht hf62).1, hy6] at h8
              exact Nat.lt_irrefl _ h8
          obtain ⟨is62, cm62, sn62, cp62, hc62⟩ := hK.T hc2
          have hi62 := hu62
          rw [mnext_t hc62] at hi62; subst hi62
          have hn62 : mt_now M_14 0 b2 b2 := ⟨rfl, _, _, _, _, _, _, _, hc62⟩
          refine lv_aload_n hx hb dX2_same_132 rfl (lv_at hl 1 rfl) ?_
          refine mm_callV (As := []) (rest := []) ⟨hx, hb, hml, hown, hts⟩ hE hST hA (c_X25_now l Z hn61) (cwV 0 hts (lw_V q2604 q2605 q2606 q98 q2607) rfl rfl rfl (by decide +kernel) ⟨(by (try dsimp only); omega), (by (try dsimp only); omega)⟩) hM hS mm_cX25 hc61 rfl hl.1 (Nat.le_of_ble_eq_true rfl) dX2_same_133 rfl ⟨(by (try dsimp only); omega), (by (try dsimp only); omega)⟩ (fun _ _ _ _ _ _ h9 => h9.elim) (fun v_18 M_19 H locs hp_20 hM hS => ?_)
          obtain ⟨rfl, eM_19⟩ := hp_20
          rw [eM_19] at hM
          refine lv_astore hx hb dX2_same_136 hl (by decide) rfl (fun ls hl => ?_)
          replace hl : lv_has ls 7 [(5, .ref b1), (4, .ref b2), (3, .ref b1), (0, .ref md), (1, .ref ax), (2, .ref ay)] := hl
          refine lv_aload hx hb dX2_same_138 (lv_at hl 1 rfl) ?_
          refine mm_callV (As := []) (rest := []) ⟨hx, hb, hml, hown, hts⟩ hE hST hA (c_X25_now l Z hn62) (cwV 0 hts (lw_V q2604 q2605 q2606 q98 q2607) rfl rfl rfl (by decide +kernel) ⟨(by (try dsimp only); omega), (by (try dsimp only); omega)⟩) hM hS mm_cX25 hc62 rfl hl.1 (Nat.le_of_ble_eq_true rfl) dX2_same_140 rfl ⟨(by (try dsimp only); omega), (by (try dsimp only); omega)⟩ (fun _ _ _ _ _ _ h9 => h9.elim) (fun v_21 M_22 H locs hp_23 hM hS => ?_)
          obtain ⟨rfl, eM_22⟩ := hp_23
          rw [eM_22] at hM
          refine lv_astore hx hb dX2_same_143 hl (by decide) rfl (fun ls hl => ?_)
          replace hl : lv_has ls 7 [(6, .ref b2), (5, .ref b1), (4, .ref b2), (3, .ref b1), (0, .ref md), (1, .ref ax), (2, .ref ay)] := hl
          refine lv_aload hx hb dX2_same_145 (lv_at hl 1 rfl) ?_
          refine lv_aload hx hb dX2_same_147 (lv_at hl 0 rfl) ?_
          refine lv_acmp_eq (rx := (some b1)) (ry := (some b2)) (tgt := 159) hx hb dX2_same_149 (by decide) (fun c_24 => ?_) (fun c_24 => ?_)
          · skip
            exact absurd (Option.some.inj c_24) hbb
          · skip
            refine lv_aload hx hb dX2_same_152 (lv_at hl 1 rfl) ?_
            refine lv_aload hx hb dX2_same_154 (lv_at hl 0 rfl) ?_
            refine mm_put (D := Z.1) (ci := 20) (v := .ref b2) (ty := .object "RowenTongueModel$Type") (C := RX25) (T := TX25) (N := 8) hx hb hts in_X25 tyX25 tyX25_ok nmX25 hown hE.1 hM hS hc61 mm_cX25 1 (by decide) (hts _ q2506) (fun _ h9 => h9) rfl (by decide +kernel) rfl rfl (Nat.le_of_ble_eq_true rfl) dX2_same_156 (fun H locs hM hS => ?_)
            have hM : mm_P Z.1 mm_cl A (mm_U M_14 b1 (.inr (20, [.int 2, .ref b2, .ref pf1, .ref pg1, .null, .int (mm_b cm61), .long sn61, va_rf cp61]))) H := hM
            have hc_25 : (mm_U M_14 b1 (.inr (20, [.int 2, .ref b2, .ref pf1, .ref pg1, .null, .int (mm_b cm61), .long sn61, va_rf cp61]))) b1 = some (.inr (20, [.int 2, .ref b2, .ref pf1, .ref pg1, .null, .int (mm_b cm61), .long sn61, va_rf cp61])) := mm_U_eq
            have hc_26 : (mm_U M_14 b1 (.inr (20, [.int 2, .ref b2, .ref pf1, .ref pg1, .null, .int (mm_b cm61), .long sn61, va_rf cp61]))) md = some (.inr (1, [.int tm, .ref kd, .ref wh, .ref f1, .ref f2, .ref f3, .ref wg, .int ea, .int sp, va_rf rt, .int th, .int ak, .int wr, .ref pl, .int tk, .int (mm_b fa), .long (nJ k6)])) := (mm_U_ne (mm_neC hmd6 hc61 (by decide))).trans hmd6
            obtain ⟨M_27, eM_27⟩ : ∃ z, z = mm_U M_14 b1 (.inr (20, [.int 2, .ref b2, .ref pf1, .ref pg1, .null, .int (mm_b cm61), .long sn61, va_rf cp61])) := ⟨_, rfl⟩
            rw [← eM_27] at hM hc_25 hc_26
            have hK7 : mK M_14 M_27 := by rw [eM_27]; exact mK.putT (is' := some b2) (cm' := cm61) (sn' := sn61) (cp' := cp61) hc61
            obtain ⟨hC7, hP7⟩ := hC6.fwd0 hK7 (a := b1) (o := b2) (fun q9 h9 => by rw [eM_27]; exact mm_U_ne h9) (hLL _ hbL1) hu61 (by unfold mnext; rw [hc_25]; rfl) hu62 (Ne.symm hbb) hf61 hf62 (fun h9 => h9.notT hc61 (by decide)) (hx6.trans hy6.symm)
            have hSt7 : mSt M_27 L6 k6 := by rw [eM_27]; exact mSt.put (is' := some b2) (cm' := cm61) hSt6 hc61
            have hmd7 := hc_26
            refine mm_retvD hx hb hr hlk hM hS ⟨rfl, S6, L6, vr6, D6, k6, rfl, hK.trans hK7, hC7, hLL, hvv, hnn, hDD, hpd, by (try dsimp only); omega, by (try dsimp only); omega, by omega, by omega, (hN6.trans hK7 (mNw.rf _ _)), hmd7, hSt7, by omega, fun z h7 h8 h9 => ?_⟩ dX2_same_159 (by (try dsimp only); omega) (by (try dsimp only); omega)
            by_cases h6 : z = b1
            · subst h6; exact Or.inr ⟨_, mtp.mono hK7 (fun _ h => h) (fun _ h => ⟨h, rfl⟩) _ _ _ hf61, fun s => by rw [hx6]; exact Nat.le_refl _⟩
            · have h5 : mnext M_27 z = mnext M_14 z := by unfold mnext; rw [eM_27, mm_U_ne h6]
              rcases hz7 z h7 h8 (by rw [← h5]; exact h9) with h4 | ⟨t, ht, hs⟩
              · exact Or.inl h4
              · exact Or.inr ⟨t, mtp.mono hK7 (fun _ h => h) (fun _ h => ⟨h, rfl⟩) _ _ _ ht, fun s => Nat.le_of_lt (hs s)⟩
      · skip
        cases iv2
        · skip
          replace hc2 : M b2 = some (mt_E 3 none none none (some w2) cm2 sn2 cp2) := hc2
          have hr8 := hr9
          unfold tU at hr8
          rw [eT1, eT2] at hr8
          dsimp only at hr8
          have hrr : r = .inl 2 := (Option.some.inj hr8).symm
          refine lv_aload_n hx hb dX2_same_18 rfl (lv_at hl 1 rfl) ?_
          refine va_get (D := Z.1) (ci := 20) (v := .int 2) (C := RX25) (T := TX25) (N := 8) hx hb hts in_X25 hown hE.1 (hM.at hc1) 0 rfl mm_cX25 0 (by decide) (hts _ q2504) (fun _ h9 => h9) rfl dX2_same_19 ?_
          refine lv_if_ne (tgt := 35) hx hb dX2_same_22 (by decide) (fun _ => ?_) (fun h9 => absurd h9 (by decide))
          refine lv_aload hx hb dX2_same_35 (lv_at hl 0 rfl) ?_
          refine va_get (D := Z.1) (ci := 20) (v := .int 3) (C := RX25) (T := TX25) (N := 8) hx hb hts in_X25 hown hE.1 (hM.at hc2) 0 rfl mm_cX25 0 (by decide) (hts _ q2504) (fun _ h9 => h9) rfl dX2_same_37 ?_
          refine lv_if_ne (tgt := 53) hx hb dX2_same_40 (by decide) (fun _ => ?_) (fun h9 => absurd h9 (by decide))
          refine lv_aload_n hx hb dX2_same_53 rfl (lv_at hl 1 rfl) ?_
          refine va_get (D := Z.1) (ci := 20) (v := .int 2) (C := RX25) (T := TX25) (N := 8) hx hb hts in_X25 hown hE.1 (hM.at hc1) 0 rfl mm_cX25 0 (by decide) (hts _ q2504) (fun _ h9 => h9) rfl dX2_same_54 ?_
          refine lv_aload hx hb dX2_same_57 (lv_at hl 0 rfl) ?_
          refine va_get (D := Z.1) (ci := 20) (v := .int 3) (C := RX25) (T := TX25) (N := 8) hx hb hts in_X25 hown hE.1 (hM.at hc2) 0 rfl mm_cX25 0 (by decide) (hts _ q2504) (fun _ h9 => h9) rfl dX2_same_59 ?_
          refine lv_icmp_eq (tgt := 74) hx hb dX2_same_62 (by decide) (fun h9 => absurd h9 (by decide)) (fun _ => ?_)
          refine mm_new (D := Z.1) (ci := 21) (fs := mm_f0X26) (C := RX26) (T := TX26) (N := 7) hx hb hts in_X26 tyX26 tyX26_ok hown (hts _ q2492) (hts _ q2530) (hts _ q99) hE.1 hM hS hA mm_cX26 mm_dfX26 (by (try dsimp only); omega) (by (try dsimp only); omega) dX2_same_65 (fun q_9 H nq_8 hM hS => ?_)
          have hM : mm_P Z.1 mm_cl A (mm_U M q_9 (.inr (21, [.null, .null, .null, .null, .null, .int 0, .int 0]))) H := hM
          have ne_10 : b1 ≠ q_9 := (mm_neN hc1 nq_8)
          have ne_11 : b2 ≠ q_9 := (mm_neN hc2 nq_8)
          have ne_12 : md ≠ q_9 := (mm_neN hmd nq_8)
          have hc_13 : (mm_U M q_9 (.inr (21, [.null, .null, .null, .null, .null, .int 0, .int 0]))) q_9 = some (.inr (21, [.null, .null, .null, .null, .null, .int 0, .int 0])) := mm_U_eq
          have hc_14 : (mm_U M q_9 (.inr (21, [.null, .null, .null, .null, .null, .int 0, .int 0]))) b1 = some (.inr (20, [.int 2, .null, .ref pf1, .ref pg1, .null, .int (mm_b cm1), .long sn1, va_rf cp1])) := (mm_U_ne ne_10).trans hc1
          have hc_15 : (mm_U M q_9 (.inr (21, [.null, .null, .null, .null, .null, .int 0, .int 0]))) b2 = some (.inr (20, [.int 3, .null, .null, .null, .ref w2, .int (mm_b cm2), .long sn2, va_rf cp2])) := (mm_U_ne ne_11).trans hc2
          have hc_16 : (mm_U M q_9 (.inr (21, [.null, .null, .null, .null, .null, .int 0, .int 0]))) md = some (.inr (1, [.int tm, .ref kd, .ref wh, .ref f1, .ref f2, .ref f3, .ref wg, .int ea, .int sp, va_rf rt, .int th, .int ak, .int wr, .ref pl, .int tk, .int (mm_b fa), .long (nJ k)])) := (mm_U_ne ne_12).trans hmd
          obtain ⟨M_17, eM_17⟩ : ∃ z, z = mm_U M q_9 (.inr (21, [.null, .null, .null, .null, .null, .int 0, .int 0])) := ⟨_, rfl⟩
          rw [← eM_17] at hM hc_14 hc_15 hc_16 hc_13
          refine lv_dup hx hb dX2_same_68 rfl ?_
          refine lv_iconst (v := 2) hx hb dX2_same_69 (by decide) ?_
          refine mm_callI (As := [.int 2]) (rest := [.ref q_9]) ⟨hx, hb, hml, hown, hts⟩ hE hST hA (c_X26_init l Z (er := 2) hc_13) (cwI (maxL := 2) 1 hts (lw_meth q2540) rfl rfl rfl (hts _ q99) (hts _ q2538) (hts _ q2539) rfl (by decide +kernel) ⟨(by (try dsimp only); omega), (by (try dsimp only); omega)⟩) hM hS rfl hl.1 (Nat.le_of_ble_eq_true rfl) dX2_same_70 rfl ⟨(by (try dsimp only); omega), (by (try dsimp only); omega)⟩ (fun _ _ _ _ _ _ h9 => h9.elim) (fun v_18 M_19 H locs hp_20 hM hS => ?_)
          obtain ⟨rfl, eM_19⟩ := hp_20
          rw [eM_19] at hM
          have hc_21 : (mm_U M_17 q_9 (.inr (21, [.null, .null, .null, .null, .null, .int 0, .int 2]))) q_9 = some (.inr (21, [.null, .null, .null, .null, .null, .int 0, .int 2])) := mm_U_eq
          have hc_22 : (mm_U M_17 q_9 (.inr (21, [.null, .null, .null, .null, .null, .int 0, .int 2]))) b1 = some (.inr (20, [.int 2, .null, .ref pf1, .ref pg1, .null, .int (mm_b cm1), .long sn1, va_rf cp1])) := (mm_U_ne ne_10).trans hc_14
          have hc_23 : (mm_U M_17 q_9 (.inr (21, [.null, .null, .null, .null, .null, .int 0, .int 2]))) b2 = some (.inr (20, [.int 3, .null, .null, .null, .ref w2, .int (mm_b cm2), .long sn2, va_rf cp2])) := (mm_U_ne ne_11).trans hc_15
          have hc_24 : (mm_U M_17 q_9 (.inr (21, [.null, .null, .null, .null, .null, .int 0, .int 2]))) md = some (.inr (1, [.int tm, .ref kd, .ref wh, .ref f1, .ref f2, .ref f3, .ref wg, .int ea, .int sp, va_rf rt, .int th, .int ak, .int wr, .ref pl, .int tk, .int (mm_b fa), .long (nJ k)])) := (mm_U_ne ne_12).trans hc_16
          obtain ⟨M_25, eM_25⟩ : ∃ z, z = mm_U M_17 q_9 (.inr (21, [.null, .null, .null, .null, .null, .int 0, .int 2])) := ⟨_, rfl⟩
          rw [← eM_25] at hM hc_22 hc_23 hc_24 hc_21
          exact mm_athrowD hx hb htab hlk hE hM hS hc_21 mm_cX26 ⟨2, hrr, mX.of ⟨rfl, nq_8, by subst eM_25 eM_17; simp only [mm_U_U]⟩⟩ dX2_same_73 (by (try dsimp only); omega) (by (try dsimp only); omega)
        · skip
          replace hc2 : M b2 = some (mt_E 4 none none none (some w2) cm2 sn2 cp2) := hc2
          have hr8 := hr9
          unfold tU at hr8
          rw [eT1, eT2] at hr8
          dsimp only at hr8
          have hrr : r = .inl 2 := (Option.some.inj hr8).symm
          refine lv_aload_n hx hb dX2_same_18 rfl (lv_at hl 1 rfl) ?_
          refine va_get (D := Z.1) (ci := 20) (v := .int 2) (C := RX25) (T := TX25) (N := 8) hx hb hts in_X25 hown hE.1 (hM.at hc1) 0 rfl mm_cX25 0 (by decide) (hts _ q2504) (fun _ h9 => h9) rfl dX2_same_19 ?_
          refine lv_if_ne (tgt := 35) hx hb dX2_same_22 (by decide) (fun _ => ?_) (fun h9 => absurd h9 (by decide))
          refine lv_aload hx hb dX2_same_35 (lv_at hl 0 rfl) ?_
          refine va_get (D := Z.1) (ci := 20) (v := .int 4) (C := RX25) (T := TX25) (N := 8) hx hb hts in_X25 hown hE.1 (hM.at hc2) 0 rfl mm_cX25 0 (by decide) (hts _ q2504) (fun _ h9 => h9) rfl dX2_same_37 ?_
          refine lv_if_ne (tgt := 53) hx hb dX2_same_40 (by decide) (fun _ => ?_) (fun h9 => absurd h9 (by decide))
          refine lv_aload_n hx hb dX2_same_53 rfl (lv_at hl 1 rfl) ?_
          refine va_get (D := Z.1) (ci := 20) (v := .int 2) (C := RX25) (T := TX25) (N := 8) hx hb hts in_X25 hown hE.1 (hM.at hc1) 0 rfl mm_cX25 0 (by decide) (hts _ q2504) (fun _ h9 => h9) rfl dX2_same_54 ?_
          refine lv_aload hx hb dX2_same_57 (lv_at hl 0 rfl) ?_
          refine va_get (D := Z.1) (ci := 20) (v := .int 4) (C := RX25) (T := TX25) (N := 8) hx hb hts in_X25 hown hE.1 (hM.at hc2) 0 rfl mm_cX25 0 (by decide) (hts _ q2504) (fun _ h9 => h9) rfl dX2_same_59 ?_
          refine lv_icmp_eq (tgt := 74) hx hb dX2_same_62 (by decide) (fun h9 => absurd h9 (by decide)) (fun _ => ?_)
          refine mm_new (D := Z.1) (ci := 21) (fs := mm_f0X26) (C := RX26) (T := TX26) (N := 7) hx hb hts in_X26 tyX26 tyX26_ok hown (hts _ q2492) (hts _ q2530) (hts _ q99) hE.1 hM hS hA mm_cX26 mm_dfX26 (by (try dsimp only); omega) (by (try dsimp only); omega) dX2_same_65 (fun q_9 H nq_8 hM hS => ?_)
          have hM : mm_P Z.1 mm_cl A (mm_U M q_9 (.inr (21, [.null, .null, .null, .null, .null, .int 0, .int 0]))) H := hM
          have ne_10 : b1 ≠ q_9 := (mm_neN hc1 nq_8)
          have ne_11 : b2 ≠ q_9 := (mm_neN hc2 nq_8)
          have ne_12 : md ≠ q_9 := (mm_neN hmd nq_8)
          have hc_13 : (mm_U M q_9 (.inr (21, [.null, .null, .null, .null, .null, .int 0, .int 0]))) q_9 = some (.inr (21, [.null, .null, .null, .null, .null, .int 0, .int 0])) := mm_U_eq
          have hc_14 : (mm_U M q_9 (.inr (21, [.null, .null, .null, .null, .null, .int 0, .int 0]))) b1 = some (.inr (20, [.int 2, .null, .ref pf1, .ref pg1, .null, .int (mm_b cm1), .long sn1, va_rf cp1])) := (mm_U_ne ne_10).trans hc1
          have hc_15 : (mm_U M q_9 (.inr (21, [.null, .null, .null, .null, .null, .int 0, .int 0]))) b2 = some (.inr (20, [.int 4, .null, .null, .null, .ref w2, .int (mm_b cm2), .long sn2, va_rf cp2])) := (mm_U_ne ne_11).trans hc2
          have hc_16 : (mm_U M q_9 (.inr (21, [.null, .null, .null, .null, .null, .int 0, .int 0]))) md = some (.inr (1, [.int tm, .ref kd, .ref wh, .ref f1, .ref f2, .ref f3, .ref wg, .int ea, .int sp, va_rf rt, .int th, .int ak, .int wr, .ref pl, .int tk, .int (mm_b fa), .long (nJ k)])) := (mm_U_ne ne_12).trans hmd
          obtain ⟨M_17, eM_17⟩ : ∃ z, z = mm_U M q_9 (.inr (21, [.null, .null, .null, .null, .null, .int 0, .int 0])) := ⟨_, rfl⟩
          rw [← eM_17] at hM hc_14 hc_15 hc_16 hc_13
          refine lv_dup hx hb dX2_same_68 rfl ?_
          refine lv_iconst (v := 2) hx hb dX2_same_69 (by decide) ?_
          refine mm_callI (As := [.int 2]) (rest := [.ref q_9]) ⟨hx, hb, hml, hown, hts⟩ hE hST hA (c_X26_init l Z (er := 2) hc_13) (cwI (maxL := 2) 1 hts (lw_meth q2540) rfl rfl rfl (hts _ q99) (hts _ q2538) (hts _ q2539) rfl (by decide +kernel) ⟨(by (try dsimp only); omega), (by (try dsimp only); omega)⟩) hM hS rfl hl.1 (Nat.le_of_ble_eq_true rfl) dX2_same_70 rfl ⟨(by (try dsimp only); omega), (by (try dsimp only); omega)⟩ (fun _ _ _ _ _ _ h9 => h9.elim) (fun v_18 M_19 H locs hp_20 hM hS => ?_)
          obtain ⟨rfl, eM_19⟩ := hp_20
          rw [eM_19] at hM
          have hc_21 : (mm_U M_17 q_9 (.inr (21, [.null, .null, .null, .null, .null, .int 0, .int 2]))) q_9 = some (.inr (21, [.null, .null, .null, .null, .null, .int 0, .int 2])) := mm_U_eq
          have hc_22 : (mm_U M_17 q_9 (.inr (21, [.null, .null, .null, .null, .null, .int 0, .int 2]))) b1 = some (.inr (20, [.int 2, .null, .ref pf1, .ref pg1, .null, .int (mm_b cm1), .long sn1, va_rf cp1])) := (mm_U_ne ne_10).trans hc_14
          have hc_23 : (mm_U M_17 q_9 (.inr (21, [.null, .null, .null, .null, .null, .int 0, .int 2]))) b2 = some (.inr (20, [.int 4, .null, .null, .null, .ref w2, .int (mm_b cm2), .long sn2, va_rf cp2])) := (mm_U_ne ne_11).trans hc_15
          have hc_24 : (mm_U M_17 q_9 (.inr (21, [.null, .null, .null, .null, .null, .int 0, .int 2]))) md = some (.inr (1, [.int tm, .ref kd, .ref wh, .ref f1, .ref f2, .ref f3, .ref wg, .int ea, .int sp, va_rf rt, .int th, .int ak, .int wr, .ref pl, .int tk, .int (mm_b fa), .long (nJ k)])) := (mm_U_ne ne_12).trans hc_16
          obtain ⟨M_25, eM_25⟩ : ∃ z, z = mm_U M_17 q_9 (.inr (21, [.null, .null, .null, .null, .null, .int 0, .int 2])) := ⟨_, rfl⟩
          rw [← eM_25] at hM hc_22 hc_23 hc_24 hc_21
          exact mm_athrowD hx hb htab hlk hE hM hS hc_21 mm_cX26 ⟨2, hrr, mX.of ⟨rfl, nq_8, by subst eM_25 eM_17; simp only [mm_U_U]⟩⟩ dX2_same_73 (by (try dsimp only); omega) (by (try dsimp only); omega)
    · skip
      cases iv1
      · skip
        replace hc1 : M b1 = some (mt_E 3 none none none (some w1) cm1 sn1 cp1) := hc1
        rcases hcs2 with ⟨eT2, cm2, sn2, cp2, hc2⟩ | ⟨v2, hv2, eT2, hs2, rfl, sn2, cp2, hc2⟩ | ⟨xa2, xb2, pf2, pg2, cm2, sn2, cp2, eT2, hc2, hta2, htb2'⟩ | ⟨r2, iv2, w2, cm2, sn2, cp2, eT2, hc2, htw2⟩
        · skip
          have hr8 := hr9
          unfold tU at hr8
          rw [eT1, eT2] at hr8
          dsimp only at hr8
          have hrr : r = .inl 2 := (Option.some.inj hr8).symm
          refine lv_aload_n hx hb dX2_same_18 rfl (lv_at hl 1 rfl) ?_
          refine va_get (D := Z.1) (ci := 20) (v := .int 3) (C := RX25) (T := TX25) (N := 8) hx hb hts in_X25 hown hE.1 (hM.at hc1) 0 rfl mm_cX25 0 (by decide) (hts _ q2504) (fun _ h9 => h9) rfl dX2_same_19 ?_
          refine lv_if_ne (tgt := 35) hx hb dX2_same_22 (by decide) (fun _ => ?_) (fun h9 => absurd h9 (by decide))
          refine lv_aload hx hb dX2_same_35 (lv_at hl 0 rfl) ?_
          refine va_get (D := Z.1) (ci := 20) (v := .int 1) (C := RX25) (T := TX25) (N := 8) hx hb hts in_X25 hown hE.1 (hM.at hc2) 0 rfl mm_cX25 0 (by decide) (hts _ q2504) (fun _ h9 => h9) rfl dX2_same_37 ?_
          refine lv_if_ne (tgt := 53) hx hb dX2_same_40 (by decide) (fun _ => ?_) (fun h9 => absurd h9 (by decide))
          refine lv_aload_n hx hb dX2_same_53 rfl (lv_at hl 1 rfl) ?_
          refine va_get (D := Z.1) (ci := 20) (v := .int 3) (C := RX25) (T := TX25) (N := 8) hx hb hts in_X25 hown hE.1 (hM.at hc1) 0 rfl mm_cX25 0 (by decide) (hts _ q2504) (fun _ h9 => h9) rfl dX2_same_54 ?_
          refine lv_aload hx hb dX2_same_57 (lv_at hl 0 rfl) ?_
          refine va_get (D := Z.1) (ci := 20) (v := .int 1) (C := RX25) (T := TX25) (N := 8) hx hb hts in_X25 hown hE.1 (hM.at hc2) 0 rfl mm_cX25 0 (by decide) (hts _ q2504) (fun _ h9 => h9) rfl dX2_same_59 ?_
          refine lv_icmp_eq (tgt := 74) hx hb dX2_same_62 (by decide) (fun h9 => absurd h9 (by decide)) (fun _ => ?_)
          refine mm_new (D := Z.1) (ci := 21) (fs := mm_f0X26) (C := RX26) (T := TX26) (N := 7) hx hb hts in_X26 tyX26 tyX26_ok hown (hts _ q2492) (hts _ q2530) (hts _ q99) hE.1 hM hS hA mm_cX26 mm_dfX26 (by (try dsimp only); omega) (by (try dsimp only); omega) dX2_same_65 (fun q_9 H nq_8 hM hS => ?_)
          have hM : mm_P Z.1 mm_cl A (mm_U M q_9 (.inr (21, [.null, .null, .null, .null, .null, .int 0, .int 0]))) H := hM
          have ne_10 : b1 ≠ q_9 := (mm_neN hc1 nq_8)
          have ne_11 : b2 ≠ q_9 := (mm_neN hc2 nq_8)
          have ne_12 : md ≠ q_9 := (mm_neN hmd nq_8)
          have hc_13 : (mm_U M q_9 (.inr (21, [.null, .null, .null, .null, .null, .int 0, .int 0]))) q_9 = some (.inr (21, [.null, .null, .null, .null, .null, .int 0, .int 0])) := mm_U_eq
          have hc_14 : (mm_U M q_9 (.inr (21, [.null, .null, .null, .null, .null, .int 0, .int 0]))) b1 = some (.inr (20, [.int 3, .null, .null, .null, .ref w1, .int (mm_b cm1), .long sn1, va_rf cp1])) := (mm_U_ne ne_10).trans hc1
          have hc_15 : (mm_U M q_9 (.inr (21, [.null, .null, .null, .null, .null, .int 0, .int 0]))) b2 = some (.inr (20, [.int 1, .null, .null, .null, .null, .int (mm_b cm2), .long sn2, va_rf cp2])) := (mm_U_ne ne_11).trans hc2
          have hc_16 : (mm_U M q_9 (.inr (21, [.null, .null, .null, .null, .null, .int 0, .int 0]))) md = some (.inr (1, [.int tm, .ref kd, .ref wh, .ref f1, .ref f2, .ref f3, .ref wg, .int ea, .int sp, va_rf rt, .int th, .int ak, .int wr, .ref pl, .int tk, .int (mm_b fa), .long (nJ k)])) := (mm_U_ne ne_12).trans hmd
          obtain ⟨M_17, eM_17⟩ : ∃ z, z = mm_U M q_9 (.inr (21, [.null, .null, .null, .null, .null, .int 0, .int 0])) := ⟨_, rfl⟩
          rw [← eM_17] at hM hc_14 hc_15 hc_16 hc_13
          refine lv_dup hx hb dX2_same_68 rfl ?_
          refine lv_iconst (v := 2) hx hb dX2_same_69 (by decide) ?_
          refine mm_callI (As := [.int 2]) (rest := [.ref q_9]) ⟨hx, hb, hml, hown, hts⟩ hE hST hA (c_X26_init l Z (er := 2) hc_13) (cwI (maxL := 2) 1 hts (lw_meth q2540) rfl rfl rfl (hts _ q99) (hts _ q2538) (hts _ q2539) rfl (by decide +kernel) ⟨(by (try dsimp only); omega), (by (try dsimp only); omega)⟩) hM hS rfl hl.1 (Nat.le_of_ble_eq_true rfl) dX2_same_70 rfl ⟨(by (try dsimp only); omega), (by (try dsimp only); omega)⟩ (fun _ _ _ _ _ _ h9 => h9.elim) (fun v_18 M_19 H locs hp_20 hM hS => ?_)
          obtain ⟨rfl, eM_19⟩ := hp_20
          rw [eM_19] at hM
          have hc_21 : (mm_U M_17 q_9 (.inr (21, [.null, .null, .null, .null, .null, .int 0, .int 2]))) q_9 = some (.inr (21, [.null, .null, .null, .null, .null, .int 0, .int 2])) := mm_U_eq
          have hc_22 : (mm_U M_17 q_9 (.inr (21, [.null, .null, .null, .null, .null, .int 0, .int 2]))) b1 = some (.inr (20, [.int 3, .null, .null, .null, .ref w1, .int (mm_b cm1), .long sn1, va_rf cp1])) := (mm_U_ne ne_10).trans hc_14
          have hc_23 : (mm_U M_17 q_9 (.inr (21, [.null, .null, .null, .null, .null, .int 0, .int 2]))) b2 = some (.inr (20, [.int 1, .null, .null, .null, .null, .int (mm_b cm2), .long sn2, va_rf cp2])) := (mm_U_ne ne_11).trans hc_15
          have hc_24 : (mm_U M_17 q_9 (.inr (21, [.null, .null, .null, .null, .null, .int 0, .int 2]))) md = some (.inr (1, [.int tm, .ref kd, .ref wh, .ref f1, .ref f2, .ref f3, .ref wg, .int ea, .int sp, va_rf rt, .int th, .int ak, .int wr, .ref pl, .int tk, .int (mm_b fa), .long (nJ k)])) := (mm_U_ne ne_12).trans hc_16
          obtain ⟨M_25, eM_25⟩ : ∃ z, z = mm_U M_17 q_9 (.inr (21, [.null, .null, .null, .null, .null, .int 0, .int 2])) := ⟨_, rfl⟩
          rw [← eM_25] at hM hc_22 hc_23 hc_24 hc_21
          exact mm_athrowD hx hb htab hlk hE hM hS hc_21 mm_cX26 ⟨2, hrr, mX.of ⟨rfl, nq_8, by subst eM_25 eM_17; simp only [mm_U_U]⟩⟩ dX2_same_73 (by (try dsimp only); omega) (by (try dsimp only); omega)
        · skip
          refine lv_aload_n hx hb dX2_same_18 rfl (lv_at hl 1 rfl) ?_
          refine va_get (D := Z.1) (ci := 20) (v := .int 3) (C := RX25) (T := TX25) (N := 8) hx hb hts in_X25 hown hE.1 (hM.at hc1) 0 rfl mm_cX25 0 (by decide) (hts _ q2504) (fun _ h9 => h9) rfl dX2_same_19 ?_
          refine lv_if_ne (tgt := 35) hx hb dX2_same_22 (by decide) (fun _ => ?_) (fun h9 => absurd h9 (by decide))
          refine lv_aload hx hb dX2_same_35 (lv_at hl 0 rfl) ?_
          refine va_get (D := Z.1) (ci := 20) (v := .int 0) (C := RX25) (T := TX25) (N := 8) hx hb hts in_X25 hown hE.1 (hM.at hc2) 0 rfl mm_cX25 0 (by decide) (hts _ q2504) (fun _ h9 => h9) rfl dX2_same_37 ?_
          refine lv_if_ne (tgt := 53) hx hb dX2_same_40 (by decide) (fun h9 => absurd (by decide) h9) (fun _ => ?_)
          refine lv_aload_n hx hb dX2_same_43 rfl (lv_at hl 2 rfl) ?_
          refine lv_aload hx hb dX2_same_44 (lv_at hl 0 rfl) ?_
          refine lv_aload_n hx hb dX2_same_46 rfl (lv_at hl 1 rfl) ?_
          have hrr := tU_var2 hr9 eT2 (fun v h9 => by rw [eT1] at h9; cases h9)
          refine mm_callVD (As := [.ref (vr v2), .ref b1]) (rest := []) ⟨hx, hb, hml, hown, hts⟩ hE hST hA (d_X2_binds l Z (t := t1) (T := uap S.2.1 x) hmd hSt (by omega) he1 hC hv2 hc2 htb1 (mnext_t hc1)) (cwV 2 hts (lw_V q2658 q2660 qs39 q54 q2661) rfl rfl rfl (by decide +kernel) ⟨(by (try dsimp only); omega), (by (try dsimp only); omega)⟩) hM hS mm_cX2 hmd rfl hl.1 (Nat.le_of_ble_eq_true rfl) dX2_same_47 rfl ⟨(by (try dsimp only); omega), (by (try dsimp only); omega)⟩ (fun E ce q M9 H1 locs1 hp9 hM9 hS9 hce hcv hcl => by obtain ⟨er9, he9, hx9⟩ := hp9; exact mm_outxD htab hlk hM9 hS9 hce hcv hcl ⟨er9, hrr.trans he9, hx9⟩ (by (try dsimp only); omega) (by (try dsimp only); omega)) (fun v_8 M_9 n_11 k_12 H locs hp_10 hM hS => ?_)
          obtain ⟨rfl, rfl, rfl, S5, k5, hS5, hK5, hC5, hS51, hP5, hz5, hpd5, hk5, hmd5, hSt5⟩ := hp_10
          refine lv_goto (tgt := 159) hx hb dX2_same_50 (by decide) ?_
          refine mm_retvD hx hb hr hlk hM hS ⟨rfl, S5, L, vr, D, k5, hrr.trans hS5, hK5, hC5, fun _ h => h, fun _ h => ⟨h, rfl⟩, Nat.le_of_eq hS51.symm, fun v9 => ⟨Or.inl, fun h9 => h9.elim id (fun h8 => absurd h8.2 (Nat.not_lt.2 (by rw [hS51]; exact h8.1)))⟩, hpd5, by (try dsimp only); omega, by (try dsimp only); omega, by omega, by omega, mNw.rf _ _, hmd5, hSt5, by omega, fun z h7 h8 h9 => ?_⟩ dX2_same_159 (by (try dsimp only); omega) (by (try dsimp only); omega)
          by_cases h6 : z = vr v2
          · exact Or.inl (h6 ▸ hC.isVar hv2)
          · exact absurd ((hz5 z h7 h6).trans h8) h9
        · skip
          have hr8 := hr9
          unfold tU at hr8
          rw [eT1, eT2] at hr8
          dsimp only at hr8
          have hrr : r = .inl 2 := (Option.some.inj hr8).symm
          refine lv_aload_n hx hb dX2_same_18 rfl (lv_at hl 1 rfl) ?_
          refine va_get (D := Z.1) (ci := 20) (v := .int 3) (C := RX25) (T := TX25) (N := 8) hx hb hts in_X25 hown hE.1 (hM.at hc1) 0 rfl mm_cX25 0 (by decide) (hts _ q2504) (fun _ h9 => h9) rfl dX2_same_19 ?_
          refine lv_if_ne (tgt := 35) hx hb dX2_same_22 (by decide) (fun _ => ?_) (fun h9 => absurd h9 (by decide))
          refine lv_aload hx hb dX2_same_35 (lv_at hl 0 rfl) ?_
          refine va_get (D := Z.1) (ci := 20) (v := .int 2) (C := RX25) (T := TX25) (N := 8) hx hb hts in_X25 hown hE.1 (hM.at hc2) 0 rfl mm_cX25 0 (by decide) (hts _ q2504) (fun _ h9 => h9) rfl dX2_same_37 ?_
          refine lv_if_ne (tgt := 53) hx hb dX2_same_40 (by decide) (fun _ => ?_) (fun h9 => absurd h9 (by decide))
          refine lv_aload_n hx hb dX2_same_53 rfl (lv_at hl 1 rfl) ?_
          refine va_get (D := Z.1) (ci := 20) (v := .int 3) (C := RX25) (T := TX25) (N := 8) hx hb hts in_X25 hown hE.1 (hM.at hc1) 0 rfl mm_cX25 0 (by decide) (hts _ q2504) (fun _ h9 => h9) rfl dX2_same_54 ?_
          refine lv_aload hx hb dX2_same_57 (lv_at hl 0 rfl) ?_
          refine va_get (D := Z.1) (ci := 20) (v := .int 2) (C := RX25) (T := TX25) (N := 8) hx hb hts in_X25 hown hE.1 (hM.at hc2) 0 rfl mm_cX25 0 (by decide) (hts _ q2504) (fun _ h9 => h9) rfl dX2_same_59 ?_
          refine lv_icmp_eq (tgt := 74) hx hb dX2_same_62 (by decide) (fun h9 => absurd h9 (by decide)) (fun _ => ?_)
          refine mm_new (D := Z.1) (ci := 21) (fs := mm_f0X26) (C := RX26) (T := TX26) (N := 7) hx hb hts in_X26 tyX26 tyX26_ok hown (hts _ q2492) (hts _ q2530) (hts _ q99) hE.1 hM hS hA mm_cX26 mm_dfX26 (by (try dsimp only); omega) (by (try dsimp only); omega) dX2_same_65 (fun q_9 H nq_8 hM hS => ?_)
          have hM : mm_P Z.1 mm_cl A (mm_U M q_9 (.inr (21, [.null, .null, .null, .null, .null, .int 0, .int 0]))) H := hM
          have ne_10 : b1 ≠ q_9 := (mm_neN hc1 nq_8)
          have ne_11 : b2 ≠ q_9 := (mm_neN hc2 nq_8)
          have ne_12 : md ≠ q_9 := (mm_neN hmd nq_8)
          have hc_13 : (mm_U M q_9 (.inr (21, [.null, .null, .null, .null, .null, .int 0, .int 0]))) q_9 = some (.inr (21, [.null, .null, .null, .null, .null, .int 0, .int 0])) := mm_U_eq
          have hc_14 : (mm_U M q_9 (.inr (21, [.null, .null, .null, .null, .null, .int 0, .int 0]))) b1 = some (.inr (20, [.int 3, .null, .null, .null, .ref w1, .int (mm_b cm1), .long sn1, va_rf cp1])) := (mm_U_ne ne_10).trans hc1
          have hc_15 : (mm_U M q_9 (.inr (21, [.null, .null, .null, .null, .null, .int 0, .int 0]))) b2 = some (.inr (20, [.int 2, .null, .ref pf2, .ref pg2, .null, .int (mm_b cm2), .long sn2, va_rf cp2])) := (mm_U_ne ne_11).trans hc2
          have hc_16 : (mm_U M q_9 (.inr (21, [.null, .null, .null, .null, .null, .int 0, .int 0]))) md = some (.inr (1, [.int tm, .ref kd, .ref wh, .ref f1, .ref f2, .ref f3, .ref wg, .int ea, .int sp, va_rf rt, .int th, .int ak, .int wr, .ref pl, .int tk, .int (mm_b fa), .long (nJ k)])) := (mm_U_ne ne_12).trans hmd
          obtain ⟨M_17, eM_17⟩ : ∃ z, z = mm_U M q_9 (.inr (21, [.null, .null, .null, .null, .null, .int 0, .int 0])) := ⟨_, rfl⟩
          rw [← eM_17] at hM hc_14 hc_15 hc_16 hc_13
          refine lv_dup hx hb dX2_same_68 rfl ?_
          refine lv_iconst (v := 2) hx hb dX2_same_69 (by decide) ?_
          refine mm_callI (As := [.int 2]) (rest := [.ref q_9]) ⟨hx, hb, hml, hown, hts⟩ hE hST hA (c_X26_init l Z (er := 2) hc_13) (cwI (maxL := 2) 1 hts (lw_meth q2540) rfl rfl rfl (hts _ q99) (hts _ q2538) (hts _ q2539) rfl (by decide +kernel) ⟨(by (try dsimp only); omega), (by (try dsimp only); omega)⟩) hM hS rfl hl.1 (Nat.le_of_ble_eq_true rfl) dX2_same_70 rfl ⟨(by (try dsimp only); omega), (by (try dsimp only); omega)⟩ (fun _ _ _ _ _ _ h9 => h9.elim) (fun v_18 M_19 H locs hp_20 hM hS => ?_)
          obtain ⟨rfl, eM_19⟩ := hp_20
          rw [eM_19] at hM
          have hc_21 : (mm_U M_17 q_9 (.inr (21, [.null, .null, .null, .null, .null, .int 0, .int 2]))) q_9 = some (.inr (21, [.null, .null, .null, .null, .null, .int 0, .int 2])) := mm_U_eq
          have hc_22 : (mm_U M_17 q_9 (.inr (21, [.null, .null, .null, .null, .null, .int 0, .int 2]))) b1 = some (.inr (20, [.int 3, .null, .null, .null, .ref w1, .int (mm_b cm1), .long sn1, va_rf cp1])) := (mm_U_ne ne_10).trans hc_14
          have hc_23 : (mm_U M_17 q_9 (.inr (21, [.null, .null, .null, .null, .null, .int 0, .int 2]))) b2 = some (.inr (20, [.int 2, .null, .ref pf2, .ref pg2, .null, .int (mm_b cm2), .long sn2, va_rf cp2])) := (mm_U_ne ne_11).trans hc_15
          have hc_24 : (mm_U M_17 q_9 (.inr (21, [.null, .null, .null, .null, .null, .int 0, .int 2]))) md = some (.inr (1, [.int tm, .ref kd, .ref wh, .ref f1, .ref f2, .ref f3, .ref wg, .int ea, .int sp, va_rf rt, .int th, .int ak, .int wr, .ref pl, .int tk, .int (mm_b fa), .long (nJ k)])) := (mm_U_ne ne_12).trans hc_16
          obtain ⟨M_25, eM_25⟩ : ∃ z, z = mm_U M_17 q_9 (.inr (21, [.null, .null, .null, .null, .null, .int 0, .int 2])) := ⟨_, rfl⟩
          rw [← eM_25] at hM hc_22 hc_23 hc_24 hc_21
          exact mm_athrowD hx hb htab hlk hE hM hS hc_21 mm_cX26 ⟨2, hrr, mX.of ⟨rfl, nq_8, by subst eM_25 eM_17; simp only [mm_U_U]⟩⟩ dX2_same_73 (by (try dsimp only); omega) (by (try dsimp only); omega)
        · skip
          cases iv2
          · skip
            replace hc2 : M b2 = some (mt_E 3 none none none (some w2) cm2 sn2 cp2) := hc2
            have hr8 := hr9
            unfold tU at hr8
            rw [eT1, eT2] at hr8
            dsimp only at hr8
            have hu1 := hw1
            have hu2 := hw2
            have hrt1 : uap S.2.1 (uap S.2.1 x) = uap S.2.1 x := hC.1.1.le x
            have hrt2 : uap S.2.1 (uap S.2.1 y) = uap S.2.1 y := hC.1.1.le y
            rw [eT1] at hu1; rw [eT2] at hu2
            simp only [uwf] at hu1 hu2
            rw [if_pos rfl] at hr8
            have hd1' : mDeep M L vr D S r1 (d + 1) := hdp.to (y := r1) (k := 1) (fun s => by rw [eT1]; simp only [uap, uh]; omega)
            have hdl1 := hd1'.le hC hB9
            refine lv_aload_n hx hb dX2_same_18 rfl (lv_at hl 1 rfl) ?_
            refine va_get (D := Z.1) (ci := 20) (v := .int 3) (C := RX25) (T := TX25) (N := 8) hx hb hts in_X25 hown hE.1 (hM.at hc1) 0 rfl mm_cX25 0 (by decide) (hts _ q2504) (fun _ h9 => h9) rfl dX2_same_19 ?_
            refine lv_if_ne (tgt := 35) hx hb dX2_same_22 (by decide) (fun _ => ?_) (fun h9 => absurd h9 (by decide))
            refine lv_aload hx hb dX2_same_35 (lv_at hl 0 rfl) ?_
            refine va_get (D := Z.1) (ci := 20) (v := .int 3) (C := RX25) (T := TX25) (N := 8) hx hb hts in_X25 hown hE.1 (hM.at hc2) 0 rfl mm_cX25 0 (by decide) (hts _ q2504) (fun _ h9 => h9) rfl dX2_same_37 ?_
            refine lv_if_ne (tgt := 53) hx hb dX2_same_40 (by decide) (fun _ => ?_) (fun h9 => absurd h9 (by decide))
            refine lv_aload_n hx hb dX2_same_53 rfl (lv_at hl 1 rfl) ?_
            refine va_get (D := Z.1) (ci := 20) (v := .int 3) (C := RX25) (T := TX25) (N := 8) hx hb hts in_X25 hown hE.1 (hM.at hc1) 0 rfl mm_cX25 0 (by decide) (hts _ q2504) (fun _ h9 => h9) rfl dX2_same_54 ?_
            refine lv_aload hx hb dX2_same_57 (lv_at hl 0 rfl) ?_
            refine va_get (D := Z.1) (ci := 20) (v := .int 3) (C := RX25) (T := TX25) (N := 8) hx hb hts in_X25 hown hE.1 (hM.at hc2) 0 rfl mm_cX25 0 (by decide) (hts _ q2504) (fun _ h9 => h9) rfl dX2_same_59 ?_
            refine lv_icmp_eq (tgt := 74) hx hb dX2_same_62 (by decide) (fun _ => ?_) (fun h9 => absurd (by decide) h9)
            refine lv_aload_n hx hb dX2_same_74 rfl (lv_at hl 1 rfl) ?_
            refine va_get (D := Z.1) (ci := 20) (v := .int 3) (C := RX25) (T := TX25) (N := 8) hx hb hts in_X25 hown hE.1 (hM.at hc1) 0 rfl mm_cX25 0 (by decide) (hts _ q2504) (fun _ h9 => h9) rfl dX2_same_75 ?_
            refine lv_iconst (v := 2) hx hb dX2_same_78 (by decide) ?_
            refine lv_icmp_ne (tgt := 111) hx hb dX2_same_79 (by decide) (fun _ => ?_) (fun h9 => absurd h9 (by decide))
            refine lv_aload_n hx hb dX2_same_111 rfl (lv_at hl 1 rfl) ?_
            refine va_get (D := Z.1) (ci := 20) (v := .int 3) (C := RX25) (T := TX25) (N := 8) hx hb hts in_X25 hown hE.1 (hM.at hc1) 0 rfl mm_cX25 0 (by decide) (hts _ q2504) (fun _ h9 => h9) rfl dX2_same_112 ?_
            refine lv_iconst (v := 1) hx hb dX2_same_115 (by decide) ?_
            refine lv_icmp_eq (tgt := 132) hx hb dX2_same_116 (by decide) (fun h9 => absurd h9 (by decide)) (fun _ => ?_)
            refine lv_aload_n hx hb dX2_same_119 rfl (lv_at hl 2 rfl) ?_
            refine lv_aload_n hx hb dX2_same_120 rfl (lv_at hl 1 rfl) ?_
            refine va_get (D := Z.1) (ci := 20) (v := .ref w1) (C := RX25) (T := TX25) (N := 8) hx hb hts in_X25 hown hE.1 (hM.at hc1) 0 rfl mm_cX25 4 (by decide) (hts _ q2509) (fun _ h9 => h9) rfl dX2_same_121 ?_
            refine lv_aload hx hb dX2_same_124 (lv_at hl 0 rfl) ?_
            refine va_get (D := Z.1) (ci := 20) (v := .ref w2) (C := RX25) (T := TX25) (N := 8) hx hb hts in_X25 hown hE.1 (hM.at hc2) 0 rfl mm_cX25 4 (by decide) (hts _ q2509) (fun _ h9 => h9) rfl dX2_same_126 ?_
            refine mm_callVD (As := [.ref w1, .ref w2]) (rest := []) ⟨hx, hb, hml, hown, hts⟩ hE hST hA (d_X2_sameRows l Z ih (r1 := r1) (r2 := r2) (Hh := Hh) (d := d + 1) (Dd := Dd - 1) hmd hSt (by omega) hC hG htw1 htw2 hu1 hu2 hr8 hB9 hH (by omega) hd1') (cwV 2 hts (lw_V q2671 q2673 qs40 q54 q2674) rfl rfl rfl (by decide +kernel) ⟨(by (try dsimp only); omega), (by (try dsimp only); omega)⟩) hM hS mm_cX2 hmd rfl hl.1 (Nat.le_of_ble_eq_true rfl) dX2_same_129 rfl ⟨(by (try dsimp only); omega), (by (try dsimp only); omega)⟩ (fun E ce q M9 H1 locs1 hp9 hM9 hS9 hce hcv hcl => by obtain ⟨er9, he9, hx9⟩ := hp9; exact mm_outxD htab hlk hM9 hS9 hce hcv hcl ⟨er9, he9, hx9⟩ (by (try dsimp only); omega) (by (try dsimp only); omega)) (fun v_8 M_9 n_11 k_12 H locs hp_10 hM hS => ?_)
            obtain ⟨rfl, S6, L6, vr6, D6, k6, hrS, hK, hC6, hLL, hvv, hnn, hDD, hpd, hc6, hs6, hl6, hP6, hN6, hmd6, hSt6, hk6, hz6⟩ := hp_10
            subst hrS
            obtain ⟨kn7, hgo0, -⟩ := tRows_good (tU_good n) hG hu1 hu2 (hC.1.1.le r1) (hC.1.1.le r2) hr8
            have hlt : ∀ s, SizeOf.sizeOf (uap s (uap S6.2.1 r1)) < SizeOf.sizeOf (uap s (uap S6.2.1 x)) := fun s => by
              rw [show uap S6.2.1 x = uap S6.2.1 (.pow r1 (Bool.toNat false)) from by rw [← hgo0.2.2 x, eT1]; simp only [uap]; rw [hgo0.2.2 r1]]
              have e9 : SizeOf.sizeOf (uap s (uap S6.2.1 (.pow r1 (Bool.toNat false)))) = 1 + SizeOf.sizeOf (uap s (uap S6.2.1 r1)) + SizeOf.sizeOf (Bool.toNat false) := rfl
              omega
            have hz7 : ∀ z, M z ≠ none → mnext M z = none → mnext M_9 z ≠ none → mVar M z ∨ ∃ t, mtp M_9 L6 vr6 D6 t false z ∧ ∀ s, SizeOf.sizeOf (uap s (uap S6.2.1 t)) < SizeOf.sizeOf (uap s (uap S6.2.1 x)) := fun z h7 h8 h9 => (hz6 z h7 h8 h9).imp id (fun ⟨t, ht, hs⟩ => ⟨t, ht, fun s => Nat.lt_of_le_of_lt (hs s) (hlt s)⟩)
            obtain ⟨kn6, hgo, heq⟩ := tU_good (n + 1) S kn x y S6 hG hw1 hw2 hr9
            have hx6 : uap S6.2.1 t1 = uap S6.2.1 x := by rw [← hgo.2.2 t1, he1, hgo.2.2 x]
            have hy6 : uap S6.2.1 t2 = uap S6.2.1 x := by rw [← hgo.2.2 t2, he2, hgo.2.2 y, heq]
            have hf61 := mtp.mono hK hLL hvv _ _ _ htb1
            have hu61 : mnext M_9 b1 = none := Classical.byContradiction fun h9 => by
              rcases hz7 b1 htb1.has (mnext_t hc1) h9 with h5 | ⟨t, ht, hs⟩
              · exact h5.notT hc1 (by decide)
              · have h8 := hs .var
                rw [(mtp.uniq hC6.1.2.2.1 _ _ _ _ _ ht hf61).1, hx6] at h8
                exact Nat.lt_irrefl _ h8
            obtain ⟨is61, cm61, sn61, cp61, hc61⟩ := hK.T hc1
            have hi61 := hu61
            rw [mnext_t hc61] at hi61; subst hi61
            have hn61 : mt_now M_9 0 b1 b1 := ⟨rfl, _, _, _, _, _, _, _, hc61⟩
            have hf62 := mtp.mono hK hLL hvv _ _ _ htb2
            have hu62 : mnext M_9 b2 = none := Classical.byContradiction fun h9 => by
              rcases hz7 b2 htb2.has (mnext_t hc2) h9 with h5 | ⟨t, ht, hs⟩
              · exact h5.notT hc2 (by decide)
              · have h8 := hs .var
                rw [(mtp.uniq hC6.1.2.2.1 _ _ _ _ _ ht hf62).1, hy6] at h8
                exact Nat.lt_irrefl _ h8
            obtain ⟨is62, cm62, sn62, cp62, hc62⟩ := hK.T hc2
            have hi62 := hu62
            rw [mnext_t hc62] at hi62; subst hi62
            have hn62 : mt_now M_9 0 b2 b2 := ⟨rfl, _, _, _, _, _, _, _, hc62⟩
            refine lv_aload_n hx hb dX2_same_132 rfl (lv_at hl 1 rfl) ?_
            refine mm_callV (As := []) (rest := []) ⟨hx, hb, hml, hown, hts⟩ hE hST hA (c_X25_now l Z hn61) (cwV 0 hts (lw_V q2604 q2605 q2606 q98 q2607) rfl rfl rfl (by decide +kernel) ⟨(by (try dsimp only); omega), (by (try dsimp only); omega)⟩) hM hS mm_cX25 hc61 rfl hl.1 (Nat.le_of_ble_eq_true rfl) dX2_same_133 rfl ⟨(by (try dsimp only); omega), (by (try dsimp only); omega)⟩ (fun _ _ _ _ _ _ h9 => h9.elim) (fun v_13 M_14 H locs hp_15 hM hS => ?_)
            obtain ⟨rfl, eM_14⟩ := hp_15
            rw [eM_14] at hM
            refine lv_astore hx hb dX2_same_136 hl (by decide) rfl (fun ls hl => ?_)
            replace hl : lv_has ls 7 [(5, .ref b1), (4, .ref b2), (3, .ref b1), (0, .ref md), (1, .ref ax), (2, .ref ay)] := hl
            refine lv_aload hx hb dX2_same_138 (lv_at hl 1 rfl) ?_
            refine mm_callV (As := []) (rest := []) ⟨hx, hb, hml, hown, hts⟩ hE hST hA (c_X25_now l Z hn62) (cwV 0 hts (lw_V q2604 q2605 q2606 q98 q2607) rfl rfl rfl (by decide +kernel) ⟨(by (try dsimp only); omega), (by (try dsimp only); omega)⟩) hM hS mm_cX25 hc62 rfl hl.1 (Nat.le_of_ble_eq_true rfl) dX2_same_140 rfl ⟨(by (try dsimp only); omega), (by (try dsimp only); omega)⟩ (fun _ _ _ _ _ _ h9 => h9.elim) (fun v_16 M_17 H locs hp_18 hM hS => ?_)
            obtain ⟨rfl, eM_17⟩ := hp_18
            rw [eM_17] at hM
            refine lv_astore hx hb dX2_same_143 hl (by decide) rfl (fun ls hl => ?_)
            replace hl : lv_has ls 7 [(6, .ref b2), (5, .ref b1), (4, .ref b2), (3, .ref b1), (0, .ref md), (1, .ref ax), (2, .ref ay)] := hl
            refine lv_aload hx hb dX2_same_145 (lv_at hl 1 rfl) ?_
            refine lv_aload hx hb dX2_same_147 (lv_at hl 0 rfl) ?_
            refine lv_acmp_eq (rx := (some b1)) (ry := (some b2)) (tgt := 159) hx hb dX2_same_149 (by decide) (fun c_19 => ?_) (fun c_19 => ?_)
            · skip
              exact absurd (Option.some.inj c_19) hbb
            · skip
              refine lv_aload hx hb dX2_same_152 (lv_at hl 1 rfl) ?_
              refine lv_aload hx hb dX2_same_154 (lv_at hl 0 rfl) ?_
              refine mm_put (D := Z.1) (ci := 20) (v := .ref b2) (ty := .object "RowenTongueModel$Type") (C := RX25) (T := TX25) (N := 8) hx hb hts in_X25 tyX25 tyX25_ok nmX25 hown hE.1 hM hS hc61 mm_cX25 1 (by decide) (hts _ q2506) (fun _ h9 => h9) rfl (by decide +kernel) rfl rfl (Nat.le_of_ble_eq_true rfl) dX2_same_156 (fun H locs hM hS => ?_)
              have hM : mm_P Z.1 mm_cl A (mm_U M_9 b1 (.inr (20, [.int 3, .ref b2, .null, .null, .ref w1, .int (mm_b cm61), .long sn61, va_rf cp61]))) H := hM
              have hc_20 : (mm_U M_9 b1 (.inr (20, [.int 3, .ref b2, .null, .null, .ref w1, .int (mm_b cm61), .long sn61, va_rf cp61]))) b1 = some (.inr (20, [.int 3, .ref b2, .null, .null, .ref w1, .int (mm_b cm61), .long sn61, va_rf cp61])) := mm_U_eq
              have hc_21 : (mm_U M_9 b1 (.inr (20, [.int 3, .ref b2, .null, .null, .ref w1, .int (mm_b cm61), .long sn61, va_rf cp61]))) md = some (.inr (1, [.int tm, .ref kd, .ref wh, .ref f1, .ref f2, .ref f3, .ref wg, .int ea, .int sp, va_rf rt, .int th, .int ak, .int wr, .ref pl, .int tk, .int (mm_b fa), .long (nJ k6)])) := (mm_U_ne (mm_neC hmd6 hc61 (by decide))).trans hmd6
              obtain ⟨M_22, eM_22⟩ : ∃ z, z = mm_U M_9 b1 (.inr (20, [.int 3, .ref b2, .null, .null, .ref w1, .int (mm_b cm61), .long sn61, va_rf cp61])) := ⟨_, rfl⟩
              rw [← eM_22] at hM hc_20 hc_21
              have hK7 : mK M_9 M_22 := by rw [eM_22]; exact mK.putT (is' := some b2) (cm' := cm61) (sn' := sn61) (cp' := cp61) hc61
              obtain ⟨hC7, hP7⟩ := hC6.fwd0 hK7 (a := b1) (o := b2) (fun q9 h9 => by rw [eM_22]; exact mm_U_ne h9) (hLL _ hbL1) hu61 (by unfold mnext; rw [hc_20]; rfl) hu62 (Ne.symm hbb) hf61 hf62 (fun h9 => h9.notT hc61 (by decide)) (hx6.trans hy6.symm)
              have hSt7 : mSt M_22 L6 k6 := by rw [eM_22]; exact mSt.put (is' := some b2) (cm' := cm61) hSt6 hc61
              have hmd7 := hc_21
              refine mm_retvD hx hb hr hlk hM hS ⟨rfl, S6, L6, vr6, D6, k6, rfl, hK.trans hK7, hC7, hLL, hvv, hnn, hDD, hpd, by (try dsimp only); omega, by (try dsimp only); omega, by omega, by omega, (hN6.trans hK7 (mNw.rf _ _)), hmd7, hSt7, by omega, fun z h7 h8 h9 => ?_⟩ dX2_same_159 (by (try dsimp only); omega) (by (try dsimp only); omega)
              by_cases h6 : z = b1
              · subst h6; exact Or.inr ⟨_, mtp.mono hK7 (fun _ h => h) (fun _ h => ⟨h, rfl⟩) _ _ _ hf61, fun s => by rw [hx6]; exact Nat.le_refl _⟩
              · have h5 : mnext M_22 z = mnext M_9 z := by unfold mnext; rw [eM_22, mm_U_ne h6]
                rcases hz7 z h7 h8 (by rw [← h5]; exact h9) with h4 | ⟨t, ht, hs⟩
                · exact Or.inl h4
                · exact Or.inr ⟨t, mtp.mono hK7 (fun _ h => h) (fun _ h => ⟨h, rfl⟩) _ _ _ ht, fun s => Nat.le_of_lt (hs s)⟩
          · skip
            replace hc2 : M b2 = some (mt_E 4 none none none (some w2) cm2 sn2 cp2) := hc2
            have hr8 := hr9
            unfold tU at hr8
            rw [eT1, eT2] at hr8
            dsimp only at hr8
            rw [if_neg (by decide)] at hr8
            have hrr : r = .inl 2 := (Option.some.inj hr8).symm
            refine lv_aload_n hx hb dX2_same_18 rfl (lv_at hl 1 rfl) ?_
            refine va_get (D := Z.1) (ci := 20) (v := .int 3) (C := RX25) (T := TX25) (N := 8) hx hb hts in_X25 hown hE.1 (hM.at hc1) 0 rfl mm_cX25 0 (by decide) (hts _ q2504) (fun _ h9 => h9) rfl dX2_same_19 ?_
            refine lv_if_ne (tgt := 35) hx hb dX2_same_22 (by decide) (fun _ => ?_) (fun h9 => absurd h9 (by decide))
            refine lv_aload hx hb dX2_same_35 (lv_at hl 0 rfl) ?_
            refine va_get (D := Z.1) (ci := 20) (v := .int 4) (C := RX25) (T := TX25) (N := 8) hx hb hts in_X25 hown hE.1 (hM.at hc2) 0 rfl mm_cX25 0 (by decide) (hts _ q2504) (fun _ h9 => h9) rfl dX2_same_37 ?_
            refine lv_if_ne (tgt := 53) hx hb dX2_same_40 (by decide) (fun _ => ?_) (fun h9 => absurd h9 (by decide))
            refine lv_aload_n hx hb dX2_same_53 rfl (lv_at hl 1 rfl) ?_
            refine va_get (D := Z.1) (ci := 20) (v := .int 3) (C := RX25) (T := TX25) (N := 8) hx hb hts in_X25 hown hE.1 (hM.at hc1) 0 rfl mm_cX25 0 (by decide) (hts _ q2504) (fun _ h9 => h9) rfl dX2_same_54 ?_
            refine lv_aload hx hb dX2_same_57 (lv_at hl 0 rfl) ?_
            refine va_get (D := Z.1) (ci := 20) (v := .int 4) (C := RX25) (T := TX25) (N := 8) hx hb hts in_X25 hown hE.1 (hM.at hc2) 0 rfl mm_cX25 0 (by decide) (hts _ q2504) (fun _ h9 => h9) rfl dX2_same_59 ?_
            refine lv_icmp_eq (tgt := 74) hx hb dX2_same_62 (by decide) (fun h9 => absurd h9 (by decide)) (fun _ => ?_)
            refine mm_new (D := Z.1) (ci := 21) (fs := mm_f0X26) (C := RX26) (T := TX26) (N := 7) hx hb hts in_X26 tyX26 tyX26_ok hown (hts _ q2492) (hts _ q2530) (hts _ q99) hE.1 hM hS hA mm_cX26 mm_dfX26 (by (try dsimp only); omega) (by (try dsimp only); omega) dX2_same_65 (fun q_9 H nq_8 hM hS => ?_)
            have hM : mm_P Z.1 mm_cl A (mm_U M q_9 (.inr (21, [.null, .null, .null, .null, .null, .int 0, .int 0]))) H := hM
            have ne_10 : b1 ≠ q_9 := (mm_neN hc1 nq_8)
            have ne_11 : b2 ≠ q_9 := (mm_neN hc2 nq_8)
            have ne_12 : md ≠ q_9 := (mm_neN hmd nq_8)
            have hc_13 : (mm_U M q_9 (.inr (21, [.null, .null, .null, .null, .null, .int 0, .int 0]))) q_9 = some (.inr (21, [.null, .null, .null, .null, .null, .int 0, .int 0])) := mm_U_eq
            have hc_14 : (mm_U M q_9 (.inr (21, [.null, .null, .null, .null, .null, .int 0, .int 0]))) b1 = some (.inr (20, [.int 3, .null, .null, .null, .ref w1, .int (mm_b cm1), .long sn1, va_rf cp1])) := (mm_U_ne ne_10).trans hc1
            have hc_15 : (mm_U M q_9 (.inr (21, [.null, .null, .null, .null, .null, .int 0, .int 0]))) b2 = some (.inr (20, [.int 4, .null, .null, .null, .ref w2, .int (mm_b cm2), .long sn2, va_rf cp2])) := (mm_U_ne ne_11).trans hc2
            have hc_16 : (mm_U M q_9 (.inr (21, [.null, .null, .null, .null, .null, .int 0, .int 0]))) md = some (.inr (1, [.int tm, .ref kd, .ref wh, .ref f1, .ref f2, .ref f3, .ref wg, .int ea, .int sp, va_rf rt, .int th, .int ak, .int wr, .ref pl, .int tk, .int (mm_b fa), .long (nJ k)])) := (mm_U_ne ne_12).trans hmd
            obtain ⟨M_17, eM_17⟩ : ∃ z, z = mm_U M q_9 (.inr (21, [.null, .null, .null, .null, .null, .int 0, .int 0])) := ⟨_, rfl⟩
            rw [← eM_17] at hM hc_14 hc_15 hc_16 hc_13
            refine lv_dup hx hb dX2_same_68 rfl ?_
            refine lv_iconst (v := 2) hx hb dX2_same_69 (by decide) ?_
            refine mm_callI (As := [.int 2]) (rest := [.ref q_9]) ⟨hx, hb, hml, hown, hts⟩ hE hST hA (c_X26_init l Z (er := 2) hc_13) (cwI (maxL := 2) 1 hts (lw_meth q2540) rfl rfl rfl (hts _ q99) (hts _ q2538) (hts _ q2539) rfl (by decide +kernel) ⟨(by (try dsimp only); omega), (by (try dsimp only); omega)⟩) hM hS rfl hl.1 (Nat.le_of_ble_eq_true rfl) dX2_same_70 rfl ⟨(by (try dsimp only); omega), (by (try dsimp only); omega)⟩ (fun _ _ _ _ _ _ h9 => h9.elim) (fun v_18 M_19 H locs hp_20 hM hS => ?_)
            obtain ⟨rfl, eM_19⟩ := hp_20
            rw [eM_19] at hM
            have hc_21 : (mm_U M_17 q_9 (.inr (21, [.null, .null, .null, .null, .null, .int 0, .int 2]))) q_9 = some (.inr (21, [.null, .null, .null, .null, .null, .int 0, .int 2])) := mm_U_eq
            have hc_22 : (mm_U M_17 q_9 (.inr (21, [.null, .null, .null, .null, .null, .int 0, .int 2]))) b1 = some (.inr (20, [.int 3, .null, .null, .null, .ref w1, .int (mm_b cm1), .long sn1, va_rf cp1])) := (mm_U_ne ne_10).trans hc_14
            have hc_23 : (mm_U M_17 q_9 (.inr (21, [.null, .null, .null, .null, .null, .int 0, .int 2]))) b2 = some (.inr (20, [.int 4, .null, .null, .null, .ref w2, .int (mm_b cm2), .long sn2, va_rf cp2])) := (mm_U_ne ne_11).trans hc_15
            have hc_24 : (mm_U M_17 q_9 (.inr (21, [.null, .null, .null, .null, .null, .int 0, .int 2]))) md = some (.inr (1, [.int tm, .ref kd, .ref wh, .ref f1, .ref f2, .ref f3, .ref wg, .int ea, .int sp, va_rf rt, .int th, .int ak, .int wr, .ref pl, .int tk, .int (mm_b fa), .long (nJ k)])) := (mm_U_ne ne_12).trans hc_16
            obtain ⟨M_25, eM_25⟩ : ∃ z, z = mm_U M_17 q_9 (.inr (21, [.null, .null, .null, .null, .null, .int 0, .int 2])) := ⟨_, rfl⟩
            rw [← eM_25] at hM hc_22 hc_23 hc_24 hc_21
            exact mm_athrowD hx hb htab hlk hE hM hS hc_21 mm_cX26 ⟨2, hrr, mX.of ⟨rfl, nq_8, by subst eM_25 eM_17; simp only [mm_U_U]⟩⟩ dX2_same_73 (by (try dsimp only); omega) (by (try dsimp only); omega)
      · skip
        replace hc1 : M b1 = some (mt_E 4 none none none (some w1) cm1 sn1 cp1) := hc1
        rcases hcs2 with ⟨eT2, cm2, sn2, cp2, hc2⟩ | ⟨v2, hv2, eT2, hs2, rfl, sn2, cp2, hc2⟩ | ⟨xa2, xb2, pf2, pg2, cm2, sn2, cp2, eT2, hc2, hta2, htb2'⟩ | ⟨r2, iv2, w2, cm2, sn2, cp2, eT2, hc2, htw2⟩
        · skip
          have hr8 := hr9
          unfold tU at hr8
          rw [eT1, eT2] at hr8
          dsimp only at hr8
          have hrr : r = .inl 2 := (Option.some.inj hr8).symm
          refine lv_aload_n hx hb dX2_same_18 rfl (lv_at hl 1 rfl) ?_
          refine va_get (D := Z.1) (ci := 20) (v := .int 4) (C := RX25) (T := TX25) (N := 8) hx hb hts in_X25 hown hE.1 (hM.at hc1) 0 rfl mm_cX25 0 (by decide) (hts _ q2504) (fun _ h9 => h9) rfl dX2_same_19 ?_
          refine lv_if_ne (tgt := 35) hx hb dX2_same_22 (by decide) (fun _ => ?_) (fun h9 => absurd h9 (by decide))
          refine lv_aload hx hb dX2_same_35 (lv_at hl 0 rfl) ?_
          refine va_get (D := Z.1) (ci := 20) (v := .int 1) (C := RX25) (T := TX25) (N := 8) hx hb hts in_X25 hown hE.1 (hM.at hc2) 0 rfl mm_cX25 0 (by decide) (hts _ q2504) (fun _ h9 => h9) rfl dX2_same_37 ?_
          refine lv_if_ne (tgt := 53) hx hb dX2_same_40 (by decide) (fun _ => ?_) (fun h9 => absurd h9 (by decide))
          refine lv_aload_n hx hb dX2_same_53 rfl (lv_at hl 1 rfl) ?_
          refine va_get (D := Z.1) (ci := 20) (v := .int 4) (C := RX25) (T := TX25) (N := 8) hx hb hts in_X25 hown hE.1 (hM.at hc1) 0 rfl mm_cX25 0 (by decide) (hts _ q2504) (fun _ h9 => h9) rfl dX2_same_54 ?_
          refine lv_aload hx hb dX2_same_57 (lv_at hl 0 rfl) ?_
          refine va_get (D := Z.1) (ci := 20) (v := .int 1) (C := RX25) (T := TX25) (N := 8) hx hb hts in_X25 hown hE.1 (hM.at hc2) 0 rfl mm_cX25 0 (by decide) (hts _ q2504) (fun _ h9 => h9) rfl dX2_same_59 ?_
          refine lv_icmp_eq (tgt := 74) hx hb dX2_same_62 (by decide) (fun h9 => absurd h9 (by decide)) (fun _ => ?_)
          refine mm_new (D := Z.1) (ci := 21) (fs := mm_f0X26) (C := RX26) (T := TX26) (N := 7) hx hb hts in_X26 tyX26 tyX26_ok hown (hts _ q2492) (hts _ q2530) (hts _ q99) hE.1 hM hS hA mm_cX26 mm_dfX26 (by (try dsimp only); omega) (by (try dsimp only); omega) dX2_same_65 (fun q_9 H nq_8 hM hS => ?_)
          have hM : mm_P Z.1 mm_cl A (mm_U M q_9 (.inr (21, [.null, .null, .null, .null, .null, .int 0, .int 0]))) H := hM
          have ne_10 : b1 ≠ q_9 := (mm_neN hc1 nq_8)
          have ne_11 : b2 ≠ q_9 := (mm_neN hc2 nq_8)
          have ne_12 : md ≠ q_9 := (mm_neN hmd nq_8)
          have hc_13 : (mm_U M q_9 (.inr (21, [.null, .null, .null, .null, .null, .int 0, .int 0]))) q_9 = some (.inr (21, [.null, .null, .null, .null, .null, .int 0, .int 0])) := mm_U_eq
          have hc_14 : (mm_U M q_9 (.inr (21, [.null, .null, .null, .null, .null, .int 0, .int 0]))) b1 = some (.inr (20, [.int 4, .null, .null, .null, .ref w1, .int (mm_b cm1), .long sn1, va_rf cp1])) := (mm_U_ne ne_10).trans hc1
          have hc_15 : (mm_U M q_9 (.inr (21, [.null, .null, .null, .null, .null, .int 0, .int 0]))) b2 = some (.inr (20, [.int 1, .null, .null, .null, .null, .int (mm_b cm2), .long sn2, va_rf cp2])) := (mm_U_ne ne_11).trans hc2
          have hc_16 : (mm_U M q_9 (.inr (21, [.null, .null, .null, .null, .null, .int 0, .int 0]))) md = some (.inr (1, [.int tm, .ref kd, .ref wh, .ref f1, .ref f2, .ref f3, .ref wg, .int ea, .int sp, va_rf rt, .int th, .int ak, .int wr, .ref pl, .int tk, .int (mm_b fa), .long (nJ k)])) := (mm_U_ne ne_12).trans hmd
          obtain ⟨M_17, eM_17⟩ : ∃ z, z = mm_U M q_9 (.inr (21, [.null, .null, .null, .null, .null, .int 0, .int 0])) := ⟨_, rfl⟩
          rw [← eM_17] at hM hc_14 hc_15 hc_16 hc_13
          refine lv_dup hx hb dX2_same_68 rfl ?_
          refine lv_iconst (v := 2) hx hb dX2_same_69 (by decide) ?_
          refine mm_callI (As := [.int 2]) (rest := [.ref q_9]) ⟨hx, hb, hml, hown, hts⟩ hE hST hA (c_X26_init l Z (er := 2) hc_13) (cwI (maxL := 2) 1 hts (lw_meth q2540) rfl rfl rfl (hts _ q99) (hts _ q2538) (hts _ q2539) rfl (by decide +kernel) ⟨(by (try dsimp only); omega), (by (try dsimp only); omega)⟩) hM hS rfl hl.1 (Nat.le_of_ble_eq_true rfl) dX2_same_70 rfl ⟨(by (try dsimp only); omega), (by (try dsimp only); omega)⟩ (fun _ _ _ _ _ _ h9 => h9.elim) (fun v_18 M_19 H locs hp_20 hM hS => ?_)
          obtain ⟨rfl, eM_19⟩ := hp_20
          rw [eM_19] at hM
          have hc_21 : (mm_U M_17 q_9 (.inr (21, [.null, .null, .null, .null, .null, .int 0, .int 2]))) q_9 = some (.inr (21, [.null, .null, .null, .null, .null, .int 0, .int 2])) := mm_U_eq
          have hc_22 : (mm_U M_17 q_9 (.inr (21, [.null, .null, .null, .null, .null, .int 0, .int 2]))) b1 = some (.inr (20, [.int 4, .null, .null, .null, .ref w1, .int (mm_b cm1), .long sn1, va_rf cp1])) := (mm_U_ne ne_10).trans hc_14
          have hc_23 : (mm_U M_17 q_9 (.inr (21, [.null, .null, .null, .null, .null, .int 0, .int 2]))) b2 = some (.inr (20, [.int 1, .null, .null, .null, .null, .int (mm_b cm2), .long sn2, va_rf cp2])) := (mm_U_ne ne_11).trans hc_15
          have hc_24 : (mm_U M_17 q_9 (.inr (21, [.null, .null, .null, .null, .null, .int 0, .int 2]))) md = some (.inr (1, [.int tm, .ref kd, .ref wh, .ref f1, .ref f2, .ref f3, .ref wg, .int ea, .int sp, va_rf rt, .int th, .int ak, .int wr, .ref pl, .int tk, .int (mm_b fa), .long (nJ k)])) := (mm_U_ne ne_12).trans hc_16
          obtain ⟨M_25, eM_25⟩ : ∃ z, z = mm_U M_17 q_9 (.inr (21, [.null, .null, .null, .null, .null, .int 0, .int 2])) := ⟨_, rfl⟩
          rw [← eM_25] at hM hc_22 hc_23 hc_24 hc_21
          exact mm_athrowD hx hb htab hlk hE hM hS hc_21 mm_cX26 ⟨2, hrr, mX.of ⟨rfl, nq_8, by subst eM_25 eM_17; simp only [mm_U_U]⟩⟩ dX2_same_73 (by (try dsimp only); omega) (by (try dsimp only); omega)
        · skip
          refine lv_aload_n hx hb dX2_same_18 rfl (lv_at hl 1 rfl) ?_
          refine va_get (D := Z.1) (ci := 20) (v := .int 4) (C := RX25) (T := TX25) (N := 8) hx hb hts in_X25 hown hE.1 (hM.at hc1) 0 rfl mm_cX25 0 (by decide) (hts _ q2504) (fun _ h9 => h9) rfl dX2_same_19 ?_
          refine lv_if_ne (tgt := 35) hx hb dX2_same_22 (by decide) (fun _ => ?_) (fun h9 => absurd h9 (by decide))
          refine lv_aload hx hb dX2_same_35 (lv_at hl 0 rfl) ?_
          refine va_get (D := Z.1) (ci := 20) (v := .int 0) (C := RX25) (T := TX25) (N := 8) hx hb hts in_X25 hown hE.1 (hM.at hc2) 0 rfl mm_cX25 0 (by decide) (hts _ q2504) (fun _ h9 => h9) rfl dX2_same_37 ?_
          refine lv_if_ne (tgt := 53) hx hb dX2_same_40 (by decide) (fun h9 => absurd (by decide) h9) (fun _ => ?_)
          refine lv_aload_n hx hb dX2_same_43 rfl (lv_at hl 2 rfl) ?_
          refine lv_aload hx hb dX2_same_44 (lv_at hl 0 rfl) ?_
          refine lv_aload_n hx hb dX2_same_46 rfl (lv_at hl 1 rfl) ?_
          have hrr := tU_var2 hr9 eT2 (fun v h9 => by rw [eT1] at h9; cases h9)
          refine mm_callVD (As := [.ref (vr v2), .ref b1]) (rest := []) ⟨hx, hb, hml, hown, hts⟩ hE hST hA (d_X2_binds l Z (t := t1) (T := uap S.2.1 x) hmd hSt (by omega) he1 hC hv2 hc2 htb1 (mnext_t hc1)) (cwV 2 hts (lw_V q2658 q2660 qs39 q54 q2661) rfl rfl rfl (by decide +kernel) ⟨(by (try dsimp only); omega), (by (try dsimp only); omega)⟩) hM hS mm_cX2 hmd rfl hl.1 (Nat.le_of_ble_eq_true rfl) dX2_same_47 rfl ⟨(by (try dsimp only); omega), (by (try dsimp only); omega)⟩ (fun E ce q M9 H1 locs1 hp9 hM9 hS9 hce hcv hcl => by obtain ⟨er9, he9, hx9⟩ := hp9; exact mm_outxD htab hlk hM9 hS9 hce hcv hcl ⟨er9, hrr.trans he9, hx9⟩ (by (try dsimp only); omega) (by (try dsimp only); omega)) (fun v_8 M_9 n_11 k_12 H locs hp_10 hM hS => ?_)
          obtain ⟨rfl, rfl, rfl, S5, k5, hS5, hK5, hC5, hS51, hP5, hz5, hpd5, hk5, hmd5, hSt5⟩ := hp_10
          refine lv_goto (tgt := 159) hx hb dX2_same_50 (by decide) ?_
          refine mm_retvD hx hb hr hlk hM hS ⟨rfl, S5, L, vr, D, k5, hrr.trans hS5, hK5, hC5, fun _ h => h, fun _ h => ⟨h, rfl⟩, Nat.le_of_eq hS51.symm, fun v9 => ⟨Or.inl, fun h9 => h9.elim id (fun h8 => absurd h8.2 (Nat.not_lt.2 (by rw [hS51]; exact h8.1)))⟩, hpd5, by (try dsimp only); omega, by (try dsimp only); omega, by omega, by omega, mNw.rf _ _, hmd5, hSt5, by omega, fun z h7 h8 h9 => ?_⟩ dX2_same_159 (by (try dsimp only); omega) (by (try dsimp only); omega)
          by_cases h6 : z = vr v2
          · exact Or.inl (h6 ▸ hC.isVar hv2)
          · exact absurd ((hz5 z h7 h6).trans h8) h9
        · skip
          have hr8 := hr9
          unfold tU at hr8
          rw [eT1, eT2] at hr8
          dsimp only at hr8
          have hrr : r = .inl 2 := (Option.some.inj hr8).symm
          refine lv_aload_n hx hb dX2_same_18 rfl (lv_at hl 1 rfl) ?_
          refine va_get (D := Z.1) (ci := 20) (v := .int 4) (C := RX25) (T := TX25) (N := 8) hx hb hts in_X25 hown hE.1 (hM.at hc1) 0 rfl mm_cX25 0 (by decide) (hts _ q2504) (fun _ h9 => h9) rfl dX2_same_19 ?_
          refine lv_if_ne (tgt := 35) hx hb dX2_same_22 (by decide) (fun _ => ?_) (fun h9 => absurd h9 (by decide))
          refine lv_aload hx hb dX2_same_35 (lv_at hl 0 rfl) ?_
          refine va_get (D := Z.1) (ci := 20) (v := .int 2) (C := RX25) (T := TX25) (N := 8) hx hb hts in_X25 hown hE.1 (hM.at hc2) 0 rfl mm_cX25 0 (by decide) (hts _ q2504) (fun _ h9 => h9) rfl dX2_same_37 ?_
          refine lv_if_ne (tgt := 53) hx hb dX2_same_40 (by decide) (fun _ => ?_) (fun h9 => absurd h9 (by decide))
          refine lv_aload_n hx hb dX2_same_53 rfl (lv_at hl 1 rfl) ?_
          refine va_get (D := Z.1) (ci := 20) (v := .int 4) (C := RX25) (T := TX25) (N := 8) hx hb hts in_X25 hown hE.1 (hM.at hc1) 0 rfl mm_cX25 0 (by decide) (hts _ q2504) (fun _ h9 => h9) rfl dX2_same_54 ?_
          refine lv_aload hx hb dX2_same_57 (lv_at hl 0 rfl) ?_
          refine va_get (D := Z.1) (ci := 20) (v := .int 2) (C := RX25) (T := TX25) (N := 8) hx hb hts in_X25 hown hE.1 (hM.at hc2) 0 rfl mm_cX25 0 (by decide) (hts _ q2504) (fun _ h9 => h9) rfl dX2_same_59 ?_
          refine lv_icmp_eq (tgt := 74) hx hb dX2_same_62 (by decide) (fun h9 => absurd h9 (by decide)) (fun _ => ?_)
          refine mm_new (D := Z.1) (ci := 21) (fs := mm_f0X26) (C := RX26) (T := TX26) (N := 7) hx hb hts in_X26 tyX26 tyX26_ok hown (hts _ q2492) (hts _ q2530) (hts _ q99) hE.1 hM hS hA mm_cX26 mm_dfX26 (by (try dsimp only); omega) (by (try dsimp only); omega) dX2_same_65 (fun q_9 H nq_8 hM hS => ?_)
          have hM : mm_P Z.1 mm_cl A (mm_U M q_9 (.inr (21, [.null, .null, .null, .null, .null, .int 0, .int 0]))) H := hM
          have ne_10 : b1 ≠ q_9 := (mm_neN hc1 nq_8)
          have ne_11 : b2 ≠ q_9 := (mm_neN hc2 nq_8)
          have ne_12 : md ≠ q_9 := (mm_neN hmd nq_8)
          have hc_13 : (mm_U M q_9 (.inr (21, [.null, .null, .null, .null, .null, .int 0, .int 0]))) q_9 = some (.inr (21, [.null, .null, .null, .null, .null, .int 0, .int 0])) := mm_U_eq
          have hc_14 : (mm_U M q_9 (.inr (21, [.null, .null, .null, .null, .null, .int 0, .int 0]))) b1 = some (.inr (20, [.int 4, .null, .null, .null, .ref w1, .int (mm_b cm1), .long sn1, va_rf cp1])) := (mm_U_ne ne_10).trans hc1
          have hc_15 : (mm_U M q_9 (.inr (21, [.null, .null, .null, .null, .null, .int 0, .int 0]))) b2 = some (.inr (20, [.int 2, .null, .ref pf2, .ref pg2, .null, .int (mm_b cm2), .long sn2, va_rf cp2])) := (mm_U_ne ne_11).trans hc2
          have hc_16 : (mm_U M q_9 (.inr (21, [.null, .null, .null, .null, .null, .int 0, .int 0]))) md = some (.inr (1, [.int tm, .ref kd, .ref wh, .ref f1, .ref f2, .ref f3, .ref wg, .int ea, .int sp, va_rf rt, .int th, .int ak, .int wr, .ref pl, .int tk, .int (mm_b fa), .long (nJ k)])) := (mm_U_ne ne_12).trans hmd
          obtain ⟨M_17, eM_17⟩ : ∃ z, z = mm_U M q_9 (.inr (21, [.null, .null, .null, .null, .null, .int 0, .int 0])) := ⟨_, rfl⟩
          rw [← eM_17] at hM hc_14 hc_15 hc_16 hc_13
          refine lv_dup hx hb dX2_same_68 rfl ?_
          refine lv_iconst (v := 2) hx hb dX2_same_69 (by decide) ?_
          refine mm_callI (As := [.int 2]) (rest := [.ref q_9]) ⟨hx, hb, hml, hown, hts⟩ hE hST hA (c_X26_init l Z (er := 2) hc_13) (cwI (maxL := 2) 1 hts (lw_meth q2540) rfl rfl rfl (hts _ q99) (hts _ q2538) (hts _ q2539) rfl (by decide +kernel) ⟨(by (try dsimp only); omega), (by (try dsimp only); omega)⟩) hM hS rfl hl.1 (Nat.le_of_ble_eq_true rfl) dX2_same_70 rfl ⟨(by (try dsimp only); omega), (by (try dsimp only); omega)⟩ (fun _ _ _ _ _ _ h9 => h9.elim) (fun v_18 M_19 H locs hp_20 hM hS => ?_)
          obtain ⟨rfl, eM_19⟩ := hp_20
          rw [eM_19] at hM
          have hc_21 : (mm_U M_17 q_9 (.inr (21, [.null, .null, .null, .null, .null, .int 0, .int 2]))) q_9 = some (.inr (21, [.null, .null, .null, .null, .null, .int 0, .int 2])) := mm_U_eq
          have hc_22 : (mm_U M_17 q_9 (.inr (21, [.null, .null, .null, .null, .null, .int 0, .int 2]))) b1 = some (.inr (20, [.int 4, .null, .null, .null, .ref w1, .int (mm_b cm1), .long sn1, va_rf cp1])) := (mm_U_ne ne_10).trans hc_14
          have hc_23 : (mm_U M_17 q_9 (.inr (21, [.null, .null, .null, .null, .null, .int 0, .int 2]))) b2 = some (.inr (20, [.int 2, .null, .ref pf2, .ref pg2, .null, .int (mm_b cm2), .long sn2, va_rf cp2])) := (mm_U_ne ne_11).trans hc_15
          have hc_24 : (mm_U M_17 q_9 (.inr (21, [.null, .null, .null, .null, .null, .int 0, .int 2]))) md = some (.inr (1, [.int tm, .ref kd, .ref wh, .ref f1, .ref f2, .ref f3, .ref wg, .int ea, .int sp, va_rf rt, .int th, .int ak, .int wr, .ref pl, .int tk, .int (mm_b fa), .long (nJ k)])) := (mm_U_ne ne_12).trans hc_16
          obtain ⟨M_25, eM_25⟩ : ∃ z, z = mm_U M_17 q_9 (.inr (21, [.null, .null, .null, .null, .null, .int 0, .int 2])) := ⟨_, rfl⟩
          rw [← eM_25] at hM hc_22 hc_23 hc_24 hc_21
          exact mm_athrowD hx hb htab hlk hE hM hS hc_21 mm_cX26 ⟨2, hrr, mX.of ⟨rfl, nq_8, by subst eM_25 eM_17; simp only [mm_U_U]⟩⟩ dX2_same_73 (by (try dsimp only); omega) (by (try dsimp only); omega)
        · skip
          cases iv2
          · skip
            replace hc2 : M b2 = some (mt_E 3 none none none (some w2) cm2 sn2 cp2) := hc2
            have hr8 := hr9
            unfold tU at hr8
            rw [eT1, eT2] at hr8
            dsimp only at hr8
            rw [if_neg (by decide)] at hr8
            have hrr : r = .inl 2 := (Option.some.inj hr8).symm
            refine lv_aload_n hx hb dX2_same_18 rfl (lv_at hl 1 rfl) ?_
            refine va_get (D := Z.1) (ci := 20) (v := .int 4) (C := RX25) (T := TX25) (N := 8) hx hb hts in_X25 hown hE.1 (hM.at hc1) 0 rfl mm_cX25 0 (by decide) (hts _ q2504) (fun _ h9 => h9) rfl dX2_same_19 ?_
            refine lv_if_ne (tgt := 35) hx hb dX2_same_22 (by decide) (fun _ => ?_) (fun h9 => absurd h9 (by decide))
            refine lv_aload hx hb dX2_same_35 (lv_at hl 0 rfl) ?_
            refine va_get (D := Z.1) (ci := 20) (v := .int 3) (C := RX25) (T := TX25) (N := 8) hx hb hts in_X25 hown hE.1 (hM.at hc2) 0 rfl mm_cX25 0 (by decide) (hts _ q2504) (fun _ h9 => h9) rfl dX2_same_37 ?_
            refine lv_if_ne (tgt := 53) hx hb dX2_same_40 (by decide) (fun _ => ?_) (fun h9 => absurd h9 (by decide))
            refine lv_aload_n hx hb dX2_same_53 rfl (lv_at hl 1 rfl) ?_
            refine va_get (D := Z.1) (ci := 20) (v := .int 4) (C := RX25) (T := TX25) (N := 8) hx hb hts in_X25 hown hE.1 (hM.at hc1) 0 rfl mm_cX25 0 (by decide) (hts _ q2504) (fun _ h9 => h9) rfl dX2_same_54 ?_
            refine lv_aload hx hb dX2_same_57 (lv_at hl 0 rfl) ?_
            refine va_get (D := Z.1) (ci := 20) (v := .int 3) (C := RX25) (T := TX25) (N := 8) hx hb hts in_X25 hown hE.1 (hM.at hc2) 0 rfl mm_cX25 0 (by decide) (hts _ q2504) (fun _ h9 => h9) rfl dX2_same_59 ?_
            refine lv_icmp_eq (tgt := 74) hx hb dX2_same_62 (by decide) (fun h9 => absurd h9 (by decide)) (fun _ => ?_)
            refine mm_new (D := Z.1) (ci := 21) (fs := mm_f0X26) (C := RX26) (T := TX26) (N := 7) hx hb hts in_X26 tyX26 tyX26_ok hown (hts _ q2492) (hts _ q2530) (hts _ q99) hE.1 hM hS hA mm_cX26 mm_dfX26 (by (try dsimp only); omega) (by (try dsimp only); omega) dX2_same_65 (fun q_9 H nq_8 hM hS => ?_)
            have hM : mm_P Z.1 mm_cl A (mm_U M q_9 (.inr (21, [.null, .null, .null, .null, .null, .int 0, .int 0]))) H := hM
            have ne_10 : b1 ≠ q_9 := (mm_neN hc1 nq_8)
            have ne_11 : b2 ≠ q_9 := (mm_neN hc2 nq_8)
            have ne_12 : md ≠ q_9 := (mm_neN hmd nq_8)
            have hc_13 : (mm_U M q_9 (.inr (21, [.null, .null, .null, .null, .null, .int 0, .int 0]))) q_9 = some (.inr (21, [.null, .null, .null, .null, .null, .int 0, .int 0])) := mm_U_eq
            have hc_14 : (mm_U M q_9 (.inr (21, [.null, .null, .null, .null, .null, .int 0, .int 0]))) b1 = some (.inr (20, [.int 4, .null, .null, .null, .ref w1, .int (mm_b cm1), .long sn1, va_rf cp1])) := (mm_U_ne ne_10).trans hc1
            have hc_15 : (mm_U M q_9 (.inr (21, [.null, .null, .null, .null, .null, .int 0, .int 0]))) b2 = some (.inr (20, [.int 3, .null, .null, .null, .ref w2, .int (mm_b cm2), .long sn2, va_rf cp2])) := (mm_U_ne ne_11).trans hc2
            have hc_16 : (mm_U M q_9 (.inr (21, [.null, .null, .null, .null, .null, .int 0, .int 0]))) md = some (.inr (1, [.int tm, .ref kd, .ref wh, .ref f1, .ref f2, .ref f3, .ref wg, .int ea, .int sp, va_rf rt, .int th, .int ak, .int wr, .ref pl, .int tk, .int (mm_b fa), .long (nJ k)])) := (mm_U_ne ne_12).trans hmd
            obtain ⟨M_17, eM_17⟩ : ∃ z, z = mm_U M q_9 (.inr (21, [.null, .null, .null, .null, .null, .int 0, .int 0])) := ⟨_, rfl⟩
            rw [← eM_17] at hM hc_14 hc_15 hc_16 hc_13
            refine lv_dup hx hb dX2_same_68 rfl ?_
            refine lv_iconst (v := 2) hx hb dX2_same_69 (by decide) ?_
            refine mm_callI (As := [.int 2]) (rest := [.ref q_9]) ⟨hx, hb, hml, hown, hts⟩ hE hST hA (c_X26_init l Z (er := 2) hc_13) (cwI (maxL := 2) 1 hts (lw_meth q2540) rfl rfl rfl (hts _ q99) (hts _ q2538) (hts _ q2539) rfl (by decide +kernel) ⟨(by (try dsimp only); omega), (by (try dsimp only); omega)⟩) hM hS rfl hl.1 (Nat.le_of_ble_eq_true rfl) dX2_same_70 rfl ⟨(by (try dsimp only); omega), (by (try dsimp only); omega)⟩ (fun _ _ _ _ _ _ h9 => h9.elim) (fun v_18 M_19 H locs hp_20 hM hS => ?_)
            obtain ⟨rfl, eM_19⟩ := hp_20
            rw [eM_19] at hM
            have hc_21 : (mm_U M_17 q_9 (.inr (21, [.null, .null, .null, .null, .null, .int 0, .int 2]))) q_9 = some (.inr (21, [.null, .null, .null, .null, .null, .int 0, .int 2])) := mm_U_eq
            have hc_22 : (mm_U M_17 q_9 (.inr (21, [.null, .null, .null, .null, .null, .int 0, .int 2]))) b1 = some (.inr (20, [.int 4, .null, .null, .null, .ref w1, .int (mm_b cm1), .long sn1, va_rf cp1])) := (mm_U_ne ne_10).trans hc_14
            have hc_23 : (mm_U M_17 q_9 (.inr (21, [.null, .null, .null, .null, .null, .int 0, .int 2]))) b2 = some (.inr (20, [.int 3, .null, .null, .null, .ref w2, .int (mm_b cm2), .long sn2, va_rf cp2])) := (mm_U_ne ne_11).trans hc_15
            have hc_24 : (mm_U M_17 q_9 (.inr (21, [.null, .null, .null, .null, .null, .int 0, .int 2]))) md = some (.inr (1, [.int tm, .ref kd, .ref wh, .ref f1, .ref f2, .ref f3, .ref wg, .int ea, .int sp, va_rf rt, .int th, .int ak, .int wr, .ref pl, .int tk, .int (mm_b fa), .long (nJ k)])) := (mm_U_ne ne_12).trans hc_16
            obtain ⟨M_25, eM_25⟩ : ∃ z, z = mm_U M_17 q_9 (.inr (21, [.null, .null, .null, .null, .null, .int 0, .int 2])) := ⟨_, rfl⟩
            rw [← eM_25] at hM hc_22 hc_23 hc_24 hc_21
            exact mm_athrowD hx hb htab hlk hE hM hS hc_21 mm_cX26 ⟨2, hrr, mX.of ⟨rfl, nq_8, by subst eM_25 eM_17; simp only [mm_U_U]⟩⟩ dX2_same_73 (by (try dsimp only); omega) (by (try dsimp only); omega)
          · skip
            replace hc2 : M b2 = some (mt_E 4 none none none (some w2) cm2 sn2 cp2) := hc2
            have hr8 := hr9
            unfold tU at hr8
            rw [eT1, eT2] at hr8
            dsimp only at hr8
            have hu1 := hw1
            have hu2 := hw2
            have hrt1 : uap S.2.1 (uap S.2.1 x) = uap S.2.1 x := hC.1.1.le x
            have hrt2 : uap S.2.1 (uap S.2.1 y) = uap S.2.1 y := hC.1.1.le y
            rw [eT1] at hu1; rw [eT2] at hu2
            simp only [uwf] at hu1 hu2
            rw [if_pos rfl] at hr8
            have hd1' : mDeep M L vr D S r1 (d + 1) := hdp.to (y := r1) (k := 1) (fun s => by rw [eT1]; simp only [uap, uh]; omega)
            have hdl1 := hd1'.le hC hB9
            refine lv_aload_n hx hb dX2_same_18 rfl (lv_at hl 1 rfl) ?_
            refine va_get (D := Z.1) (ci := 20) (v := .int 4) (C := RX25) (T := TX25) (N := 8) hx hb hts in_X25 hown hE.1 (hM.at hc1) 0 rfl mm_cX25 0 (by decide) (hts _ q2504) (fun _ h9 => h9) rfl dX2_same_19 ?_
            refine lv_if_ne (tgt := 35) hx hb dX2_same_22 (by decide) (fun _ => ?_) (fun h9 => absurd h9 (by decide))
            refine lv_aload hx hb dX2_same_35 (lv_at hl 0 rfl) ?_
            refine va_get (D := Z.1) (ci := 20) (v := .int 4) (C := RX25) (T := TX25) (N := 8) hx hb hts in_X25 hown hE.1 (hM.at hc2) 0 rfl mm_cX25 0 (by decide) (hts _ q2504) (fun _ h9 => h9) rfl dX2_same_37 ?_
            refine lv_if_ne (tgt := 53) hx hb dX2_same_40 (by decide) (fun _ => ?_) (fun h9 => absurd h9 (by decide))
            refine lv_aload_n hx hb dX2_same_53 rfl (lv_at hl 1 rfl) ?_
            refine va_get (D := Z.1) (ci := 20) (v := .int 4) (C := RX25) (T := TX25) (N := 8) hx hb hts in_X25 hown hE.1 (hM.at hc1) 0 rfl mm_cX25 0 (by decide) (hts _ q2504) (fun _ h9 => h9) rfl dX2_same_54 ?_
            refine lv_aload hx hb dX2_same_57 (lv_at hl 0 rfl) ?_
            refine va_get (D := Z.1) (ci := 20) (v := .int 4) (C := RX25) (T := TX25) (N := 8) hx hb hts in_X25 hown hE.1 (hM.at hc2) 0 rfl mm_cX25 0 (by decide) (hts _ q2504) (fun _ h9 => h9) rfl dX2_same_59 ?_
            refine lv_icmp_eq (tgt := 74) hx hb dX2_same_62 (by decide) (fun _ => ?_) (fun h9 => absurd (by decide) h9)
            refine lv_aload_n hx hb dX2_same_74 rfl (lv_at hl 1 rfl) ?_
            refine va_get (D := Z.1) (ci := 20) (v := .int 4) (C := RX25) (T := TX25) (N := 8) hx hb hts in_X25 hown hE.1 (hM.at hc1) 0 rfl mm_cX25 0 (by decide) (hts _ q2504) (fun _ h9 => h9) rfl dX2_same_75 ?_
            refine lv_iconst (v := 2) hx hb dX2_same_78 (by decide) ?_
            refine lv_icmp_ne (tgt := 111) hx hb dX2_same_79 (by decide) (fun _ => ?_) (fun h9 => absurd h9 (by decide))
            refine lv_aload_n hx hb dX2_same_111 rfl (lv_at hl 1 rfl) ?_
            refine va_get (D := Z.1) (ci := 20) (v := .int 4) (C := RX25) (T := TX25) (N := 8) hx hb hts in_X25 hown hE.1 (hM.at hc1) 0 rfl mm_cX25 0 (by decide) (hts _ q2504) (fun _ h9 => h9) rfl dX2_same_112 ?_
            refine lv_iconst (v := 1) hx hb dX2_same_115 (by decide) ?_
            refine lv_icmp_eq (tgt := 132) hx hb dX2_same_116 (by decide) (fun h9 => absurd h9 (by decide)) (fun _ => ?_)
            refine lv_aload_n hx hb dX2_same_119 rfl (lv_at hl 2 rfl) ?_
            refine lv_aload_n hx hb dX2_same_120 rfl (lv_at hl 1 rfl) ?_
            refine va_get (D := Z.1) (ci := 20) (v := .ref w1) (C := RX25) (T := TX25) (N := 8) hx hb hts in_X25 hown hE.1 (hM.at hc1) 0 rfl mm_cX25 4 (by decide) (hts _ q2509) (fun _ h9 => h9) rfl dX2_same_121 ?_
            refine lv_aload hx hb dX2_same_124 (lv_at hl 0 rfl) ?_
            refine va_get (D := Z.1) (ci := 20) (v := .ref w2) (C := RX25) (T := TX25) (N := 8) hx hb hts in_X25 hown hE.1 (hM.at hc2) 0 rfl mm_cX25 4 (by decide) (hts _ q2509) (fun _ h9 => h9) rfl dX2_same_126 ?_
            refine mm_callVD (As := [.ref w1, .ref w2]) (rest := []) ⟨hx, hb, hml, hown, hts⟩ hE hST hA (d_X2_sameRows l Z ih (r1 := r1) (r2 := r2) (Hh := Hh) (d := d + 1) (Dd := Dd - 1) hmd hSt (by omega) hC hG htw1 htw2 hu1 hu2 hr8 hB9 hH (by omega) hd1') (cwV 2 hts (lw_V q2671 q2673 qs40 q54 q2674) rfl rfl rfl (by decide +kernel) ⟨(by (try dsimp only); omega), (by (try dsimp only); omega)⟩) hM hS mm_cX2 hmd rfl hl.1 (Nat.le_of_ble_eq_true rfl) dX2_same_129 rfl ⟨(by (try dsimp only); omega), (by (try dsimp only); omega)⟩ (fun E ce q M9 H1 locs1 hp9 hM9 hS9 hce hcv hcl => by obtain ⟨er9, he9, hx9⟩ := hp9; exact mm_outxD htab hlk hM9 hS9 hce hcv hcl ⟨er9, he9, hx9⟩ (by (try dsimp only); omega) (by (try dsimp only); omega)) (fun v_8 M_9 n_11 k_12 H locs hp_10 hM hS => ?_)
            obtain ⟨rfl, S6, L6, vr6, D6, k6, hrS, hK, hC6, hLL, hvv, hnn, hDD, hpd, hc6, hs6, hl6, hP6, hN6, hmd6, hSt6, hk6, hz6⟩ := hp_10
            subst hrS
            obtain ⟨kn7, hgo0, -⟩ := tRows_good (tU_good n) hG hu1 hu2 (hC.1.1.le r1) (hC.1.1.le r2) hr8
            have hlt : ∀ s, SizeOf.sizeOf (uap s (uap S6.2.1 r1)) < SizeOf.sizeOf (uap s (uap S6.2.1 x)) := fun s => by
              rw [show uap S6.2.1 x = uap S6.2.1 (.pow r1 (Bool.toNat true)) from by rw [← hgo0.2.2 x, eT1]; simp only [uap]; rw [hgo0.2.2 r1]]
              have e9 : SizeOf.sizeOf (uap s (uap S6.2.1 (.pow r1 (Bool.toNat true)))) = 1 + SizeOf.sizeOf (uap s (uap S6.2.1 r1)) + SizeOf.sizeOf (Bool.toNat true) := rfl
              omega
            have hz7 : ∀ z, M z ≠ none → mnext M z = none → mnext M_9 z ≠ none → mVar M z ∨ ∃ t, mtp M_9 L6 vr6 D6 t false z ∧ ∀ s, SizeOf.sizeOf (uap s (uap S6.2.1 t)) < SizeOf.sizeOf (uap s (uap S6.2.1 x)) := fun z h7 h8 h9 => (hz6 z h7 h8 h9).imp id (fun ⟨t, ht, hs⟩ => ⟨t, ht, fun s => Nat.lt_of_le_of_lt (hs s) (hlt s)⟩)
            obtain ⟨kn6, hgo, heq⟩ := tU_good (n + 1) S kn x y S6 hG hw1 hw2 hr9
            have hx6 : uap S6.2.1 t1 = uap S6.2.1 x := by rw [← hgo.2.2 t1, he1, hgo.2.2 x]
            have hy6 : uap S6.2.1 t2 = uap S6.2.1 x := by rw [← hgo.2.2 t2, he2, hgo.2.2 y, heq]
            have hf61 := mtp.mono hK hLL hvv _ _ _ htb1
            have hu61 : mnext M_9 b1 = none := Classical.byContradiction fun h9 => by
              rcases hz7 b1 htb1.has (mnext_t hc1) h9 with h5 | ⟨t, ht, hs⟩
              · exact h5.notT hc1 (by decide)
              · have h8 := hs .var
                rw [(mtp.uniq hC6.1.2.2.1 _ _ _ _ _ ht hf61).1, hx6] at h8
                exact Nat.lt_irrefl _ h8
            obtain ⟨is61, cm61, sn61, cp61, hc61⟩ := hK.T hc1
            have hi61 := hu61
            rw [mnext_t hc61] at hi61; subst hi61
            have hn61 : mt_now M_9 0 b1 b1 := ⟨rfl, _, _, _, _, _, _, _, hc61⟩
            have hf62 := mtp.mono hK hLL hvv _ _ _ htb2
            have hu62 : mnext M_9 b2 = none := Classical.byContradiction fun h9 => by
              rcases hz7 b2 htb2.has (mnext_t hc2) h9 with h5 | ⟨t, ht, hs⟩
              · exact h5.notT hc2 (by decide)
              · have h8 := hs .var
                rw [(mtp.uniq hC6.1.2.2.1 _ _ _ _ _ ht hf62).1, hy6] at h8
                exact Nat.lt_irrefl _ h8
            obtain ⟨is62, cm62, sn62, cp62, hc62⟩ := hK.T hc2
            have hi62 := hu62
            rw [mnext_t hc62] at hi62; subst hi62
            have hn62 : mt_now M_9 0 b2 b2 := ⟨rfl, _, _, _, _, _, _, _, hc62⟩
            refine lv_aload_n hx hb dX2_same_132 rfl (lv_at hl 1 rfl) ?_
            refine mm_callV (As := []) (rest := []) ⟨hx, hb, hml, hown, hts⟩ hE hST hA (c_X25_now l Z hn61) (cwV 0 hts (lw_V q2604 q2605 q2606 q98 q2607) rfl rfl rfl (by decide +kernel) ⟨(by (try dsimp only); omega), (by (try dsimp only); omega)⟩) hM hS mm_cX25 hc61 rfl hl.1 (Nat.le_of_ble_eq_true rfl) dX2_same_133 rfl ⟨(by (try dsimp only); omega), (by (try dsimp only); omega)⟩ (fun _ _ _ _ _ _ h9 => h9.elim) (fun v_13 M_14 H locs hp_15 hM hS => ?_)
            obtain ⟨rfl, eM_14⟩ := hp_15
            rw [eM_14] at hM
            refine lv_astore hx hb dX2_same_136 hl (by decide) rfl (fun ls hl => ?_)
            replace hl : lv_has ls 7 [(5, .ref b1), (4, .ref b2), (3, .ref b1), (0, .ref md), (1, .ref ax), (2, .ref ay)] := hl
            refine lv_aload hx hb dX2_same_138 (lv_at hl 1 rfl) ?_
            refine mm_callV (As := []) (rest := []) ⟨hx, hb, hml, hown, hts⟩ hE hST hA (c_X25_now l Z hn62) (cwV 0 hts (lw_V q2604 q2605 q2606 q98 q2607) rfl rfl rfl (by decide +kernel) ⟨(by (try dsimp only); omega), (by (try dsimp only); omega)⟩) hM hS mm_cX25 hc62 rfl hl.1 (Nat.le_of_ble_eq_true rfl) dX2_same_140 rfl ⟨(by (try dsimp only); omega), (by (try dsimp only); omega)⟩ (fun _ _ _ _ _ _ h9 => h9.elim) (fun v_16 M_17 H locs hp_18 hM hS => ?_)
            obtain ⟨rfl, eM_17⟩ := hp_18
            rw [eM_17] at hM
            refine lv_astore hx hb dX2_same_143 hl (by decide) rfl (fun ls hl => ?_)
            replace hl : lv_has ls 7 [(6, .ref b2), (5, .ref b1), (4, .ref b2), (3, .ref b1), (0, .ref md), (1, .ref ax), (2, .ref ay)] := hl
            refine lv_aload hx hb dX2_same_145 (lv_at hl 1 rfl) ?_
            refine lv_aload hx hb dX2_same_147 (lv_at hl 0 rfl) ?_
            refine lv_acmp_eq (rx := (some b1)) (ry := (some b2)) (tgt := 159) hx hb dX2_same_149 (by decide) (fun c_19 => ?_) (fun c_19 => ?_)
            · skip
              exact absurd (Option.some.inj c_19) hbb
            · skip
              refine lv_aload hx hb dX2_same_152 (lv_at hl 1 rfl) ?_
              refine lv_aload hx hb dX2_same_154 (lv_at hl 0 rfl) ?_
              refine mm_put (D := Z.1) (ci := 20) (v := .ref b2) (ty := .object "RowenTongueModel$Type") (C := RX25) (T := TX25) (N := 8) hx hb hts in_X25 tyX25 tyX25_ok nmX25 hown hE.1 hM hS hc61 mm_cX25 1 (by decide) (hts _ q2506) (fun _ h9 => h9) rfl (by decide +kernel) rfl rfl (Nat.le_of_ble_eq_true rfl) dX2_same_156 (fun H locs hM hS => ?_)
              have hM : mm_P Z.1 mm_cl A (mm_U M_9 b1 (.inr (20, [.int 4, .ref b2, .null, .null, .ref w1, .int (mm_b cm61), .long sn61, va_rf cp61]))) H := hM
              have hc_20 : (mm_U M_9 b1 (.inr (20, [.int 4, .ref b2, .null, .null, .ref w1, .int (mm_b cm61), .long sn61, va_rf cp61]))) b1 = some (.inr (20, [.int 4, .ref b2, .null, .null, .ref w1, .int (mm_b cm61), .long sn61, va_rf cp61])) := mm_U_eq
              have hc_21 : (mm_U M_9 b1 (.inr (20, [.int 4, .ref b2, .null, .null, .ref w1, .int (mm_b cm61), .long sn61, va_rf cp61]))) md = some (.inr (1, [.int tm, .ref kd, .ref wh, .ref f1, .ref f2, .ref f3, .ref wg, .int ea, .int sp, va_rf rt, .int th, .int ak, .int wr, .ref pl, .int tk, .int (mm_b fa), .long (nJ k6)])) := (mm_U_ne (mm_neC hmd6 hc61 (by decide))).trans hmd6
              obtain ⟨M_22, eM_22⟩ : ∃ z, z = mm_U M_9 b1 (.inr (20, [.int 4, .ref b2, .null, .null, .ref w1, .int (mm_b cm61), .long sn61, va_rf cp61])) := ⟨_, rfl⟩
              rw [← eM_22] at hM hc_20 hc_21
              have hK7 : mK M_9 M_22 := by rw [eM_22]; exact mK.putT (is' := some b2) (cm' := cm61) (sn' := sn61) (cp' := cp61) hc61
              obtain ⟨hC7, hP7⟩ := hC6.fwd0 hK7 (a := b1) (o := b2) (fun q9 h9 => by rw [eM_22]; exact mm_U_ne h9) (hLL _ hbL1) hu61 (by unfold mnext; rw [hc_20]; rfl) hu62 (Ne.symm hbb) hf61 hf62 (fun h9 => h9.notT hc61 (by decide)) (hx6.trans hy6.symm)
              have hSt7 : mSt M_22 L6 k6 := by rw [eM_22]; exact mSt.put (is' := some b2) (cm' := cm61) hSt6 hc61
              have hmd7 := hc_21
              refine mm_retvD hx hb hr hlk hM hS ⟨rfl, S6, L6, vr6, D6, k6, rfl, hK.trans hK7, hC7, hLL, hvv, hnn, hDD, hpd, by (try dsimp only); omega, by (try dsimp only); omega, by omega, by omega, (hN6.trans hK7 (mNw.rf _ _)), hmd7, hSt7, by omega, fun z h7 h8 h9 => ?_⟩ dX2_same_159 (by (try dsimp only); omega) (by (try dsimp only); omega)
              by_cases h6 : z = b1
              · subst h6; exact Or.inr ⟨_, mtp.mono hK7 (fun _ h => h) (fun _ h => ⟨h, rfl⟩) _ _ _ hf61, fun s => by rw [hx6]; exact Nat.le_refl _⟩
              · have h5 : mnext M_22 z = mnext M_9 z := by unfold mnext; rw [eM_22, mm_U_ne h6]
                rcases hz7 z h7 h8 (by rw [← h5]; exact h9) with h4 | ⟨t, ht, hs⟩
                · exact Or.inl h4
                · exact Or.inr ⟨t, mtp.mono hK7 (fun _ h => h) (fun _ h => ⟨h, rfl⟩) _ _ _ ht, fun s => Nat.le_of_lt (hs s)⟩
/-- same, at any fuel -/
theorem d_X2_same (l : Launch) (Z : mm_G) {md kd wh f1 f2 f3 wg pl : Nat} {tm ea sp th ak wr tk : Int32} {rt : Option Nat} {fa : Bool} : ∀ n : Nat, mUn l Z n md (fun st => md_E tm kd wh f1 f2 f3 wg ea sp rt th ak wr pl tk fa st)
  | 0 => fun M L vr D S kn x y ax ay r Hh d Dd b k _ _ _ _ _ _ _ _ _ h => by cases h
  | n + 1 => fun M L vr D S kn x y ax ay r Hh d Dd b k hmd hSt hk hC hG h1 h2 hw1 hw2 hr hB hH hD hd => d_X2_same_s l Z (d_X2_same l Z n) hmd hSt hk hC hG h1 h2 hw1 hw2 hr hB hH hD hd
