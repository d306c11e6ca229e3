/-! ===== unite ===== -/
set_option maxRecDepth 100000
theorem uK.F {M M' : mm_M} (h : uK M M') {a : Nat} {f g sm bq rn : Option Nat} (ha : M a = some (cf_E f g sm bq rn)) : ∃ sm' bq' rn', M' a = some (cf_E f g sm' bq' rn') := by
  rcases h a _ ha with k | ⟨bd2, lv2, lk2, bd3, lv3, lk3, e2, k⟩ | ⟨bd2, lv2, lk2, bd3, lv3, lk3, lc3, e2, k⟩ | ⟨f2, g2, sm2, bq2, rn2, sm3, bq3, rn3, e2, k, kby⟩ | ⟨iv2, w2, sm2, bq2, rn2, sm3, bq3, rn3, e2, k, kby⟩
  · exact ⟨_, _, _, k⟩
  · exfalso; simp at e2
  · exfalso; simp at e2
  · obtain ⟨rfl, rfl, -⟩ := cf_inj e2; exact ⟨_, _, _, k⟩
  · exfalso; simp at e2
theorem uK.B {M M' : mm_M} (h : uK M M') {a : Nat} {iv : Bool} {w sm bq rn : Option Nat} (ha : M a = some (cb_E iv w sm bq rn)) : ∃ sm' bq' rn', M' a = some (cb_E iv w sm' bq' rn') := by
  rcases h a _ ha with k | ⟨bd2, lv2, lk2, bd3, lv3, lk3, e2, k⟩ | ⟨bd2, lv2, lk2, bd3, lv3, lk3, lc3, e2, k⟩ | ⟨f2, g2, sm2, bq2, rn2, sm3, bq3, rn3, e2, k, kby⟩ | ⟨iv2, w2, sm2, bq2, rn2, sm3, bq3, rn3, e2, k, kby⟩
  · exact ⟨_, _, _, k⟩
  · exfalso; simp at e2
  · exfalso; simp at e2
  · exfalso; simp at e2
  · obtain ⟨rfl, rfl, -⟩ := cb_inj e2; exact ⟨_, _, _, k⟩
theorem uK.putF {M : mm_M} {a : Nat} {f g sm bq rn sm' rn' : Option Nat} (h : M a = some (cf_E f g sm bq rn)) : uK M (mm_U M a (cf_E f g sm' bq rn')) := by
  intro q e he
  by_cases hq : q = a
  · subst hq; rw [h] at he; cases he; exact Or.inr (Or.inr (Or.inr (Or.inl ⟨_, _, _, _, _, _, _, _, rfl, mm_U_eq, uby.rf _ _⟩)))
  · exact Or.inl ((mm_U_ne hq).trans he)
theorem uK.putB {M : mm_M} {a : Nat} {iv : Bool} {w sm bq rn sm' rn' : Option Nat} (h : M a = some (cb_E iv w sm bq rn)) : uK M (mm_U M a (cb_E iv w sm' bq rn')) := by
  intro q e he
  by_cases hq : q = a
  · subst hq; rw [h] at he; cases he; exact Or.inr (Or.inr (Or.inr (Or.inr ⟨_, _, _, _, _, _, _, _, rfl, mm_U_eq, uby.rf _ _⟩)))
  · exact Or.inl ((mm_U_ne hq).trans he)
/-- a function, a record or a variant comes to be another one that is seen alike -/
theorem uCI.fwd0 {Z : mm_G} {M M' : mm_M} {L : List Nat} {vr : Nat → Nat} {S : ts} (hC : uCI Z M L vr S) (hK : uK M M') {a o : Nat} (hq : ∀ q, q ≠ a → M' q = M q) (haL : a ∈ L) (hna : unext M a = none) (hno : unext M' a = some o) (hon : unext M o = none) (hoa : o ≠ a) {m : Bool} {t t' : ev} (hta : tp Z M L vr S.1 t m a) (hto : tp Z M L vr S.1 t' m o) (hnv : ¬ uVar M a) (he : uap S.2.1 t = uap S.2.1 t') : uCI Z M' L vr S ∧ uPhi M' L + 1 = uPhi M L :=
  hC.fwd hK hq haL hna hno hon hoa hta hto rfl hC.1.1 hC.1.1.le hC.1.2.2.2.1 hC.1.2.2.2.2 (fun v hv => by
    have hne : vr v ≠ a := fun h => hnv (h ▸ hC.isVar hv)
    rw [hq _ hne]
    exact (hC.2.1 v hv).2) he
theorem uVar.notF {M : mm_M} {z : Nat} (h : uVar M z) {f g sm bq rn : Option Nat} (hz : M z = some (cf_E f g sm bq rn)) : False := by
  rcases h with ⟨bd, lv, lk, h⟩ | ⟨bd, lv, lk, lc, h⟩ <;> rw [hz] at h <;> simp at h
theorem uVar.notB {M : mm_M} {z : Nat} (h : uVar M z) {iv : Bool} {w sm bq rn : Option Nat} (hz : M z = some (cb_E iv w sm bq rn)) : False := by
  rcases h with ⟨bd, lv, lk, h⟩ | ⟨bd, lv, lk, lc, h⟩ <;> rw [hz] at h <;> simp at h
theorem tBind_le {S S' : ts} {v : Nat} {T : ev} (hok : ts_ok S) (h : tBind S v T = .inr S') : ts_le S S' := by
  unfold tBind at h
  have h1 : ts_le S (ts_put (ts_lev S (S.2.2.2.2 v) T) v T) := ts_put_le (S := ts_lev S (S.2.2.2.2 v) T) hok
  split at h
  · cases h
  · split at h
    · unfold tLike at h
      split at h
      · cases h
      · cases h; exact h1
    · cases h; exact h1
/-- both roots: what tU says of a variable on the left -/
theorem tU_var1 {n : Nat} {S : ts} {x y : ev} {v : Nat} {r : te} (h : tU (n + 1) S x y = some r) (hx : uap S.2.1 x = .var v) (hn : uap S.2.1 y ≠ .var v) : r = tBind S v (uap S.2.1 y) := by
  unfold tU at h
  rw [hx] at h
  generalize uap S.2.1 y = T at h hn
  cases T <;> dsimp only at h <;> first | exact (Option.some.inj h).symm | (rw [if_neg (fun e => hn (by rw [e]))] at h; exact (Option.some.inj h).symm)
theorem tU_var2 {n : Nat} {S : ts} {x y : ev} {w : Nat} {r : te} (h : tU (n + 1) S x y = some r) (hy : uap S.2.1 y = .var w) (hn : ∀ v, uap S.2.1 x ≠ .var v) : r = tBind S w (uap S.2.1 x) := by
  unfold tU at h
  rw [hy] at h
  generalize uap S.2.1 x = T at h hn
  cases T <;> dsimp only at h <;> first | exact (Option.some.inj h).symm | exact absurd rfl (hn _)

set_option maxHeartbeats 4000000 in
set_option maxRecDepth 100000 in
theorem d_X1_unite_s (l : Launch) (Z : mm_G) {M : mm_M} {n : Nat} (htr : l.stackTraces = false) (ih : uUn l Z n) {L : List Nat} {vr : Nat → Nat} {S : ts} {kd : Nat → Bool} {x y : ev} {ax ay : Nat} {r : te} {Hh Lm d D b : Nat} (h0 : al_0 Z M) (hC : uCI Z M L vr S) (hG : usg S kd) (ht1 : tp Z M L vr S.1 x false ax) (ht2 : tp Z M L vr S.1 y false ay) (hw1 : uwf (uG S kd) false (uap S.2.1 x)) (hw2 : uwf (uG S kd) false (uap S.2.1 y)) (hr9 : tU (n + 1) S x y = some r) (hB9 : uB Z M L vr S b) (hH : 2 * b + 3 ≤ Hh) (hLm : L.length + uPhi M L ≤ Lm) (hD : D + d = Hh) (hdp : uDeep Z M L vr S x d) : mm_D l Z yX1_unite (ws_ yX1_unite cX1_unite 10 none) { frames := Hh + Lm + 30 + D, cells := 27 * uPhi M L + 9 * D + 40, slots := 70 * uPhi M L + 55 * D + 120, locals := 25 * Hh + 20 * Lm + 1000 + 30 * D } [.ref ax, .ref ay] M (uUP Z M L vr S x 0 r) (fun E q M' => ∃ er, r = .inl er ∧ uX M er E q M') := by
  refine mm_ofWD (cc := cX1_unite) (maxL := 10) (ret := none) (by decide) rfl (Nat.le_of_ble_eq_true rfl) ?_
  intro p e s m below meth c A ls hx hb hr hlk hml hown hmn hts htab hE hST hA hM hS hl
  replace hl : lv_has ls 10 [(0, .ref ax), (1, .ref ay)] := hl
  have hdl := hdp.le hC hB9
  have hhx := hC.heightB hB9 ht1
  have hhy := hC.heightB hB9 ht2
  simp only [Bool.toNat_false, Nat.add_zero] at hhx hhy
  obtain ⟨d1, b1, t1, hd1, hn1, htb1, he1, hcs1⟩ := hC.nowT ht1
  obtain ⟨d2, b2, t2, hd2, hn2, htb2, he2, hcs2⟩ := hC.nowT ht2
  refine lv_aload_n hx hb dX1_unite_0 rfl (lv_at hl 0 rfl) ?_
  refine mm_cutR (b := b1) (pc2 := 4) (ls := ls) (rest := []) (M := M) (fun kk9 => ?_) (fun H locs hM hS => ?_) hM hS
  · skip
    have hw9 := c_now l Z hn1
    obtain ⟨sm9, hq9⟩ := hn1.at
    rcases hq9 with ⟨lv9, lk9, hq9⟩ | ⟨f9, t9, b9, r9, hq9⟩ | ⟨i9, w9, b9, r9, hq9⟩ | ⟨rfl, hq9⟩
    · skip
      refine mm_callU (As := []) (rest := []) ⟨hx, hb, hml, hown, hts⟩ hE hST hA (hw9.1 _ _ _ hq9) (va_cwO (x := ⟨"RowenTongue$Type", "now", "()LRowenTongue$Type;"⟩) (C := RX11) (owner := "RowenTongue$Type") 0 hts (lw_app (lw_in _ [1058, 707, 706, 720, 715, 78] (by decide +kernel) (by decide +kernel)) (lw_meth q716)) rfl rfl rfl q721 (by decide +kernel) ⟨(by (try dsimp only); omega), (by (try dsimp only); omega)⟩) hM hS mm_cX11 hq9 rfl hl.1 (Nat.le_of_ble_eq_true rfl) dX1_unite_1 rfl ⟨(by (try dsimp only); omega), (by (try dsimp only); omega)⟩ (fun _ _ _ _ _ _ h9 => h9.elim) (fun v_1 M_2 H locs hp_3 hM hS => ?_)
      obtain ⟨rfl, eM_2⟩ := hp_3
      rw [eM_2] at hM
      exact kk9 _ _ hM hS
    · skip
      refine mm_callU (As := []) (rest := []) ⟨hx, hb, hml, hown, hts⟩ hE hST hA (hw9.2.1 _ _ _ _ _ hq9) (va_cwO (x := ⟨"RowenTongue$Type", "now", "()LRowenTongue$Type;"⟩) (C := RX12) (owner := "RowenTongue$Type") 0 hts (lw_app (lw_in _ [1058, 707, 706, 718, 712, 79] (by decide +kernel) (by decide +kernel)) (lw_meth q713)) rfl rfl rfl q721 (by decide +kernel) ⟨(by (try dsimp only); omega), (by (try dsimp only); omega)⟩) hM hS mm_cX12 hq9 rfl hl.1 (Nat.le_of_ble_eq_true rfl) dX1_unite_1 rfl ⟨(by (try dsimp only); omega), (by (try dsimp only); omega)⟩ (fun _ _ _ _ _ _ h9 => h9.elim) (fun v_1 M_2 H locs hp_3 hM hS => ?_)
      obtain ⟨rfl, eM_2⟩ := hp_3
      rw [eM_2] at hM
      exact kk9 _ _ hM hS
    · skip
      refine mm_callU (As := []) (rest := []) ⟨hx, hb, hml, hown, hts⟩ hE hST hA (hw9.2.2.1 _ _ _ _ _ hq9) (va_cwO (x := ⟨"RowenTongue$Type", "now", "()LRowenTongue$Type;"⟩) (C := RX8) (owner := "RowenTongue$Type") 0 hts (lw_app (lw_in _ [1058, 707, 706, 708, 709, 74] (by decide +kernel) (by decide +kernel)) (lw_meth q710)) rfl rfl rfl q721 (by decide +kernel) ⟨(by (try dsimp only); omega), (by (try dsimp only); omega)⟩) hM hS mm_cX8 hq9 rfl hl.1 (Nat.le_of_ble_eq_true rfl) dX1_unite_1 rfl ⟨(by (try dsimp only); omega), (by (try dsimp only); omega)⟩ (fun _ _ _ _ _ _ h9 => h9.elim) (fun v_1 M_2 H locs hp_3 hM hS => ?_)
      obtain ⟨rfl, eM_2⟩ := hp_3
      rw [eM_2] at hM
      exact kk9 _ _ hM hS
    · skip
      refine mm_callU (As := []) (rest := []) ⟨hx, hb, hml, hown, hts⟩ hE hST hA (hw9.2.2.2 hq9) (va_cwU (x := ⟨"RowenTongue$Type", "now", "()LRowenTongue$Type;"⟩) (C := "RowenTongue$Numbers") (owner := "RowenTongue$Type") 0 hts (lw_app (lw_in _ [1058, 707, 719, 706, 73] (by decide +kernel) (by decide +kernel)) (lw_meth q721)) rfl rfl rfl rfl (by decide +kernel) ⟨(by (try dsimp only); omega), (by (try dsimp only); omega)⟩) hM hS mm_cE1 hq9 rfl hl.1 (Nat.le_of_ble_eq_true rfl) dX1_unite_1 rfl ⟨(by (try dsimp only); omega), (by (try dsimp only); omega)⟩ (fun _ _ _ _ _ _ h9 => h9.elim) (fun v_1 M_2 H locs hp_3 hM hS => ?_)
      obtain ⟨rfl, eM_2⟩ := hp_3
      rw [eM_2] at hM
      exact kk9 _ _ hM hS
  refine lv_astore_n hx hb dX1_unite_4 rfl hl (by decide) rfl (fun ls hl => ?_)
  replace hl : lv_has ls 10 [(2, .ref b1), (0, .ref ax), (1, .ref ay)] := hl
  refine lv_aload_n hx hb dX1_unite_5 rfl (lv_at hl 2 rfl) ?_
  refine mm_cutR (b := b2) (pc2 := 9) (ls := ls) (rest := []) (M := M) (fun kk9 => ?_) (fun H locs hM hS => ?_) hM hS
  · skip
    have hw9 := c_now l Z hn2
    obtain ⟨sm9, hq9⟩ := hn2.at
    rcases hq9 with ⟨lv9, lk9, hq9⟩ | ⟨f9, t9, b9, r9, hq9⟩ | ⟨i9, w9, b9, r9, hq9⟩ | ⟨rfl, hq9⟩
    · skip
      refine mm_callU (As := []) (rest := []) ⟨hx, hb, hml, hown, hts⟩ hE hST hA (hw9.1 _ _ _ hq9) (va_cwO (x := ⟨"RowenTongue$Type", "now", "()LRowenTongue$Type;"⟩) (C := RX11) (owner := "RowenTongue$Type") 0 hts (lw_app (lw_in _ [1058, 707, 706, 720, 715, 78] (by decide +kernel) (by decide +kernel)) (lw_meth q716)) rfl rfl rfl q721 (by decide +kernel) ⟨(by (try dsimp only); omega), (by (try dsimp only); omega)⟩) hM hS mm_cX11 hq9 rfl hl.1 (Nat.le_of_ble_eq_true rfl) dX1_unite_6 rfl ⟨(by (try dsimp only); omega), (by (try dsimp only); omega)⟩ (fun _ _ _ _ _ _ h9 => h9.elim) (fun v_1 M_2 H locs hp_3 hM hS => ?_)
      obtain ⟨rfl, eM_2⟩ := hp_3
      rw [eM_2] at hM
      exact kk9 _ _ hM hS
    · skip
      refine mm_callU (As := []) (rest := []) ⟨hx, hb, hml, hown, hts⟩ hE hST hA (hw9.2.1 _ _ _ _ _ hq9) (va_cwO (x := ⟨"RowenTongue$Type", "now", "()LRowenTongue$Type;"⟩) (C := RX12) (owner := "RowenTongue$Type") 0 hts (lw_app (lw_in _ [1058, 707, 706, 718, 712, 79] (by decide +kernel) (by decide +kernel)) (lw_meth q713)) rfl rfl rfl q721 (by decide +kernel) ⟨(by (try dsimp only); omega), (by (try dsimp only); omega)⟩) hM hS mm_cX12 hq9 rfl hl.1 (Nat.le_of_ble_eq_true rfl) dX1_unite_6 rfl ⟨(by (try dsimp only); omega), (by (try dsimp only); omega)⟩ (fun _ _ _ _ _ _ h9 => h9.elim) (fun v_1 M_2 H locs hp_3 hM hS => ?_)
      obtain ⟨rfl, eM_2⟩ := hp_3
      rw [eM_2] at hM
      exact kk9 _ _ hM hS
    · skip
      refine mm_callU (As := []) (rest := []) ⟨hx, hb, hml, hown, hts⟩ hE hST hA (hw9.2.2.1 _ _ _ _ _ hq9) (va_cwO (x := ⟨"RowenTongue$Type", "now", "()LRowenTongue$Type;"⟩) (C := RX8) (owner := "RowenTongue$Type") 0 hts (lw_app (lw_in _ [1058, 707, 706, 708, 709, 74] (by decide +kernel) (by decide +kernel)) (lw_meth q710)) rfl rfl rfl q721 (by decide +kernel) ⟨(by (try dsimp only); omega), (by (try dsimp only); omega)⟩) hM hS mm_cX8 hq9 rfl hl.1 (Nat.le_of_ble_eq_true rfl) dX1_unite_6 rfl ⟨(by (try dsimp only); omega), (by (try dsimp only); omega)⟩ (fun _ _ _ _ _ _ h9 => h9.elim) (fun v_1 M_2 H locs hp_3 hM hS => ?_)
      obtain ⟨rfl, eM_2⟩ := hp_3
      rw [eM_2] at hM
      exact kk9 _ _ hM hS
    · skip
      refine mm_callU (As := []) (rest := []) ⟨hx, hb, hml, hown, hts⟩ hE hST hA (hw9.2.2.2 hq9) (va_cwU (x := ⟨"RowenTongue$Type", "now", "()LRowenTongue$Type;"⟩) (C := "RowenTongue$Numbers") (owner := "RowenTongue$Type") 0 hts (lw_app (lw_in _ [1058, 707, 719, 706, 73] (by decide +kernel) (by decide +kernel)) (lw_meth q721)) rfl rfl rfl rfl (by decide +kernel) ⟨(by (try dsimp only); omega), (by (try dsimp only); omega)⟩) hM hS mm_cE1 hq9 rfl hl.1 (Nat.le_of_ble_eq_true rfl) dX1_unite_6 rfl ⟨(by (try dsimp only); omega), (by (try dsimp only); omega)⟩ (fun _ _ _ _ _ _ h9 => h9.elim) (fun v_1 M_2 H locs hp_3 hM hS => ?_)
      obtain ⟨rfl, eM_2⟩ := hp_3
      rw [eM_2] at hM
      exact kk9 _ _ hM hS
  refine lv_astore_n hx hb dX1_unite_9 rfl hl (by decide) rfl (fun ls hl => ?_)
  replace hl : lv_has ls 10 [(3, .ref b2), (2, .ref b1), (0, .ref ax), (1, .ref ay)] := hl
  refine lv_aload_n hx hb dX1_unite_10 rfl (lv_at hl 1 rfl) ?_
  refine lv_aload_n hx hb dX1_unite_11 rfl (lv_at hl 0 rfl) ?_
  refine lv_acmp_ne (rx := (some b1)) (ry := (some b2)) (tgt := 16) hx hb dX1_unite_12 (by decide) (fun c_1 => ?_) (fun c_1 => ?_)
  rotate_left
  · skip
    have hbb : b1 = b2 := by first | exact Option.some.inj c_1 | exact c_1
    subst hbb
    have hee : uap S.2.1 x = uap S.2.1 y := by rw [← he1, ← he2, (tp.uniq hC.1.2.2.1 t1 t2 false false b1 htb1 htb2).1]
    have hrr := tU_same (n + 1) S kd x y r hG hw1 hee hr9
    exact mm_retvD hx hb hr hlk hM hS ⟨rfl, S, L, vr, hrr, uK.rf _, hC, fun _ h => h, fun _ _ => rfl, Nat.le_refl _, by (try dsimp only); omega, by (try dsimp only); omega, Nat.le_refl _, Nat.le_refl _, uNw.rf _ _, fun z h7 h8 h9 => absurd h8 h9⟩ dX1_unite_15 (by (try dsimp only); omega) (by (try dsimp only); omega)
  · skip
    have hbb : b1 ≠ b2 := fun h9 => by first | exact c_1 h9 | exact c_1 (congrArg some h9)
    rcases hcs1 with ⟨eT1, hz1, hc1⟩ | ⟨v1, hv1, eT1, hs1, rfl, hL1, hc1⟩ | ⟨xa1, xb1, f1, g1, bq1, rn1, eT1, hL1, hc1, hta1, htb1'⟩ | ⟨r1, iv1, w1, bq1, rn1, eT1, hL1, hc1, htw1⟩
    · skip
      rcases hcs2 with ⟨eT2, hz2, hc2⟩ | ⟨v2, hv2, eT2, hs2, rfl, hL2, hc2⟩ | ⟨xa2, xb2, f2, g2, bq2, rn2, eT2, hL2, hc2, hta2, htb2'⟩ | ⟨r2, iv2, w2, bq2, rn2, eT2, hL2, hc2, htw2⟩
      · skip
        exact absurd (hz1.trans hz2.symm) hbb
      · skip
        refine lv_aload_n hx hb dX1_unite_16 rfl (lv_at hl 1 rfl) ?_
        refine va_instNo (C := "RowenTongue$Numbers") hx hb hown (hts _ q1059) (hE.2.2.2.1 _ _ (by decide +kernel)) (mm_recv hE hM mm_cE1 hc1) dX1_unite_17 ?_
        refine lv_if_eq (tgt := 38) hx hb dX1_unite_20 (by decide) (fun _ => ?_) (fun h9 => absurd (by decide) h9)
        refine lv_aload_n hx hb dX1_unite_38 rfl (lv_at hl 0 rfl) ?_
        refine va_instS hx hb hown (hts _ q1059) (hE.1.1 9 _ mm_cX11).2 (mm_recv hE hM mm_cX11 hc2) dX1_unite_39 ?_
        refine lv_if_eq (tgt := 60) hx hb dX1_unite_42 (by decide) (fun h9 => absurd h9 (by decide)) (fun _ => ?_)
        refine lv_aload_n hx hb dX1_unite_45 rfl (lv_at hl 0 rfl) ?_
        refine va_castS hx hb hown (hts _ q1059) (hE.1.1 9 _ mm_cX11).2 (mm_recv hE hM mm_cX11 hc2) dX1_unite_46 ?_
        refine lv_astore hx hb dX1_unite_49 hl (by decide) rfl (fun ls hl => ?_)
        replace hl : lv_has ls 10 [(7, .ref (vr v2)), (3, .ref (vr v2)), (2, .ref b1), (0, .ref ax), (1, .ref ay)] := hl
        refine lv_aload hx hb dX1_unite_51 (lv_at hl 0 rfl) ?_
        refine lv_aload_n hx hb dX1_unite_53 rfl (lv_at hl 2 rfl) ?_
        have hrr := tU_var2 hr9 eT2 (fun v h9 => by rw [eT1] at h9; cases h9)
        have hnb1 : unext M b1 = none := unext_cn hc1
        refine mm_callSD (As := [.ref (vr v2), .ref b1]) (rest := []) ⟨hx, hb, hml, hown, hts⟩ hE hST hA (d_X1_bind l Z htr (t := t1) (T := uap S.2.1 x) he1 hC hv2 hc2 htb1 hnb1) (va_cwS 2 hts (lw_S q1060 q1061 q50 q1062) rfl rfl rfl (by decide +kernel) ⟨(by (try dsimp only); omega), (by (try dsimp only); omega)⟩) hM hS rfl hl.1 (Nat.le_of_ble_eq_true rfl) dX1_unite_54 rfl ⟨(by (try dsimp only); omega), (by (try dsimp only); omega)⟩ (fun E ce q M9 H1 locs1 hp9 hM9 hS9 hce hcv hcl => by obtain ⟨er9, he9, hx9⟩ := hp9; exact mm_outxD htab hlk hM9 hS9 hce hcv hcl ⟨er9, hrr.trans he9, hx9⟩ (by (try dsimp only); omega) (by (try dsimp only); omega)) (fun v_2 M_3 n_5 k_6 H locs hp_4 hM hS => ?_)
        obtain ⟨rfl, hn5, hk5, S5, hS5, hK5, hC5, hS51, hP5, hz5⟩ := hp_4
        have hS51' := hS51
        refine lv_goto (tgt := 193) hx hb dX1_unite_57 (by decide) ?_
        refine mm_retvD hx hb hr hlk hM hS ⟨rfl, S5, L, vr, hrr.trans hS5, hK5, hC5, fun _ h => h, fun _ _ => rfl, Nat.le_of_eq hS51.symm, by (try dsimp only); omega, by (try dsimp only); omega, by omega, by omega, uNw.rf _ _, fun z h7 h8 h9 => ?_⟩ dX1_unite_193 (by (try dsimp only); omega) (by (try dsimp only); omega)
        by_cases h6 : z = vr v2
        · exact Or.inl (h6 ▸ hC.isVar hv2)
        · exact absurd ((hz5 z h7 h6).trans h8) h9
      · skip
        have hr8 := hr9
        unfold tU at hr8
        rw [eT1, eT2] at hr8
        dsimp only at hr8
        have hrr : r = .inl 2 := (Option.some.inj hr8).symm
        refine lv_aload_n hx hb dX1_unite_16 rfl (lv_at hl 1 rfl) ?_
        refine va_instNo (C := "RowenTongue$Numbers") hx hb hown (hts _ q1059) (hE.2.2.2.1 _ _ (by decide +kernel)) (mm_recv hE hM mm_cE1 hc1) dX1_unite_17 ?_
        refine lv_if_eq (tgt := 38) hx hb dX1_unite_20 (by decide) (fun _ => ?_) (fun h9 => absurd (by decide) h9)
        refine lv_aload_n hx hb dX1_unite_38 rfl (lv_at hl 0 rfl) ?_
        refine va_instNo (C := RX12) hx hb hown (hts _ q1059) (hE.2.2.2.1 _ _ (by decide +kernel)) (mm_recv hE hM mm_cX12 hc2) dX1_unite_39 ?_
        refine lv_if_eq (tgt := 60) hx hb dX1_unite_42 (by decide) (fun _ => ?_) (fun h9 => absurd (by decide) h9)
        refine lv_aload_n hx hb dX1_unite_60 rfl (lv_at hl 1 rfl) ?_
        refine va_instNo (C := "RowenTongue$Numbers") hx hb hown (hts _ q1187) (hE.2.2.2.1 _ _ (by decide +kernel)) (mm_recv hE hM mm_cE1 hc1) dX1_unite_61 ?_
        refine lv_if_eq (tgt := 122) hx hb dX1_unite_64 (by decide) (fun _ => ?_) (fun h9 => absurd (by decide) h9)
        refine lv_aload_n hx hb dX1_unite_122 rfl (lv_at hl 1 rfl) ?_
        refine va_instNo (C := "RowenTongue$Numbers") hx hb hown (hts _ q1189) (hE.2.2.2.1 _ _ (by decide +kernel)) (mm_recv hE hM mm_cE1 hc1) dX1_unite_123 ?_
        refine lv_if_eq (tgt := 184) hx hb dX1_unite_126 (by decide) (fun _ => ?_) (fun h9 => absurd (by decide) h9)
        refine mm_newX (D := Z.1) (ci := 16) (fs := mm_f0X20) (C := RX20) (T := TX20) (N := 7) hx hb hts in_X20 tyX20 tyX20_ok hown (hts _ q1233) (hts _ q1108) (hts _ q88) hE.1 hM hS hA mm_cX20 mm_dfX20 (by (try dsimp only); omega) (by (try dsimp only); omega) dX1_unite_184 (fun q_3 H nq_2 hM hS hFr => ?_)
        have hM : mm_P Z.1 mm_cl A (mm_U M q_3 (.inr (16, [.null, .null, .null, .null, .null, .int 0, .int 0]))) H := hM
        have ne_4 : b1 ≠ q_3 := (mm_neN hc1 nq_2)
        have ne_5 : b2 ≠ q_3 := (mm_neN hc2 nq_2)
        have hc_6 : (mm_U M q_3 (.inr (16, [.null, .null, .null, .null, .null, .int 0, .int 0]))) q_3 = some (.inr (16, [.null, .null, .null, .null, .null, .int 0, .int 0])) := mm_U_eq
        have hc_7 : (mm_U M q_3 (.inr (16, [.null, .null, .null, .null, .null, .int 0, .int 0]))) b1 = some (.inr (51, [])) := (mm_U_ne ne_4).trans hc1
        have hc_8 : (mm_U M q_3 (.inr (16, [.null, .null, .null, .null, .null, .int 0, .int 0]))) b2 = some (.inr (10, [.ref f2, .ref g2, .null, va_rf bq2, va_rf rn2])) := (mm_U_ne ne_5).trans hc2
        obtain ⟨M_9, eM_9⟩ : ∃ z, z = mm_U M q_3 (.inr (16, [.null, .null, .null, .null, .null, .int 0, .int 0])) := ⟨_, rfl⟩
        rw [← eM_9] at hM hc_7 hc_8 hc_6
        refine lv_dup hx hb dX1_unite_187 rfl ?_
        refine lv_iconst (v := 2) hx hb dX1_unite_188 (by decide) ?_
        refine mm_callIK (As := [.int 2]) (rest := [.ref q_3]) ⟨hx, hb, hml, hown, hts⟩ hE hST hA hFr (c_X20_init l Z htr (er := 2) hc_6) (cwI (maxL := 2) 1 hts (lw_meth q1118) rfl rfl rfl (hts _ q88) (hts _ q1234) (hts _ q1117) rfl (by decide +kernel) ⟨(by (try dsimp only); omega), (by (try dsimp only); omega)⟩) hM hS rfl hl.1 (Nat.le_of_ble_eq_true rfl) dX1_unite_189 rfl ⟨(by (try dsimp only); omega), (by (try dsimp only); omega)⟩ (fun _ _ _ _ _ _ h9 => h9.elim) (fun v_10 M_11 H locs hp_12 hM hS => ?_)
        obtain ⟨rfl, ru, rs, eM_11⟩ := hp_12
        rw [eM_11] at hM
        have hc_13 : (mm_U M_9 q_3 (.inr (16, [.ref q_3, va_rf ru, va_rf rs, .null, .null, .int 0, .int 2]))) q_3 = some (.inr (16, [.ref q_3, va_rf ru, va_rf rs, .null, .null, .int 0, .int 2])) := mm_U_eq
        have hc_14 : (mm_U M_9 q_3 (.inr (16, [.ref q_3, va_rf ru, va_rf rs, .null, .null, .int 0, .int 2]))) b1 = some (.inr (51, [])) := (mm_U_ne ne_4).trans hc_7
        have hc_15 : (mm_U M_9 q_3 (.inr (16, [.ref q_3, va_rf ru, va_rf rs, .null, .null, .int 0, .int 2]))) b2 = some (.inr (10, [.ref f2, .ref g2, .null, va_rf bq2, va_rf rn2])) := (mm_U_ne ne_5).trans hc_8
        obtain ⟨M_16, eM_16⟩ : ∃ z, z = mm_U M_9 q_3 (.inr (16, [.ref q_3, va_rf ru, va_rf rs, .null, .null, .int 0, .int 2])) := ⟨_, rfl⟩
        rw [← eM_16] at hM hc_14 hc_15 hc_13
        exact mm_athrowD hx hb htab hlk hE hM hS hc_13 mm_cX20 ⟨2, hrr, uX.of ⟨rfl, ru, rs, nq_2, by subst eM_16 eM_9; simp only [mm_U_U]⟩⟩ dX1_unite_192 (by (try dsimp only); omega) (by (try dsimp only); omega)
      · skip
        have hr8 := hr9
        unfold tU at hr8
        rw [eT1, eT2] at hr8
        dsimp only at hr8
        have hrr : r = .inl 2 := (Option.some.inj hr8).symm
        refine lv_aload_n hx hb dX1_unite_16 rfl (lv_at hl 1 rfl) ?_
        refine va_instNo (C := "RowenTongue$Numbers") hx hb hown (hts _ q1059) (hE.2.2.2.1 _ _ (by decide +kernel)) (mm_recv hE hM mm_cE1 hc1) dX1_unite_17 ?_
        refine lv_if_eq (tgt := 38) hx hb dX1_unite_20 (by decide) (fun _ => ?_) (fun h9 => absurd (by decide) h9)
        refine lv_aload_n hx hb dX1_unite_38 rfl (lv_at hl 0 rfl) ?_
        refine va_instNo (C := RX8) hx hb hown (hts _ q1059) (hE.2.2.2.1 _ _ (by decide +kernel)) (mm_recv hE hM mm_cX8 hc2) dX1_unite_39 ?_
        refine lv_if_eq (tgt := 60) hx hb dX1_unite_42 (by decide) (fun _ => ?_) (fun h9 => absurd (by decide) h9)
        refine lv_aload_n hx hb dX1_unite_60 rfl (lv_at hl 1 rfl) ?_
        refine va_instNo (C := "RowenTongue$Numbers") hx hb hown (hts _ q1187) (hE.2.2.2.1 _ _ (by decide +kernel)) (mm_recv hE hM mm_cE1 hc1) dX1_unite_61 ?_
        refine lv_if_eq (tgt := 122) hx hb dX1_unite_64 (by decide) (fun _ => ?_) (fun h9 => absurd (by decide) h9)
        refine lv_aload_n hx hb dX1_unite_122 rfl (lv_at hl 1 rfl) ?_
        refine va_instNo (C := "RowenTongue$Numbers") hx hb hown (hts _ q1189) (hE.2.2.2.1 _ _ (by decide +kernel)) (mm_recv hE hM mm_cE1 hc1) dX1_unite_123 ?_
        refine lv_if_eq (tgt := 184) hx hb dX1_unite_126 (by decide) (fun _ => ?_) (fun h9 => absurd (by decide) h9)
        refine mm_newX (D := Z.1) (ci := 16) (fs := mm_f0X20) (C := RX20) (T := TX20) (N := 7) hx hb hts in_X20 tyX20 tyX20_ok hown (hts _ q1233) (hts _ q1108) (hts _ q88) hE.1 hM hS hA mm_cX20 mm_dfX20 (by (try dsimp only); omega) (by (try dsimp only); omega) dX1_unite_184 (fun q_3 H nq_2 hM hS hFr => ?_)
        have hM : mm_P Z.1 mm_cl A (mm_U M q_3 (.inr (16, [.null, .null, .null, .null, .null, .int 0, .int 0]))) H := hM
        have ne_4 : b1 ≠ q_3 := (mm_neN hc1 nq_2)
        have ne_5 : b2 ≠ q_3 := (mm_neN hc2 nq_2)
        have hc_6 : (mm_U M q_3 (.inr (16, [.null, .null, .null, .null, .null, .int 0, .int 0]))) q_3 = some (.inr (16, [.null, .null, .null, .null, .null, .int 0, .int 0])) := mm_U_eq
        have hc_7 : (mm_U M q_3 (.inr (16, [.null, .null, .null, .null, .null, .int 0, .int 0]))) b1 = some (.inr (51, [])) := (mm_U_ne ne_4).trans hc1
        have hc_8 : (mm_U M q_3 (.inr (16, [.null, .null, .null, .null, .null, .int 0, .int 0]))) b2 = some (.inr (6, [.int (mm_b iv2), .ref w2, .null, va_rf bq2, va_rf rn2])) := (mm_U_ne ne_5).trans hc2
        obtain ⟨M_9, eM_9⟩ : ∃ z, z = mm_U M q_3 (.inr (16, [.null, .null, .null, .null, .null, .int 0, .int 0])) := ⟨_, rfl⟩
        rw [← eM_9] at hM hc_7 hc_8 hc_6
        refine lv_dup hx hb dX1_unite_187 rfl ?_
        refine lv_iconst (v := 2) hx hb dX1_unite_188 (by decide) ?_
        refine mm_callIK (As := [.int 2]) (rest := [.ref q_3]) ⟨hx, hb, hml, hown, hts⟩ hE hST hA hFr (c_X20_init l Z htr (er := 2) hc_6) (cwI (maxL := 2) 1 hts (lw_meth q1118) rfl rfl rfl (hts _ q88) (hts _ q1234) (hts _ q1117) rfl (by decide +kernel) ⟨(by (try dsimp only); omega), (by (try dsimp only); omega)⟩) hM hS rfl hl.1 (Nat.le_of_ble_eq_true rfl) dX1_unite_189 rfl ⟨(by (try dsimp only); omega), (by (try dsimp only); omega)⟩ (fun _ _ _ _ _ _ h9 => h9.elim) (fun v_10 M_11 H locs hp_12 hM hS => ?_)
        obtain ⟨rfl, ru, rs, eM_11⟩ := hp_12
        rw [eM_11] at hM
        have hc_13 : (mm_U M_9 q_3 (.inr (16, [.ref q_3, va_rf ru, va_rf rs, .null, .null, .int 0, .int 2]))) q_3 = some (.inr (16, [.ref q_3, va_rf ru, va_rf rs, .null, .null, .int 0, .int 2])) := mm_U_eq
        have hc_14 : (mm_U M_9 q_3 (.inr (16, [.ref q_3, va_rf ru, va_rf rs, .null, .null, .int 0, .int 2]))) b1 = some (.inr (51, [])) := (mm_U_ne ne_4).trans hc_7
        have hc_15 : (mm_U M_9 q_3 (.inr (16, [.ref q_3, va_rf ru, va_rf rs, .null, .null, .int 0, .int 2]))) b2 = some (.inr (6, [.int (mm_b iv2), .ref w2, .null, va_rf bq2, va_rf rn2])) := (mm_U_ne ne_5).trans hc_8
        obtain ⟨M_16, eM_16⟩ : ∃ z, z = mm_U M_9 q_3 (.inr (16, [.ref q_3, va_rf ru, va_rf rs, .null, .null, .int 0, .int 2])) := ⟨_, rfl⟩
        rw [← eM_16] at hM hc_14 hc_15 hc_13
        exact mm_athrowD hx hb htab hlk hE hM hS hc_13 mm_cX20 ⟨2, hrr, uX.of ⟨rfl, ru, rs, nq_2, by subst eM_16 eM_9; simp only [mm_U_U]⟩⟩ dX1_unite_192 (by (try dsimp only); omega) (by (try dsimp only); omega)
    · skip
      refine lv_aload_n hx hb dX1_unite_16 rfl (lv_at hl 1 rfl) ?_
      refine va_instS hx hb hown (hts _ q1059) (hE.1.1 9 _ mm_cX11).2 (mm_recv hE hM mm_cX11 hc1) dX1_unite_17 ?_
      refine lv_if_eq (tgt := 38) hx hb dX1_unite_20 (by decide) (fun h9 => absurd h9 (by decide)) (fun _ => ?_)
      refine lv_aload_n hx hb dX1_unite_23 rfl (lv_at hl 1 rfl) ?_
      refine va_castS hx hb hown (hts _ q1059) (hE.1.1 9 _ mm_cX11).2 (mm_recv hE hM mm_cX11 hc1) dX1_unite_24 ?_
      refine lv_astore hx hb dX1_unite_27 hl (by decide) rfl (fun ls hl => ?_)
      replace hl : lv_has ls 10 [(6, .ref (vr v1)), (3, .ref b2), (2, .ref (vr v1)), (0, .ref ax), (1, .ref ay)] := hl
      refine lv_aload hx hb dX1_unite_29 (lv_at hl 0 rfl) ?_
      refine lv_aload_n hx hb dX1_unite_31 rfl (lv_at hl 1 rfl) ?_
      have hny : uap S.2.1 y ≠ .var v1 := fun h9 => by
        rcases hcs2 with ⟨eT2, hz2, hc2⟩ | ⟨v2, hv2, eT2, hs2, rfl, hL2, hc2⟩ | ⟨xa2, xb2, f2, g2, bq2, rn2, eT2, hL2, hc2, hta2, htb2'⟩ | ⟨r2, iv2, w2, bq2, rn2, eT2, hL2, hc2, htw2⟩
        · rw [eT2] at h9; cases h9
        · rw [eT2] at h9; cases h9; exact hbb rfl
        · rw [eT2] at h9; cases h9
        · rw [eT2] at h9; cases h9
      have hrr := tU_var1 hr9 eT1 hny
      have hnb2 : unext M b2 = none := by
        rcases hcs2 with ⟨eT2, hz2, hc2⟩ | ⟨v2, hv2, eT2, hs2, rfl, hL2, hc2⟩ | ⟨xa2, xb2, f2, g2, bq2, rn2, eT2, hL2, hc2, hta2, htb2'⟩ | ⟨r2, iv2, w2, bq2, rn2, eT2, hL2, hc2, htw2⟩
        · exact unext_cn hc2
        · exact unext_co hc2
        · exact unext_cf hc2
        · exact unext_cb hc2
      refine mm_callSD (As := [.ref (vr v1), .ref b2]) (rest := []) ⟨hx, hb, hml, hown, hts⟩ hE hST hA (d_X1_bind l Z htr (t := t2) (T := uap S.2.1 y) he2 hC hv1 hc1 htb2 hnb2) (va_cwS 2 hts (lw_S q1060 q1061 q50 q1062) rfl rfl rfl (by decide +kernel) ⟨(by (try dsimp only); omega), (by (try dsimp only); omega)⟩) hM hS rfl hl.1 (Nat.le_of_ble_eq_true rfl) dX1_unite_32 rfl ⟨(by (try dsimp only); omega), (by (try dsimp only); omega)⟩ (fun E ce q M9 H1 locs1 hp9 hM9 hS9 hce hcv hcl => by obtain ⟨er9, he9, hx9⟩ := hp9; exact mm_outxD htab hlk hM9 hS9 hce hcv hcl ⟨er9, hrr.trans he9, hx9⟩ (by (try dsimp only); omega) (by (try dsimp only); omega)) (fun v_2 M_3 n_5 k_6 H locs hp_4 hM hS => ?_)
      obtain ⟨rfl, hn5, hk5, S5, hS5, hK5, hC5, hS51, hP5, hz5⟩ := hp_4
      have hS51' := hS51
      refine lv_goto (tgt := 193) hx hb dX1_unite_35 (by decide) ?_
      refine mm_retvD hx hb hr hlk hM hS ⟨rfl, S5, L, vr, hrr.trans hS5, hK5, hC5, fun _ h => h, fun _ _ => rfl, Nat.le_of_eq hS51.symm, by (try dsimp only); omega, by (try dsimp only); omega, by omega, by omega, uNw.rf _ _, fun z h7 h8 h9 => ?_⟩ dX1_unite_193 (by (try dsimp only); omega) (by (try dsimp only); omega)
      by_cases h6 : z = vr v1
      · exact Or.inl (h6 ▸ hC.isVar hv1)
      · exact absurd ((hz5 z h7 h6).trans h8) h9
    · skip
      rcases hcs2 with ⟨eT2, hz2, hc2⟩ | ⟨v2, hv2, eT2, hs2, rfl, hL2, hc2⟩ | ⟨xa2, xb2, f2, g2, bq2, rn2, eT2, hL2, hc2, hta2, htb2'⟩ | ⟨r2, iv2, w2, bq2, rn2, eT2, hL2, hc2, htw2⟩
      · skip
        have hr8 := hr9
        unfold tU at hr8
        rw [eT1, eT2] at hr8
        dsimp only at hr8
        have hrr : r = .inl 2 := (Option.some.inj hr8).symm
        refine lv_aload_n hx hb dX1_unite_16 rfl (lv_at hl 1 rfl) ?_
        refine va_instNo (C := RX12) hx hb hown (hts _ q1059) (hE.2.2.2.1 _ _ (by decide +kernel)) (mm_recv hE hM mm_cX12 hc1) dX1_unite_17 ?_
        refine lv_if_eq (tgt := 38) hx hb dX1_unite_20 (by decide) (fun _ => ?_) (fun h9 => absurd (by decide) h9)
        refine lv_aload_n hx hb dX1_unite_38 rfl (lv_at hl 0 rfl) ?_
        refine va_instNo (C := "RowenTongue$Numbers") hx hb hown (hts _ q1059) (hE.2.2.2.1 _ _ (by decide +kernel)) (mm_recv hE hM mm_cE1 hc2) dX1_unite_39 ?_
        refine lv_if_eq (tgt := 60) hx hb dX1_unite_42 (by decide) (fun _ => ?_) (fun h9 => absurd (by decide) h9)
        refine lv_aload_n hx hb dX1_unite_60 rfl (lv_at hl 1 rfl) ?_
        refine va_instS hx hb hown (hts _ q1187) (hE.1.1 10 _ mm_cX12).2 (mm_recv hE hM mm_cX12 hc1) dX1_unite_61 ?_
        refine lv_if_eq (tgt := 122) hx hb dX1_unite_64 (by decide) (fun h9 => absurd h9 (by decide)) (fun _ => ?_)
        refine lv_aload_n hx hb dX1_unite_67 rfl (lv_at hl 1 rfl) ?_
        refine va_castS hx hb hown (hts _ q1187) (hE.1.1 10 _ mm_cX12).2 (mm_recv hE hM mm_cX12 hc1) dX1_unite_68 ?_
        refine lv_astore hx hb dX1_unite_71 hl (by decide) rfl (fun ls hl => ?_)
        replace hl : lv_has ls 10 [(8, .ref b1), (3, .ref b2), (2, .ref b1), (0, .ref ax), (1, .ref ay)] := hl
        refine lv_aload_n hx hb dX1_unite_73 rfl (lv_at hl 1 rfl) ?_
        refine va_instNo (C := "RowenTongue$Numbers") hx hb hown (hts _ q1187) (hE.2.2.2.1 _ _ (by decide +kernel)) (mm_recv hE hM mm_cE1 hc2) dX1_unite_74 ?_
        refine lv_if_eq (tgt := 122) hx hb dX1_unite_77 (by decide) (fun _ => ?_) (fun h9 => absurd (by decide) h9)
        refine lv_aload_n hx hb dX1_unite_122 rfl (lv_at hl 2 rfl) ?_
        refine va_instNo (C := RX12) hx hb hown (hts _ q1189) (hE.2.2.2.1 _ _ (by decide +kernel)) (mm_recv hE hM mm_cX12 hc1) dX1_unite_123 ?_
        refine lv_if_eq (tgt := 184) hx hb dX1_unite_126 (by decide) (fun _ => ?_) (fun h9 => absurd (by decide) h9)
        refine mm_newX (D := Z.1) (ci := 16) (fs := mm_f0X20) (C := RX20) (T := TX20) (N := 7) hx hb hts in_X20 tyX20 tyX20_ok hown (hts _ q1233) (hts _ q1108) (hts _ q88) hE.1 hM hS hA mm_cX20 mm_dfX20 (by (try dsimp only); omega) (by (try dsimp only); omega) dX1_unite_184 (fun q_3 H nq_2 hM hS hFr => ?_)
        have hM : mm_P Z.1 mm_cl A (mm_U M q_3 (.inr (16, [.null, .null, .null, .null, .null, .int 0, .int 0]))) H := hM
        have ne_4 : b1 ≠ q_3 := (mm_neN hc1 nq_2)
        have ne_5 : b2 ≠ q_3 := (mm_neN hc2 nq_2)
        have hc_6 : (mm_U M q_3 (.inr (16, [.null, .null, .null, .null, .null, .int 0, .int 0]))) q_3 = some (.inr (16, [.null, .null, .null, .null, .null, .int 0, .int 0])) := mm_U_eq
        have hc_7 : (mm_U M q_3 (.inr (16, [.null, .null, .null, .null, .null, .int 0, .int 0]))) b1 = some (.inr (10, [.ref f1, .ref g1, .null, va_rf bq1, va_rf rn1])) := (mm_U_ne ne_4).trans hc1
        have hc_8 : (mm_U M q_3 (.inr (16, [.null, .null, .null, .null, .null, .int 0, .int 0]))) b2 = some (.inr (51, [])) := (mm_U_ne ne_5).trans hc2
        obtain ⟨M_9, eM_9⟩ : ∃ z, z = mm_U M q_3 (.inr (16, [.null, .null, .null, .null, .null, .int 0, .int 0])) := ⟨_, rfl⟩
        rw [← eM_9] at hM hc_7 hc_8 hc_6
        refine lv_dup hx hb dX1_unite_187 rfl ?_
        refine lv_iconst (v := 2) hx hb dX1_unite_188 (by decide) ?_
        refine mm_callIK (As := [.int 2]) (rest := [.ref q_3]) ⟨hx, hb, hml, hown, hts⟩ hE hST hA hFr (c_X20_init l Z htr (er := 2) hc_6) (cwI (maxL := 2) 1 hts (lw_meth q1118) rfl rfl rfl (hts _ q88) (hts _ q1234) (hts _ q1117) rfl (by decide +kernel) ⟨(by (try dsimp only); omega), (by (try dsimp only); omega)⟩) hM hS rfl hl.1 (Nat.le_of_ble_eq_true rfl) dX1_unite_189 rfl ⟨(by (try dsimp only); omega), (by (try dsimp only); omega)⟩ (fun _ _ _ _ _ _ h9 => h9.elim) (fun v_10 M_11 H locs hp_12 hM hS => ?_)
        obtain ⟨rfl, ru, rs, eM_11⟩ := hp_12
        rw [eM_11] at hM
        have hc_13 : (mm_U M_9 q_3 (.inr (16, [.ref q_3, va_rf ru, va_rf rs, .null, .null, .int 0, .int 2]))) q_3 = some (.inr (16, [.ref q_3, va_rf ru, va_rf rs, .null, .null, .int 0, .int 2])) := mm_U_eq
        have hc_14 : (mm_U M_9 q_3 (.inr (16, [.ref q_3, va_rf ru, va_rf rs, .null, .null, .int 0, .int 2]))) b1 = some (.inr (10, [.ref f1, .ref g1, .null, va_rf bq1, va_rf rn1])) := (mm_U_ne ne_4).trans hc_7
        have hc_15 : (mm_U M_9 q_3 (.inr (16, [.ref q_3, va_rf ru, va_rf rs, .null, .null, .int 0, .int 2]))) b2 = some (.inr (51, [])) := (mm_U_ne ne_5).trans hc_8
        obtain ⟨M_16, eM_16⟩ : ∃ z, z = mm_U M_9 q_3 (.inr (16, [.ref q_3, va_rf ru, va_rf rs, .null, .null, .int 0, .int 2])) := ⟨_, rfl⟩
        rw [← eM_16] at hM hc_14 hc_15 hc_13
        exact mm_athrowD hx hb htab hlk hE hM hS hc_13 mm_cX20 ⟨2, hrr, uX.of ⟨rfl, ru, rs, nq_2, by subst eM_16 eM_9; simp only [mm_U_U]⟩⟩ dX1_unite_192 (by (try dsimp only); omega) (by (try dsimp only); omega)
      · skip
        refine lv_aload_n hx hb dX1_unite_16 rfl (lv_at hl 1 rfl) ?_
        refine va_instNo (C := RX12) hx hb hown (hts _ q1059) (hE.2.2.2.1 _ _ (by decide +kernel)) (mm_recv hE hM mm_cX12 hc1) dX1_unite_17 ?_
        refine lv_if_eq (tgt := 38) hx hb dX1_unite_20 (by decide) (fun _ => ?_) (fun h9 => absurd (by decide) h9)
        refine lv_aload_n hx hb dX1_unite_38 rfl (lv_at hl 0 rfl) ?_
        refine va_instS hx hb hown (hts _ q1059) (hE.1.1 9 _ mm_cX11).2 (mm_recv hE hM mm_cX11 hc2) dX1_unite_39 ?_
        refine lv_if_eq (tgt := 60) hx hb dX1_unite_42 (by decide) (fun h9 => absurd h9 (by decide)) (fun _ => ?_)
        refine lv_aload_n hx hb dX1_unite_45 rfl (lv_at hl 0 rfl) ?_
        refine va_castS hx hb hown (hts _ q1059) (hE.1.1 9 _ mm_cX11).2 (mm_recv hE hM mm_cX11 hc2) dX1_unite_46 ?_
        refine lv_astore hx hb dX1_unite_49 hl (by decide) rfl (fun ls hl => ?_)
        replace hl : lv_has ls 10 [(7, .ref (vr v2)), (3, .ref (vr v2)), (2, .ref b1), (0, .ref ax), (1, .ref ay)] := hl
        refine lv_aload hx hb dX1_unite_51 (lv_at hl 0 rfl) ?_
        refine lv_aload_n hx hb dX1_unite_53 rfl (lv_at hl 2 rfl) ?_
        have hrr := tU_var2 hr9 eT2 (fun v h9 => by rw [eT1] at h9; cases h9)
        have hnb1 : unext M b1 = none := unext_cf hc1
        refine mm_callSD (As := [.ref (vr v2), .ref b1]) (rest := []) ⟨hx, hb, hml, hown, hts⟩ hE hST hA (d_X1_bind l Z htr (t := t1) (T := uap S.2.1 x) he1 hC hv2 hc2 htb1 hnb1) (va_cwS 2 hts (lw_S q1060 q1061 q50 q1062) rfl rfl rfl (by decide +kernel) ⟨(by (try dsimp only); omega), (by (try dsimp only); omega)⟩) hM hS rfl hl.1 (Nat.le_of_ble_eq_true rfl) dX1_unite_54 rfl ⟨(by (try dsimp only); omega), (by (try dsimp only); omega)⟩ (fun E ce q M9 H1 locs1 hp9 hM9 hS9 hce hcv hcl => by obtain ⟨er9, he9, hx9⟩ := hp9; exact mm_outxD htab hlk hM9 hS9 hce hcv hcl ⟨er9, hrr.trans he9, hx9⟩ (by (try dsimp only); omega) (by (try dsimp only); omega)) (fun v_2 M_3 n_5 k_6 H locs hp_4 hM hS => ?_)
        obtain ⟨rfl, hn5, hk5, S5, hS5, hK5, hC5, hS51, hP5, hz5⟩ := hp_4
        have hS51' := hS51
        refine lv_goto (tgt := 193) hx hb dX1_unite_57 (by decide) ?_
        refine mm_retvD hx hb hr hlk hM hS ⟨rfl, S5, L, vr, hrr.trans hS5, hK5, hC5, fun _ h => h, fun _ _ => rfl, Nat.le_of_eq hS51.symm, by (try dsimp only); omega, by (try dsimp only); omega, by omega, by omega, uNw.rf _ _, fun z h7 h8 h9 => ?_⟩ dX1_unite_193 (by (try dsimp only); omega) (by (try dsimp only); omega)
        by_cases h6 : z = vr v2
        · exact Or.inl (h6 ▸ hC.isVar hv2)
        · exact absurd ((hz5 z h7 h6).trans h8) h9
      · skip
        have hrt1 : uap S.2.1 (uap S.2.1 x) = uap S.2.1 x := hC.1.1.le x
        have hrt2 : uap S.2.1 (uap S.2.1 y) = uap S.2.1 y := hC.1.1.le y
        rw [eT1] at hrt1 hw1; rw [eT2] at hrt2 hw2
        simp only [uap, Lean.Grind.CommRing.Expr.sub.injEq] at hrt1 hrt2
        simp only [uwf] at hw1 hw2
        have hr8 := hr9
        unfold tU at hr8
        rw [eT1, eT2] at hr8
        dsimp only at hr8
        rw [tU_cg (x' := xa1) (y' := xa2) hrt1.1 hrt2.1] at hr8
        have hd1' : uDeep Z M L vr S xa1 (d + 1) := hdp.to (y := xa1) (k := 1) (fun s => by rw [eT1]; simp only [uap, uh]; omega)
        have hd2' : uDeep Z M L vr S xb1 (d + 1) := hdp.to (y := xb1) (k := 1) (fun s => by rw [eT1]; simp only [uap, uh]; omega)
        have hdl1 := hd1'.le hC hB9
        cases hru : tU n S xa1 xa2 with
        | none => rw [hru] at hr8; cases hr8
        | some ru =>
          rw [hru] at hr8
          refine lv_aload_n hx hb dX1_unite_16 rfl (lv_at hl 1 rfl) ?_
          refine va_instNo (C := RX12) hx hb hown (hts _ q1059) (hE.2.2.2.1 _ _ (by decide +kernel)) (mm_recv hE hM mm_cX12 hc1) dX1_unite_17 ?_
          refine lv_if_eq (tgt := 38) hx hb dX1_unite_20 (by decide) (fun _ => ?_) (fun h9 => absurd (by decide) h9)
          refine lv_aload_n hx hb dX1_unite_38 rfl (lv_at hl 0 rfl) ?_
          refine va_instNo (C := RX12) hx hb hown (hts _ q1059) (hE.2.2.2.1 _ _ (by decide +kernel)) (mm_recv hE hM mm_cX12 hc2) dX1_unite_39 ?_
          refine lv_if_eq (tgt := 60) hx hb dX1_unite_42 (by decide) (fun _ => ?_) (fun h9 => absurd (by decide) h9)
          refine lv_aload_n hx hb dX1_unite_60 rfl (lv_at hl 1 rfl) ?_
          refine va_instS hx hb hown (hts _ q1187) (hE.1.1 10 _ mm_cX12).2 (mm_recv hE hM mm_cX12 hc1) dX1_unite_61 ?_
          refine lv_if_eq (tgt := 122) hx hb dX1_unite_64 (by decide) (fun h9 => absurd h9 (by decide)) (fun _ => ?_)
          refine lv_aload_n hx hb dX1_unite_67 rfl (lv_at hl 1 rfl) ?_
          refine va_castS hx hb hown (hts _ q1187) (hE.1.1 10 _ mm_cX12).2 (mm_recv hE hM mm_cX12 hc1) dX1_unite_68 ?_
          refine lv_astore hx hb dX1_unite_71 hl (by decide) rfl (fun ls hl => ?_)
          replace hl : lv_has ls 10 [(8, .ref b1), (3, .ref b2), (2, .ref b1), (0, .ref ax), (1, .ref ay)] := hl
          refine lv_aload_n hx hb dX1_unite_73 rfl (lv_at hl 1 rfl) ?_
          refine va_instS hx hb hown (hts _ q1187) (hE.1.1 10 _ mm_cX12).2 (mm_recv hE hM mm_cX12 hc2) dX1_unite_74 ?_
          refine lv_if_eq (tgt := 122) hx hb dX1_unite_77 (by decide) (fun h9 => absurd h9 (by decide)) (fun _ => ?_)
          refine lv_aload_n hx hb dX1_unite_80 rfl (lv_at hl 1 rfl) ?_
          refine va_castS hx hb hown (hts _ q1187) (hE.1.1 10 _ mm_cX12).2 (mm_recv hE hM mm_cX12 hc2) dX1_unite_81 ?_
          refine lv_astore hx hb dX1_unite_84 hl (by decide) rfl (fun ls hl => ?_)
          replace hl : lv_has ls 10 [(9, .ref b2), (8, .ref b1), (3, .ref b2), (2, .ref b1), (0, .ref ax), (1, .ref ay)] := hl
          refine lv_aload hx hb dX1_unite_86 (lv_at hl 1 rfl) ?_
          refine va_getN (D := Z.1) (ci := 10) (v := .ref f1) (C := RX12) (T := TX12) (N := 5) hx hb hts in_X12 hown hE.1 (hM.at hc1) 0 rfl mm_cX12 0 (by decide) (va_Nw.use rfl (hE.2.1 _ q841 rfl)) (fun _ h9 => h9) rfl dX1_unite_88 ?_
          refine lv_aload hx hb dX1_unite_91 (lv_at hl 0 rfl) ?_
          refine va_getN (D := Z.1) (ci := 10) (v := .ref f2) (C := RX12) (T := TX12) (N := 5) hx hb hts in_X12 hown hE.1 (hM.at hc2) 0 rfl mm_cX12 0 (by decide) (va_Nw.use rfl (hE.2.1 _ q841 rfl)) (fun _ h9 => h9) rfl dX1_unite_93 ?_
          refine mm_callSD (As := [.ref f1, .ref f2]) (rest := []) ⟨hx, hb, hml, hown, hts⟩ hE hST hA (ih M L vr S kd xa1 xa2 f1 f2 ru Hh Lm (d + 1) (D - 1) b h0 hC hG hta1 hta2 hw1.1 hw2.1 hru hB9 (by omega) (by omega) (by omega) hd1') (va_cwS 2 hts (lw_S q1188 q1056 q50 q1057) rfl rfl rfl (by decide +kernel) ⟨(by (try dsimp only); omega), (by (try dsimp only); omega)⟩) hM hS rfl hl.1 (Nat.le_of_ble_eq_true rfl) dX1_unite_96 rfl ⟨(by (try dsimp only); omega), (by (try dsimp only); omega)⟩ (fun E ce q M9 H1 locs1 hp9 hM9 hS9 hce hcv hcl => by obtain ⟨er9, he9, hx9⟩ := hp9; exact mm_outxD htab hlk hM9 hS9 hce hcv hcl ⟨er9, by rw [he9] at hr8; exact (Option.some.inj hr8).symm, hx9⟩ (by (try dsimp only); omega) (by (try dsimp only); omega)) (fun v_2 M_3 n_5 k_6 H locs hp_4 hM hS => ?_)
          obtain ⟨rfl, S5, L5, vr5, hrS, hK5, hC5, hL5, hv5, hn5, hc5, hs5, hl5, hP5, hB5, hz5⟩ := hp_4
          subst hrS
          obtain ⟨kd5, hg5, heq5⟩ := tU_good n S kd xa1 xa2 S5 hG hw1.1 hw2.1 hru
          obtain ⟨sm15, bq15, rn15, hc15⟩ := hK5.F hc1
          obtain ⟨sm25, bq25, rn25, hc25⟩ := hK5.F hc2
          have hta5 := tp.mono hK5 hL5 hv5 hn5 _ _ _ htb1'
          have htb5 := tp.mono hK5 hL5 hv5 hn5 _ _ _ htb2'
          have hwa5 := hg5.wf hw1.2
          have hwb5 := hg5.wf hw2.2
          replace hr8 : tU n S5 xb1 xb2 = some r := by rw [← tU_cg (n := n) (hg5.2.2 xb1) (hg5.2.2 xb2)]; exact hr8
          have hB95 := hB9.goR hC hC5 hK5 hL5 hv5 hn5 hg5.2.2 hB5
          have hd5 := hd2'.mono hK5 hL5 hv5 hn5 hg5.2.2
          have hdl5 := hd5.le hC5 hB95
          refine lv_aload hx hb dX1_unite_99 (lv_at hl 1 rfl) ?_
          refine va_getN (D := Z.1) (ci := 10) (v := .ref g1) (C := RX12) (T := TX12) (N := 5) hx hb hts in_X12 hown hE.1 (hM.at hc15) 0 rfl mm_cX12 1 (by decide) (va_Nw.use rfl (hE.2.1 _ q846 rfl)) (fun _ h9 => h9) rfl dX1_unite_101 ?_
          refine lv_aload hx hb dX1_unite_104 (lv_at hl 0 rfl) ?_
          refine va_getN (D := Z.1) (ci := 10) (v := .ref g2) (C := RX12) (T := TX12) (N := 5) hx hb hts in_X12 hown hE.1 (hM.at hc25) 0 rfl mm_cX12 1 (by decide) (va_Nw.use rfl (hE.2.1 _ q846 rfl)) (fun _ h9 => h9) rfl dX1_unite_106 ?_
          refine mm_callSD (As := [.ref g1, .ref g2]) (rest := []) ⟨hx, hb, hml, hown, hts⟩ hE hST hA (ih M_3 L5 vr5 S5 kd5 xb1 xb2 g1 g2 r Hh Lm (d + 1) (D - 1) b (h0.uK hK5) hC5 hg5.2.1 hta5 htb5 hwa5 hwb5 hr8 hB95 (by omega) (by omega) (by omega) hd5) (va_cwS 2 hts (lw_S q1188 q1056 q50 q1057) rfl rfl rfl (by decide +kernel) ⟨(by (try dsimp only); omega), (by (try dsimp only); omega)⟩) hM hS rfl hl.1 (Nat.le_of_ble_eq_true rfl) dX1_unite_109 rfl ⟨(by (try dsimp only); omega), (by (try dsimp only); omega)⟩ (fun E ce q M9 H1 locs1 hp9 hM9 hS9 hce hcv hcl => by obtain ⟨er9, he9, hx9⟩ := hp9; exact mm_outxD htab hlk hM9 hS9 hce hcv hcl ⟨er9, he9, hx9.afterK hK5⟩ (by (try dsimp only); omega) (by (try dsimp only); omega)) (fun v_7 M_8 n_10 k_11 H locs hp_9 hM hS => ?_)
          obtain ⟨rfl, S6, L6, vr6, hrS, hK6, hC6, hL6, hv6, hn6, hc6, hs6, hl6, hP6, hB6, hz6⟩ := hp_9
          subst hrS
          obtain ⟨kd6, hg6, heq6⟩ := tU_good n S5 kd5 xb1 xb2 S6 hg5.2.1 hwa5 hwb5 hr8
          have hK := hK5.trans hK6
          obtain ⟨sm16, bq16, rn16, hc16⟩ := hK.F hc1
          obtain ⟨sm26, bq26, rn26, hc26⟩ := hK.F hc2
          have hgo := hg5.trans hg6
          have hLL : ∀ a ∈ L, a ∈ L6 := fun a h => hL6 a (hL5 a h)
          have hvv : ∀ v, v < S.1 → vr6 v = vr v := fun v h => (hv6 v (Nat.lt_of_lt_of_le h hn5)).trans (hv5 v h)
          have hnn := Nat.le_trans hn5 hn6
          have hf1 : tp Z M L vr S.1 (.sub xa1 xb1) false b1 := by simp only [tp]; exact ⟨f1, g1, none, bq1, rn1, hL1, hc1, hta1, htb1'⟩
          have hf61 := tp.mono hK hLL hvv hnn _ _ _ hf1
          have hf2 : tp Z M L vr S.1 (.sub xa2 xb2) false b2 := by simp only [tp]; exact ⟨f2, g2, none, bq2, rn2, hL2, hc2, hta2, htb2'⟩
          have hf62 := tp.mono hK hLL hvv hnn _ _ _ hf2
          have hsz6 : ∀ s, uap s (uap S6.2.1 x) = .sub (uap s (uap S6.2.1 xa1)) (uap s (uap S6.2.1 xb1)) := fun s => by rw [← hgo.2.2 x, eT1]; simp only [uap]; rw [hgo.2.2 xa1, hgo.2.2 xb1]
          have hqa : uap S6.2.1 xa1 = uap S6.2.1 xa2 := by rw [← hg6.2.2 xa1, ← hg6.2.2 xa2, heq5]
          have hqq : uap S6.2.1 (.sub xa1 xb1) = uap S6.2.1 (.sub xa2 xb2) := by simp only [uap]; rw [hqa, heq6]
          have hz7 : ∀ z, M z ≠ none → unext M z = none → unext M_8 z ≠ none → uVar M z ∨ ∃ t, tp Z M_8 L6 vr6 S6.1 t false z ∧ ∀ s, SizeOf.sizeOf (uap s (uap S6.2.1 t)) < SizeOf.sizeOf (uap s (uap S6.2.1 x)) := by
            intro z h7 h8 h9
            have hlt : ∀ s, SizeOf.sizeOf (uap s (uap S6.2.1 xa1)) < SizeOf.sizeOf (uap s (uap S6.2.1 x)) ∧ SizeOf.sizeOf (uap s (uap S6.2.1 xb1)) < SizeOf.sizeOf (uap s (uap S6.2.1 x)) := fun s => by
              rw [hsz6 s]
              have e9 : SizeOf.sizeOf (Lean.Grind.CommRing.Expr.sub (uap s (uap S6.2.1 xa1)) (uap s (uap S6.2.1 xb1))) = 1 + SizeOf.sizeOf (uap s (uap S6.2.1 xa1)) + SizeOf.sizeOf (uap s (uap S6.2.1 xb1)) := rfl
              omega
            by_cases h6 : unext M_3 z = none
            · obtain ⟨e3, h3⟩ : ∃ e3, M_3 z = some e3 := by
                cases h4 : M z with
                | none => exact absurd h4 h7
                | some e4 => exact hK5.has h4
              rcases hz6 z (by rw [h3]; simp) h6 h9 with h5 | ⟨t, ht, hs⟩
              · exact Or.inl (h5.back hK5 h7)
              · exact Or.inr ⟨t, ht, fun s => Nat.lt_of_le_of_lt (hs s) (hlt s).2⟩
            · rcases hz5 z h7 h8 h6 with h5 | ⟨t, ht, hs⟩
              · exact Or.inl h5
              · refine Or.inr ⟨t, tp.mono hK6 hL6 hv6 hn6 _ _ _ ht, fun s => Nat.lt_of_le_of_lt ?_ (hlt s).1⟩
                have h9 := hs (fun v => uap s (S6.2.1 v))
                rw [← uap_ap, ← uap_ap, hg6.2.2 t, hg6.2.2 xa1] at h9; exact h9
          have hx6 : uap S6.2.1 x = uap S6.2.1 (.sub xa1 xb1) := by rw [← hgo.2.2 x, eT1]; simp only [uap]; rw [hgo.2.2 xa1, hgo.2.2 xb1]
          have hu61 : unext M_8 b1 = none := Classical.byContradiction fun h9 => by
            rcases hz7 b1 (by rw [hc1]; simp) (unext_cf hc1) h9 with h5 | ⟨t, ht, hs⟩
            · exact h5.notF hc1
            · have h8 := hs .var
              rw [(tp.uniq hC6.1.2.2.1 _ _ _ _ _ ht hf61).1, hx6] at h8
              exact Nat.lt_irrefl _ h8
          have hu62 : unext M_8 b2 = none := Classical.byContradiction fun h9 => by
            rcases hz7 b2 (by rw [hc2]; simp) (unext_cf hc2) h9 with h5 | ⟨t, ht, hs⟩
            · exact h5.notF hc2
            · have h8 := hs .var
              rw [(tp.uniq hC6.1.2.2.1 _ _ _ _ _ ht hf62).1, hx6, hqq] at h8
              exact Nat.lt_irrefl _ h8
          rw [unext_cf hc16] at hu61
          subst hu61
          refine lv_aload hx hb dX1_unite_112 (lv_at hl 1 rfl) ?_
          refine lv_aload hx hb dX1_unite_114 (lv_at hl 0 rfl) ?_
          refine mm_putN (D := Z.1) (ci := 10) (v := .ref b2) (ty := .object "RowenTongue$Type") (C := RX12) (T := TX12) (N := 5) hx hb hts in_X12 tyX12 tyX12_ok nmX12 hown hE.1 hM hS hc16 mm_cX12 2 (by decide) (va_Nw.use rfl (hE.2.1 _ q848 rfl)) (fun _ h9 => h9) rfl (by decide +kernel) rfl rfl (Nat.le_of_ble_eq_true rfl) dX1_unite_116 (fun H locs hM hS => ?_)
          have hM : mm_P Z.1 mm_cl A (mm_U M_8 b1 (.inr (10, [.ref f1, .ref g1, .ref b2, va_rf bq16, va_rf rn16]))) H := hM
          have hc_12 : (mm_U M_8 b1 (.inr (10, [.ref f1, .ref g1, .ref b2, va_rf bq16, va_rf rn16]))) b1 = some (.inr (10, [.ref f1, .ref g1, .ref b2, va_rf bq16, va_rf rn16])) := mm_U_eq
          have hc_13 : (mm_U M_8 b1 (.inr (10, [.ref f1, .ref g1, .ref b2, va_rf bq16, va_rf rn16]))) b2 = some (.inr (10, [.ref f2, .ref g2, va_rf sm26, va_rf bq26, va_rf rn26])) := (mm_U_ne (Ne.symm hbb)).trans hc26
          obtain ⟨M_14, eM_14⟩ : ∃ z, z = mm_U M_8 b1 (.inr (10, [.ref f1, .ref g1, .ref b2, va_rf bq16, va_rf rn16])) := ⟨_, rfl⟩
          rw [← eM_14] at hM hc_12 hc_13
          have hK7 : uK M_8 M_14 := by rw [eM_14]; exact uK.putF (sm' := some b2) (rn' := rn16) hc16
          obtain ⟨hC7, hP7⟩ := hC6.fwd0 hK7 (a := b1) (o := b2) (fun q9 h9 => by rw [eM_14]; exact mm_U_ne h9) (hLL _ hL1) (unext_cf hc16) (unext_cf (f := some f1) (g := some g1) (sm := some b2) (bq := bq16) (rn := rn16) hc_12) hu62 (Ne.symm hbb) hf61 hf62 (fun h9 => h9.notF hc16) hqq
          refine lv_goto (tgt := 193) hx hb dX1_unite_119 (by decide) ?_
          refine mm_retvD hx hb hr hlk hM hS ⟨rfl, S6, L6, vr6, rfl, hK.trans hK7, hC7, hLL, hvv, hnn, by (try dsimp only); omega, by (try dsimp only); omega, by omega, by omega, ((hB5.trans hK6 hB6).trans hK7 (uNw.rf _ _)), fun z h7 h8 h9 => ?_⟩ dX1_unite_193 (by (try dsimp only); omega) (by (try dsimp only); omega)
          by_cases h6 : z = b1
          · subst h6; exact Or.inr ⟨_, tp.mono hK7 (fun _ h => h) (fun _ _ => rfl) (Nat.le_refl _) _ _ _ hf61, fun s => by rw [hx6]; exact Nat.le_refl _⟩
          · have h5 : unext M_14 z = unext M_8 z := by unfold unext; rw [eM_14, mm_U_ne h6]
            rcases hz7 z h7 h8 (by rw [← h5]; exact h9) with h4 | ⟨t, ht, hs⟩
            · exact Or.inl h4
            · exact Or.inr ⟨t, tp.mono hK7 (fun _ h => h) (fun _ _ => rfl) (Nat.le_refl _) _ _ _ ht, fun s => Nat.le_of_lt (hs s)⟩
      · skip
        have hr8 := hr9
        unfold tU at hr8
        rw [eT1, eT2] at hr8
        dsimp only at hr8
        have hrr : r = .inl 2 := (Option.some.inj hr8).symm
        refine lv_aload_n hx hb dX1_unite_16 rfl (lv_at hl 1 rfl) ?_
        refine va_instNo (C := RX12) hx hb hown (hts _ q1059) (hE.2.2.2.1 _ _ (by decide +kernel)) (mm_recv hE hM mm_cX12 hc1) dX1_unite_17 ?_
        refine lv_if_eq (tgt := 38) hx hb dX1_unite_20 (by decide) (fun _ => ?_) (fun h9 => absurd (by decide) h9)
        refine lv_aload_n hx hb dX1_unite_38 rfl (lv_at hl 0 rfl) ?_
        refine va_instNo (C := RX8) hx hb hown (hts _ q1059) (hE.2.2.2.1 _ _ (by decide +kernel)) (mm_recv hE hM mm_cX8 hc2) dX1_unite_39 ?_
        refine lv_if_eq (tgt := 60) hx hb dX1_unite_42 (by decide) (fun _ => ?_) (fun h9 => absurd (by decide) h9)
        refine lv_aload_n hx hb dX1_unite_60 rfl (lv_at hl 1 rfl) ?_
        refine va_instS hx hb hown (hts _ q1187) (hE.1.1 10 _ mm_cX12).2 (mm_recv hE hM mm_cX12 hc1) dX1_unite_61 ?_
        refine lv_if_eq (tgt := 122) hx hb dX1_unite_64 (by decide) (fun h9 => absurd h9 (by decide)) (fun _ => ?_)
        refine lv_aload_n hx hb dX1_unite_67 rfl (lv_at hl 1 rfl) ?_
        refine va_castS hx hb hown (hts _ q1187) (hE.1.1 10 _ mm_cX12).2 (mm_recv hE hM mm_cX12 hc1) dX1_unite_68 ?_
        refine lv_astore hx hb dX1_unite_71 hl (by decide) rfl (fun ls hl => ?_)
        replace hl : lv_has ls 10 [(8, .ref b1), (3, .ref b2), (2, .ref b1), (0, .ref ax), (1, .ref ay)] := hl
        refine lv_aload_n hx hb dX1_unite_73 rfl (lv_at hl 1 rfl) ?_
        refine va_instNo (C := RX8) hx hb hown (hts _ q1187) (hE.2.2.2.1 _ _ (by decide +kernel)) (mm_recv hE hM mm_cX8 hc2) dX1_unite_74 ?_
        refine lv_if_eq (tgt := 122) hx hb dX1_unite_77 (by decide) (fun _ => ?_) (fun h9 => absurd (by decide) h9)
        refine lv_aload_n hx hb dX1_unite_122 rfl (lv_at hl 2 rfl) ?_
        refine va_instNo (C := RX12) hx hb hown (hts _ q1189) (hE.2.2.2.1 _ _ (by decide +kernel)) (mm_recv hE hM mm_cX12 hc1) dX1_unite_123 ?_
        refine lv_if_eq (tgt := 184) hx hb dX1_unite_126 (by decide) (fun _ => ?_) (fun h9 => absurd (by decide) h9)
        refine mm_newX (D := Z.1) (ci := 16) (fs := mm_f0X20) (C := RX20) (T := TX20) (N := 7) hx hb hts in_X20 tyX20 tyX20_ok hown (hts _ q1233) (hts _ q1108) (hts _ q88) hE.1 hM hS hA mm_cX20 mm_dfX20 (by (try dsimp only); omega) (by (try dsimp only); omega) dX1_unite_184 (fun q_3 H nq_2 hM hS hFr => ?_)
        have hM : mm_P Z.1 mm_cl A (mm_U M q_3 (.inr (16, [.null, .null, .null, .null, .null, .int 0, .int 0]))) H := hM
        have ne_4 : b1 ≠ q_3 := (mm_neN hc1 nq_2)
        have ne_5 : b2 ≠ q_3 := (mm_neN hc2 nq_2)
        have hc_6 : (mm_U M q_3 (.inr (16, [.null, .null, .null, .null, .null, .int 0, .int 0]))) q_3 = some (.inr (16, [.null, .null, .null, .null, .null, .int 0, .int 0])) := mm_U_eq
        have hc_7 : (mm_U M q_3 (.inr (16, [.null, .null, .null, .null, .null, .int 0, .int 0]))) b1 = some (.inr (10, [.ref f1, .ref g1, .null, va_rf bq1, va_rf rn1])) := (mm_U_ne ne_4).trans hc1
        have hc_8 : (mm_U M q_3 (.inr (16, [.null, .null, .null, .null, .null, .int 0, .int 0]))) b2 = some (.inr (6, [.int (mm_b iv2), .ref w2, .null, va_rf bq2, va_rf rn2])) := (mm_U_ne ne_5).trans hc2
        obtain ⟨M_9, eM_9⟩ : ∃ z, z = mm_U M q_3 (.inr (16, [.null, .null, .null, .null, .null, .int 0, .int 0])) := ⟨_, rfl⟩
        rw [← eM_9] at hM hc_7 hc_8 hc_6
        refine lv_dup hx hb dX1_unite_187 rfl ?_
        refine lv_iconst (v := 2) hx hb dX1_unite_188 (by decide) ?_
        refine mm_callIK (As := [.int 2]) (rest := [.ref q_3]) ⟨hx, hb, hml, hown, hts⟩ hE hST hA hFr (c_X20_init l Z htr (er := 2) hc_6) (cwI (maxL := 2) 1 hts (lw_meth q1118) rfl rfl rfl (hts _ q88) (hts _ q1234) (hts _ q1117) rfl (by decide +kernel) ⟨(by (try dsimp only); omega), (by (try dsimp only); omega)⟩) hM hS rfl hl.1 (Nat.le_of_ble_eq_true rfl) dX1_unite_189 rfl ⟨(by (try dsimp only); omega), (by (try dsimp only); omega)⟩ (fun _ _ _ _ _ _ h9 => h9.elim) (fun v_10 M_11 H locs hp_12 hM hS => ?_)
        obtain ⟨rfl, ru, rs, eM_11⟩ := hp_12
        rw [eM_11] at hM
        have hc_13 : (mm_U M_9 q_3 (.inr (16, [.ref q_3, va_rf ru, va_rf rs, .null, .null, .int 0, .int 2]))) q_3 = some (.inr (16, [.ref q_3, va_rf ru, va_rf rs, .null, .null, .int 0, .int 2])) := mm_U_eq
        have hc_14 : (mm_U M_9 q_3 (.inr (16, [.ref q_3, va_rf ru, va_rf rs, .null, .null, .int 0, .int 2]))) b1 = some (.inr (10, [.ref f1, .ref g1, .null, va_rf bq1, va_rf rn1])) := (mm_U_ne ne_4).trans hc_7
        have hc_15 : (mm_U M_9 q_3 (.inr (16, [.ref q_3, va_rf ru, va_rf rs, .null, .null, .int 0, .int 2]))) b2 = some (.inr (6, [.int (mm_b iv2), .ref w2, .null, va_rf bq2, va_rf rn2])) := (mm_U_ne ne_5).trans hc_8
        obtain ⟨M_16, eM_16⟩ : ∃ z, z = mm_U M_9 q_3 (.inr (16, [.ref q_3, va_rf ru, va_rf rs, .null, .null, .int 0, .int 2])) := ⟨_, rfl⟩
        rw [← eM_16] at hM hc_14 hc_15 hc_13
        exact mm_athrowD hx hb htab hlk hE hM hS hc_13 mm_cX20 ⟨2, hrr, uX.of ⟨rfl, ru, rs, nq_2, by subst eM_16 eM_9; simp only [mm_U_U]⟩⟩ dX1_unite_192 (by (try dsimp only); omega) (by (try dsimp only); omega)
    · skip
      rcases hcs2 with ⟨eT2, hz2, hc2⟩ | ⟨v2, hv2, eT2, hs2, rfl, hL2, hc2⟩ | ⟨xa2, xb2, f2, g2, bq2, rn2, eT2, hL2, hc2, hta2, htb2'⟩ | ⟨r2, iv2, w2, bq2, rn2, eT2, hL2, hc2, htw2⟩
      · skip
        have hr8 := hr9
        unfold tU at hr8
        rw [eT1, eT2] at hr8
        dsimp only at hr8
        have hrr : r = .inl 2 := (Option.some.inj hr8).symm
        refine lv_aload_n hx hb dX1_unite_16 rfl (lv_at hl 1 rfl) ?_
        refine va_instNo (C := RX8) hx hb hown (hts _ q1059) (hE.2.2.2.1 _ _ (by decide +kernel)) (mm_recv hE hM mm_cX8 hc1) dX1_unite_17 ?_
        refine lv_if_eq (tgt := 38) hx hb dX1_unite_20 (by decide) (fun _ => ?_) (fun h9 => absurd (by decide) h9)
        refine lv_aload_n hx hb dX1_unite_38 rfl (lv_at hl 0 rfl) ?_
        refine va_instNo (C := "RowenTongue$Numbers") hx hb hown (hts _ q1059) (hE.2.2.2.1 _ _ (by decide +kernel)) (mm_recv hE hM mm_cE1 hc2) dX1_unite_39 ?_
        refine lv_if_eq (tgt := 60) hx hb dX1_unite_42 (by decide) (fun _ => ?_) (fun h9 => absurd (by decide) h9)
        refine lv_aload_n hx hb dX1_unite_60 rfl (lv_at hl 1 rfl) ?_
        refine va_instNo (C := RX8) hx hb hown (hts _ q1187) (hE.2.2.2.1 _ _ (by decide +kernel)) (mm_recv hE hM mm_cX8 hc1) dX1_unite_61 ?_
        refine lv_if_eq (tgt := 122) hx hb dX1_unite_64 (by decide) (fun _ => ?_) (fun h9 => absurd (by decide) h9)
        refine lv_aload_n hx hb dX1_unite_122 rfl (lv_at hl 1 rfl) ?_
        refine va_instS hx hb hown (hts _ q1189) (hE.1.1 6 _ mm_cX8).2 (mm_recv hE hM mm_cX8 hc1) dX1_unite_123 ?_
        refine lv_if_eq (tgt := 184) hx hb dX1_unite_126 (by decide) (fun h9 => absurd h9 (by decide)) (fun _ => ?_)
        refine lv_aload_n hx hb dX1_unite_129 rfl (lv_at hl 1 rfl) ?_
        refine va_castS hx hb hown (hts _ q1189) (hE.1.1 6 _ mm_cX8).2 (mm_recv hE hM mm_cX8 hc1) dX1_unite_130 ?_
        refine lv_astore hx hb dX1_unite_133 hl (by decide) rfl (fun ls hl => ?_)
        replace hl : lv_has ls 10 [(4, .ref b1), (3, .ref b2), (2, .ref b1), (0, .ref ax), (1, .ref ay)] := hl
        refine lv_aload_n hx hb dX1_unite_135 rfl (lv_at hl 1 rfl) ?_
        refine va_instNo (C := "RowenTongue$Numbers") hx hb hown (hts _ q1189) (hE.2.2.2.1 _ _ (by decide +kernel)) (mm_recv hE hM mm_cE1 hc2) dX1_unite_136 ?_
        refine lv_if_eq (tgt := 184) hx hb dX1_unite_139 (by decide) (fun _ => ?_) (fun h9 => absurd (by decide) h9)
        refine mm_newX (D := Z.1) (ci := 16) (fs := mm_f0X20) (C := RX20) (T := TX20) (N := 7) hx hb hts in_X20 tyX20 tyX20_ok hown (hts _ q1233) (hts _ q1108) (hts _ q88) hE.1 hM hS hA mm_cX20 mm_dfX20 (by (try dsimp only); omega) (by (try dsimp only); omega) dX1_unite_184 (fun q_3 H nq_2 hM hS hFr => ?_)
        have hM : mm_P Z.1 mm_cl A (mm_U M q_3 (.inr (16, [.null, .null, .null, .null, .null, .int 0, .int 0]))) H := hM
        have ne_4 : b1 ≠ q_3 := (mm_neN hc1 nq_2)
        have ne_5 : b2 ≠ q_3 := (mm_neN hc2 nq_2)
        have hc_6 : (mm_U M q_3 (.inr (16, [.null, .null, .null, .null, .null, .int 0, .int 0]))) q_3 = some (.inr (16, [.null, .null, .null, .null, .null, .int 0, .int 0])) := mm_U_eq
        have hc_7 : (mm_U M q_3 (.inr (16, [.null, .null, .null, .null, .null, .int 0, .int 0]))) b1 = some (.inr (6, [.int (mm_b iv1), .ref w1, .null, va_rf bq1, va_rf rn1])) := (mm_U_ne ne_4).trans hc1
        have hc_8 : (mm_U M q_3 (.inr (16, [.null, .null, .null, .null, .null, .int 0, .int 0]))) b2 = some (.inr (51, [])) := (mm_U_ne ne_5).trans hc2
        obtain ⟨M_9, eM_9⟩ : ∃ z, z = mm_U M q_3 (.inr (16, [.null, .null, .null, .null, .null, .int 0, .int 0])) := ⟨_, rfl⟩
        rw [← eM_9] at hM hc_7 hc_8 hc_6
        refine lv_dup hx hb dX1_unite_187 rfl ?_
        refine lv_iconst (v := 2) hx hb dX1_unite_188 (by decide) ?_
        refine mm_callIK (As := [.int 2]) (rest := [.ref q_3]) ⟨hx, hb, hml, hown, hts⟩ hE hST hA hFr (c_X20_init l Z htr (er := 2) hc_6) (cwI (maxL := 2) 1 hts (lw_meth q1118) rfl rfl rfl (hts _ q88) (hts _ q1234) (hts _ q1117) rfl (by decide +kernel) ⟨(by (try dsimp only); omega), (by (try dsimp only); omega)⟩) hM hS rfl hl.1 (Nat.le_of_ble_eq_true rfl) dX1_unite_189 rfl ⟨(by (try dsimp only); omega), (by (try dsimp only); omega)⟩ (fun _ _ _ _ _ _ h9 => h9.elim) (fun v_10 M_11 H locs hp_12 hM hS => ?_)
        obtain ⟨rfl, ru, rs, eM_11⟩ := hp_12
        rw [eM_11] at hM
        have hc_13 : (mm_U M_9 q_3 (.inr (16, [.ref q_3, va_rf ru, va_rf rs, .null, .null, .int 0, .int 2]))) q_3 = some (.inr (16, [.ref q_3, va_rf ru, va_rf rs, .null, .null, .int 0, .int 2])) := mm_U_eq
        have hc_14 : (mm_U M_9 q_3 (.inr (16, [.ref q_3, va_rf ru, va_rf rs, .null, .null, .int 0, .int 2]))) b1 = some (.inr (6, [.int (mm_b iv1), .ref w1, .null, va_rf bq1, va_rf rn1])) := (mm_U_ne ne_4).trans hc_7
        have hc_15 : (mm_U M_9 q_3 (.inr (16, [.ref q_3, va_rf ru, va_rf rs, .null, .null, .int 0, .int 2]))) b2 = some (.inr (51, [])) := (mm_U_ne ne_5).trans hc_8
        obtain ⟨M_16, eM_16⟩ : ∃ z, z = mm_U M_9 q_3 (.inr (16, [.ref q_3, va_rf ru, va_rf rs, .null, .null, .int 0, .int 2])) := ⟨_, rfl⟩
        rw [← eM_16] at hM hc_14 hc_15 hc_13
        exact mm_athrowD hx hb htab hlk hE hM hS hc_13 mm_cX20 ⟨2, hrr, uX.of ⟨rfl, ru, rs, nq_2, by subst eM_16 eM_9; simp only [mm_U_U]⟩⟩ dX1_unite_192 (by (try dsimp only); omega) (by (try dsimp only); omega)
      · skip
        refine lv_aload_n hx hb dX1_unite_16 rfl (lv_at hl 1 rfl) ?_
        refine va_instNo (C := RX8) hx hb hown (hts _ q1059) (hE.2.2.2.1 _ _ (by decide +kernel)) (mm_recv hE hM mm_cX8 hc1) dX1_unite_17 ?_
        refine lv_if_eq (tgt := 38) hx hb dX1_unite_20 (by decide) (fun _ => ?_) (fun h9 => absurd (by decide) h9)
        refine lv_aload_n hx hb dX1_unite_38 rfl (lv_at hl 0 rfl) ?_
        refine va_instS hx hb hown (hts _ q1059) (hE.1.1 9 _ mm_cX11).2 (mm_recv hE hM mm_cX11 hc2) dX1_unite_39 ?_
        refine lv_if_eq (tgt := 60) hx hb dX1_unite_42 (by decide) (fun h9 => absurd h9 (by decide)) (fun _ => ?_)
        refine lv_aload_n hx hb dX1_unite_45 rfl (lv_at hl 0 rfl) ?_
        refine va_castS hx hb hown (hts _ q1059) (hE.1.1 9 _ mm_cX11).2 (mm_recv hE hM mm_cX11 hc2) dX1_unite_46 ?_
        refine lv_astore hx hb dX1_unite_49 hl (by decide) rfl (fun ls hl => ?_)
        replace hl : lv_has ls 10 [(7, .ref (vr v2)), (3, .ref (vr v2)), (2, .ref b1), (0, .ref ax), (1, .ref ay)] := hl
        refine lv_aload hx hb dX1_unite_51 (lv_at hl 0 rfl) ?_
        refine lv_aload_n hx hb dX1_unite_53 rfl (lv_at hl 2 rfl) ?_
        have hrr := tU_var2 hr9 eT2 (fun v h9 => by rw [eT1] at h9; cases h9)
        have hnb1 : unext M b1 = none := unext_cb hc1
        refine mm_callSD (As := [.ref (vr v2), .ref b1]) (rest := []) ⟨hx, hb, hml, hown, hts⟩ hE hST hA (d_X1_bind l Z htr (t := t1) (T := uap S.2.1 x) he1 hC hv2 hc2 htb1 hnb1) (va_cwS 2 hts (lw_S q1060 q1061 q50 q1062) rfl rfl rfl (by decide +kernel) ⟨(by (try dsimp only); omega), (by (try dsimp only); omega)⟩) hM hS rfl hl.1 (Nat.le_of_ble_eq_true rfl) dX1_unite_54 rfl ⟨(by (try dsimp only); omega), (by (try dsimp only); omega)⟩ (fun E ce q M9 H1 locs1 hp9 hM9 hS9 hce hcv hcl => by obtain ⟨er9, he9, hx9⟩ := hp9; exact mm_outxD htab hlk hM9 hS9 hce hcv hcl ⟨er9, hrr.trans he9, hx9⟩ (by (try dsimp only); omega) (by (try dsimp only); omega)) (fun v_2 M_3 n_5 k_6 H locs hp_4 hM hS => ?_)
        obtain ⟨rfl, hn5, hk5, S5, hS5, hK5, hC5, hS51, hP5, hz5⟩ := hp_4
        have hS51' := hS51
        refine lv_goto (tgt := 193) hx hb dX1_unite_57 (by decide) ?_
        refine mm_retvD hx hb hr hlk hM hS ⟨rfl, S5, L, vr, hrr.trans hS5, hK5, hC5, fun _ h => h, fun _ _ => rfl, Nat.le_of_eq hS51.symm, by (try dsimp only); omega, by (try dsimp only); omega, by omega, by omega, uNw.rf _ _, fun z h7 h8 h9 => ?_⟩ dX1_unite_193 (by (try dsimp only); omega) (by (try dsimp only); omega)
        by_cases h6 : z = vr v2
        · exact Or.inl (h6 ▸ hC.isVar hv2)
        · exact absurd ((hz5 z h7 h6).trans h8) h9
      · skip
        have hr8 := hr9
        unfold tU at hr8
        rw [eT1, eT2] at hr8
        dsimp only at hr8
        have hrr : r = .inl 2 := (Option.some.inj hr8).symm
        refine lv_aload_n hx hb dX1_unite_16 rfl (lv_at hl 1 rfl) ?_
        refine va_instNo (C := RX8) hx hb hown (hts _ q1059) (hE.2.2.2.1 _ _ (by decide +kernel)) (mm_recv hE hM mm_cX8 hc1) dX1_unite_17 ?_
        refine lv_if_eq (tgt := 38) hx hb dX1_unite_20 (by decide) (fun _ => ?_) (fun h9 => absurd (by decide) h9)
        refine lv_aload_n hx hb dX1_unite_38 rfl (lv_at hl 0 rfl) ?_
        refine va_instNo (C := RX12) hx hb hown (hts _ q1059) (hE.2.2.2.1 _ _ (by decide +kernel)) (mm_recv hE hM mm_cX12 hc2) dX1_unite_39 ?_
        refine lv_if_eq (tgt := 60) hx hb dX1_unite_42 (by decide) (fun _ => ?_) (fun h9 => absurd (by decide) h9)
        refine lv_aload_n hx hb dX1_unite_60 rfl (lv_at hl 1 rfl) ?_
        refine va_instNo (C := RX8) hx hb hown (hts _ q1187) (hE.2.2.2.1 _ _ (by decide +kernel)) (mm_recv hE hM mm_cX8 hc1) dX1_unite_61 ?_
        refine lv_if_eq (tgt := 122) hx hb dX1_unite_64 (by decide) (fun _ => ?_) (fun h9 => absurd (by decide) h9)
        refine lv_aload_n hx hb dX1_unite_122 rfl (lv_at hl 1 rfl) ?_
        refine va_instS hx hb hown (hts _ q1189) (hE.1.1 6 _ mm_cX8).2 (mm_recv hE hM mm_cX8 hc1) dX1_unite_123 ?_
        refine lv_if_eq (tgt := 184) hx hb dX1_unite_126 (by decide) (fun h9 => absurd h9 (by decide)) (fun _ => ?_)
        refine lv_aload_n hx hb dX1_unite_129 rfl (lv_at hl 1 rfl) ?_
        refine va_castS hx hb hown (hts _ q1189) (hE.1.1 6 _ mm_cX8).2 (mm_recv hE hM mm_cX8 hc1) dX1_unite_130 ?_
        refine lv_astore hx hb dX1_unite_133 hl (by decide) rfl (fun ls hl => ?_)
        replace hl : lv_has ls 10 [(4, .ref b1), (3, .ref b2), (2, .ref b1), (0, .ref ax), (1, .ref ay)] := hl
        refine lv_aload_n hx hb dX1_unite_135 rfl (lv_at hl 1 rfl) ?_
        refine va_instNo (C := RX12) hx hb hown (hts _ q1189) (hE.2.2.2.1 _ _ (by decide +kernel)) (mm_recv hE hM mm_cX12 hc2) dX1_unite_136 ?_
        refine lv_if_eq (tgt := 184) hx hb dX1_unite_139 (by decide) (fun _ => ?_) (fun h9 => absurd (by decide) h9)
        refine mm_newX (D := Z.1) (ci := 16) (fs := mm_f0X20) (C := RX20) (T := TX20) (N := 7) hx hb hts in_X20 tyX20 tyX20_ok hown (hts _ q1233) (hts _ q1108) (hts _ q88) hE.1 hM hS hA mm_cX20 mm_dfX20 (by (try dsimp only); omega) (by (try dsimp only); omega) dX1_unite_184 (fun q_3 H nq_2 hM hS hFr => ?_)
        have hM : mm_P Z.1 mm_cl A (mm_U M q_3 (.inr (16, [.null, .null, .null, .null, .null, .int 0, .int 0]))) H := hM
        have ne_4 : b1 ≠ q_3 := (mm_neN hc1 nq_2)
        have ne_5 : b2 ≠ q_3 := (mm_neN hc2 nq_2)
        have hc_6 : (mm_U M q_3 (.inr (16, [.null, .null, .null, .null, .null, .int 0, .int 0]))) q_3 = some (.inr (16, [.null, .null, .null, .null, .null, .int 0, .int 0])) := mm_U_eq
        have hc_7 : (mm_U M q_3 (.inr (16, [.null, .null, .null, .null, .null, .int 0, .int 0]))) b1 = some (.inr (6, [.int (mm_b iv1), .ref w1, .null, va_rf bq1, va_rf rn1])) := (mm_U_ne ne_4).trans hc1
        have hc_8 : (mm_U M q_3 (.inr (16, [.null, .null, .null, .null, .null, .int 0, .int 0]))) b2 = some (.inr (10, [.ref f2, .ref g2, .null, va_rf bq2, va_rf rn2])) := (mm_U_ne ne_5).trans hc2
        obtain ⟨M_9, eM_9⟩ : ∃ z, z = mm_U M q_3 (.inr (16, [.null, .null, .null, .null, .null, .int 0, .int 0])) := ⟨_, rfl⟩
        rw [← eM_9] at hM hc_7 hc_8 hc_6
        refine lv_dup hx hb dX1_unite_187 rfl ?_
        refine lv_iconst (v := 2) hx hb dX1_unite_188 (by decide) ?_
        refine mm_callIK (As := [.int 2]) (rest := [.ref q_3]) ⟨hx, hb, hml, hown, hts⟩ hE hST hA hFr (c_X20_init l Z htr (er := 2) hc_6) (cwI (maxL := 2) 1 hts (lw_meth q1118) rfl rfl rfl (hts _ q88) (hts _ q1234) (hts _ q1117) rfl (by decide +kernel) ⟨(by (try dsimp only); omega), (by (try dsimp only); omega)⟩) hM hS rfl hl.1 (Nat.le_of_ble_eq_true rfl) dX1_unite_189 rfl ⟨(by (try dsimp only); omega), (by (try dsimp only); omega)⟩ (fun _ _ _ _ _ _ h9 => h9.elim) (fun v_10 M_11 H locs hp_12 hM hS => ?_)
        obtain ⟨rfl, ru, rs, eM_11⟩ := hp_12
        rw [eM_11] at hM
        have hc_13 : (mm_U M_9 q_3 (.inr (16, [.ref q_3, va_rf ru, va_rf rs, .null, .null, .int 0, .int 2]))) q_3 = some (.inr (16, [.ref q_3, va_rf ru, va_rf rs, .null, .null, .int 0, .int 2])) := mm_U_eq
        have hc_14 : (mm_U M_9 q_3 (.inr (16, [.ref q_3, va_rf ru, va_rf rs, .null, .null, .int 0, .int 2]))) b1 = some (.inr (6, [.int (mm_b iv1), .ref w1, .null, va_rf bq1, va_rf rn1])) := (mm_U_ne ne_4).trans hc_7
        have hc_15 : (mm_U M_9 q_3 (.inr (16, [.ref q_3, va_rf ru, va_rf rs, .null, .null, .int 0, .int 2]))) b2 = some (.inr (10, [.ref f2, .ref g2, .null, va_rf bq2, va_rf rn2])) := (mm_U_ne ne_5).trans hc_8
        obtain ⟨M_16, eM_16⟩ : ∃ z, z = mm_U M_9 q_3 (.inr (16, [.ref q_3, va_rf ru, va_rf rs, .null, .null, .int 0, .int 2])) := ⟨_, rfl⟩
        rw [← eM_16] at hM hc_14 hc_15 hc_13
        exact mm_athrowD hx hb htab hlk hE hM hS hc_13 mm_cX20 ⟨2, hrr, uX.of ⟨rfl, ru, rs, nq_2, by subst eM_16 eM_9; simp only [mm_U_U]⟩⟩ dX1_unite_192 (by (try dsimp only); omega) (by (try dsimp only); omega)
      · skip
        have hrt1 : uap S.2.1 (uap S.2.1 x) = uap S.2.1 x := hC.1.1.le x
        have hrt2 : uap S.2.1 (uap S.2.1 y) = uap S.2.1 y := hC.1.1.le y
        rw [eT1] at hrt1 hw1; rw [eT2] at hrt2 hw2
        simp only [uap, Lean.Grind.CommRing.Expr.pow.injEq, and_true] at hrt1 hrt2
        simp only [uwf] at hw1 hw2
        have hr8 := hr9
        unfold tU at hr8
        rw [eT1, eT2] at hr8
        dsimp only at hr8
        refine lv_aload_n hx hb dX1_unite_16 rfl (lv_at hl 1 rfl) ?_
        refine va_instNo (C := RX8) hx hb hown (hts _ q1059) (hE.2.2.2.1 _ _ (by decide +kernel)) (mm_recv hE hM mm_cX8 hc1) dX1_unite_17 ?_
        refine lv_if_eq (tgt := 38) hx hb dX1_unite_20 (by decide) (fun _ => ?_) (fun h9 => absurd (by decide) h9)
        refine lv_aload_n hx hb dX1_unite_38 rfl (lv_at hl 0 rfl) ?_
        refine va_instNo (C := RX8) hx hb hown (hts _ q1059) (hE.2.2.2.1 _ _ (by decide +kernel)) (mm_recv hE hM mm_cX8 hc2) dX1_unite_39 ?_
        refine lv_if_eq (tgt := 60) hx hb dX1_unite_42 (by decide) (fun _ => ?_) (fun h9 => absurd (by decide) h9)
        refine lv_aload_n hx hb dX1_unite_60 rfl (lv_at hl 1 rfl) ?_
        refine va_instNo (C := RX8) hx hb hown (hts _ q1187) (hE.2.2.2.1 _ _ (by decide +kernel)) (mm_recv hE hM mm_cX8 hc1) dX1_unite_61 ?_
        refine lv_if_eq (tgt := 122) hx hb dX1_unite_64 (by decide) (fun _ => ?_) (fun h9 => absurd (by decide) h9)
        refine lv_aload_n hx hb dX1_unite_122 rfl (lv_at hl 1 rfl) ?_
        refine va_instS hx hb hown (hts _ q1189) (hE.1.1 6 _ mm_cX8).2 (mm_recv hE hM mm_cX8 hc1) dX1_unite_123 ?_
        refine lv_if_eq (tgt := 184) hx hb dX1_unite_126 (by decide) (fun h9 => absurd h9 (by decide)) (fun _ => ?_)
        refine lv_aload_n hx hb dX1_unite_129 rfl (lv_at hl 1 rfl) ?_
        refine va_castS hx hb hown (hts _ q1189) (hE.1.1 6 _ mm_cX8).2 (mm_recv hE hM mm_cX8 hc1) dX1_unite_130 ?_
        refine lv_astore hx hb dX1_unite_133 hl (by decide) rfl (fun ls hl => ?_)
        replace hl : lv_has ls 10 [(4, .ref b1), (3, .ref b2), (2, .ref b1), (0, .ref ax), (1, .ref ay)] := hl
        refine lv_aload_n hx hb dX1_unite_135 rfl (lv_at hl 1 rfl) ?_
        refine va_instS hx hb hown (hts _ q1189) (hE.1.1 6 _ mm_cX8).2 (mm_recv hE hM mm_cX8 hc2) dX1_unite_136 ?_
        refine lv_if_eq (tgt := 184) hx hb dX1_unite_139 (by decide) (fun h9 => absurd h9 (by decide)) (fun _ => ?_)
        refine lv_aload_n hx hb dX1_unite_142 rfl (lv_at hl 1 rfl) ?_
        refine va_castS hx hb hown (hts _ q1189) (hE.1.1 6 _ mm_cX8).2 (mm_recv hE hM mm_cX8 hc2) dX1_unite_143 ?_
        refine lv_astore hx hb dX1_unite_146 hl (by decide) rfl (fun ls hl => ?_)
        replace hl : lv_has ls 10 [(5, .ref b2), (4, .ref b1), (3, .ref b2), (2, .ref b1), (0, .ref ax), (1, .ref ay)] := hl
        refine lv_aload hx hb dX1_unite_148 (lv_at hl 1 rfl) ?_
        refine va_getN (D := Z.1) (ci := 6) (v := .int (mm_b iv1)) (C := RX8) (T := TX8) (N := 5) hx hb hts in_X8 hown hE.1 (hM.at hc1) 0 rfl mm_cX8 0 (by decide) (va_Nw.use rfl (hE.2.1 _ q620 rfl)) (fun _ h9 => h9) rfl dX1_unite_150 ?_
        refine lv_aload hx hb dX1_unite_153 (lv_at hl 0 rfl) ?_
        refine va_getN (D := Z.1) (ci := 6) (v := .int (mm_b iv2)) (C := RX8) (T := TX8) (N := 5) hx hb hts in_X8 hown hE.1 (hM.at hc2) 0 rfl mm_cX8 0 (by decide) (va_Nw.use rfl (hE.2.1 _ q620 rfl)) (fun _ h9 => h9) rfl dX1_unite_155 ?_
        refine lv_icmp_ne (tgt := 184) hx hb dX1_unite_158 (by decide) (fun c_2 => ?_) (fun c_2 => ?_)
        · skip
          have hiv : ¬ (iv1.toNat = iv2.toNat) := fun h9 => c_2 (by cases iv1 <;> cases iv2 <;> first | rfl | (simp at h9))
          rw [if_neg hiv] at hr8
          have hrr : r = .inl 2 := (Option.some.inj hr8).symm
          refine mm_newX (D := Z.1) (ci := 16) (fs := mm_f0X20) (C := RX20) (T := TX20) (N := 7) hx hb hts in_X20 tyX20 tyX20_ok hown (hts _ q1233) (hts _ q1108) (hts _ q88) hE.1 hM hS hA mm_cX20 mm_dfX20 (by (try dsimp only); omega) (by (try dsimp only); omega) dX1_unite_184 (fun q_4 H nq_3 hM hS hFr => ?_)
          have hM : mm_P Z.1 mm_cl A (mm_U M q_4 (.inr (16, [.null, .null, .null, .null, .null, .int 0, .int 0]))) H := hM
          have ne_5 : b1 ≠ q_4 := (mm_neN hc1 nq_3)
          have ne_6 : b2 ≠ q_4 := (mm_neN hc2 nq_3)
          have hc_7 : (mm_U M q_4 (.inr (16, [.null, .null, .null, .null, .null, .int 0, .int 0]))) q_4 = some (.inr (16, [.null, .null, .null, .null, .null, .int 0, .int 0])) := mm_U_eq
          have hc_8 : (mm_U M q_4 (.inr (16, [.null, .null, .null, .null, .null, .int 0, .int 0]))) b1 = some (.inr (6, [.int (mm_b iv1), .ref w1, .null, va_rf bq1, va_rf rn1])) := (mm_U_ne ne_5).trans hc1
          have hc_9 : (mm_U M q_4 (.inr (16, [.null, .null, .null, .null, .null, .int 0, .int 0]))) b2 = some (.inr (6, [.int (mm_b iv2), .ref w2, .null, va_rf bq2, va_rf rn2])) := (mm_U_ne ne_6).trans hc2
          obtain ⟨M_10, eM_10⟩ : ∃ z, z = mm_U M q_4 (.inr (16, [.null, .null, .null, .null, .null, .int 0, .int 0])) := ⟨_, rfl⟩
          rw [← eM_10] at hM hc_8 hc_9 hc_7
          refine lv_dup hx hb dX1_unite_187 rfl ?_
          refine lv_iconst (v := 2) hx hb dX1_unite_188 (by decide) ?_
          refine mm_callIK (As := [.int 2]) (rest := [.ref q_4]) ⟨hx, hb, hml, hown, hts⟩ hE hST hA hFr (c_X20_init l Z htr (er := 2) hc_7) (cwI (maxL := 2) 1 hts (lw_meth q1118) rfl rfl rfl (hts _ q88) (hts _ q1234) (hts _ q1117) rfl (by decide +kernel) ⟨(by (try dsimp only); omega), (by (try dsimp only); omega)⟩) hM hS rfl hl.1 (Nat.le_of_ble_eq_true rfl) dX1_unite_189 rfl ⟨(by (try dsimp only); omega), (by (try dsimp only); omega)⟩ (fun _ _ _ _ _ _ h9 => h9.elim) (fun v_11 M_12 H locs hp_13 hM hS => ?_)
          obtain ⟨rfl, ru, rs, eM_12⟩ := hp_13
          rw [eM_12] at hM
          have hc_14 : (mm_U M_10 q_4 (.inr (16, [.ref q_4, va_rf ru, va_rf rs, .null, .null, .int 0, .int 2]))) q_4 = some (.inr (16, [.ref q_4, va_rf ru, va_rf rs, .null, .null, .int 0, .int 2])) := mm_U_eq
          have hc_15 : (mm_U M_10 q_4 (.inr (16, [.ref q_4, va_rf ru, va_rf rs, .null, .null, .int 0, .int 2]))) b1 = some (.inr (6, [.int (mm_b iv1), .ref w1, .null, va_rf bq1, va_rf rn1])) := (mm_U_ne ne_5).trans hc_8
          have hc_16 : (mm_U M_10 q_4 (.inr (16, [.ref q_4, va_rf ru, va_rf rs, .null, .null, .int 0, .int 2]))) b2 = some (.inr (6, [.int (mm_b iv2), .ref w2, .null, va_rf bq2, va_rf rn2])) := (mm_U_ne ne_6).trans hc_9
          obtain ⟨M_17, eM_17⟩ : ∃ z, z = mm_U M_10 q_4 (.inr (16, [.ref q_4, va_rf ru, va_rf rs, .null, .null, .int 0, .int 2])) := ⟨_, rfl⟩
          rw [← eM_17] at hM hc_15 hc_16 hc_14
          exact mm_athrowD hx hb htab hlk hE hM hS hc_14 mm_cX20 ⟨2, hrr, uX.of ⟨rfl, ru, rs, nq_3, by subst eM_17 eM_10; simp only [mm_U_U]⟩⟩ dX1_unite_192 (by (try dsimp only); omega) (by (try dsimp only); omega)
        · skip
          have hiv : iv1 = iv2 := mm_b_inj (by first | exact c_2 | exact Classical.not_not.1 c_2)
          subst hiv
          rw [if_pos rfl] at hr8
          have hd1' : uDeep Z M L vr S r1 (d + 1) := hdp.to (y := r1) (k := 1) (fun s => by rw [eT1]; simp only [uap, uh]; omega)
          have hdl1 := hd1'.le hC hB9
          refine lv_aload hx hb dX1_unite_161 (lv_at hl 1 rfl) ?_
          refine va_getN (D := Z.1) (ci := 6) (v := .ref w1) (C := RX8) (T := TX8) (N := 5) hx hb hts in_X8 hown hE.1 (hM.at hc1) 0 rfl mm_cX8 1 (by decide) (va_Nw.use rfl (hE.2.1 _ q627 rfl)) (fun _ h9 => h9) rfl dX1_unite_163 ?_
          refine lv_aload hx hb dX1_unite_166 (lv_at hl 0 rfl) ?_
          refine va_getN (D := Z.1) (ci := 6) (v := .ref w2) (C := RX8) (T := TX8) (N := 5) hx hb hts in_X8 hown hE.1 (hM.at hc2) 0 rfl mm_cX8 1 (by decide) (va_Nw.use rfl (hE.2.1 _ q627 rfl)) (fun _ h9 => h9) rfl dX1_unite_168 ?_
          refine mm_callSD (As := [.ref w1, .ref w2]) (rest := []) ⟨hx, hb, hml, hown, hts⟩ hE hST hA (d_X1_uniteRows l Z htr ih (r1 := r1) (r2 := r2) (Hh := Hh) (Lm := Lm) (d := d + 1) (D := D - 1) h0 hC hG htw1 htw2 hw1 hw2 hr8 hB9 (by omega) (by omega) (by omega) hd1') (va_cwS 2 hts (lw_S q1190 q1191 q50 q1192) rfl rfl rfl (by decide +kernel) ⟨(by (try dsimp only); omega), (by (try dsimp only); omega)⟩) hM hS rfl hl.1 (Nat.le_of_ble_eq_true rfl) dX1_unite_171 rfl ⟨(by (try dsimp only); omega), (by (try dsimp only); omega)⟩ (fun E ce q M9 H1 locs1 hp9 hM9 hS9 hce hcv hcl => by obtain ⟨er9, he9, hx9⟩ := hp9; exact mm_outxD htab hlk hM9 hS9 hce hcv hcl ⟨er9, he9, hx9⟩ (by (try dsimp only); omega) (by (try dsimp only); omega)) (fun v_3 M_4 n_6 k_7 H locs hp_5 hM hS => ?_)
          obtain ⟨rfl, S6, L6, vr6, hrS, hK, hC6, hLL, hvv, hnn, hc6, hs6, hl6, hP6, hB6, hz6⟩ := hp_5
          subst hrS
          obtain ⟨kd6, hgo, heq6⟩ := tRows_good (tU_good n) hG hw1 hw2 (hC.1.1.le r1) (hC.1.1.le r2) hr8
          obtain ⟨sm16, bq16, rn16, hc16⟩ := hK.B hc1
          obtain ⟨sm26, bq26, rn26, hc26⟩ := hK.B hc2
          have hf1 : tp Z M L vr S.1 (.pow r1 iv1.toNat) false b1 := by simp only [tp]; exact ⟨iv1, w1, none, bq1, rn1, hL1, rfl, hc1, htw1⟩
          have hf61 := tp.mono hK hLL hvv hnn _ _ _ hf1
          have hf2 : tp Z M L vr S.1 (.pow r2 iv1.toNat) false b2 := by simp only [tp]; exact ⟨iv1, w2, none, bq2, rn2, hL2, rfl, hc2, htw2⟩
          have hf62 := tp.mono hK hLL hvv hnn _ _ _ hf2
          have hqr : uap S6.2.1 r1 = uap S6.2.1 r2 := by rw [← hgo.2.2 r1, ← hgo.2.2 r2]; exact heq6
          have hqq : uap S6.2.1 (.pow r1 iv1.toNat) = uap S6.2.1 (.pow r2 iv1.toNat) := by simp only [uap]; rw [hqr]
          have hx6 : uap S6.2.1 x = uap S6.2.1 (.pow r1 iv1.toNat) := by rw [← hgo.2.2 x, eT1]; simp only [uap]; rw [hgo.2.2 r1]
          have hlt : ∀ s, SizeOf.sizeOf (uap s (uap S6.2.1 r1)) < SizeOf.sizeOf (uap s (uap S6.2.1 x)) := fun s => by
            rw [hx6]
            have e9 : SizeOf.sizeOf (uap s (uap S6.2.1 (.pow r1 iv1.toNat))) = 1 + SizeOf.sizeOf (uap s (uap S6.2.1 r1)) + SizeOf.sizeOf iv1.toNat := rfl
            omega
          have hu61 : unext M_4 b1 = none := Classical.byContradiction fun h9 => by
            rcases hz6 b1 (by rw [hc1]; simp) (unext_cb hc1) h9 with h5 | ⟨t, ht, hs⟩
            · exact h5.notB hc1
            · have h8 := Nat.lt_of_le_of_lt (hs .var) (hlt .var)
              rw [(tp.uniq hC6.1.2.2.1 _ _ _ _ _ ht hf61).1, hx6] at h8
              exact Nat.lt_irrefl _ h8
          have hu62 : unext M_4 b2 = none := Classical.byContradiction fun h9 => by
            rcases hz6 b2 (by rw [hc2]; simp) (unext_cb hc2) h9 with h5 | ⟨t, ht, hs⟩
            · exact h5.notB hc2
            · have h8 := Nat.lt_of_le_of_lt (hs .var) (hlt .var)
              rw [(tp.uniq hC6.1.2.2.1 _ _ _ _ _ ht hf62).1, hx6, hqq] at h8
              exact Nat.lt_irrefl _ h8
          rw [unext_cb hc16] at hu61
          subst hu61
          refine lv_aload hx hb dX1_unite_174 (lv_at hl 1 rfl) ?_
          refine lv_aload hx hb dX1_unite_176 (lv_at hl 0 rfl) ?_
          refine mm_putN (D := Z.1) (ci := 6) (v := .ref b2) (ty := .object "RowenTongue$Type") (C := RX8) (T := TX8) (N := 5) hx hb hts in_X8 tyX8 tyX8_ok nmX8 hown hE.1 hM hS hc16 mm_cX8 2 (by decide) (va_Nw.use rfl (hE.2.1 _ q629 rfl)) (fun _ h9 => h9) rfl (by decide +kernel) rfl rfl (Nat.le_of_ble_eq_true rfl) dX1_unite_178 (fun H locs hM hS => ?_)
          have hM : mm_P Z.1 mm_cl A (mm_U M_4 b1 (.inr (6, [.int (mm_b iv1), .ref w1, .ref b2, va_rf bq16, va_rf rn16]))) H := hM
          have hc_8 : (mm_U M_4 b1 (.inr (6, [.int (mm_b iv1), .ref w1, .ref b2, va_rf bq16, va_rf rn16]))) b1 = some (.inr (6, [.int (mm_b iv1), .ref w1, .ref b2, va_rf bq16, va_rf rn16])) := mm_U_eq
          have hc_9 : (mm_U M_4 b1 (.inr (6, [.int (mm_b iv1), .ref w1, .ref b2, va_rf bq16, va_rf rn16]))) b2 = some (.inr (6, [.int (mm_b iv1), .ref w2, va_rf sm26, va_rf bq26, va_rf rn26])) := (mm_U_ne (Ne.symm hbb)).trans hc26
          obtain ⟨M_10, eM_10⟩ : ∃ z, z = mm_U M_4 b1 (.inr (6, [.int (mm_b iv1), .ref w1, .ref b2, va_rf bq16, va_rf rn16])) := ⟨_, rfl⟩
          rw [← eM_10] at hM hc_8 hc_9
          have hK7 : uK M_4 M_10 := by rw [eM_10]; exact uK.putB (sm' := some b2) (rn' := rn16) hc16
          obtain ⟨hC7, hP7⟩ := hC6.fwd0 hK7 (a := b1) (o := b2) (fun q9 h9 => by rw [eM_10]; exact mm_U_ne h9) (hLL _ hL1) (unext_cb hc16) (unext_cb (w := some w1) (sm := some b2) (bq := bq16) (rn := rn16) hc_8) hu62 (Ne.symm hbb) hf61 hf62 (fun h9 => h9.notB hc16) hqq
          refine lv_goto (tgt := 193) hx hb dX1_unite_181 (by decide) ?_
          refine mm_retvD hx hb hr hlk hM hS ⟨rfl, S6, L6, vr6, rfl, hK.trans hK7, hC7, hLL, hvv, hnn, by (try dsimp only); omega, by (try dsimp only); omega, by omega, by omega, (hB6.trans hK7 (uNw.rf _ _)), fun z h7 h8 h9 => ?_⟩ dX1_unite_193 (by (try dsimp only); omega) (by (try dsimp only); omega)
          by_cases h6 : z = b1
          · subst h6; exact Or.inr ⟨_, tp.mono hK7 (fun _ h => h) (fun _ _ => rfl) (Nat.le_refl _) _ _ _ hf61, fun s => by rw [hx6]; exact Nat.le_refl _⟩
          · have h5 : unext M_10 z = unext M_4 z := by unfold unext; rw [eM_10, mm_U_ne h6]
            rcases hz6 z h7 h8 (by rw [← h5]; exact h9) with h4 | ⟨t, ht, hs⟩
            · exact Or.inl h4
            · exact Or.inr ⟨t, tp.mono hK7 (fun _ h => h) (fun _ _ => rfl) (Nat.le_refl _) _ _ _ ht, fun s => Nat.le_of_lt (Nat.lt_of_le_of_lt (hs s) (hlt s))⟩
/-- unite, at any fuel -/
theorem d_X1_unite (l : Launch) (Z : mm_G) (htr : l.stackTraces = false) : ∀ n : Nat, uUn l Z n
  | 0 => fun M L vr S kd x y ax ay r Hh Lm d D b _ _ _ _ _ _ _ h => by cases h
  | n + 1 => fun M L vr S kd x y ax ay r Hh Lm d D b h0 hC hG h1 h2 hw1 hw2 hr hB hH hL hD hd => d_X1_unite_s l Z htr (d_X1_unite l Z htr n) h0 hC hG h1 h2 hw1 hw2 hr hB hH hL hD hd
