/-! ===== the model's areSame ===== -/
set_option maxRecDepth 100000
set_option maxHeartbeats 4000000 in
set_option maxRecDepth 100000 in
theorem c_X2_areSame (l : Launch) (Z : mm_G) (T : List pt_R) {kd wh f1 f2 f3 wg pl : Nat} {tm ea sp th ak wr : Int32} {rt : Option Nat} {st : Int64} (mo : Nat) (N : Nat) : ∀ (v1 v2 : ev) (n0 : Nat) (res : Option (Bool × Nat)) (M : mm_M) (a b : Nat), SizeOf.sizeOf v1 < N → M mo = some (md_E tm kd wh f1 f2 f3 wg ea sp rt th ak wr pl (nI n0) false st) → n0 ≤ 1000 → mr Z M T v1 0 (fun _ => none) (some a) → mr Z M T v2 0 (fun _ => none) (some b) → pe_same v1 false v2 n0 = some res →
    mm_C l Z yX2_areSame (ws_ yX2_areSame cX2_areSame 5 (some .boolean)) { frames := 1001 - n0 + 5, cells := 0, slots := 0, locals := 40 * (1001 - n0) + 200 } [.ref mo, .ref a, .ref b] M (fun v M' => (∃ (bb : Bool) (n1 : Nat), res = some (bb, n1) ∧ v = some (.int (mm_b bb)) ∧ M' mo = some (md_E tm kd wh f1 f2 f3 wg ea sp rt th ak wr pl (nI n1) false st) ∧ mm_Exp mo M M') ∨ (res = none ∧ v = some (.int 0) ∧ M' mo = some (md_E tm kd wh f1 f2 f3 wg ea sp rt th ak wr pl (nI 1000) true st) ∧ mm_Exp mo M M')) mm_nx := by
  induction N with
  | zero => intro v1 v2 n0 res M a b hsz; omega
  | succ N ihN =>
  intro v1 v2 n0 res M a b hsz hmo hn0 hv1 hv2 hres
  refine mm_ofW (cc := cX2_areSame) (maxL := 5) (ret := (some .boolean)) (by decide) rfl (Nat.le_of_ble_eq_true rfl) ?_
  intro p e s m below meth c A ls hx hb hr hlk hml hown hmn hts htab hE hST hA hM hS hl
  replace hl : lv_has ls 5 [(0, .ref mo), (1, .ref a), (2, .ref b)] := hl
  refine lv_aload_n hx hb dX2_areSame_0 rfl (lv_at hl 0 rfl) ?_
  refine va_get (D := Z.1) (ci := 1) (v := .int (nI n0)) (C := RX2) (T := TX2) (N := 17) hx hb hts in_X2 hown hE.1 (hM.at hmo) 0 rfl mm_cX2 14 (by decide) (hts _ q2392) (fun _ h9 => h9) rfl dX2_areSame_1 ?_
  refine lv_sipush (v := 1000) hx hb dX2_areSame_4 (by decide) ?_
  by_cases hne : n0 = 1000
  · skip
    subst hne
    obtain rfl : res = none := Option.some.inj (hres.symm.trans (pe_same_1000 _ _))
    refine lv_icmp_ne (tgt := 17) hx hb dX2_areSame_7 (by decide) (fun h9 => absurd (by decide : nI 1000 = (1000 : Int32)) h9) (fun _ => ?_)
    refine lv_aload_n hx hb dX2_areSame_10 rfl (lv_at hl 0 rfl) ?_
    refine lv_iconst (v := 1) hx hb dX2_areSame_11 (by decide) ?_
    rw [show (1 : Int32) = mm_b true from rfl]
    refine mm_put (D := Z.1) (ci := 1) (v := .int (mm_b true)) (ty := .boolean) (C := RX2) (T := TX2) (N := 17) hx hb hts in_X2 tyX2 tyX2_ok nmX2 hown hE.1 hM hS hmo mm_cX2 15 (by decide) (hts _ q2393) (fun _ h9 => h9) rfl (by decide +kernel) (mm_b_nar _) (mm_b_fit _) (Nat.le_of_ble_eq_true rfl) dX2_areSame_12 (fun H locs hM hS => ?_)
    have hM : mm_P Z.1 mm_cl A (mm_U M mo (.inr (1, [.int tm, .ref kd, .ref wh, .ref f1, .ref f2, .ref f3, .ref wg, .int ea, .int sp, va_rf rt, .int th, .int ak, .int wr, .ref pl, .int (nI 1000), .int (mm_b true), .long st]))) H := hM
    have hc_1 : (mm_U M mo (.inr (1, [.int tm, .ref kd, .ref wh, .ref f1, .ref f2, .ref f3, .ref wg, .int ea, .int sp, va_rf rt, .int th, .int ak, .int wr, .ref pl, .int (nI 1000), .int (mm_b true), .long st]))) mo = some (.inr (1, [.int tm, .ref kd, .ref wh, .ref f1, .ref f2, .ref f3, .ref wg, .int ea, .int sp, va_rf rt, .int th, .int ak, .int wr, .ref pl, .int (nI 1000), .int (mm_b true), .long st])) := mm_U_eq
    obtain ⟨M_2, eM_2⟩ : ∃ z, z = mm_U M mo (.inr (1, [.int tm, .ref kd, .ref wh, .ref f1, .ref f2, .ref f3, .ref wg, .int ea, .int sp, va_rf rt, .int th, .int ak, .int wr, .ref pl, .int (nI 1000), .int (mm_b true), .long st])) := ⟨_, rfl⟩
    rw [← eM_2] at hM hc_1
    refine lv_iconst (v := 0) hx hb dX2_areSame_15 (by decide) ?_
    exact mm_retz hx hb hr rfl hlk hM hS (Or.inr ⟨rfl, rfl, hc_1, by rw [eM_2]; exact mm_Exp.self⟩) dX2_areSame_16 (by (try dsimp only); omega) (by (try dsimp only); omega)
  · skip
    refine lv_icmp_ne (tgt := 17) hx hb dX2_areSame_7 (by decide) (fun _ => ?_) (fun h9 => absurd h9 (fun h9 => hne ((nI_eq (a := n0) (b := 1000) (by omega) (by omega)).1 h9)))
    refine lv_aload_n hx hb dX2_areSame_17 rfl (lv_at hl 0 rfl) ?_
    refine lv_dup hx hb dX2_areSame_18 rfl ?_
    refine va_get (D := Z.1) (ci := 1) (v := .int (nI n0)) (C := RX2) (T := TX2) (N := 17) hx hb hts in_X2 hown hE.1 (hM.at hmo) 0 rfl mm_cX2 14 (by decide) (hts _ q2392) (fun _ h9 => h9) rfl dX2_areSame_19 ?_
    refine lv_iconst (v := 1) hx hb dX2_areSame_22 (by decide) ?_
    refine lv_iadd hx hb dX2_areSame_23 ?_
    rw [show ((nI n0) + 1 : Int32) = nI (n0 + 1) from nI_1 _]
    refine mm_put (D := Z.1) (ci := 1) (v := .int (nI (n0 + 1))) (ty := .int) (C := RX2) (T := TX2) (N := 17) hx hb hts in_X2 tyX2 tyX2_ok nmX2 hown hE.1 hM hS hmo mm_cX2 14 (by decide) (hts _ q2392) (fun _ h9 => h9) rfl (by decide +kernel) rfl rfl (Nat.le_of_ble_eq_true rfl) dX2_areSame_24 (fun H locs hM hS => ?_)
    have hM : mm_P Z.1 mm_cl A (mm_U M mo (.inr (1, [.int tm, .ref kd, .ref wh, .ref f1, .ref f2, .ref f3, .ref wg, .int ea, .int sp, va_rf rt, .int th, .int ak, .int wr, .ref pl, .int (nI (n0 + 1)), .int (mm_b false), .long st]))) H := hM
    have hc_1 : (mm_U M mo (.inr (1, [.int tm, .ref kd, .ref wh, .ref f1, .ref f2, .ref f3, .ref wg, .int ea, .int sp, va_rf rt, .int th, .int ak, .int wr, .ref pl, .int (nI (n0 + 1)), .int (mm_b false), .long st]))) mo = some (.inr (1, [.int tm, .ref kd, .ref wh, .ref f1, .ref f2, .ref f3, .ref wg, .int ea, .int sp, va_rf rt, .int th, .int ak, .int wr, .ref pl, .int (nI (n0 + 1)), .int (mm_b false), .long st])) := mm_U_eq
    obtain ⟨M_2, eM_2⟩ : ∃ z, z = mm_U M mo (.inr (1, [.int tm, .ref kd, .ref wh, .ref f1, .ref f2, .ref f3, .ref wg, .int ea, .int sp, va_rf rt, .int th, .int ak, .int wr, .ref pl, .int (nI (n0 + 1)), .int (mm_b false), .long st])) := ⟨_, rfl⟩
    rw [← eM_2] at hM hc_1
    have hx1 : mm_Exp mo M M_2 := by rw [eM_2]; exact mm_Exp.self
    have hk1 := hx1.Km hmo
    replace hv1 := mr.mono hk1 _ _ _ _ hv1
    replace hv2 := mr.mono hk1 _ _ _ _ hv2
    cases v1 with
    | natCast i1 =>
      cases v2 with
      | natCast i2 =>
        simp only [pe_same, if_neg hne, Option.some.injEq] at hres
        subst hres
        simp only [mr] at hv1 hv2
        obtain ⟨a1, e1, ha⟩ := hv1
        cases e1
        obtain ⟨b1, e2, hbb⟩ := hv2
        cases e2
        refine lv_aload_n hx hb dX2_areSame_27 rfl (lv_at hl 1 rfl) ?_
        refine va_get (D := Z.1) (ci := 32) (v := .int 1) (C := RX38) (T := TX38) (N := 5) hx hb hts in_X38 hown hE.1 (hM.at ha) 0 rfl mm_cX38 0 (by decide) (hts _ q2782) (fun _ h9 => h9) rfl dX2_areSame_28 ?_
        refine lv_iconst (v := 1) hx hb dX2_areSame_31 (by decide) ?_
        refine lv_icmp_ne (tgt := 52) hx hb dX2_areSame_32 (by decide) (fun h9 => absurd (by decide) h9) (fun _ => ?_)
        refine lv_aload_n hx hb dX2_areSame_35 rfl (lv_at hl 1 rfl) ?_
        refine va_get (D := Z.1) (ci := 32) (v := .int (nI i1)) (C := RX38) (T := TX38) (N := 5) hx hb hts in_X38 hown hE.1 (hM.at ha) 0 rfl mm_cX38 1 (by decide) (hts _ q2783) (fun _ h9 => h9) rfl dX2_areSame_36 ?_
        refine lv_aload_n hx hb dX2_areSame_39 rfl (lv_at hl 2 rfl) ?_
        refine va_get (D := Z.1) (ci := 32) (v := .int (nI i2)) (C := RX38) (T := TX38) (N := 5) hx hb hts in_X38 hown hE.1 (hM.at hbb) 0 rfl mm_cX38 1 (by decide) (hts _ q2783) (fun _ h9 => h9) rfl dX2_areSame_40 ?_
        refine lv_icmp_ne (tgt := 50) hx hb dX2_areSame_43 (by decide) (fun c_3 => ?_) (fun c_3 => ?_)
        · skip
          refine lv_iconst (v := 0) hx hb dX2_areSame_50 (by decide) ?_
          exact mm_retz hx hb hr rfl hlk hM hS (Or.inl ⟨false, n0 + 1, by rw [decide_eq_false (fun h => c_3 h.symm)], rfl, hc_1, hx1⟩) dX2_areSame_51 (by (try dsimp only); omega) (by (try dsimp only); omega)
        · skip
          refine lv_iconst (v := 1) hx hb dX2_areSame_46 (by decide) ?_
          refine lv_goto (tgt := 51) hx hb dX2_areSame_47 (by decide) ?_
          exact mm_retz hx hb hr rfl hlk hM hS (Or.inl ⟨true, n0 + 1, by rw [decide_eq_true c_3.symm], rfl, hc_1, hx1⟩) dX2_areSame_51 (by (try dsimp only); omega) (by (try dsimp only); omega)
      | _ => simp [pe_same, hne] at hres
    | pow u1 l1 =>
      cases v2 with
      | pow u2 l2 =>
        simp only [pe_same, if_neg hne] at hres
        simp only [mr] at hv1 hv2
        obtain ⟨a1, p1, e1, ha, hu1, -⟩ := hv1
        cases e1
        obtain ⟨b1, p2, e2, hbb, hu2, -⟩ := hv2
        cases e2
        refine lv_aload_n hx hb dX2_areSame_27 rfl (lv_at hl 1 rfl) ?_
        refine va_get (D := Z.1) (ci := 32) (v := .int 4) (C := RX38) (T := TX38) (N := 5) hx hb hts in_X38 hown hE.1 (hM.at ha) 0 rfl mm_cX38 0 (by decide) (hts _ q2782) (fun _ h9 => h9) rfl dX2_areSame_28 ?_
        refine lv_iconst (v := 1) hx hb dX2_areSame_31 (by decide) ?_
        refine lv_icmp_ne (tgt := 52) hx hb dX2_areSame_32 (by decide) (fun _ => ?_) (fun h9 => absurd h9 (by decide))
        refine lv_aload_n hx hb dX2_areSame_52 rfl (lv_at hl 1 rfl) ?_
        refine va_get (D := Z.1) (ci := 32) (v := .int 4) (C := RX38) (T := TX38) (N := 5) hx hb hts in_X38 hown hE.1 (hM.at ha) 0 rfl mm_cX38 0 (by decide) (hts _ q2782) (fun _ h9 => h9) rfl dX2_areSame_53 ?_
        refine lv_iconst (v := 4) hx hb dX2_areSame_56 (by decide) ?_
        refine lv_icmp_ne (tgt := 92) hx hb dX2_areSame_57 (by decide) (fun h9 => absurd (by decide) h9) (fun _ => ?_)
        refine lv_aload_n hx hb dX2_areSame_60 rfl (lv_at hl 1 rfl) ?_
        refine va_get (D := Z.1) (ci := 32) (v := .int (nI l1)) (C := RX38) (T := TX38) (N := 5) hx hb hts in_X38 hown hE.1 (hM.at ha) 0 rfl mm_cX38 1 (by decide) (hts _ q2783) (fun _ h9 => h9) rfl dX2_areSame_61 ?_
        refine lv_aload_n hx hb dX2_areSame_64 rfl (lv_at hl 2 rfl) ?_
        refine va_get (D := Z.1) (ci := 32) (v := .int (nI l2)) (C := RX38) (T := TX38) (N := 5) hx hb hts in_X38 hown hE.1 (hM.at hbb) 0 rfl mm_cX38 1 (by decide) (hts _ q2783) (fun _ h9 => h9) rfl dX2_areSame_65 ?_
        refine lv_icmp_ne (tgt := 90) hx hb dX2_areSame_68 (by decide) (fun c_3 => ?_) (fun c_3 => ?_)
        · skip
          rw [if_neg (fun h => c_3 h.symm)] at hres
          cases hres
          refine lv_iconst (v := 0) hx hb dX2_areSame_90 (by decide) ?_
          exact mm_retz hx hb hr rfl hlk hM hS (Or.inl ⟨false, n0 + 1, rfl, rfl, hc_1, hx1⟩) dX2_areSame_91 (by (try dsimp only); omega) (by (try dsimp only); omega)
        · skip
          rw [if_pos c_3.symm] at hres
          refine lv_aload_n hx hb dX2_areSame_71 rfl (lv_at hl 0 rfl) ?_
          refine lv_aload_n hx hb dX2_areSame_72 rfl (lv_at hl 1 rfl) ?_
          refine va_get (D := Z.1) (ci := 32) (v := .ref p1) (C := RX38) (T := TX38) (N := 5) hx hb hts in_X38 hown hE.1 (hM.at ha) 0 rfl mm_cX38 3 (by decide) (hts _ q2785) (fun _ h9 => h9) rfl dX2_areSame_73 ?_
          refine lv_aload_n hx hb dX2_areSame_76 rfl (lv_at hl 2 rfl) ?_
          refine va_get (D := Z.1) (ci := 32) (v := .ref p2) (C := RX38) (T := TX38) (N := 5) hx hb hts in_X38 hown hE.1 (hM.at hbb) 0 rfl mm_cX38 3 (by decide) (hts _ q2785) (fun _ h9 => h9) rfl dX2_areSame_77 ?_
          refine mm_callV (As := [.ref p1, .ref p2]) (rest := []) ⟨hx, hb, hml, hown, hts⟩ hE hST hA (ihN u1 u2 (n0 + 1) res M_2 p1 p2 (by simp at hsz; omega) hc_1 (by omega) hu1 hu2 hres) (cwV 2 hts (lw_V q2825 q2827 qs48 q54 q2828) rfl rfl rfl (by decide +kernel) ⟨(by (try dsimp only); omega), (by (try dsimp only); omega)⟩) hM hS mm_cX2 hc_1 rfl hl.1 (Nat.le_of_ble_eq_true rfl) dX2_areSame_80 rfl ⟨(by (try dsimp only); omega), (by (try dsimp only); omega)⟩ (fun _ _ _ _ _ _ h9 => h9.elim) (fun v_4 M_5 H locs hp_6 hM hS => ?_)
          rcases hp_6 with ⟨bb, n1, rfl, rfl, hmo2, hx2⟩ | ⟨rfl, rfl, hmo2, hx2⟩
          · skip
            cases bb
            · skip
              refine lv_if_eq (tgt := 90) hx hb dX2_areSame_83 (by decide) (fun _ => ?_) (fun h9 => absurd (by decide) h9)
              refine lv_iconst (v := 0) hx hb dX2_areSame_90 (by decide) ?_
              exact mm_retz hx hb hr rfl hlk hM hS (Or.inl ⟨false, n1, rfl, rfl, hmo2, hx1.trans hx2⟩) dX2_areSame_91 (by (try dsimp only); omega) (by (try dsimp only); omega)
            · skip
              refine lv_if_eq (tgt := 90) hx hb dX2_areSame_83 (by decide) (fun h9 => absurd h9 (by decide)) (fun _ => ?_)
              refine lv_iconst (v := 1) hx hb dX2_areSame_86 (by decide) ?_
              refine lv_goto (tgt := 91) hx hb dX2_areSame_87 (by decide) ?_
              exact mm_retz hx hb hr rfl hlk hM hS (Or.inl ⟨true, n1, rfl, rfl, hmo2, hx1.trans hx2⟩) dX2_areSame_91 (by (try dsimp only); omega) (by (try dsimp only); omega)
          · skip
            refine lv_if_eq (tgt := 90) hx hb dX2_areSame_83 (by decide) (fun _ => ?_) (fun h9 => absurd (by decide) h9)
            refine lv_iconst (v := 0) hx hb dX2_areSame_90 (by decide) ?_
            exact mm_retz hx hb hr rfl hlk hM hS (Or.inr ⟨rfl, rfl, hmo2, hx1.trans hx2⟩) dX2_areSame_91 (by (try dsimp only); omega) (by (try dsimp only); omega)
      | _ => simp [pe_same, hne] at hres
    | add x1 r1 =>
      cases v2 with
      | add x2 r2 =>
        obtain ⟨a1, qa, f, e1, ha, hqa, hra⟩ := mr_rec.1 hv1
        cases e1
        obtain ⟨b1, qb, g, e2, hbb, hqb, hrb⟩ := mr_rec.1 hv2
        cases e2
        have hseq : pe_same (.add x1 r1) true (.add x2 r2) (n0 + 1) = some res := by simp only [pe_same] at hres ⊢; rw [if_neg hne] at hres; exact hres
        refine lv_aload_n hx hb dX2_areSame_27 rfl (lv_at hl 1 rfl) ?_
        refine va_get (D := Z.1) (ci := 32) (v := .int 3) (C := RX38) (T := TX38) (N := 5) hx hb hts in_X38 hown hE.1 (hM.at ha) 0 rfl mm_cX38 0 (by decide) (hts _ q2782) (fun _ h9 => h9) rfl dX2_areSame_28 ?_
        refine lv_iconst (v := 1) hx hb dX2_areSame_31 (by decide) ?_
        refine lv_icmp_ne (tgt := 52) hx hb dX2_areSame_32 (by decide) (fun _ => ?_) (fun h9 => absurd h9 (by decide))
        refine lv_aload_n hx hb dX2_areSame_52 rfl (lv_at hl 1 rfl) ?_
        refine va_get (D := Z.1) (ci := 32) (v := .int 3) (C := RX38) (T := TX38) (N := 5) hx hb hts in_X38 hown hE.1 (hM.at ha) 0 rfl mm_cX38 0 (by decide) (hts _ q2782) (fun _ h9 => h9) rfl dX2_areSame_53 ?_
        refine lv_iconst (v := 4) hx hb dX2_areSame_56 (by decide) ?_
        refine lv_icmp_ne (tgt := 92) hx hb dX2_areSame_57 (by decide) (fun _ => ?_) (fun h9 => absurd h9 (by decide))
        refine lv_iconst (v := 1) hx hb dX2_areSame_92 (by decide) ?_
        refine lv_istore_n hx hb dX2_areSame_93 rfl hl (by decide) rfl (fun ls hl => ?_)
        replace hl : lv_has ls 5 [(3, .int 1), (0, .ref mo), (1, .ref a), (2, .ref b)] := hl
        refine lv_iconst (v := 0) hx hb dX2_areSame_94 (by decide) ?_
        refine lv_istore hx hb dX2_areSame_95 hl (by decide) rfl (fun ls hl => ?_)
        replace hl : lv_has ls 5 [(4, .int 0), (3, .int 1), (0, .ref mo), (1, .ref a), (2, .ref b)] := hl
        refine mm_loopW (fun k M' ls cells slots => ∃ (i n : Nat) (is fa : Bool) (r s' : ev), k = 11 - i ∧ lv_has ls 5 [(4, .int (nI i)), (3, .int (mm_b is)), (0, .ref mo), (1, .ref a), (2, .ref b)] ∧ M' mo = some (md_E tm kd wh f1 f2 f3 wg ea sp rt th ak wr pl (nI n) fa st) ∧ mm_Exp mo M_2 M' ∧ n0 < n ∧ n ≤ 1000 ∧ i ≤ 10 ∧ (is = true → fa = false ∧ mr Z M_2 T r (i + 2) f none ∧ mr Z M_2 T s' (i + 2) g none ∧ pe_same r true s' n = some res ∧ SizeOf.sizeOf r < N + 1) ∧ (is = false → (fa = false ∧ res = some (false, n)) ∨ (fa = true ∧ res = none ∧ n = 1000)) ∧ cells ≤ 0 ∧ slots ≤ 0) (fun k M3 ls H locs cells slots ih hI hM hS => ?_) ⟨0, n0 + 1, true, false, _, _, rfl, lv_sub hl [0, 1, 2, 3, 4] rfl, hc_1, mm_Exp.rf mo _, by omega, by omega, by omega, fun _ => ⟨rfl, hra, hrb, hseq, by omega⟩, fun h9 => (by cases h9), by (try dsimp only); omega, by (try dsimp only); omega⟩ hM hS
        obtain ⟨i, n, is, fa, r, s', rfl, hl, hmo3, hx3, hn1, hn2, hi10, hbt, hbf, hc3, hs3⟩ := hI
        have hx4 := hx1.trans hx3
        have hk3 := hx3.Km hc_1
        have ha3 := hk3.1 _ _ _ ha (by decide)
        have hb3 := hk3.1 _ _ _ hbb (by decide)
        have hqa3 := hk3.2 _ _ hqa
        have hqb3 := hk3.2 _ _ hqb
        cases is
        · skip
          refine lv_iload hx hb dX2_areSame_97 (lv_at hl 0 rfl) ?_
          refine lv_bipush (v := 10) hx hb dX2_areSame_99 (by decide) ?_
          refine lv_icmp_ge (tgt := 151) hx hb dX2_areSame_101 (by decide) (fun c_3 => ?_) (fun c_3 => ?_)
          · skip
            refine lv_iload_n hx hb dX2_areSame_151 rfl (lv_at hl 1 rfl) ?_
            rcases hbf rfl with ⟨rfl, h8⟩ | ⟨rfl, h8, rfl⟩
            · skip
              exact mm_retz hx hb hr (mm_b_nar _) hlk hM hS (Or.inl ⟨false, n, h8, rfl, hmo3, hx4⟩) dX2_areSame_152 (by (try dsimp only); omega) (by (try dsimp only); omega)
            · skip
              exact mm_retz hx hb hr (mm_b_nar _) hlk hM hS (Or.inr ⟨h8, rfl, hmo3, hx4⟩) dX2_areSame_152 (by (try dsimp only); omega) (by (try dsimp only); omega)
          · skip
            refine lv_iload_n hx hb dX2_areSame_104 rfl (lv_at hl 1 rfl) ?_
            refine lv_if_eq (tgt := 151) hx hb dX2_areSame_105 (by decide) (fun _ => ?_) (fun h9 => absurd (by decide) h9)
            refine lv_iload_n hx hb dX2_areSame_151 rfl (lv_at hl 1 rfl) ?_
            rcases hbf rfl with ⟨rfl, h8⟩ | ⟨rfl, h8, rfl⟩
            · skip
              exact mm_retz hx hb hr (mm_b_nar _) hlk hM hS (Or.inl ⟨false, n, h8, rfl, hmo3, hx4⟩) dX2_areSame_152 (by (try dsimp only); omega) (by (try dsimp only); omega)
            · skip
              exact mm_retz hx hb hr (mm_b_nar _) hlk hM hS (Or.inr ⟨h8, rfl, hmo3, hx4⟩) dX2_areSame_152 (by (try dsimp only); omega) (by (try dsimp only); omega)
        · skip
          obtain ⟨rfl, hr3, hs9, hp3, hz3⟩ := hbt rfl
          refine lv_iload hx hb dX2_areSame_97 (lv_at hl 0 rfl) ?_
          refine lv_bipush (v := 10) hx hb dX2_areSame_99 (by decide) ?_
          refine lv_icmp_ge (tgt := 151) hx hb dX2_areSame_101 (by decide) (fun c_3 => ?_) (fun c_3 => ?_)
          · skip
            obtain rfl : i = 10 := by have := (nI_leI (a := 10) (b := i) (by omega) (by omega)).1 c_3; omega
            obtain rfl : res = some (true, n) := by
              cases r with
              | add x r' => exact absurd ((mr_key _ _ hr3).2.1 _ _ rfl) (by omega)
              | var k9 => cases s' <;> first | exact (Option.some.inj hp3).symm | (simp [pe_same] at hp3; done)
              | _ => simp [mr] at hr3
            refine lv_iload_n hx hb dX2_areSame_151 rfl (lv_at hl 1 rfl) ?_
            exact mm_retz hx hb hr (mm_b_nar _) hlk hM hS (Or.inl ⟨true, n, rfl, rfl, hmo3, hx4⟩) dX2_areSame_152 (by (try dsimp only); omega) (by (try dsimp only); omega)
          · skip
            have hi : i < 10 := (nI_ltI (b := 10) (by omega) (by omega)).1 (Int32.not_le.1 c_3)
            obtain ⟨x, r', rfl⟩ := (mr_key _ _ hr3).2.2 hi
            obtain ⟨y, s2, rfl⟩ := (mr_key _ _ hs9).2.2 hi
            obtain ⟨hx9, hr4⟩ := mr_add.1 hr3
            obtain ⟨hy9, hs4⟩ := mr_add.1 hs9
            simp only [pe_same] at hp3
            have hsz3 : SizeOf.sizeOf x < N ∧ SizeOf.sizeOf r' < N + 1 := by simp at hz3; omega
            refine lv_iload_n hx hb dX2_areSame_104 rfl (lv_at hl 1 rfl) ?_
            refine lv_if_eq (tgt := 151) hx hb dX2_areSame_105 (by decide) (fun h9 => absurd h9 (by decide)) (fun _ => ?_)
            refine lv_aload_n hx hb dX2_areSame_108 rfl (lv_at hl 3 rfl) ?_
            refine va_get (D := Z.1) (ci := 32) (v := .ref qa) (C := RX38) (T := TX38) (N := 5) hx hb hts in_X38 hown hE.1 (hM.at ha3) 0 rfl mm_cX38 2 (by decide) (hts _ q2784) (fun _ h9 => h9) rfl dX2_areSame_109 ?_
            refine lv_iload hx hb dX2_areSame_112 (lv_at hl 0 rfl) ?_
            refine mm_aald (k := i) hx hb hE hM 9 hqa3 rfl rfl hi (by decide) dX2_areSame_114 ?_
            rcases hx9 with ⟨hxa, hfx⟩ | ⟨hxa, hmx⟩
            · skip
              rw [hfx]
              rw [if_pos hxa] at hp3
              refine lv_ifnullN (tgt := 139) hx hb dX2_areSame_115 (by decide) ?_
              refine lv_iconst (v := 1) hx hb dX2_areSame_139 (by decide) ?_
              refine lv_goto (tgt := 144) hx hb dX2_areSame_140 (by decide) ?_
              refine lv_istore_n hx hb dX2_areSame_144 rfl hl (by decide) rfl (fun ls hl => ?_)
              replace hl : lv_has ls 5 [(3, .int 1), (4, .int (nI i)), (0, .ref mo), (1, .ref a), (2, .ref b)] := hl
              obtain ⟨x_4, ex_4⟩ : ∃ z : Int32, z = (nI i) + 1 := ⟨_, rfl⟩
              refine lv_iinc (v := x_4) (lv' := [(4, .int x_4), (3, .int 1), (0, .ref mo), (1, .ref a), (2, .ref b)]) hx hb dX2_areSame_145 hl (k := 1) rfl (by rw [ex_4]; rfl) (by decide) rfl (fun ls hl => ?_)
              rw [show x_4 = nI (i + 1) from by rw [ex_4]; exact nI_1 i] at hl
              refine lv_goto (tgt := 97) hx hb dX2_areSame_148 (by decide) ?_
              refine ih (11 - (i + 1)) (by omega) _ _ _ _ _ _ ⟨i + 1, n, true, false, r', s2, rfl, lv_sub hl [0, 1, 2, 3, 4] rfl, hmo3, hx3, by omega, by omega, hi, fun _ => ⟨rfl, hr4, hs4, hp3, hsz3.2⟩, fun h9 => (by cases h9), (by (try dsimp only); omega), (by (try dsimp only); omega)⟩ hM hS
            · skip
              obtain ⟨xa, hfx, -⟩ := hmx.isW
              rw [hfx]
              rw [hfx] at hmx
              refine lv_ifnull hx hb dX2_areSame_115 ?_
              rw [if_neg (by rw [hxa]; decide)] at hp3
              have hyn : ¬ ev_abs y = true := fun h9 => by rw [if_pos h9] at hp3; cases hp3
              rw [if_neg hyn] at hp3
              obtain hmy : mr Z M_2 T y 0 (fun _ => none) (g i) := by rcases hy9 with ⟨h9, -⟩ | ⟨-, h9⟩; exact absurd h9 hyn; exact h9
              obtain ⟨ya, hgy, -⟩ := hmy.isW
              rw [hgy] at hmy
              obtain ⟨res', hr1⟩ : ∃ res', pe_same x false y n = some res' := by cases h9 : pe_same x false y n with
                | none => rw [h9] at hp3; cases hp3
                | some z => exact ⟨z, rfl⟩
              rw [hr1] at hp3
              refine lv_aload_n hx hb dX2_areSame_118 rfl (lv_at hl 2 rfl) ?_
              refine lv_aload_n hx hb dX2_areSame_119 rfl (lv_at hl 3 rfl) ?_
              refine va_get (D := Z.1) (ci := 32) (v := .ref qa) (C := RX38) (T := TX38) (N := 5) hx hb hts in_X38 hown hE.1 (hM.at ha3) 0 rfl mm_cX38 2 (by decide) (hts _ q2784) (fun _ h9 => h9) rfl dX2_areSame_120 ?_
              refine lv_iload hx hb dX2_areSame_123 (lv_at hl 0 rfl) ?_
              refine mm_aald (k := i) hx hb hE hM 9 hqa3 rfl rfl hi (by decide) dX2_areSame_125 ?_
              rw [hfx]
              refine lv_aload_n hx hb dX2_areSame_126 rfl (lv_at hl 4 rfl) ?_
              refine va_get (D := Z.1) (ci := 32) (v := .ref qb) (C := RX38) (T := TX38) (N := 5) hx hb hts in_X38 hown hE.1 (hM.at hb3) 0 rfl mm_cX38 2 (by decide) (hts _ q2784) (fun _ h9 => h9) rfl dX2_areSame_127 ?_
              refine lv_iload hx hb dX2_areSame_130 (lv_at hl 0 rfl) ?_
              refine mm_aald (k := i) hx hb hE hM 9 hqb3 rfl rfl hi (by decide) dX2_areSame_132 ?_
              rw [hgy]
              refine mm_callV (As := [.ref xa, .ref ya]) (rest := []) ⟨hx, hb, hml, hown, hts⟩ hE hST hA (ihN x y n res' M3 xa ya hsz3.1 hmo3 hn2 (mr.mono hk3 _ _ _ _ hmx) (mr.mono hk3 _ _ _ _ hmy) hr1) (cwV 2 hts (lw_V q2825 q2827 qs48 q54 q2828) rfl rfl rfl (by decide +kernel) ⟨(by (try dsimp only); omega), (by (try dsimp only); omega)⟩) hM hS mm_cX2 hmo3 rfl hl.1 (Nat.le_of_ble_eq_true rfl) dX2_areSame_133 rfl ⟨(by (try dsimp only); omega), (by (try dsimp only); omega)⟩ (fun _ _ _ _ _ _ h9 => h9.elim) (fun v_4 M_5 H locs hp_6 hM hS => ?_)
              rcases hp_6 with ⟨bb, n9, rfl, rfl, hmo5, hx5⟩ | ⟨rfl, rfl, hmo5, hx5⟩
              · skip
                have hm9 := pe_same_mono x false y n bb n9 hn2 hr1
                cases bb
                · skip
                  refine lv_if_eq (tgt := 143) hx hb dX2_areSame_136 (by decide) (fun _ => ?_) (fun h9 => absurd (by decide) h9)
                  refine lv_iconst (v := 0) hx hb dX2_areSame_143 (by decide) ?_
                  refine lv_istore_n hx hb dX2_areSame_144 rfl hl (by decide) rfl (fun ls hl => ?_)
                  replace hl : lv_has ls 5 [(3, .int 0), (4, .int (nI i)), (0, .ref mo), (1, .ref a), (2, .ref b)] := hl
                  obtain ⟨x_7, ex_7⟩ : ∃ z : Int32, z = (nI i) + 1 := ⟨_, rfl⟩
                  refine lv_iinc (v := x_7) (lv' := [(4, .int x_7), (3, .int 0), (0, .ref mo), (1, .ref a), (2, .ref b)]) hx hb dX2_areSame_145 hl (k := 1) rfl (by rw [ex_7]; rfl) (by decide) rfl (fun ls hl => ?_)
                  rw [show x_7 = nI (i + 1) from by rw [ex_7]; exact nI_1 i] at hl
                  refine lv_goto (tgt := 97) hx hb dX2_areSame_148 (by decide) ?_
                  refine ih (11 - (i + 1)) (by omega) _ _ _ _ _ _ ⟨i + 1, n9, false, false, r', s2, rfl, lv_sub hl [0, 1, 2, 3, 4] rfl, hmo5, (hx3.trans hx5), by omega, by omega, hi, fun h9 => (by cases h9), fun _ => Or.inl ⟨rfl, (Option.some.inj hp3).symm⟩, (by (try dsimp only); omega), (by (try dsimp only); omega)⟩ hM hS
                · skip
                  refine lv_if_eq (tgt := 143) hx hb dX2_areSame_136 (by decide) (fun h9 => absurd h9 (by decide)) (fun _ => ?_)
                  refine lv_iconst (v := 1) hx hb dX2_areSame_139 (by decide) ?_
                  refine lv_goto (tgt := 144) hx hb dX2_areSame_140 (by decide) ?_
                  refine lv_istore_n hx hb dX2_areSame_144 rfl hl (by decide) rfl (fun ls hl => ?_)
                  replace hl : lv_has ls 5 [(3, .int 1), (4, .int (nI i)), (0, .ref mo), (1, .ref a), (2, .ref b)] := hl
                  obtain ⟨x_7, ex_7⟩ : ∃ z : Int32, z = (nI i) + 1 := ⟨_, rfl⟩
                  refine lv_iinc (v := x_7) (lv' := [(4, .int x_7), (3, .int 1), (0, .ref mo), (1, .ref a), (2, .ref b)]) hx hb dX2_areSame_145 hl (k := 1) rfl (by rw [ex_7]; rfl) (by decide) rfl (fun ls hl => ?_)
                  rw [show x_7 = nI (i + 1) from by rw [ex_7]; exact nI_1 i] at hl
                  refine lv_goto (tgt := 97) hx hb dX2_areSame_148 (by decide) ?_
                  refine ih (11 - (i + 1)) (by omega) _ _ _ _ _ _ ⟨i + 1, n9, true, false, r', s2, rfl, lv_sub hl [0, 1, 2, 3, 4] rfl, hmo5, (hx3.trans hx5), by omega, by omega, hi, fun _ => ⟨rfl, hr4, hs4, hp3, hsz3.2⟩, fun h9 => (by cases h9), (by (try dsimp only); omega), (by (try dsimp only); omega)⟩ hM hS
              · skip
                refine lv_if_eq (tgt := 143) hx hb dX2_areSame_136 (by decide) (fun _ => ?_) (fun h9 => absurd (by decide) h9)
                refine lv_iconst (v := 0) hx hb dX2_areSame_143 (by decide) ?_
                refine lv_istore_n hx hb dX2_areSame_144 rfl hl (by decide) rfl (fun ls hl => ?_)
                replace hl : lv_has ls 5 [(3, .int 0), (4, .int (nI i)), (0, .ref mo), (1, .ref a), (2, .ref b)] := hl
                obtain ⟨x_7, ex_7⟩ : ∃ z : Int32, z = (nI i) + 1 := ⟨_, rfl⟩
                refine lv_iinc (v := x_7) (lv' := [(4, .int x_7), (3, .int 0), (0, .ref mo), (1, .ref a), (2, .ref b)]) hx hb dX2_areSame_145 hl (k := 1) rfl (by rw [ex_7]; rfl) (by decide) rfl (fun ls hl => ?_)
                rw [show x_7 = nI (i + 1) from by rw [ex_7]; exact nI_1 i] at hl
                refine lv_goto (tgt := 97) hx hb dX2_areSame_148 (by decide) ?_
                refine ih (11 - (i + 1)) (by omega) _ _ _ _ _ _ ⟨i + 1, 1000, false, true, r', s2, rfl, lv_sub hl [0, 1, 2, 3, 4] rfl, hmo5, (hx3.trans hx5), by omega, by omega, hi, fun h9 => (by cases h9), fun _ => Or.inr ⟨rfl, (Option.some.inj hp3).symm, rfl⟩, (by (try dsimp only); omega), (by (try dsimp only); omega)⟩ hM hS
      | _ => simp [pe_same, hne] at hres
    | _ => first | (simp [mr] at hv1; done) | (unfold pe_same at hres; simp [hne] at hres; done)
