/-! ===== the model's does ===== -/
set_option maxRecDepth 100000
section MDIV
variable {p : Program} {l : Launch} {e : Env} {R : Room} {s : State} {m : MethodId} {args : Array Value} {below : List Frame} {meth : Method} {c : Code} {H : Heap} {locs : List Loc} {cells slots : Nat} {Q : State → Prop}
variable {cc : ByteArray} {pc : Nat} {ls : Array Slot} {rest : List Value}
theorem mm_idiv (hexec : p.tables.exec = Jvm.exec) (hb : c.code = cc) {x y : Int32} (hy : y ≠ 0) (hdg : decode cc pc = .ok (.idiv, 1))
    (k : W p l e R s m args below meth c H locs cells slots Q (F0 m (pc + 1) ls (.int (x / y) :: rest))) : W p l e R s m args below meth c H locs cells slots Q (F0 m pc ls (.int y :: .int x :: rest)) := by
  intro T hT X
  obtain ⟨t, a, b⟩ := k T hT X
  refine ⟨t, ?_, b⟩
  jvm_step X.here [X.here.top, hexec, hb, hdg, hy]
  exact a
theorem mm_irem (hexec : p.tables.exec = Jvm.exec) (hb : c.code = cc) {x y : Int32} (hy : y ≠ 0) (hdg : decode cc pc = .ok (.irem, 1))
    (k : W p l e R s m args below meth c H locs cells slots Q (F0 m (pc + 1) ls (.int (x - x / y * y) :: rest))) : W p l e R s m args below meth c H locs cells slots Q (F0 m pc ls (.int y :: .int x :: rest)) := by
  intro T hT X
  obtain ⟨t, a, b⟩ := k T hT X
  refine ⟨t, ?_, b⟩
  jvm_step X.here [X.here.top, hexec, hb, hdg, hy]
  exact a
end MDIV
/-- what the makers see to: cases' labels and names, what cases are -/
def pt_ok (T : List pt_R) : Prop := ∀ (k : Nat) (r : pt_R), T[k]? = some r → (r.1 = 17 → (0 ≤ r.2.1 ∧ r.2.1 ≤ 9) ∧ 0 ≤ r.2.2.1 ∧ r.2.2.1 ≤ 9) ∧ (r.1 = 15 → r.2.2.2.1 = []) ∧ (∀ j r', (r.1 = 11 ∨ r.1 = 17) → r.2.2.2.1[1]? = some j → T[j]? = some r' → r'.1 = 15 ∨ r'.1 = 16 ∨ r'.1 = 17) ∧ (r.1 = 10 → nN r.2.1 ≤ 9)
theorem pt_i_at {ps : List Nat} {i j : Nat} (h : ps[i]? = some j) : pt_i ps i = nI j := by simp [pt_i, h]
theorem pm_no17 {r : pt_R} (h : r.1 ≠ 17) : pm_wh r = r.2.1 := if_neg h
theorem pm_dec : ∀ a b : Fin 10, (10 * nI a.val + nI b.val) / 10 = nI a.val ∧ (10 * nI a.val + nI b.val) - (10 * nI a.val + nI b.val) / 10 * 10 = nI b.val := by decide
theorem mm_nI10 {x : Int32} (h1 : 0 ≤ x) (h2 : x ≤ 9) : ∃ k : Nat, k < 10 ∧ x = nI k := mm_nI_of h1 (Int32.lt_of_le_of_lt h2 (by decide)) (by omega)
theorem pm_div {r : pt_R} (h : r.1 = 17) (h1 : (0 ≤ r.2.1 ∧ r.2.1 ≤ 9) ∧ 0 ≤ r.2.2.1 ∧ r.2.2.1 ≤ 9) : pm_wh r / 10 = r.2.1 ∧ pm_wh r - pm_wh r / 10 * 10 = r.2.2.1 := by
  obtain ⟨a, ha, e1⟩ := mm_nI10 h1.1.1 h1.1.2
  obtain ⟨b, hb, e2⟩ := mm_nI10 h1.2.1 h1.2.2
  rw [show pm_wh r = 10 * r.2.1 + r.2.2.1 from if_pos h, e1, e2]
  exact pm_dec ⟨a, ha⟩ ⟨b, hb⟩
theorem mr_fun {Z : mm_G} {M : mm_M} {T : List pt_R} {k : Nat} {e : ev} {f : Nat → Option Nat} {o : Option Nat} : mr Z M T (.sub (.natCast k) e) 0 f o ↔ ∃ (a : Nat) (r : pt_R) (sc : Option Nat), o = some a ∧ T[k]? = some r ∧ r.1 = 2 ∧ M a = some (mw_E 2 (nI k) none none sc) ∧ mr Z M T e 1 (fun _ => none) sc := by simp only [mr]
theorem mr_env {Z : mm_G} {M : mm_M} {T : List pt_R} {v e : ev} {x : Int32} {a b : Nat} {nx : Option Nat} (h1 : M a = some (.inr (33, [.int x, .ref b, .int (-1), va_rf nx]))) (h2 : mr Z M T v 0 (fun _ => none) (some b)) (h3 : mr Z M T e 1 (fun _ => none) nx) : mr Z M T (.add (.pow v (nN x)) e) 1 (fun _ => none) (some a) := by
  simp only [mr, nI_nN]
  exact ⟨a, b, nx, rfl, h1, h2, h3⟩
theorem mr_again {Z : mm_G} {M : mm_M} {T : List pt_R} {e : ev} {x : Int32} {t a : Nat} {nx : Option Nat} (h1 : M a = some (.inr (33, [.int x, .null, .int (nI t), va_rf nx]))) (h3 : mr Z M T e 1 (fun _ => none) nx) : mr Z M T (.add (.sub (.natCast t) (.natCast (nN x))) e) 1 (fun _ => none) (some a) := by
  simp only [mr, nI_nN]
  exact ⟨a, nx, rfl, h1, h3⟩
theorem mr_nil (Z : mm_G) (M : mm_M) (T : List pt_R) {g : Nat → Option Nat} (h : ∀ k, k < 10 → g k = none) : mr Z M T rc_nil 2 g none := mr_congr (f := fun _ => none) rc_nil 0 (fun k _ h2 => h k h2) (by simp [rc_nil, mr, ev_abs])
theorem mr_put {Z : mm_G} {M : mm_M} {T : List pt_R} {f g : Nat → Option Nat} {o : Option Nat} {lb : Int32} {r r' y : ev} (hy : mr_x Z M T y o) (hr : mr Z M T r 2 f none) (hs : rc_set r (nN lb) y = some r') (hg : ∀ k, k < 10 → g k = if nI k = lb then o else f k) : mr Z M T r' 2 g none := by
  obtain ⟨h1, h2⟩ := mr_set hy r 0 (nN lb) r' hr hs
  refine mr_congr r' 0 (fun k _ hk => ?_) h1
  rw [hg k hk, Nat.zero_add]
  rw [Nat.zero_add] at h2
  by_cases h3 : k = nN lb
  · rw [if_pos h3, if_pos (by rw [h3, nI_nN])]
  · rw [if_neg h3, if_neg (fun h4 => h3 ((nI_eq (a := k) (b := nN lb) (by omega) (by omega)).1 (by rw [h4, nI_nN])))]
theorem mr_nabs {Z : mm_G} {M : mm_M} {T : List pt_R} {v : ev} {f : Nat → Option Nat} {o : Option Nat} (h : mr Z M T v 0 f o) : ev_abs v = false := by
  cases v <;> first | rfl | (simp [mr] at h)

set_option maxHeartbeats 4000000 in
set_option maxRecDepth 100000 in
theorem c_X2_does (l : Launch) (Z : mm_G) (T : List pt_R) (hok : pt_ok T) {kd wh f1 f2 f3 wg pl : Nat} {tm ea sp th ak wr : Int32} {rt : Option Nat} {st : Int64} (mo : Nat) (K : Nat) : ∀ (t : Nat) (en : ev) (n0 : Nat) (res : Option (ev × Nat)) (M : mm_M) (sc : Option Nat), M mo = some (md_E tm kd wh f1 f2 f3 wg ea sp rt th ak wr pl (nI n0) false st) → md_A Z M kd wh f1 f2 f3 wg pl T → n0 ≤ 1000 → mr Z M T en 1 (fun _ => none) sc → pe T K t en n0 = some res →
    mm_C l Z yX2_does (ws_ yX2_does cX2_does 12 (some (.object "RowenTongueModel$Value"))) { frames := 1001 - n0 + 40, cells := 8 * us n0 res, slots := 60 * us n0 res, locals := 60 * (1001 - n0) + 800 } [.ref mo, .int (nI t), va_rf sc] M (fun v M' => (∃ (w : ev) (n1 a : Nat), res = some (w, n1) ∧ v = some (.ref a) ∧ mr Z M' T w 0 (fun _ => none) (some a) ∧ M' mo = some (md_E tm kd wh f1 f2 f3 wg ea sp rt th ak wr pl (nI n1) false st) ∧ mm_Exp mo M M') ∨ (res = none ∧ v = some .null ∧ M' mo = some (md_E tm kd wh f1 f2 f3 wg ea sp rt th ak wr pl (nI 1000) true st) ∧ mm_Exp mo M M')) mm_nx := by
  induction K with
  | zero => intro t en n0 res M sc hmo hAm hn0 hsc hpe; cases hpe
  | succ k ih =>
  intro t en n0 res M sc hmo hAm hn0 hsc hpe
  refine mm_ofW (cc := cX2_does) (maxL := 12) (ret := (some (.object "RowenTongueModel$Value"))) (by decide) rfl (by simp [lg_sl, mm_cat_o, mm_cat_r, mm_cat_i, mm_cat_l, mm_cat_n]) ?_
  intro p e s m below meth c A ls hx hb hr hlk hml hown hmn hts htab hE hST hA hM hS hl
  replace hl : lv_has ls 12 [(0, .ref mo), (1, .int (nI t)), (2, va_rf sc)] := by simpa [lv_args, mm_cat_o, mm_cat_r, mm_cat_i, mm_cat_l, mm_cat_n] using hl
  have hpos := us_pos' hn0 hpe
  refine lv_aload_n hx hb dX2_does_0 rfl (lv_at hl 0 rfl) ?_
  refine va_get (D := Z.1) (ci := 1) (v := .int (nI n0)) (C := RX2) (T := TX2) (N := 17) hx hb hts in_X2 hown hE.1 (hM.at hmo) 0 rfl mm_cX2 14 (by decide) (hts _ q2392) (fun _ h9 => h9) rfl dX2_does_1 ?_
  refine lv_sipush (v := 1000) hx hb dX2_does_4 (by decide) ?_
  by_cases hne : n0 = 1000
  · skip
    subst hne
    obtain rfl : res = none := pe_1000 hpe
    refine lv_icmp_ne (tgt := 17) hx hb dX2_does_7 (by decide) (fun h9 => absurd (by decide : nI 1000 = (1000 : Int32)) h9) (fun _ => ?_)
    refine lv_aload_n hx hb dX2_does_10 rfl (lv_at hl 0 rfl) ?_
    refine lv_iconst (v := 1) hx hb dX2_does_11 (by decide) ?_
    rw [show (1 : Int32) = mm_b true from rfl]
    refine mm_put (D := Z.1) (ci := 1) (v := .int (mm_b true)) (ty := .boolean) (C := RX2) (T := TX2) (N := 17) hx hb hts in_X2 tyX2 tyX2_ok nmX2 hown hE.1 hM hS hmo mm_cX2 15 (by decide) (hts _ q2393) (fun _ h9 => h9) rfl (by decide +kernel) (mm_b_nar _) (mm_b_fit _) (Nat.le_of_ble_eq_true rfl) dX2_does_12 (fun H locs hM hS => ?_)
    have hM : mm_P Z.1 mm_cl A (mm_U M mo (.inr (1, [.int tm, .ref kd, .ref wh, .ref f1, .ref f2, .ref f3, .ref wg, .int ea, .int sp, va_rf rt, .int th, .int ak, .int wr, .ref pl, .int (nI 1000), .int (mm_b true), .long st]))) H := hM
    have hc_1 : (mm_U M mo (.inr (1, [.int tm, .ref kd, .ref wh, .ref f1, .ref f2, .ref f3, .ref wg, .int ea, .int sp, va_rf rt, .int th, .int ak, .int wr, .ref pl, .int (nI 1000), .int (mm_b true), .long st]))) mo = some (.inr (1, [.int tm, .ref kd, .ref wh, .ref f1, .ref f2, .ref f3, .ref wg, .int ea, .int sp, va_rf rt, .int th, .int ak, .int wr, .ref pl, .int (nI 1000), .int (mm_b true), .long st])) := mm_U_eq
    obtain ⟨M_2, eM_2⟩ : ∃ z, z = mm_U M mo (.inr (1, [.int tm, .ref kd, .ref wh, .ref f1, .ref f2, .ref f3, .ref wg, .int ea, .int sp, va_rf rt, .int th, .int ak, .int wr, .ref pl, .int (nI 1000), .int (mm_b true), .long st])) := ⟨_, rfl⟩
    rw [← eM_2] at hM hc_1
    refine lv_null hx hb dX2_does_15 ?_
    exact mm_reta hx hb hr (Or.inl ⟨_, rfl⟩) (Or.inl rfl) hlk hM hS (Or.inr ⟨rfl, rfl, hc_1, by rw [eM_2]; exact mm_Exp.self⟩) dX2_does_16 (by (try dsimp only); omega) (by (try dsimp only); omega)
  refine lv_icmp_ne (tgt := 17) hx hb dX2_does_7 (by decide) (fun _ => ?_) (fun h9 => absurd h9 (fun h9 => hne ((nI_eq (a := n0) (b := 1000) (by omega) (by omega)).1 h9)))
  refine lv_aload_n hx hb dX2_does_17 rfl (lv_at hl 0 rfl) ?_
  refine lv_dup hx hb dX2_does_18 rfl ?_
  refine va_get (D := Z.1) (ci := 1) (v := .int (nI n0)) (C := RX2) (T := TX2) (N := 17) hx hb hts in_X2 hown hE.1 (hM.at hmo) 0 rfl mm_cX2 14 (by decide) (hts _ q2392) (fun _ h9 => h9) rfl dX2_does_19 ?_
  refine lv_iconst (v := 1) hx hb dX2_does_22 (by decide) ?_
  refine lv_iadd hx hb dX2_does_23 ?_
  rw [show ((nI n0) + 1 : Int32) = nI (n0 + 1) from nI_1 _]
  refine mm_put (D := Z.1) (ci := 1) (v := .int (nI (n0 + 1))) (ty := .int) (C := RX2) (T := TX2) (N := 17) hx hb hts in_X2 tyX2 tyX2_ok nmX2 hown hE.1 hM hS hmo mm_cX2 14 (by decide) (hts _ q2392) (fun _ h9 => h9) rfl (by decide +kernel) rfl rfl (Nat.le_of_ble_eq_true rfl) dX2_does_24 (fun H locs hM hS => ?_)
  have hM : mm_P Z.1 mm_cl A (mm_U M mo (.inr (1, [.int tm, .ref kd, .ref wh, .ref f1, .ref f2, .ref f3, .ref wg, .int ea, .int sp, va_rf rt, .int th, .int ak, .int wr, .ref pl, .int (nI (n0 + 1)), .int (mm_b false), .long st]))) H := hM
  have hc_1 : (mm_U M mo (.inr (1, [.int tm, .ref kd, .ref wh, .ref f1, .ref f2, .ref f3, .ref wg, .int ea, .int sp, va_rf rt, .int th, .int ak, .int wr, .ref pl, .int (nI (n0 + 1)), .int (mm_b false), .long st]))) mo = some (.inr (1, [.int tm, .ref kd, .ref wh, .ref f1, .ref f2, .ref f3, .ref wg, .int ea, .int sp, va_rf rt, .int th, .int ak, .int wr, .ref pl, .int (nI (n0 + 1)), .int (mm_b false), .long st])) := mm_U_eq
  obtain ⟨M_2, eM_2⟩ : ∃ z, z = mm_U M mo (.inr (1, [.int tm, .ref kd, .ref wh, .ref f1, .ref f2, .ref f3, .ref wg, .int ea, .int sp, va_rf rt, .int th, .int ak, .int wr, .ref pl, .int (nI (n0 + 1)), .int (mm_b false), .long st])) := ⟨_, rfl⟩
  rw [← eM_2] at hM hc_1
  have hx1 : mm_Exp mo M M_2 := by rw [eM_2]; exact mm_Exp.self
  have hk1 := hx1.Km hmo
  replace hsc := mr.mono hk1 _ _ _ _ hsc
  have hA1 := hk1.mdA hAm
  have HMO := hc_1
  obtain ⟨k', r, ek, hrr, hpe4⟩ := pe_term hpe hne
  obtain rfl : k = k' := Nat.succ.inj ek
  obtain ⟨nd, hl9, ⟨gp, hpl⟩, g0, g1, g2, g3, g4, g5, ea0, ea1, ea2, ea3, ea4, ea5, hg⟩ := id hA1
  have hin : ∀ {j : Nat} {r' : pt_R}, T[j]? = some r' → j < 120 := fun h => by have := (List.getElem?_eq_some_iff.mp h).1; omega
  have htl := hin hrr
  have hmr : ∀ (j : Nat) (e : ev) (c : Nat), c ≤ 1000 → mono c (pe T k j e c) := fun j e c hc => pe_mono T k j e c hc
  have hn1 : n0 + 1 ≤ 1000 := by omega
  unfold pe_step at hpe4
  have e40 := mm_Exp.rf mo M_2
  by_cases hk0 : r.1 = 0
  · skip
    rw [if_pos hk0] at hpe4
    refine lv_aload_n hx hb dX2_does_27 rfl (lv_at hl 0 rfl) ?_
    refine va_get (D := Z.1) (ci := 1) (v := .ref kd) (C := RX2) (T := TX2) (N := 17) hx hb hts in_X2 hown hE.1 (hM.at HMO) 0 rfl mm_cX2 1 (by decide) (hts _ q2379) (fun _ h9 => h9) rfl dX2_does_28 ?_
    refine lv_iload_n hx hb dX2_does_31 rfl (lv_at hl 1 rfl) ?_
    refine mm_ialdK (k := t) hx hb hE hM ea0 rfl htl (by decide) dX2_does_32 ?_
    rw [show (g0 t : Int32) = 0 from ((hg _ _ hrr).1.trans hk0)]
    refine lv_if_eq (tgt := 77) hx hb dX2_does_33 (by decide) (fun _ => ?_) (fun h9 => absurd (by decide) h9)
    refine lv_null hx hb dX2_does_77 ?_
    refine lv_goto (tgt := 92) hx hb dX2_does_78 (by decide) ?_
    refine lv_astore_nN (lv' := [(3, .null), (0, .ref mo), (1, .int (nI t)), (2, va_rf sc)]) hx hb dX2_does_92 rfl hl (by decide) (by simp [mm_cat_o, mm_cat_r, mm_cat_i, mm_cat_n, mm_cat_l] <;> decide) (fun ls hl => ?_)
    refine lv_aload_n hx hb dX2_does_93 rfl (lv_at hl 1 rfl) ?_
    refine va_get (D := Z.1) (ci := 1) (v := .int (mm_b false)) (C := RX2) (T := TX2) (N := 17) hx hb hts in_X2 hown hE.1 (hM.at HMO) 0 rfl mm_cX2 15 (by decide) (hts _ q2393) (fun _ h9 => h9) rfl dX2_does_94 ?_
    refine lv_if_eq (tgt := 102) hx hb dX2_does_97 (by decide) (fun _ => ?_) (fun h9 => absurd (by decide) h9)
    refine lv_aload_n hx hb dX2_does_102 rfl (lv_at hl 1 rfl) ?_
    refine va_get (D := Z.1) (ci := 1) (v := .ref kd) (C := RX2) (T := TX2) (N := 17) hx hb hts in_X2 hown hE.1 (hM.at HMO) 0 rfl mm_cX2 1 (by decide) (hts _ q2379) (fun _ h9 => h9) rfl dX2_does_103 ?_
    refine lv_iload_n hx hb dX2_does_106 rfl (lv_at hl 2 rfl) ?_
    refine mm_ialdK (k := t) hx hb hE hM ea0 rfl htl (by decide) dX2_does_107 ?_
    rw [show (g0 t : Int32) = 0 from ((hg _ _ hrr).1.trans hk0)]
    refine lv_iconst (v := 3) hx hb dX2_does_108 (by decide) ?_
    refine lv_icmp_eq (tgt := 145) hx hb dX2_does_109 (by decide) (fun h9 => absurd h9 (by decide)) (fun _ => ?_)
    refine lv_aload_n hx hb dX2_does_112 rfl (lv_at hl 1 rfl) ?_
    refine va_get (D := Z.1) (ci := 1) (v := .ref kd) (C := RX2) (T := TX2) (N := 17) hx hb hts in_X2 hown hE.1 (hM.at HMO) 0 rfl mm_cX2 1 (by decide) (hts _ q2379) (fun _ h9 => h9) rfl dX2_does_113 ?_
    refine lv_iload_n hx hb dX2_does_116 rfl (lv_at hl 2 rfl) ?_
    refine mm_ialdK (k := t) hx hb hE hM ea0 rfl htl (by decide) dX2_does_117 ?_
    rw [show (g0 t : Int32) = 0 from ((hg _ _ hrr).1.trans hk0)]
    refine lv_bipush (v := 7) hx hb dX2_does_118 (by decide) ?_
    refine lv_icmp_eq (tgt := 145) hx hb dX2_does_120 (by decide) (fun h9 => absurd h9 (by decide)) (fun _ => ?_)
    refine lv_aload_n hx hb dX2_does_123 rfl (lv_at hl 1 rfl) ?_
    refine va_get (D := Z.1) (ci := 1) (v := .ref kd) (C := RX2) (T := TX2) (N := 17) hx hb hts in_X2 hown hE.1 (hM.at HMO) 0 rfl mm_cX2 1 (by decide) (hts _ q2379) (fun _ h9 => h9) rfl dX2_does_124 ?_
    refine lv_iload_n hx hb dX2_does_127 rfl (lv_at hl 2 rfl) ?_
    refine mm_ialdK (k := t) hx hb hE hM ea0 rfl htl (by decide) dX2_does_128 ?_
    rw [show (g0 t : Int32) = 0 from ((hg _ _ hrr).1.trans hk0)]
    refine lv_bipush (v := 13) hx hb dX2_does_129 (by decide) ?_
    refine lv_icmp_eq (tgt := 145) hx hb dX2_does_131 (by decide) (fun h9 => absurd h9 (by decide)) (fun _ => ?_)
    refine lv_aload_n hx hb dX2_does_134 rfl (lv_at hl 1 rfl) ?_
    refine va_get (D := Z.1) (ci := 1) (v := .ref kd) (C := RX2) (T := TX2) (N := 17) hx hb hts in_X2 hown hE.1 (hM.at HMO) 0 rfl mm_cX2 1 (by decide) (hts _ q2379) (fun _ h9 => h9) rfl dX2_does_135 ?_
    refine lv_iload_n hx hb dX2_does_138 rfl (lv_at hl 2 rfl) ?_
    refine mm_ialdK (k := t) hx hb hE hM ea0 rfl htl (by decide) dX2_does_139 ?_
    rw [show (g0 t : Int32) = 0 from ((hg _ _ hrr).1.trans hk0)]
    refine lv_bipush (v := 14) hx hb dX2_does_140 (by decide) ?_
    refine lv_icmp_ne (tgt := 159) hx hb dX2_does_142 (by decide) (fun _ => ?_) (fun h9 => absurd h9 (by decide))
    refine lv_null hx hb dX2_does_159 ?_
    refine lv_astoreN hx hb dX2_does_160 hl (by decide) rfl (fun ls hl => ?_)
    replace hl : lv_has ls 12 [(4, .null), (3, .null), (0, .ref mo), (1, .int (nI t)), (2, va_rf sc)] := hl
    refine lv_aload_n hx hb dX2_does_162 rfl (lv_at hl 2 rfl) ?_
    refine va_get (D := Z.1) (ci := 1) (v := .int (mm_b false)) (C := RX2) (T := TX2) (N := 17) hx hb hts in_X2 hown hE.1 (hM.at HMO) 0 rfl mm_cX2 15 (by decide) (hts _ q2393) (fun _ h9 => h9) rfl dX2_does_163 ?_
    refine lv_if_eq (tgt := 171) hx hb dX2_does_166 (by decide) (fun _ => ?_) (fun h9 => absurd (by decide) h9)
    refine lv_aload_n hx hb dX2_does_171 rfl (lv_at hl 2 rfl) ?_
    refine va_get (D := Z.1) (ci := 1) (v := .ref kd) (C := RX2) (T := TX2) (N := 17) hx hb hts in_X2 hown hE.1 (hM.at HMO) 0 rfl mm_cX2 1 (by decide) (hts _ q2379) (fun _ h9 => h9) rfl dX2_does_172 ?_
    refine lv_iload_n hx hb dX2_does_175 rfl (lv_at hl 3 rfl) ?_
    refine mm_ialdK (k := t) hx hb hE hM ea0 rfl htl (by decide) dX2_does_176 ?_
    rw [show (g0 t : Int32) = 0 from ((hg _ _ hrr).1.trans hk0)]
    refine lv_tableIn (tgt := 248) (off := 71) hx hb dX2_does_177 (by decide) (by decide) (by decide) (by decide) ?_
    refine lv_iconst (v := 1) hx hb dX2_does_248 (by decide) ?_
    refine lv_aload_n hx hb dX2_does_249 rfl (lv_at hl 2 rfl) ?_
    refine va_get (D := Z.1) (ci := 1) (v := .ref wh) (C := RX2) (T := TX2) (N := 17) hx hb hts in_X2 hown hE.1 (hM.at HMO) 0 rfl mm_cX2 2 (by decide) (hts _ q2380) (fun _ h9 => h9) rfl dX2_does_250 ?_
    refine lv_iload_n hx hb dX2_does_253 rfl (lv_at hl 3 rfl) ?_
    refine mm_ialdK (k := t) hx hb hE hM ea1 rfl htl (by decide) dX2_does_254 ?_
    rw [show (g1 t : Int32) = r.2.1 from (((hg _ _ hrr).2.1 (by rw [hk0]; decide) (by rw [hk0]; decide)).trans (pm_no17 (by rw [hk0]; decide)))]
    refine mm_callS (As := [.int 1, .int r.2.1]) (rest := []) ⟨hx, hb, hml, hown, hts⟩ hE hST hA (c_X2_value l Z (M := M_2) (x1 := 1) (x2 := r.2.1) ) (va_cwS 2 hts (lw_S q2773 q2774 q54 q2775) rfl rfl rfl (by decide +kernel) ⟨(by (try dsimp only); omega), (by (try dsimp only); omega)⟩) hM hS rfl hl.1 (Nat.le_of_ble_eq_true rfl) dX2_does_255 rfl ⟨(by (try dsimp only); omega), (by (try dsimp only); omega)⟩ (fun _ _ _ _ _ _ h9 => h9.elim) (fun v_3 M_4 H locs hp_5 hM hS => ?_)
    obtain ⟨q_6, nq_7, rfl, eM_4⟩ := hp_5
    rw [eM_4] at hM
    have ne_8 : mo ≠ q_6 := (mm_neN HMO nq_7)
    have ne_9 : kd ≠ q_6 := (mm_neN ea0 nq_7)
    have ne_10 : wh ≠ q_6 := (mm_neN ea1 nq_7)
    have ne_11 : f1 ≠ q_6 := (mm_neN ea2 nq_7)
    have ne_12 : f2 ≠ q_6 := (mm_neN ea3 nq_7)
    have ne_13 : f3 ≠ q_6 := (mm_neN ea4 nq_7)
    replace hM : mm_P Z.1 mm_cl A (mm_U M_2 q_6 (.inr (32, [.int 1, .int r.2.1, .null, .null, .null]))) H := hM
    have hc_14 : (mm_U M_2 q_6 (.inr (32, [.int 1, .int r.2.1, .null, .null, .null]))) q_6 = some (.inr (32, [.int 1, .int r.2.1, .null, .null, .null])) := mm_U_eq
    have hc_15 : (mm_U M_2 q_6 (.inr (32, [.int 1, .int r.2.1, .null, .null, .null]))) mo = some (.inr (1, [.int tm, .ref kd, .ref wh, .ref f1, .ref f2, .ref f3, .ref wg, .int ea, .int sp, va_rf rt, .int th, .int ak, .int wr, .ref pl, .int (nI (n0 + 1)), .int (mm_b false), .long st])) := (mm_U_ne ne_8).trans HMO
    have hc_16 : (mm_U M_2 q_6 (.inr (32, [.int 1, .int r.2.1, .null, .null, .null]))) kd = some (.inl (Z.2.1 0, 120, .inl g0)) := (mm_U_ne ne_9).trans ea0
    have hc_17 : (mm_U M_2 q_6 (.inr (32, [.int 1, .int r.2.1, .null, .null, .null]))) wh = some (.inl (Z.2.1 0, 120, .inl g1)) := (mm_U_ne ne_10).trans ea1
    have hc_18 : (mm_U M_2 q_6 (.inr (32, [.int 1, .int r.2.1, .null, .null, .null]))) f1 = some (.inl (Z.2.1 0, 120, .inl g2)) := (mm_U_ne ne_11).trans ea2
    have hc_19 : (mm_U M_2 q_6 (.inr (32, [.int 1, .int r.2.1, .null, .null, .null]))) f2 = some (.inl (Z.2.1 0, 120, .inl g3)) := (mm_U_ne ne_12).trans ea3
    have hc_20 : (mm_U M_2 q_6 (.inr (32, [.int 1, .int r.2.1, .null, .null, .null]))) f3 = some (.inl (Z.2.1 0, 120, .inl g4)) := (mm_U_ne ne_13).trans ea4
    obtain ⟨M_21, eM_21⟩ : ∃ z, z = mm_U M_2 q_6 (.inr (32, [.int 1, .int r.2.1, .null, .null, .null])) := ⟨_, rfl⟩
    rw [← eM_21] at hM hc_15 hc_16 hc_17 hc_18 hc_19 hc_20 hc_14
    have kx_22 : mm_Ext M_2 M_21 := by rw [eM_21]; exact ((mm_Ext.rf _).UU nq_7)
    have e4_23 := e40.trans kx_22.Exp
    obtain rfl : res = some (.natCast (nN r.2.1), n0 + 1) := (Option.some.inj hpe4).symm
    exact mm_reta hx hb hr (Or.inl ⟨_, rfl⟩) (Or.inr ⟨_, rfl⟩) hlk hM hS (Or.inl ⟨.natCast (nN r.2.1), n0 + 1, q_6, rfl, rfl, by simp only [mr, nI_nN]; exact ⟨_, rfl, hc_14⟩, hc_15, hx1.trans e4_23⟩) dX2_does_258 (by (try dsimp only); omega) (by (try dsimp only); omega)
  rw [if_neg hk0] at hpe4
  by_cases hk1 : r.1 = 1
  · skip
    rw [if_pos hk1] at hpe4
    obtain ⟨out9, ho9⟩ : ∃ o, ev_look r.2.1 en = some o := by cases h9 : ev_look r.2.1 en with | none => rw [h9] at hpe4; cases hpe4 | some o => exact ⟨o, rfl⟩
    rw [ho9] at hpe4
    refine lv_aload_n hx hb dX2_does_27 rfl (lv_at hl 0 rfl) ?_
    refine va_get (D := Z.1) (ci := 1) (v := .ref kd) (C := RX2) (T := TX2) (N := 17) hx hb hts in_X2 hown hE.1 (hM.at HMO) 0 rfl mm_cX2 1 (by decide) (hts _ q2379) (fun _ h9 => h9) rfl dX2_does_28 ?_
    refine lv_iload_n hx hb dX2_does_31 rfl (lv_at hl 1 rfl) ?_
    refine mm_ialdK (k := t) hx hb hE hM ea0 rfl htl (by decide) dX2_does_32 ?_
    rw [show (g0 t : Int32) = 1 from ((hg _ _ hrr).1.trans hk1)]
    refine lv_if_eq (tgt := 77) hx hb dX2_does_33 (by decide) (fun h9 => absurd h9 (by decide)) (fun _ => ?_)
    refine lv_aload_n hx hb dX2_does_36 rfl (lv_at hl 0 rfl) ?_
    refine va_get (D := Z.1) (ci := 1) (v := .ref kd) (C := RX2) (T := TX2) (N := 17) hx hb hts in_X2 hown hE.1 (hM.at HMO) 0 rfl mm_cX2 1 (by decide) (hts _ q2379) (fun _ h9 => h9) rfl dX2_does_37 ?_
    refine lv_iload_n hx hb dX2_does_40 rfl (lv_at hl 1 rfl) ?_
    refine mm_ialdK (k := t) hx hb hE hM ea0 rfl htl (by decide) dX2_does_41 ?_
    rw [show (g0 t : Int32) = 1 from ((hg _ _ hrr).1.trans hk1)]
    refine lv_iconst (v := 1) hx hb dX2_does_42 (by decide) ?_
    refine lv_icmp_eq (tgt := 77) hx hb dX2_does_43 (by decide) (fun _ => ?_) (fun h9 => absurd (by decide) h9)
    refine lv_null hx hb dX2_does_77 ?_
    refine lv_goto (tgt := 92) hx hb dX2_does_78 (by decide) ?_
    refine lv_astore_nN (lv' := [(3, .null), (0, .ref mo), (1, .int (nI t)), (2, va_rf sc)]) hx hb dX2_does_92 rfl hl (by decide) (by simp [mm_cat_o, mm_cat_r, mm_cat_i, mm_cat_n, mm_cat_l] <;> decide) (fun ls hl => ?_)
    refine lv_aload_n hx hb dX2_does_93 rfl (lv_at hl 1 rfl) ?_
    refine va_get (D := Z.1) (ci := 1) (v := .int (mm_b false)) (C := RX2) (T := TX2) (N := 17) hx hb hts in_X2 hown hE.1 (hM.at HMO) 0 rfl mm_cX2 15 (by decide) (hts _ q2393) (fun _ h9 => h9) rfl dX2_does_94 ?_
    refine lv_if_eq (tgt := 102) hx hb dX2_does_97 (by decide) (fun _ => ?_) (fun h9 => absurd (by decide) h9)
    refine lv_aload_n hx hb dX2_does_102 rfl (lv_at hl 1 rfl) ?_
    refine va_get (D := Z.1) (ci := 1) (v := .ref kd) (C := RX2) (T := TX2) (N := 17) hx hb hts in_X2 hown hE.1 (hM.at HMO) 0 rfl mm_cX2 1 (by decide) (hts _ q2379) (fun _ h9 => h9) rfl dX2_does_103 ?_
    refine lv_iload_n hx hb dX2_does_106 rfl (lv_at hl 2 rfl) ?_
    refine mm_ialdK (k := t) hx hb hE hM ea0 rfl htl (by decide) dX2_does_107 ?_
    rw [show (g0 t : Int32) = 1 from ((hg _ _ hrr).1.trans hk1)]
    refine lv_iconst (v := 3) hx hb dX2_does_108 (by decide) ?_
    refine lv_icmp_eq (tgt := 145) hx hb dX2_does_109 (by decide) (fun h9 => absurd h9 (by decide)) (fun _ => ?_)
    refine lv_aload_n hx hb dX2_does_112 rfl (lv_at hl 1 rfl) ?_
    refine va_get (D := Z.1) (ci := 1) (v := .ref kd) (C := RX2) (T := TX2) (N := 17) hx hb hts in_X2 hown hE.1 (hM.at HMO) 0 rfl mm_cX2 1 (by decide) (hts _ q2379) (fun _ h9 => h9) rfl dX2_does_113 ?_
    refine lv_iload_n hx hb dX2_does_116 rfl (lv_at hl 2 rfl) ?_
    refine mm_ialdK (k := t) hx hb hE hM ea0 rfl htl (by decide) dX2_does_117 ?_
    rw [show (g0 t : Int32) = 1 from ((hg _ _ hrr).1.trans hk1)]
    refine lv_bipush (v := 7) hx hb dX2_does_118 (by decide) ?_
    refine lv_icmp_eq (tgt := 145) hx hb dX2_does_120 (by decide) (fun h9 => absurd h9 (by decide)) (fun _ => ?_)
    refine lv_aload_n hx hb dX2_does_123 rfl (lv_at hl 1 rfl) ?_
    refine va_get (D := Z.1) (ci := 1) (v := .ref kd) (C := RX2) (T := TX2) (N := 17) hx hb hts in_X2 hown hE.1 (hM.at HMO) 0 rfl mm_cX2 1 (by decide) (hts _ q2379) (fun _ h9 => h9) rfl dX2_does_124 ?_
    refine lv_iload_n hx hb dX2_does_127 rfl (lv_at hl 2 rfl) ?_
    refine mm_ialdK (k := t) hx hb hE hM ea0 rfl htl (by decide) dX2_does_128 ?_
    rw [show (g0 t : Int32) = 1 from ((hg _ _ hrr).1.trans hk1)]
    refine lv_bipush (v := 13) hx hb dX2_does_129 (by decide) ?_
    refine lv_icmp_eq (tgt := 145) hx hb dX2_does_131 (by decide) (fun h9 => absurd h9 (by decide)) (fun _ => ?_)
    refine lv_aload_n hx hb dX2_does_134 rfl (lv_at hl 1 rfl) ?_
    refine va_get (D := Z.1) (ci := 1) (v := .ref kd) (C := RX2) (T := TX2) (N := 17) hx hb hts in_X2 hown hE.1 (hM.at HMO) 0 rfl mm_cX2 1 (by decide) (hts _ q2379) (fun _ h9 => h9) rfl dX2_does_135 ?_
    refine lv_iload_n hx hb dX2_does_138 rfl (lv_at hl 2 rfl) ?_
    refine mm_ialdK (k := t) hx hb hE hM ea0 rfl htl (by decide) dX2_does_139 ?_
    rw [show (g0 t : Int32) = 1 from ((hg _ _ hrr).1.trans hk1)]
    refine lv_bipush (v := 14) hx hb dX2_does_140 (by decide) ?_
    refine lv_icmp_ne (tgt := 159) hx hb dX2_does_142 (by decide) (fun _ => ?_) (fun h9 => absurd h9 (by decide))
    refine lv_null hx hb dX2_does_159 ?_
    refine lv_astoreN hx hb dX2_does_160 hl (by decide) rfl (fun ls hl => ?_)
    replace hl : lv_has ls 12 [(4, .null), (3, .null), (0, .ref mo), (1, .int (nI t)), (2, va_rf sc)] := hl
    refine lv_aload_n hx hb dX2_does_162 rfl (lv_at hl 2 rfl) ?_
    refine va_get (D := Z.1) (ci := 1) (v := .int (mm_b false)) (C := RX2) (T := TX2) (N := 17) hx hb hts in_X2 hown hE.1 (hM.at HMO) 0 rfl mm_cX2 15 (by decide) (hts _ q2393) (fun _ h9 => h9) rfl dX2_does_163 ?_
    refine lv_if_eq (tgt := 171) hx hb dX2_does_166 (by decide) (fun _ => ?_) (fun h9 => absurd (by decide) h9)
    refine lv_aload_n hx hb dX2_does_171 rfl (lv_at hl 2 rfl) ?_
    refine va_get (D := Z.1) (ci := 1) (v := .ref kd) (C := RX2) (T := TX2) (N := 17) hx hb hts in_X2 hown hE.1 (hM.at HMO) 0 rfl mm_cX2 1 (by decide) (hts _ q2379) (fun _ h9 => h9) rfl dX2_does_172 ?_
    refine lv_iload_n hx hb dX2_does_175 rfl (lv_at hl 3 rfl) ?_
    refine mm_ialdK (k := t) hx hb hE hM ea0 rfl htl (by decide) dX2_does_176 ?_
    rw [show (g0 t : Int32) = 1 from ((hg _ _ hrr).1.trans hk1)]
    refine lv_tableIn (tgt := 259) (off := 82) hx hb dX2_does_177 (by decide) (by decide) (by decide) (by decide) ?_
    refine mm_aload_n hx hb dX2_does_259 rfl (lv_at hl 4 rfl) ?_
    refine mm_astore hx hb dX2_does_260 hl (by decide) rfl (fun ls hl => ?_)
    replace hl : lv_has ls 12 [(5, va_rf sc), (4, .null), (3, .null), (0, .ref mo), (1, .int (nI t)), (2, va_rf sc)] := hl
    refine mm_loopW (fun k1 M' ls cells slots => ∃ (e1 : ev) (s1 : Option Nat), k1 = SizeOf.sizeOf e1 ∧ M_2 = M' ∧ lv_has ls 12 [(5, va_rf s1), (0, .ref mo), (1, .int (nI t)), (2, va_rf sc)] ∧ mr Z M' T e1 1 (fun _ => none) s1 ∧ ev_look r.2.1 e1 = some out9 ∧ cells ≤ 0 ∧ slots ≤ 0) (fun k1 M1 ls H locs cells slots ih1 hI1 hM hS => ?_) ⟨en, sc, rfl, rfl, lv_sub hl [0, 3, 4, 5] rfl, hsc, ho9, by (try dsimp only); omega, by (try dsimp only); omega⟩ hM hS
    obtain ⟨e1, s1, rfl, rfl, hl, hs1, ho1, hc5, hc6⟩ := hI1
    have hcase : (∃ v n1 e2, e1 = .add (.pow v n1) e2) ∨ (∃ t2 n1 e2, e1 = .add (.sub (.natCast t2) (.natCast n1)) e2) := by
      unfold ev_look at ho1
      split at ho1
      · exact Or.inl ⟨_, _, _, rfl⟩
      · exact Or.inr ⟨_, _, _, rfl⟩
      · cases ho1
    rcases hcase with ⟨v1, n1, e2, rfl⟩ | ⟨t2, n1, e2, rfl⟩
    · skip
      simp only [ev_look] at ho1
      simp only [mr] at hs1
      obtain ⟨a1, b1, nx, rfl, hs2, hv1, hs3⟩ := hs1
      refine lv_aload hx hb dX2_does_262 (lv_at hl 0 rfl) ?_
      refine va_get (D := Z.1) (ci := 33) (v := .int (nI n1)) (C := RX39) (T := TX39) (N := 4) hx hb hts in_X39 hown hE.1 (hM.at hs2) 0 rfl mm_cX39 0 (by decide) (hts _ q2805) (fun _ h9 => h9) rfl dX2_does_264 ?_
      refine lv_aload_n hx hb dX2_does_267 rfl (lv_at hl 1 rfl) ?_
      refine va_get (D := Z.1) (ci := 1) (v := .ref wh) (C := RX2) (T := TX2) (N := 17) hx hb hts in_X2 hown hE.1 (hM.at HMO) 0 rfl mm_cX2 2 (by decide) (hts _ q2380) (fun _ h9 => h9) rfl dX2_does_268 ?_
      refine lv_iload_n hx hb dX2_does_271 rfl (lv_at hl 2 rfl) ?_
      refine mm_ialdK (k := t) hx hb hE hM ea1 rfl htl (by decide) dX2_does_272 ?_
      rw [show (g1 t : Int32) = r.2.1 from (((hg _ _ hrr).2.1 (by rw [hk1]; decide) (by rw [hk1]; decide)).trans (pm_no17 (by rw [hk1]; decide)))]
      refine lv_icmp_eq (tgt := 286) hx hb dX2_does_273 (by decide) (fun c_3 => ?_) (fun c_3 => ?_)
      · skip
        rw [if_pos c_3] at ho1
        cases ho1
        simp only at hpe4
        obtain rfl : res = some (v1, n0 + 1) := (Option.some.inj hpe4).symm
        refine lv_aload hx hb dX2_does_286 (lv_at hl 0 rfl) ?_
        refine va_get (D := Z.1) (ci := 33) (v := .ref b1) (C := RX39) (T := TX39) (N := 4) hx hb hts in_X39 hown hE.1 (hM.at hs2) 0 rfl mm_cX39 1 (by decide) (hts _ q2807) (fun _ h9 => h9) rfl dX2_does_288 ?_
        refine lv_ifnull hx hb dX2_does_291 ?_
        refine lv_aload hx hb dX2_does_294 (lv_at hl 0 rfl) ?_
        refine va_get (D := Z.1) (ci := 33) (v := .ref b1) (C := RX39) (T := TX39) (N := 4) hx hb hts in_X39 hown hE.1 (hM.at hs2) 0 rfl mm_cX39 1 (by decide) (hts _ q2807) (fun _ h9 => h9) rfl dX2_does_296 ?_
        refine lv_goto (tgt := 313) hx hb dX2_does_299 (by decide) ?_
        exact mm_reta hx hb hr (Or.inl ⟨_, rfl⟩) (Or.inr ⟨_, rfl⟩) hlk hM hS (Or.inl ⟨v1, n0 + 1, b1, rfl, rfl, hv1, HMO, hx1.trans e40⟩) dX2_does_313 (by (try dsimp only); omega) (by (try dsimp only); omega)
      · skip
        rw [if_neg c_3] at ho1
        refine lv_aload hx hb dX2_does_276 (lv_at hl 0 rfl) ?_
        refine va_get (D := Z.1) (ci := 33) (v := va_rf nx) (C := RX39) (T := TX39) (N := 4) hx hb hts in_X39 hown hE.1 (hM.at hs2) 0 rfl mm_cX39 3 (by decide) (hts _ q2811) (fun _ h9 => h9) rfl dX2_does_278 ?_
        refine mm_astore hx hb dX2_does_281 hl (by decide) rfl (fun ls hl => ?_)
        replace hl : lv_has ls 12 [(5, va_rf nx), (0, .ref mo), (1, .int (nI t)), (2, va_rf sc)] := hl
        refine lv_goto (tgt := 262) hx hb dX2_does_283 (by decide) ?_
        refine ih1 (SizeOf.sizeOf e2) (by simp; omega) _ _ _ _ _ _ ⟨e2, nx, rfl, rfl, lv_sub hl [0, 1, 2, 3] rfl, hs3, ho1, hc5, hc6⟩ hM hS
    · skip
      simp only [ev_look] at ho1
      simp only [mr] at hs1
      obtain ⟨a1, nx, rfl, hs2, hs3⟩ := hs1
      refine lv_aload hx hb dX2_does_262 (lv_at hl 0 rfl) ?_
      refine va_get (D := Z.1) (ci := 33) (v := .int (nI n1)) (C := RX39) (T := TX39) (N := 4) hx hb hts in_X39 hown hE.1 (hM.at hs2) 0 rfl mm_cX39 0 (by decide) (hts _ q2805) (fun _ h9 => h9) rfl dX2_does_264 ?_
      refine lv_aload_n hx hb dX2_does_267 rfl (lv_at hl 1 rfl) ?_
      refine va_get (D := Z.1) (ci := 1) (v := .ref wh) (C := RX2) (T := TX2) (N := 17) hx hb hts in_X2 hown hE.1 (hM.at HMO) 0 rfl mm_cX2 2 (by decide) (hts _ q2380) (fun _ h9 => h9) rfl dX2_does_268 ?_
      refine lv_iload_n hx hb dX2_does_271 rfl (lv_at hl 2 rfl) ?_
      refine mm_ialdK (k := t) hx hb hE hM ea1 rfl htl (by decide) dX2_does_272 ?_
      rw [show (g1 t : Int32) = r.2.1 from (((hg _ _ hrr).2.1 (by rw [hk1]; decide) (by rw [hk1]; decide)).trans (pm_no17 (by rw [hk1]; decide)))]
      refine lv_icmp_eq (tgt := 286) hx hb dX2_does_273 (by decide) (fun c_3 => ?_) (fun c_3 => ?_)
      · skip
        rw [if_pos c_3] at ho1
        cases ho1
        simp only at hpe4
        have hut := us_tail (n0 := n0) hpe4 (by omega) (by omega)
        refine lv_aload hx hb dX2_does_286 (lv_at hl 0 rfl) ?_
        refine va_get (D := Z.1) (ci := 33) (v := .null) (C := RX39) (T := TX39) (N := 4) hx hb hts in_X39 hown hE.1 (hM.at hs2) 0 rfl mm_cX39 1 (by decide) (hts _ q2807) (fun _ h9 => h9) rfl dX2_does_288 ?_
        refine lv_ifnullN (tgt := 302) hx hb dX2_does_291 (by decide) ?_
        refine lv_aload_n hx hb dX2_does_302 rfl (lv_at hl 1 rfl) ?_
        refine lv_aload hx hb dX2_does_303 (lv_at hl 0 rfl) ?_
        refine va_get (D := Z.1) (ci := 33) (v := .int (nI t2)) (C := RX39) (T := TX39) (N := 4) hx hb hts in_X39 hown hE.1 (hM.at hs2) 0 rfl mm_cX39 2 (by decide) (hts _ q2809) (fun _ h9 => h9) rfl dX2_does_305 ?_
        refine lv_aload hx hb dX2_does_308 (lv_at hl 0 rfl) ?_
        refine mm_callV (As := [.int (nI t2), .ref a1]) (rest := []) ⟨hx, hb, hml, hown, hts⟩ hE hST hA (ih t2 (.add (.sub (.natCast t2) (.natCast n1)) e2) (n0 + 1) res M_2 (some a1) HMO ((e40.Km HMO).mdA hA1) (by omega) (by simp only [mr]; exact ⟨a1, nx, rfl, hs2, hs3⟩) hpe4) (cwV 2 hts (lw_V q2769 q2771 qs47 q54 q2772) rfl rfl rfl (by decide +kernel) ⟨(by (try dsimp only); omega), (by (try dsimp only); omega)⟩) hM hS mm_cX2 HMO rfl hl.1 (Nat.le_of_ble_eq_true rfl) dX2_does_310 rfl ⟨(by (try dsimp only); omega), (by (try dsimp only); omega)⟩ (fun _ _ _ _ _ _ h9 => h9.elim) (fun v_4 M_5 H locs hp_6 hM hS => ?_)
        rcases hp_6 with ⟨w9, n9, a9, rfl, rfl, hw9, hm9, hxx9⟩ | ⟨rfl, rfl, hm9, hxx9⟩
        · skip
          exact mm_reta hx hb hr (Or.inl ⟨_, rfl⟩) (Or.inr ⟨_, rfl⟩) hlk hM hS (Or.inl ⟨w9, n9, a9, rfl, rfl, hw9, hm9, hx1.trans (e40.trans hxx9)⟩) dX2_does_313 (by (try dsimp only); omega) (by (try dsimp only); omega)
        · skip
          exact mm_reta hx hb hr (Or.inl ⟨_, rfl⟩) (Or.inl rfl) hlk hM hS (Or.inr ⟨rfl, rfl, hm9, hx1.trans (e40.trans hxx9)⟩) dX2_does_313 (by (try dsimp only); omega) (by (try dsimp only); omega)
      · skip
        rw [if_neg c_3] at ho1
        refine lv_aload hx hb dX2_does_276 (lv_at hl 0 rfl) ?_
        refine va_get (D := Z.1) (ci := 33) (v := va_rf nx) (C := RX39) (T := TX39) (N := 4) hx hb hts in_X39 hown hE.1 (hM.at hs2) 0 rfl mm_cX39 3 (by decide) (hts _ q2811) (fun _ h9 => h9) rfl dX2_does_278 ?_
        refine mm_astore hx hb dX2_does_281 hl (by decide) rfl (fun ls hl => ?_)
        replace hl : lv_has ls 12 [(5, va_rf nx), (0, .ref mo), (1, .int (nI t)), (2, va_rf sc)] := hl
        refine lv_goto (tgt := 262) hx hb dX2_does_283 (by decide) ?_
        refine ih1 (SizeOf.sizeOf e2) (by simp; omega) _ _ _ _ _ _ ⟨e2, nx, rfl, rfl, lv_sub hl [0, 1, 2, 3] rfl, hs3, ho1, hc5, hc6⟩ hM hS
  rw [if_neg hk1] at hpe4
  by_cases hk2 : r.1 = 2
  · skip
    rw [if_pos hk2] at hpe4
    obtain ⟨j1, hj1, hpe5⟩ := at_some hpe4
    refine lv_aload_n hx hb dX2_does_27 rfl (lv_at hl 0 rfl) ?_
    refine va_get (D := Z.1) (ci := 1) (v := .ref kd) (C := RX2) (T := TX2) (N := 17) hx hb hts in_X2 hown hE.1 (hM.at HMO) 0 rfl mm_cX2 1 (by decide) (hts _ q2379) (fun _ h9 => h9) rfl dX2_does_28 ?_
    refine lv_iload_n hx hb dX2_does_31 rfl (lv_at hl 1 rfl) ?_
    refine mm_ialdK (k := t) hx hb hE hM ea0 rfl htl (by decide) dX2_does_32 ?_
    rw [show (g0 t : Int32) = 2 from ((hg _ _ hrr).1.trans hk2)]
    refine lv_if_eq (tgt := 77) hx hb dX2_does_33 (by decide) (fun h9 => absurd h9 (by decide)) (fun _ => ?_)
    refine lv_aload_n hx hb dX2_does_36 rfl (lv_at hl 0 rfl) ?_
    refine va_get (D := Z.1) (ci := 1) (v := .ref kd) (C := RX2) (T := TX2) (N := 17) hx hb hts in_X2 hown hE.1 (hM.at HMO) 0 rfl mm_cX2 1 (by decide) (hts _ q2379) (fun _ h9 => h9) rfl dX2_does_37 ?_
    refine lv_iload_n hx hb dX2_does_40 rfl (lv_at hl 1 rfl) ?_
    refine mm_ialdK (k := t) hx hb hE hM ea0 rfl htl (by decide) dX2_does_41 ?_
    rw [show (g0 t : Int32) = 2 from ((hg _ _ hrr).1.trans hk2)]
    refine lv_iconst (v := 1) hx hb dX2_does_42 (by decide) ?_
    refine lv_icmp_eq (tgt := 77) hx hb dX2_does_43 (by decide) (fun h9 => absurd h9 (by decide)) (fun _ => ?_)
    refine lv_aload_n hx hb dX2_does_46 rfl (lv_at hl 0 rfl) ?_
    refine va_get (D := Z.1) (ci := 1) (v := .ref kd) (C := RX2) (T := TX2) (N := 17) hx hb hts in_X2 hown hE.1 (hM.at HMO) 0 rfl mm_cX2 1 (by decide) (hts _ q2379) (fun _ h9 => h9) rfl dX2_does_47 ?_
    refine lv_iload_n hx hb dX2_does_50 rfl (lv_at hl 1 rfl) ?_
    refine mm_ialdK (k := t) hx hb hE hM ea0 rfl htl (by decide) dX2_does_51 ?_
    rw [show (g0 t : Int32) = 2 from ((hg _ _ hrr).1.trans hk2)]
    refine lv_iconst (v := 2) hx hb dX2_does_52 (by decide) ?_
    refine lv_icmp_eq (tgt := 77) hx hb dX2_does_53 (by decide) (fun _ => ?_) (fun h9 => absurd (by decide) h9)
    refine lv_null hx hb dX2_does_77 ?_
    refine lv_goto (tgt := 92) hx hb dX2_does_78 (by decide) ?_
    refine lv_astore_nN (lv' := [(3, .null), (0, .ref mo), (1, .int (nI t)), (2, va_rf sc)]) hx hb dX2_does_92 rfl hl (by decide) (by simp [mm_cat_o, mm_cat_r, mm_cat_i, mm_cat_n, mm_cat_l] <;> decide) (fun ls hl => ?_)
    refine lv_aload_n hx hb dX2_does_93 rfl (lv_at hl 1 rfl) ?_
    refine va_get (D := Z.1) (ci := 1) (v := .int (mm_b false)) (C := RX2) (T := TX2) (N := 17) hx hb hts in_X2 hown hE.1 (hM.at HMO) 0 rfl mm_cX2 15 (by decide) (hts _ q2393) (fun _ h9 => h9) rfl dX2_does_94 ?_
    refine lv_if_eq (tgt := 102) hx hb dX2_does_97 (by decide) (fun _ => ?_) (fun h9 => absurd (by decide) h9)
    refine lv_aload_n hx hb dX2_does_102 rfl (lv_at hl 1 rfl) ?_
    refine va_get (D := Z.1) (ci := 1) (v := .ref kd) (C := RX2) (T := TX2) (N := 17) hx hb hts in_X2 hown hE.1 (hM.at HMO) 0 rfl mm_cX2 1 (by decide) (hts _ q2379) (fun _ h9 => h9) rfl dX2_does_103 ?_
    refine lv_iload_n hx hb dX2_does_106 rfl (lv_at hl 2 rfl) ?_
    refine mm_ialdK (k := t) hx hb hE hM ea0 rfl htl (by decide) dX2_does_107 ?_
    rw [show (g0 t : Int32) = 2 from ((hg _ _ hrr).1.trans hk2)]
    refine lv_iconst (v := 3) hx hb dX2_does_108 (by decide) ?_
    refine lv_icmp_eq (tgt := 145) hx hb dX2_does_109 (by decide) (fun h9 => absurd h9 (by decide)) (fun _ => ?_)
    refine lv_aload_n hx hb dX2_does_112 rfl (lv_at hl 1 rfl) ?_
    refine va_get (D := Z.1) (ci := 1) (v := .ref kd) (C := RX2) (T := TX2) (N := 17) hx hb hts in_X2 hown hE.1 (hM.at HMO) 0 rfl mm_cX2 1 (by decide) (hts _ q2379) (fun _ h9 => h9) rfl dX2_does_113 ?_
    refine lv_iload_n hx hb dX2_does_116 rfl (lv_at hl 2 rfl) ?_
    refine mm_ialdK (k := t) hx hb hE hM ea0 rfl htl (by decide) dX2_does_117 ?_
    rw [show (g0 t : Int32) = 2 from ((hg _ _ hrr).1.trans hk2)]
    refine lv_bipush (v := 7) hx hb dX2_does_118 (by decide) ?_
    refine lv_icmp_eq (tgt := 145) hx hb dX2_does_120 (by decide) (fun h9 => absurd h9 (by decide)) (fun _ => ?_)
    refine lv_aload_n hx hb dX2_does_123 rfl (lv_at hl 1 rfl) ?_
    refine va_get (D := Z.1) (ci := 1) (v := .ref kd) (C := RX2) (T := TX2) (N := 17) hx hb hts in_X2 hown hE.1 (hM.at HMO) 0 rfl mm_cX2 1 (by decide) (hts _ q2379) (fun _ h9 => h9) rfl dX2_does_124 ?_
    refine lv_iload_n hx hb dX2_does_127 rfl (lv_at hl 2 rfl) ?_
    refine mm_ialdK (k := t) hx hb hE hM ea0 rfl htl (by decide) dX2_does_128 ?_
    rw [show (g0 t : Int32) = 2 from ((hg _ _ hrr).1.trans hk2)]
    refine lv_bipush (v := 13) hx hb dX2_does_129 (by decide) ?_
    refine lv_icmp_eq (tgt := 145) hx hb dX2_does_131 (by decide) (fun h9 => absurd h9 (by decide)) (fun _ => ?_)
    refine lv_aload_n hx hb dX2_does_134 rfl (lv_at hl 1 rfl) ?_
    refine va_get (D := Z.1) (ci := 1) (v := .ref kd) (C := RX2) (T := TX2) (N := 17) hx hb hts in_X2 hown hE.1 (hM.at HMO) 0 rfl mm_cX2 1 (by decide) (hts _ q2379) (fun _ h9 => h9) rfl dX2_does_135 ?_
    refine lv_iload_n hx hb dX2_does_138 rfl (lv_at hl 2 rfl) ?_
    refine mm_ialdK (k := t) hx hb hE hM ea0 rfl htl (by decide) dX2_does_139 ?_
    rw [show (g0 t : Int32) = 2 from ((hg _ _ hrr).1.trans hk2)]
    refine lv_bipush (v := 14) hx hb dX2_does_140 (by decide) ?_
    refine lv_icmp_ne (tgt := 159) hx hb dX2_does_142 (by decide) (fun _ => ?_) (fun h9 => absurd h9 (by decide))
    refine lv_null hx hb dX2_does_159 ?_
    refine lv_astoreN hx hb dX2_does_160 hl (by decide) rfl (fun ls hl => ?_)
    replace hl : lv_has ls 12 [(4, .null), (3, .null), (0, .ref mo), (1, .int (nI t)), (2, va_rf sc)] := hl
    refine lv_aload_n hx hb dX2_does_162 rfl (lv_at hl 2 rfl) ?_
    refine va_get (D := Z.1) (ci := 1) (v := .int (mm_b false)) (C := RX2) (T := TX2) (N := 17) hx hb hts in_X2 hown hE.1 (hM.at HMO) 0 rfl mm_cX2 15 (by decide) (hts _ q2393) (fun _ h9 => h9) rfl dX2_does_163 ?_
    refine lv_if_eq (tgt := 171) hx hb dX2_does_166 (by decide) (fun _ => ?_) (fun h9 => absurd (by decide) h9)
    refine lv_aload_n hx hb dX2_does_171 rfl (lv_at hl 2 rfl) ?_
    refine va_get (D := Z.1) (ci := 1) (v := .ref kd) (C := RX2) (T := TX2) (N := 17) hx hb hts in_X2 hown hE.1 (hM.at HMO) 0 rfl mm_cX2 1 (by decide) (hts _ q2379) (fun _ h9 => h9) rfl dX2_does_172 ?_
    refine lv_iload_n hx hb dX2_does_175 rfl (lv_at hl 3 rfl) ?_
    refine mm_ialdK (k := t) hx hb hE hM ea0 rfl htl (by decide) dX2_does_176 ?_
    rw [show (g0 t : Int32) = 2 from ((hg _ _ hrr).1.trans hk2)]
    refine lv_tableIn (tgt := 314) (off := 137) hx hb dX2_does_177 (by decide) (by decide) (by decide) (by decide) ?_
    refine lv_iconst (v := 2) hx hb dX2_does_314 (by decide) ?_
    refine lv_iload_n hx hb dX2_does_315 rfl (lv_at hl 3 rfl) ?_
    refine mm_callS (As := [.int 2, .int (nI t)]) (rest := []) ⟨hx, hb, hml, hown, hts⟩ hE hST hA (c_X2_value l Z (M := M_2) (x1 := 2) (x2 := (nI t)) ) (va_cwS 2 hts (lw_S q2773 q2774 q54 q2775) rfl rfl rfl (by decide +kernel) ⟨(by (try dsimp only); omega), (by (try dsimp only); omega)⟩) hM hS rfl hl.1 (Nat.le_of_ble_eq_true rfl) dX2_does_316 rfl ⟨(by (try dsimp only); omega), (by (try dsimp only); omega)⟩ (fun _ _ _ _ _ _ h9 => h9.elim) (fun v_3 M_4 H locs hp_5 hM hS => ?_)
    obtain ⟨q_6, nq_7, rfl, eM_4⟩ := hp_5
    rw [eM_4] at hM
    have ne_8 : mo ≠ q_6 := (mm_neN HMO nq_7)
    have ne_9 : kd ≠ q_6 := (mm_neN ea0 nq_7)
    have ne_10 : wh ≠ q_6 := (mm_neN ea1 nq_7)
    have ne_11 : f1 ≠ q_6 := (mm_neN ea2 nq_7)
    have ne_12 : f2 ≠ q_6 := (mm_neN ea3 nq_7)
    have ne_13 : f3 ≠ q_6 := (mm_neN ea4 nq_7)
    replace hM : mm_P Z.1 mm_cl A (mm_U M_2 q_6 (.inr (32, [.int 2, .int (nI t), .null, .null, .null]))) H := hM
    have hc_14 : (mm_U M_2 q_6 (.inr (32, [.int 2, .int (nI t), .null, .null, .null]))) q_6 = some (.inr (32, [.int 2, .int (nI t), .null, .null, .null])) := mm_U_eq
    have hc_15 : (mm_U M_2 q_6 (.inr (32, [.int 2, .int (nI t), .null, .null, .null]))) mo = some (.inr (1, [.int tm, .ref kd, .ref wh, .ref f1, .ref f2, .ref f3, .ref wg, .int ea, .int sp, va_rf rt, .int th, .int ak, .int wr, .ref pl, .int (nI (n0 + 1)), .int (mm_b false), .long st])) := (mm_U_ne ne_8).trans HMO
    have hc_16 : (mm_U M_2 q_6 (.inr (32, [.int 2, .int (nI t), .null, .null, .null]))) kd = some (.inl (Z.2.1 0, 120, .inl g0)) := (mm_U_ne ne_9).trans ea0
    have hc_17 : (mm_U M_2 q_6 (.inr (32, [.int 2, .int (nI t), .null, .null, .null]))) wh = some (.inl (Z.2.1 0, 120, .inl g1)) := (mm_U_ne ne_10).trans ea1
    have hc_18 : (mm_U M_2 q_6 (.inr (32, [.int 2, .int (nI t), .null, .null, .null]))) f1 = some (.inl (Z.2.1 0, 120, .inl g2)) := (mm_U_ne ne_11).trans ea2
    have hc_19 : (mm_U M_2 q_6 (.inr (32, [.int 2, .int (nI t), .null, .null, .null]))) f2 = some (.inl (Z.2.1 0, 120, .inl g3)) := (mm_U_ne ne_12).trans ea3
    have hc_20 : (mm_U M_2 q_6 (.inr (32, [.int 2, .int (nI t), .null, .null, .null]))) f3 = some (.inl (Z.2.1 0, 120, .inl g4)) := (mm_U_ne ne_13).trans ea4
    obtain ⟨M_21, eM_21⟩ : ∃ z, z = mm_U M_2 q_6 (.inr (32, [.int 2, .int (nI t), .null, .null, .null])) := ⟨_, rfl⟩
    rw [← eM_21] at hM hc_15 hc_16 hc_17 hc_18 hc_19 hc_20 hc_14
    refine lv_astore hx hb dX2_does_319 hl (by decide) rfl (fun ls hl => ?_)
    replace hl : lv_has ls 12 [(6, .ref q_6), (4, .null), (3, .null), (0, .ref mo), (1, .int (nI t)), (2, va_rf sc)] := hl
    refine lv_aload hx hb dX2_does_321 (lv_at hl 0 rfl) ?_
    refine mm_aload_n hx hb dX2_does_323 rfl (lv_at hl 5 rfl) ?_
    refine mm_put (D := Z.1) (ci := 32) (v := va_rf sc) (ty := .object "RowenTongueModel$Bound") (C := RX38) (T := TX38) (N := 5) hx hb hts in_X38 tyX38 tyX38_ok nmX38 hown hE.1 hM hS hc_14 mm_cX38 4 (by decide) (hts _ q2786) (fun _ h9 => h9) rfl (by decide +kernel) (mm_nar_oo _ _) (mm_fit_oo _ _) (Nat.le_of_ble_eq_true rfl) dX2_does_324 (fun H locs hM hS => ?_)
    have hM : mm_P Z.1 mm_cl A (mm_U M_21 q_6 (.inr (32, [.int 2, .int (nI t), .null, .null, va_rf sc]))) H := hM
    have hc_22 : (mm_U M_21 q_6 (.inr (32, [.int 2, .int (nI t), .null, .null, va_rf sc]))) q_6 = some (.inr (32, [.int 2, .int (nI t), .null, .null, va_rf sc])) := mm_U_eq
    have hc_23 : (mm_U M_21 q_6 (.inr (32, [.int 2, .int (nI t), .null, .null, va_rf sc]))) mo = some (.inr (1, [.int tm, .ref kd, .ref wh, .ref f1, .ref f2, .ref f3, .ref wg, .int ea, .int sp, va_rf rt, .int th, .int ak, .int wr, .ref pl, .int (nI (n0 + 1)), .int (mm_b false), .long st])) := (mm_U_ne ne_8).trans hc_15
    have hc_24 : (mm_U M_21 q_6 (.inr (32, [.int 2, .int (nI t), .null, .null, va_rf sc]))) kd = some (.inl (Z.2.1 0, 120, .inl g0)) := (mm_U_ne ne_9).trans hc_16
    have hc_25 : (mm_U M_21 q_6 (.inr (32, [.int 2, .int (nI t), .null, .null, va_rf sc]))) wh = some (.inl (Z.2.1 0, 120, .inl g1)) := (mm_U_ne ne_10).trans hc_17
    have hc_26 : (mm_U M_21 q_6 (.inr (32, [.int 2, .int (nI t), .null, .null, va_rf sc]))) f1 = some (.inl (Z.2.1 0, 120, .inl g2)) := (mm_U_ne ne_11).trans hc_18
    have hc_27 : (mm_U M_21 q_6 (.inr (32, [.int 2, .int (nI t), .null, .null, va_rf sc]))) f2 = some (.inl (Z.2.1 0, 120, .inl g3)) := (mm_U_ne ne_12).trans hc_19
    have hc_28 : (mm_U M_21 q_6 (.inr (32, [.int 2, .int (nI t), .null, .null, va_rf sc]))) f3 = some (.inl (Z.2.1 0, 120, .inl g4)) := (mm_U_ne ne_13).trans hc_20
    obtain ⟨M_29, eM_29⟩ : ∃ z, z = mm_U M_21 q_6 (.inr (32, [.int 2, .int (nI t), .null, .null, va_rf sc])) := ⟨_, rfl⟩
    rw [← eM_29] at hM hc_23 hc_24 hc_25 hc_26 hc_27 hc_28 hc_22
    have kx_30 : mm_Ext M_2 M_29 := by rw [eM_29, eM_21]; exact (((mm_Ext.rf _).UU nq_7).UU nq_7)
    have e4_31 := e40.trans kx_30.Exp
    obtain rfl : res = some (.sub (.natCast t) en, n0 + 1) := (Option.some.inj hpe5).symm
    refine lv_aload hx hb dX2_does_327 (lv_at hl 0 rfl) ?_
    exact mm_reta hx hb hr (Or.inl ⟨_, rfl⟩) (Or.inr ⟨_, rfl⟩) hlk hM hS (Or.inl ⟨.sub (.natCast t) en, n0 + 1, q_6, rfl, rfl, mr_fun.2 ⟨_, r, sc, rfl, hrr, hk2, hc_22, mr.mono (e4_31.Km HMO) _ _ _ _ hsc⟩, hc_23, hx1.trans e4_31⟩) dX2_does_329 (by (try dsimp only); omega) (by (try dsimp only); omega)
  rw [if_neg hk2] at hpe4
  by_cases hk3 : r.1 = 3
  · skip
    rw [if_pos hk3] at hpe4
    obtain ⟨r1, hxp1⟩ := pb_ne hpe4
    obtain ⟨j1, hj1, hr1⟩ := at_some hxp1
    have hro1 := us_pb (n0 := n0) hpe4 hxp1 (mono_at (fun j => hmr _ _ _ (by omega))) (fun _ _ _ _ => (by repeat' (first | exact mono_none _ | exact mono_ret (by omega) | exact hmr _ _ _ (by omega) | exact mono_same (by omega) | exact mono_cas hmr (by omega) | (refine mono_app hmr (by omega) ?_) | (refine mono_pb ?_ (fun _ _ _ _ => ?_)) | (refine mono_at (fun _ => ?_)) | split))) (by omega) (by omega)
    refine lv_aload_n hx hb dX2_does_27 rfl (lv_at hl 0 rfl) ?_
    refine va_get (D := Z.1) (ci := 1) (v := .ref kd) (C := RX2) (T := TX2) (N := 17) hx hb hts in_X2 hown hE.1 (hM.at HMO) 0 rfl mm_cX2 1 (by decide) (hts _ q2379) (fun _ h9 => h9) rfl dX2_does_28 ?_
    refine lv_iload_n hx hb dX2_does_31 rfl (lv_at hl 1 rfl) ?_
    refine mm_ialdK (k := t) hx hb hE hM ea0 rfl htl (by decide) dX2_does_32 ?_
    rw [show (g0 t : Int32) = 3 from ((hg _ _ hrr).1.trans hk3)]
    refine lv_if_eq (tgt := 77) hx hb dX2_does_33 (by decide) (fun h9 => absurd h9 (by decide)) (fun _ => ?_)
    refine lv_aload_n hx hb dX2_does_36 rfl (lv_at hl 0 rfl) ?_
    refine va_get (D := Z.1) (ci := 1) (v := .ref kd) (C := RX2) (T := TX2) (N := 17) hx hb hts in_X2 hown hE.1 (hM.at HMO) 0 rfl mm_cX2 1 (by decide) (hts _ q2379) (fun _ h9 => h9) rfl dX2_does_37 ?_
    refine lv_iload_n hx hb dX2_does_40 rfl (lv_at hl 1 rfl) ?_
    refine mm_ialdK (k := t) hx hb hE hM ea0 rfl htl (by decide) dX2_does_41 ?_
    rw [show (g0 t : Int32) = 3 from ((hg _ _ hrr).1.trans hk3)]
    refine lv_iconst (v := 1) hx hb dX2_does_42 (by decide) ?_
    refine lv_icmp_eq (tgt := 77) hx hb dX2_does_43 (by decide) (fun h9 => absurd h9 (by decide)) (fun _ => ?_)
    refine lv_aload_n hx hb dX2_does_46 rfl (lv_at hl 0 rfl) ?_
    refine va_get (D := Z.1) (ci := 1) (v := .ref kd) (C := RX2) (T := TX2) (N := 17) hx hb hts in_X2 hown hE.1 (hM.at HMO) 0 rfl mm_cX2 1 (by decide) (hts _ q2379) (fun _ h9 => h9) rfl dX2_does_47 ?_
    refine lv_iload_n hx hb dX2_does_50 rfl (lv_at hl 1 rfl) ?_
    refine mm_ialdK (k := t) hx hb hE hM ea0 rfl htl (by decide) dX2_does_51 ?_
    rw [show (g0 t : Int32) = 3 from ((hg _ _ hrr).1.trans hk3)]
    refine lv_iconst (v := 2) hx hb dX2_does_52 (by decide) ?_
    refine lv_icmp_eq (tgt := 77) hx hb dX2_does_53 (by decide) (fun h9 => absurd h9 (by decide)) (fun _ => ?_)
    refine lv_aload_n hx hb dX2_does_56 rfl (lv_at hl 0 rfl) ?_
    refine va_get (D := Z.1) (ci := 1) (v := .ref kd) (C := RX2) (T := TX2) (N := 17) hx hb hts in_X2 hown hE.1 (hM.at HMO) 0 rfl mm_cX2 1 (by decide) (hts _ q2379) (fun _ h9 => h9) rfl dX2_does_57 ?_
    refine lv_iload_n hx hb dX2_does_60 rfl (lv_at hl 1 rfl) ?_
    refine mm_ialdK (k := t) hx hb hE hM ea0 rfl htl (by decide) dX2_does_61 ?_
    rw [show (g0 t : Int32) = 3 from ((hg _ _ hrr).1.trans hk3)]
    refine lv_bipush (v := 6) hx hb dX2_does_62 (by decide) ?_
    refine lv_icmp_eq (tgt := 77) hx hb dX2_does_64 (by decide) (fun h9 => absurd h9 (by decide)) (fun _ => ?_)
    refine lv_aload_n hx hb dX2_does_67 rfl (lv_at hl 0 rfl) ?_
    refine va_get (D := Z.1) (ci := 1) (v := .ref kd) (C := RX2) (T := TX2) (N := 17) hx hb hts in_X2 hown hE.1 (hM.at HMO) 0 rfl mm_cX2 1 (by decide) (hts _ q2379) (fun _ h9 => h9) rfl dX2_does_68 ?_
    refine lv_iload_n hx hb dX2_does_71 rfl (lv_at hl 1 rfl) ?_
    refine mm_ialdK (k := t) hx hb hE hM ea0 rfl htl (by decide) dX2_does_72 ?_
    rw [show (g0 t : Int32) = 3 from ((hg _ _ hrr).1.trans hk3)]
    refine lv_iconst (v := 5) hx hb dX2_does_73 (by decide) ?_
    refine lv_icmp_ne (tgt := 81) hx hb dX2_does_74 (by decide) (fun _ => ?_) (fun h9 => absurd h9 (by decide))
    refine lv_aload_n hx hb dX2_does_81 rfl (lv_at hl 0 rfl) ?_
    refine lv_aload_n hx hb dX2_does_82 rfl (lv_at hl 0 rfl) ?_
    refine va_get (D := Z.1) (ci := 1) (v := .ref f1) (C := RX2) (T := TX2) (N := 17) hx hb hts in_X2 hown hE.1 (hM.at HMO) 0 rfl mm_cX2 3 (by decide) (hts _ q2381) (fun _ h9 => h9) rfl dX2_does_83 ?_
    refine lv_iload_n hx hb dX2_does_86 rfl (lv_at hl 1 rfl) ?_
    refine mm_ialdK (k := t) hx hb hE hM ea2 rfl htl (by decide) dX2_does_87 ?_
    rw [show (g2 t : Int32) = nI j1 from ((hg _ _ hrr).2.2.1.trans (pt_i_at hj1))]
    refine mm_aload_n hx hb dX2_does_88 rfl (lv_at hl 2 rfl) ?_
    refine mm_callV (As := [.int (nI j1), va_rf sc]) (rest := []) ⟨hx, hb, hml, hown, hts⟩ hE hST hA (ih j1 (en) (n0 + 1) r1 M_2 sc HMO ((e40.Km HMO).mdA hA1) (by omega) (mr.mono (e40.Km HMO) _ _ _ _ hsc) hr1) (cwV 2 hts (lw_V q2769 q2771 qs47 q54 q2772) rfl rfl rfl (by decide +kernel) ⟨(by (try dsimp only); omega), (by (try dsimp only); omega)⟩) hM hS mm_cX2 HMO rfl hl.1 (Nat.le_of_ble_eq_true rfl) dX2_does_89 rfl ⟨(by (try dsimp only); omega), (by (try dsimp only); omega)⟩ (fun _ _ _ _ _ _ h9 => h9.elim) (fun v_3 M_4 H locs hp_5 hM hS => ?_)
    rcases hp_5.symm with ⟨rfl, rfl, hmf, hxf⟩ | ⟨w1, c1, a1, rfl, rfl, hw1, hm1, hxx1⟩
    · skip
      have hu9 : us (n0 + 1) (none : Option (ev × Nat)) = 1001 - (n0 + 1) := rfl
      refine lv_astore_nN (lv' := [(3, .null), (0, .ref mo), (1, .int (nI t)), (2, va_rf sc)]) hx hb dX2_does_92 rfl hl (by decide) (by simp [mm_cat_o, mm_cat_r, mm_cat_i, mm_cat_n, mm_cat_l] <;> decide) (fun ls hl => ?_)
      refine lv_aload_n hx hb dX2_does_93 rfl (lv_at hl 1 rfl) ?_
      refine va_get (D := Z.1) (ci := 1) (v := .int (mm_b true)) (C := RX2) (T := TX2) (N := 17) hx hb hts in_X2 hown hE.1 (hM.at hmf) 0 rfl mm_cX2 15 (by decide) (hts _ q2393) (fun _ h9 => h9) rfl dX2_does_94 ?_
      refine lv_if_eq (tgt := 102) hx hb dX2_does_97 (by decide) (fun h9 => absurd h9 (by decide)) (fun _ => ?_)
      refine lv_null hx hb dX2_does_100 ?_
      exact mm_reta hx hb hr (Or.inl ⟨_, rfl⟩) (Or.inl rfl) hlk hM hS (Or.inr ⟨hro1.2.1 rfl, rfl, hmf, hx1.trans (e40.trans hxf)⟩) dX2_does_101 (by (try dsimp only); omega) (by (try dsimp only); omega)
    obtain ⟨hpe1, hca1, hcb1⟩ := hro1.2.2 w1 c1 rfl
    have hu1 : us (n0 + 1) (some (w1, c1)) = c1 - (n0 + 1) := rfl
    have e41 := e40.trans hxx1
    have hc_6 := hxx1.atMA HMO ea0
    have hc_7 := hxx1.atMA HMO ea1
    have hc_8 := hxx1.atMA HMO ea2
    have hc_9 := hxx1.atMA HMO ea3
    have hc_10 := hxx1.atMA HMO ea4
    obtain ⟨t2, e2, r2, j3, rfl, hrt2, hj3, hpe5⟩ := app_some hpe1
    obtain ⟨a9, r9, sc3, e9, h3a, h3k, hcl, hce⟩ := mr_fun.1 hw1
    cases e9
    obtain rfl : r9 = r2 := Option.some.inj (h3a.symm.trans hrt2)
    have htl2 := hin hrt2
    obtain ⟨r2, hxp2⟩ := pb_ne hpe5
    obtain ⟨j2, hj2, hr2⟩ := at_some hxp2
    have hro2 := us_pb (n0 := n0) hpe5 hxp2 (mono_at (fun j => hmr _ _ _ (by omega))) (fun _ _ _ _ => (by repeat' (first | exact mono_none _ | exact mono_ret (by omega) | exact hmr _ _ _ (by omega) | exact mono_same (by omega) | exact mono_cas hmr (by omega) | (refine mono_app hmr (by omega) ?_) | (refine mono_pb ?_ (fun _ _ _ _ => ?_)) | (refine mono_at (fun _ => ?_)) | split))) (by omega) (by omega)
    refine lv_astore_n (lv' := [(3, .ref a1), (0, .ref mo), (1, .int (nI t)), (2, va_rf sc)]) hx hb dX2_does_92 rfl hl (by decide) (by simp [mm_cat_o, mm_cat_r, mm_cat_i, mm_cat_n, mm_cat_l] <;> decide) (fun ls hl => ?_)
    refine lv_aload_n hx hb dX2_does_93 rfl (lv_at hl 1 rfl) ?_
    refine va_get (D := Z.1) (ci := 1) (v := .int (mm_b false)) (C := RX2) (T := TX2) (N := 17) hx hb hts in_X2 hown hE.1 (hM.at hm1) 0 rfl mm_cX2 15 (by decide) (hts _ q2393) (fun _ h9 => h9) rfl dX2_does_94 ?_
    refine lv_if_eq (tgt := 102) hx hb dX2_does_97 (by decide) (fun _ => ?_) (fun h9 => absurd (by decide) h9)
    refine lv_aload_n hx hb dX2_does_102 rfl (lv_at hl 1 rfl) ?_
    refine va_get (D := Z.1) (ci := 1) (v := .ref kd) (C := RX2) (T := TX2) (N := 17) hx hb hts in_X2 hown hE.1 (hM.at hm1) 0 rfl mm_cX2 1 (by decide) (hts _ q2379) (fun _ h9 => h9) rfl dX2_does_103 ?_
    refine lv_iload_n hx hb dX2_does_106 rfl (lv_at hl 2 rfl) ?_
    refine mm_ialdK (k := t) hx hb hE hM hc_6 rfl htl (by decide) dX2_does_107 ?_
    rw [show (g0 t : Int32) = 3 from ((hg _ _ hrr).1.trans hk3)]
    refine lv_iconst (v := 3) hx hb dX2_does_108 (by decide) ?_
    refine lv_icmp_eq (tgt := 145) hx hb dX2_does_109 (by decide) (fun _ => ?_) (fun h9 => absurd (by decide) h9)
    refine lv_aload_n hx hb dX2_does_145 rfl (lv_at hl 1 rfl) ?_
    refine lv_aload_n hx hb dX2_does_146 rfl (lv_at hl 1 rfl) ?_
    refine va_get (D := Z.1) (ci := 1) (v := .ref f2) (C := RX2) (T := TX2) (N := 17) hx hb hts in_X2 hown hE.1 (hM.at hm1) 0 rfl mm_cX2 4 (by decide) (hts _ q2382) (fun _ h9 => h9) rfl dX2_does_147 ?_
    refine lv_iload_n hx hb dX2_does_150 rfl (lv_at hl 2 rfl) ?_
    refine mm_ialdK (k := t) hx hb hE hM hc_9 rfl htl (by decide) dX2_does_151 ?_
    rw [show (g3 t : Int32) = nI j2 from ((hg _ _ hrr).2.2.2.1.trans (pt_i_at hj2))]
    refine mm_aload_n hx hb dX2_does_152 rfl (lv_at hl 3 rfl) ?_
    refine mm_callV (As := [.int (nI j2), va_rf sc]) (rest := []) ⟨hx, hb, hml, hown, hts⟩ hE hST hA (ih j2 (en) (c1) r2 M_4 sc hm1 ((e41.Km HMO).mdA hA1) (by omega) (mr.mono (e41.Km HMO) _ _ _ _ hsc) hr2) (cwV 2 hts (lw_V q2769 q2771 qs47 q54 q2772) rfl rfl rfl (by decide +kernel) ⟨(by (try dsimp only); omega), (by (try dsimp only); omega)⟩) hM hS mm_cX2 hm1 rfl hl.1 (Nat.le_of_ble_eq_true rfl) dX2_does_153 rfl ⟨(by (try dsimp only); omega), (by (try dsimp only); omega)⟩ (fun _ _ _ _ _ _ h9 => h9.elim) (fun v_11 M_12 H locs hp_13 hM hS => ?_)
    rcases hp_13.symm with ⟨rfl, rfl, hmf, hxf⟩ | ⟨w2, c2, a2, rfl, rfl, hw2, hm2, hxx2⟩
    · skip
      have hu9 : us (c1) (none : Option (ev × Nat)) = 1001 - (c1) := rfl
      refine lv_goto (tgt := 160) hx hb dX2_does_156 (by decide) ?_
      refine lv_astoreN hx hb dX2_does_160 hl (by decide) rfl (fun ls hl => ?_)
      replace hl : lv_has ls 12 [(4, .null), (3, .ref a1), (0, .ref mo), (1, .int (nI t)), (2, va_rf sc)] := hl
      refine lv_aload_n hx hb dX2_does_162 rfl (lv_at hl 2 rfl) ?_
      refine va_get (D := Z.1) (ci := 1) (v := .int (mm_b true)) (C := RX2) (T := TX2) (N := 17) hx hb hts in_X2 hown hE.1 (hM.at hmf) 0 rfl mm_cX2 15 (by decide) (hts _ q2393) (fun _ h9 => h9) rfl dX2_does_163 ?_
      refine lv_if_eq (tgt := 171) hx hb dX2_does_166 (by decide) (fun h9 => absurd h9 (by decide)) (fun _ => ?_)
      refine lv_null hx hb dX2_does_169 ?_
      exact mm_reta hx hb hr (Or.inl ⟨_, rfl⟩) (Or.inl rfl) hlk hM hS (Or.inr ⟨hro2.2.1 rfl, rfl, hmf, hx1.trans (e41.trans hxf)⟩) dX2_does_170 (by (try dsimp only); omega) (by (try dsimp only); omega)
    obtain ⟨hpe2, hca2, hcb2⟩ := hro2.2.2 w2 c2 rfl
    have hu2 : us (c1) (some (w2, c2)) = c2 - (c1) := rfl
    have e42 := e41.trans hxx2
    have hc_14 := hxx2.atMA hm1 hc_6
    have hc_15 := hxx2.atMA hm1 hc_7
    have hc_16 := hxx2.atMA hm1 hc_8
    have hc_17 := hxx2.atMA hm1 hc_9
    have hc_18 := hxx2.atMA hm1 hc_10
    have hc_19 := hxx2.atM hm1 hcl (by decide)
    refine lv_goto (tgt := 160) hx hb dX2_does_156 (by decide) ?_
    refine lv_astore hx hb dX2_does_160 hl (by decide) rfl (fun ls hl => ?_)
    replace hl : lv_has ls 12 [(4, .ref a2), (3, .ref a1), (0, .ref mo), (1, .int (nI t)), (2, va_rf sc)] := hl
    refine lv_aload_n hx hb dX2_does_162 rfl (lv_at hl 2 rfl) ?_
    refine va_get (D := Z.1) (ci := 1) (v := .int (mm_b false)) (C := RX2) (T := TX2) (N := 17) hx hb hts in_X2 hown hE.1 (hM.at hm2) 0 rfl mm_cX2 15 (by decide) (hts _ q2393) (fun _ h9 => h9) rfl dX2_does_163 ?_
    refine lv_if_eq (tgt := 171) hx hb dX2_does_166 (by decide) (fun _ => ?_) (fun h9 => absurd (by decide) h9)
    refine lv_aload_n hx hb dX2_does_171 rfl (lv_at hl 2 rfl) ?_
    refine va_get (D := Z.1) (ci := 1) (v := .ref kd) (C := RX2) (T := TX2) (N := 17) hx hb hts in_X2 hown hE.1 (hM.at hm2) 0 rfl mm_cX2 1 (by decide) (hts _ q2379) (fun _ h9 => h9) rfl dX2_does_172 ?_
    refine lv_iload_n hx hb dX2_does_175 rfl (lv_at hl 3 rfl) ?_
    refine mm_ialdK (k := t) hx hb hE hM hc_14 rfl htl (by decide) dX2_does_176 ?_
    rw [show (g0 t : Int32) = 3 from ((hg _ _ hrr).1.trans hk3)]
    refine lv_tableIn (tgt := 330) (off := 153) hx hb dX2_does_177 (by decide) (by decide) (by decide) (by decide) ?_
    refine lv_aload_n hx hb dX2_does_330 rfl (lv_at hl 2 rfl) ?_
    refine lv_aload_n hx hb dX2_does_331 rfl (lv_at hl 2 rfl) ?_
    refine va_get (D := Z.1) (ci := 1) (v := .ref f1) (C := RX2) (T := TX2) (N := 17) hx hb hts in_X2 hown hE.1 (hM.at hm2) 0 rfl mm_cX2 3 (by decide) (hts _ q2381) (fun _ h9 => h9) rfl dX2_does_332 ?_
    refine lv_aload_n hx hb dX2_does_335 rfl (lv_at hl 1 rfl) ?_
    refine va_get (D := Z.1) (ci := 32) (v := .int (nI t2)) (C := RX38) (T := TX38) (N := 5) hx hb hts in_X38 hown hE.1 (hM.at hc_19) 0 rfl mm_cX38 1 (by decide) (hts _ q2783) (fun _ h9 => h9) rfl dX2_does_336 ?_
    refine mm_ialdK (k := t2) hx hb hE hM hc_16 rfl htl2 (by decide) dX2_does_339 ?_
    rw [show (g2 t2 : Int32) = nI j3 from ((hg _ _ hrt2).2.2.1.trans (pt_i_at hj3))]
    refine mm_new (D := Z.1) (ci := 33) (fs := mm_f0X39) (C := RX39) (T := TX39) (N := 4) hx hb hts in_X39 tyX39 tyX39_ok hown (hts _ q2798) (hts _ q2799) (hts _ q112) hE.1 hM hS hA mm_cX39 mm_dfX39 (by (try dsimp only); omega) (by (try dsimp only); omega) dX2_does_340 (fun q_21 H nq_20 hM hS => ?_)
    have hM : mm_P Z.1 mm_cl A (mm_U M_12 q_21 (.inr (33, [.int 0, .null, .int 0, .null]))) H := hM
    have ne_22 : mo ≠ q_21 := (mm_neN hm2 nq_20)
    have ne_23 : kd ≠ q_21 := (mm_neN hc_14 nq_20)
    have ne_24 : wh ≠ q_21 := (mm_neN hc_15 nq_20)
    have ne_25 : f1 ≠ q_21 := (mm_neN hc_16 nq_20)
    have ne_26 : f2 ≠ q_21 := (mm_neN hc_17 nq_20)
    have ne_27 : f3 ≠ q_21 := (mm_neN hc_18 nq_20)
    have ne_28 : a1 ≠ q_21 := (mm_neN hc_19 nq_20)
    have hc_29 : (mm_U M_12 q_21 (.inr (33, [.int 0, .null, .int 0, .null]))) q_21 = some (.inr (33, [.int 0, .null, .int 0, .null])) := mm_U_eq
    have hc_30 : (mm_U M_12 q_21 (.inr (33, [.int 0, .null, .int 0, .null]))) mo = some (.inr (1, [.int tm, .ref kd, .ref wh, .ref f1, .ref f2, .ref f3, .ref wg, .int ea, .int sp, va_rf rt, .int th, .int ak, .int wr, .ref pl, .int (nI c2), .int (mm_b false), .long st])) := (mm_U_ne ne_22).trans hm2
    have hc_31 : (mm_U M_12 q_21 (.inr (33, [.int 0, .null, .int 0, .null]))) kd = some (.inl (Z.2.1 0, 120, .inl g0)) := (mm_U_ne ne_23).trans hc_14
    have hc_32 : (mm_U M_12 q_21 (.inr (33, [.int 0, .null, .int 0, .null]))) wh = some (.inl (Z.2.1 0, 120, .inl g1)) := (mm_U_ne ne_24).trans hc_15
    have hc_33 : (mm_U M_12 q_21 (.inr (33, [.int 0, .null, .int 0, .null]))) f1 = some (.inl (Z.2.1 0, 120, .inl g2)) := (mm_U_ne ne_25).trans hc_16
    have hc_34 : (mm_U M_12 q_21 (.inr (33, [.int 0, .null, .int 0, .null]))) f2 = some (.inl (Z.2.1 0, 120, .inl g3)) := (mm_U_ne ne_26).trans hc_17
    have hc_35 : (mm_U M_12 q_21 (.inr (33, [.int 0, .null, .int 0, .null]))) f3 = some (.inl (Z.2.1 0, 120, .inl g4)) := (mm_U_ne ne_27).trans hc_18
    have hc_36 : (mm_U M_12 q_21 (.inr (33, [.int 0, .null, .int 0, .null]))) a1 = some (.inr (32, [.int 2, .int (nI t2), .null, .null, va_rf sc3])) := (mm_U_ne ne_28).trans hc_19
    obtain ⟨M_37, eM_37⟩ : ∃ z, z = mm_U M_12 q_21 (.inr (33, [.int 0, .null, .int 0, .null])) := ⟨_, rfl⟩
    rw [← eM_37] at hM hc_30 hc_31 hc_32 hc_33 hc_34 hc_35 hc_36 hc_29
    refine lv_dup hx hb dX2_does_343 rfl ?_
    refine lv_aload_n hx hb dX2_does_344 rfl (lv_at hl 2 rfl) ?_
    refine va_get (D := Z.1) (ci := 1) (v := .ref wh) (C := RX2) (T := TX2) (N := 17) hx hb hts in_X2 hown hE.1 (hM.at hc_30) 0 rfl mm_cX2 2 (by decide) (hts _ q2380) (fun _ h9 => h9) rfl dX2_does_345 ?_
    refine lv_aload_n hx hb dX2_does_348 rfl (lv_at hl 1 rfl) ?_
    refine va_get (D := Z.1) (ci := 32) (v := .int (nI t2)) (C := RX38) (T := TX38) (N := 5) hx hb hts in_X38 hown hE.1 (hM.at hc_36) 0 rfl mm_cX38 1 (by decide) (hts _ q2783) (fun _ h9 => h9) rfl dX2_does_349 ?_
    refine mm_ialdK (k := t2) hx hb hE hM hc_32 rfl htl2 (by decide) dX2_does_352 ?_
    rw [show (g1 t2 : Int32) = r9.2.1 from (((hg _ _ hrt2).2.1 (by rw [h3k]; decide) (by rw [h3k]; decide)).trans (pm_no17 (by rw [h3k]; decide)))]
    refine lv_aload hx hb dX2_does_353 (lv_at hl 0 rfl) ?_
    refine lv_iconst (v := -1) hx hb dX2_does_355 (by decide) ?_
    refine lv_aload_n hx hb dX2_does_356 rfl (lv_at hl 1 rfl) ?_
    refine va_get (D := Z.1) (ci := 32) (v := va_rf sc3) (C := RX38) (T := TX38) (N := 5) hx hb hts in_X38 hown hE.1 (hM.at hc_36) 0 rfl mm_cX38 4 (by decide) (hts _ q2786) (fun _ h9 => h9) rfl dX2_does_357 ?_
    refine mm_callI (As := [.int r9.2.1, .ref a2, .int (-1), va_rf sc3]) (rest := [.ref q_21, .int (nI j3), .ref mo]) ⟨hx, hb, hml, hown, hts⟩ hE hST hA (c_X39_init l Z (M := M_37) (h0 := q_21) (x1 := r9.2.1) (x2 := (some a2)) (x3 := (-1)) (x4 := sc3) hc_29) (cwI (maxL := 5) 4 hts (lw_meth q2802) rfl rfl rfl (hts _ q112) (hts _ q2800) (hts _ q2801) rfl (by decide +kernel) ⟨(by (try dsimp only); omega), (by (try dsimp only); omega)⟩) hM hS rfl hl.1 (Nat.le_of_ble_eq_true rfl) dX2_does_360 rfl ⟨(by (try dsimp only); omega), (by (try dsimp only); omega)⟩ (fun _ _ _ _ _ _ h9 => h9.elim) (fun v_38 M_39 H locs hp_40 hM hS => ?_)
    obtain ⟨rfl, eM_39⟩ := hp_40
    rw [eM_39] at hM
    replace hM : mm_P Z.1 mm_cl A (mm_U M_37 q_21 (.inr (33, [.int r9.2.1, .ref a2, .int (-1), va_rf sc3]))) H := hM
    have hc_41 : (mm_U M_37 q_21 (.inr (33, [.int r9.2.1, .ref a2, .int (-1), va_rf sc3]))) q_21 = some (.inr (33, [.int r9.2.1, .ref a2, .int (-1), va_rf sc3])) := mm_U_eq
    have hc_42 : (mm_U M_37 q_21 (.inr (33, [.int r9.2.1, .ref a2, .int (-1), va_rf sc3]))) mo = some (.inr (1, [.int tm, .ref kd, .ref wh, .ref f1, .ref f2, .ref f3, .ref wg, .int ea, .int sp, va_rf rt, .int th, .int ak, .int wr, .ref pl, .int (nI c2), .int (mm_b false), .long st])) := (mm_U_ne ne_22).trans hc_30
    have hc_43 : (mm_U M_37 q_21 (.inr (33, [.int r9.2.1, .ref a2, .int (-1), va_rf sc3]))) kd = some (.inl (Z.2.1 0, 120, .inl g0)) := (mm_U_ne ne_23).trans hc_31
    have hc_44 : (mm_U M_37 q_21 (.inr (33, [.int r9.2.1, .ref a2, .int (-1), va_rf sc3]))) wh = some (.inl (Z.2.1 0, 120, .inl g1)) := (mm_U_ne ne_24).trans hc_32
    have hc_45 : (mm_U M_37 q_21 (.inr (33, [.int r9.2.1, .ref a2, .int (-1), va_rf sc3]))) f1 = some (.inl (Z.2.1 0, 120, .inl g2)) := (mm_U_ne ne_25).trans hc_33
    have hc_46 : (mm_U M_37 q_21 (.inr (33, [.int r9.2.1, .ref a2, .int (-1), va_rf sc3]))) f2 = some (.inl (Z.2.1 0, 120, .inl g3)) := (mm_U_ne ne_26).trans hc_34
    have hc_47 : (mm_U M_37 q_21 (.inr (33, [.int r9.2.1, .ref a2, .int (-1), va_rf sc3]))) f3 = some (.inl (Z.2.1 0, 120, .inl g4)) := (mm_U_ne ne_27).trans hc_35
    have hc_48 : (mm_U M_37 q_21 (.inr (33, [.int r9.2.1, .ref a2, .int (-1), va_rf sc3]))) a1 = some (.inr (32, [.int 2, .int (nI t2), .null, .null, va_rf sc3])) := (mm_U_ne ne_28).trans hc_36
    obtain ⟨M_49, eM_49⟩ : ∃ z, z = mm_U M_37 q_21 (.inr (33, [.int r9.2.1, .ref a2, .int (-1), va_rf sc3])) := ⟨_, rfl⟩
    rw [← eM_49] at hM hc_42 hc_43 hc_44 hc_45 hc_46 hc_47 hc_48 hc_41
    have kx_50 : mm_Ext M_12 M_49 := by rw [eM_49, eM_37]; exact (((mm_Ext.rf _).UU nq_20).UU nq_20)
    have e4_51 := e42.trans kx_50.Exp
    have hut := us_tail (n0 := n0) hpe2 (by omega) (by omega)
    refine mm_callV (As := [.int (nI j3), .ref q_21]) (rest := []) ⟨hx, hb, hml, hown, hts⟩ hE hST hA (ih j3 (.add (.pow w2 (nN r9.2.1)) e2) (c2) res M_49 (some q_21) hc_42 ((e4_51.Km HMO).mdA hA1) (by omega) (mr_env hc_41 (mr.mono ((mm_Km.rf _).trans kx_50.Km) _ _ _ _ hw2) (mr.mono (((mm_Km.rf _).trans (hxx2.Km hm1)).trans kx_50.Km) _ _ _ _ hce)) hpe2) (cwV 2 hts (lw_V q2769 q2771 qs47 q54 q2772) rfl rfl rfl (by decide +kernel) ⟨(by (try dsimp only); omega), (by (try dsimp only); omega)⟩) hM hS mm_cX2 hc_42 rfl hl.1 (Nat.le_of_ble_eq_true rfl) dX2_does_363 rfl ⟨(by (try dsimp only); omega), (by (try dsimp only); omega)⟩ (fun _ _ _ _ _ _ h9 => h9.elim) (fun v_52 M_53 H locs hp_54 hM hS => ?_)
    rcases hp_54 with ⟨w9, n9, a9, rfl, rfl, hw9, hm9, hxx9⟩ | ⟨rfl, rfl, hm9, hxx9⟩
    · skip
      exact mm_reta hx hb hr (Or.inl ⟨_, rfl⟩) (Or.inr ⟨_, rfl⟩) hlk hM hS (Or.inl ⟨w9, n9, a9, rfl, rfl, hw9, hm9, hx1.trans (e4_51.trans hxx9)⟩) dX2_does_366 (by (try dsimp only); omega) (by (try dsimp only); omega)
    · skip
      exact mm_reta hx hb hr (Or.inl ⟨_, rfl⟩) (Or.inl rfl) hlk hM hS (Or.inr ⟨rfl, rfl, hm9, hx1.trans (e4_51.trans hxx9)⟩) dX2_does_366 (by (try dsimp only); omega) (by (try dsimp only); omega)
  rw [if_neg hk3] at hpe4
  by_cases hk4 : r.1 = 4
  · skip
    rw [if_pos hk4] at hpe4
    obtain ⟨r1, hxp1⟩ := pb_ne hpe4
    obtain ⟨j1, hj1, hr1⟩ := at_some hxp1
    have hro1 := us_pb (n0 := n0) hpe4 hxp1 (mono_at (fun j => hmr _ _ _ (by omega))) (fun _ _ _ _ => (by repeat' (first | exact mono_none _ | exact mono_ret (by omega) | exact hmr _ _ _ (by omega) | exact mono_same (by omega) | exact mono_cas hmr (by omega) | (refine mono_app hmr (by omega) ?_) | (refine mono_pb ?_ (fun _ _ _ _ => ?_)) | (refine mono_at (fun _ => ?_)) | split))) (by omega) (by omega)
    refine lv_aload_n hx hb dX2_does_27 rfl (lv_at hl 0 rfl) ?_
    refine va_get (D := Z.1) (ci := 1) (v := .ref kd) (C := RX2) (T := TX2) (N := 17) hx hb hts in_X2 hown hE.1 (hM.at HMO) 0 rfl mm_cX2 1 (by decide) (hts _ q2379) (fun _ h9 => h9) rfl dX2_does_28 ?_
    refine lv_iload_n hx hb dX2_does_31 rfl (lv_at hl 1 rfl) ?_
    refine mm_ialdK (k := t) hx hb hE hM ea0 rfl htl (by decide) dX2_does_32 ?_
    rw [show (g0 t : Int32) = 4 from ((hg _ _ hrr).1.trans hk4)]
    refine lv_if_eq (tgt := 77) hx hb dX2_does_33 (by decide) (fun h9 => absurd h9 (by decide)) (fun _ => ?_)
    refine lv_aload_n hx hb dX2_does_36 rfl (lv_at hl 0 rfl) ?_
    refine va_get (D := Z.1) (ci := 1) (v := .ref kd) (C := RX2) (T := TX2) (N := 17) hx hb hts in_X2 hown hE.1 (hM.at HMO) 0 rfl mm_cX2 1 (by decide) (hts _ q2379) (fun _ h9 => h9) rfl dX2_does_37 ?_
    refine lv_iload_n hx hb dX2_does_40 rfl (lv_at hl 1 rfl) ?_
    refine mm_ialdK (k := t) hx hb hE hM ea0 rfl htl (by decide) dX2_does_41 ?_
    rw [show (g0 t : Int32) = 4 from ((hg _ _ hrr).1.trans hk4)]
    refine lv_iconst (v := 1) hx hb dX2_does_42 (by decide) ?_
    refine lv_icmp_eq (tgt := 77) hx hb dX2_does_43 (by decide) (fun h9 => absurd h9 (by decide)) (fun _ => ?_)
    refine lv_aload_n hx hb dX2_does_46 rfl (lv_at hl 0 rfl) ?_
    refine va_get (D := Z.1) (ci := 1) (v := .ref kd) (C := RX2) (T := TX2) (N := 17) hx hb hts in_X2 hown hE.1 (hM.at HMO) 0 rfl mm_cX2 1 (by decide) (hts _ q2379) (fun _ h9 => h9) rfl dX2_does_47 ?_
    refine lv_iload_n hx hb dX2_does_50 rfl (lv_at hl 1 rfl) ?_
    refine mm_ialdK (k := t) hx hb hE hM ea0 rfl htl (by decide) dX2_does_51 ?_
    rw [show (g0 t : Int32) = 4 from ((hg _ _ hrr).1.trans hk4)]
    refine lv_iconst (v := 2) hx hb dX2_does_52 (by decide) ?_
    refine lv_icmp_eq (tgt := 77) hx hb dX2_does_53 (by decide) (fun h9 => absurd h9 (by decide)) (fun _ => ?_)
    refine lv_aload_n hx hb dX2_does_56 rfl (lv_at hl 0 rfl) ?_
    refine va_get (D := Z.1) (ci := 1) (v := .ref kd) (C := RX2) (T := TX2) (N := 17) hx hb hts in_X2 hown hE.1 (hM.at HMO) 0 rfl mm_cX2 1 (by decide) (hts _ q2379) (fun _ h9 => h9) rfl dX2_does_57 ?_
    refine lv_iload_n hx hb dX2_does_60 rfl (lv_at hl 1 rfl) ?_
    refine mm_ialdK (k := t) hx hb hE hM ea0 rfl htl (by decide) dX2_does_61 ?_
    rw [show (g0 t : Int32) = 4 from ((hg _ _ hrr).1.trans hk4)]
    refine lv_bipush (v := 6) hx hb dX2_does_62 (by decide) ?_
    refine lv_icmp_eq (tgt := 77) hx hb dX2_does_64 (by decide) (fun h9 => absurd h9 (by decide)) (fun _ => ?_)
    refine lv_aload_n hx hb dX2_does_67 rfl (lv_at hl 0 rfl) ?_
    refine va_get (D := Z.1) (ci := 1) (v := .ref kd) (C := RX2) (T := TX2) (N := 17) hx hb hts in_X2 hown hE.1 (hM.at HMO) 0 rfl mm_cX2 1 (by decide) (hts _ q2379) (fun _ h9 => h9) rfl dX2_does_68 ?_
    refine lv_iload_n hx hb dX2_does_71 rfl (lv_at hl 1 rfl) ?_
    refine mm_ialdK (k := t) hx hb hE hM ea0 rfl htl (by decide) dX2_does_72 ?_
    rw [show (g0 t : Int32) = 4 from ((hg _ _ hrr).1.trans hk4)]
    refine lv_iconst (v := 5) hx hb dX2_does_73 (by decide) ?_
    refine lv_icmp_ne (tgt := 81) hx hb dX2_does_74 (by decide) (fun _ => ?_) (fun h9 => absurd h9 (by decide))
    refine lv_aload_n hx hb dX2_does_81 rfl (lv_at hl 0 rfl) ?_
    refine lv_aload_n hx hb dX2_does_82 rfl (lv_at hl 0 rfl) ?_
    refine va_get (D := Z.1) (ci := 1) (v := .ref f1) (C := RX2) (T := TX2) (N := 17) hx hb hts in_X2 hown hE.1 (hM.at HMO) 0 rfl mm_cX2 3 (by decide) (hts _ q2381) (fun _ h9 => h9) rfl dX2_does_83 ?_
    refine lv_iload_n hx hb dX2_does_86 rfl (lv_at hl 1 rfl) ?_
    refine mm_ialdK (k := t) hx hb hE hM ea2 rfl htl (by decide) dX2_does_87 ?_
    rw [show (g2 t : Int32) = nI j1 from ((hg _ _ hrr).2.2.1.trans (pt_i_at hj1))]
    refine mm_aload_n hx hb dX2_does_88 rfl (lv_at hl 2 rfl) ?_
    refine mm_callV (As := [.int (nI j1), va_rf sc]) (rest := []) ⟨hx, hb, hml, hown, hts⟩ hE hST hA (ih j1 (en) (n0 + 1) r1 M_2 sc HMO ((e40.Km HMO).mdA hA1) (by omega) (mr.mono (e40.Km HMO) _ _ _ _ hsc) hr1) (cwV 2 hts (lw_V q2769 q2771 qs47 q54 q2772) rfl rfl rfl (by decide +kernel) ⟨(by (try dsimp only); omega), (by (try dsimp only); omega)⟩) hM hS mm_cX2 HMO rfl hl.1 (Nat.le_of_ble_eq_true rfl) dX2_does_89 rfl ⟨(by (try dsimp only); omega), (by (try dsimp only); omega)⟩ (fun _ _ _ _ _ _ h9 => h9.elim) (fun v_3 M_4 H locs hp_5 hM hS => ?_)
    rcases hp_5.symm with ⟨rfl, rfl, hmf, hxf⟩ | ⟨w1, c1, a1, rfl, rfl, hw1, hm1, hxx1⟩
    · skip
      have hu9 : us (n0 + 1) (none : Option (ev × Nat)) = 1001 - (n0 + 1) := rfl
      refine lv_astore_nN (lv' := [(3, .null), (0, .ref mo), (1, .int (nI t)), (2, va_rf sc)]) hx hb dX2_does_92 rfl hl (by decide) (by simp [mm_cat_o, mm_cat_r, mm_cat_i, mm_cat_n, mm_cat_l] <;> decide) (fun ls hl => ?_)
      refine lv_aload_n hx hb dX2_does_93 rfl (lv_at hl 1 rfl) ?_
      refine va_get (D := Z.1) (ci := 1) (v := .int (mm_b true)) (C := RX2) (T := TX2) (N := 17) hx hb hts in_X2 hown hE.1 (hM.at hmf) 0 rfl mm_cX2 15 (by decide) (hts _ q2393) (fun _ h9 => h9) rfl dX2_does_94 ?_
      refine lv_if_eq (tgt := 102) hx hb dX2_does_97 (by decide) (fun h9 => absurd h9 (by decide)) (fun _ => ?_)
      refine lv_null hx hb dX2_does_100 ?_
      exact mm_reta hx hb hr (Or.inl ⟨_, rfl⟩) (Or.inl rfl) hlk hM hS (Or.inr ⟨hro1.2.1 rfl, rfl, hmf, hx1.trans (e40.trans hxf)⟩) dX2_does_101 (by (try dsimp only); omega) (by (try dsimp only); omega)
    obtain ⟨hpe1, hca1, hcb1⟩ := hro1.2.2 w1 c1 rfl
    have hu1 : us (n0 + 1) (some (w1, c1)) = c1 - (n0 + 1) := rfl
    have e41 := e40.trans hxx1
    have hc_6 := hxx1.atMA HMO ea0
    have hc_7 := hxx1.atMA HMO ea1
    have hc_8 := hxx1.atMA HMO ea2
    have hc_9 := hxx1.atMA HMO ea3
    have hc_10 := hxx1.atMA HMO ea4
    obtain ⟨j2, hj2, hpe5⟩ := at_some hpe1
    refine lv_astore_n (lv' := [(3, .ref a1), (0, .ref mo), (1, .int (nI t)), (2, va_rf sc)]) hx hb dX2_does_92 rfl hl (by decide) (by simp [mm_cat_o, mm_cat_r, mm_cat_i, mm_cat_n, mm_cat_l] <;> decide) (fun ls hl => ?_)
    refine lv_aload_n hx hb dX2_does_93 rfl (lv_at hl 1 rfl) ?_
    refine va_get (D := Z.1) (ci := 1) (v := .int (mm_b false)) (C := RX2) (T := TX2) (N := 17) hx hb hts in_X2 hown hE.1 (hM.at hm1) 0 rfl mm_cX2 15 (by decide) (hts _ q2393) (fun _ h9 => h9) rfl dX2_does_94 ?_
    refine lv_if_eq (tgt := 102) hx hb dX2_does_97 (by decide) (fun _ => ?_) (fun h9 => absurd (by decide) h9)
    refine lv_aload_n hx hb dX2_does_102 rfl (lv_at hl 1 rfl) ?_
    refine va_get (D := Z.1) (ci := 1) (v := .ref kd) (C := RX2) (T := TX2) (N := 17) hx hb hts in_X2 hown hE.1 (hM.at hm1) 0 rfl mm_cX2 1 (by decide) (hts _ q2379) (fun _ h9 => h9) rfl dX2_does_103 ?_
    refine lv_iload_n hx hb dX2_does_106 rfl (lv_at hl 2 rfl) ?_
    refine mm_ialdK (k := t) hx hb hE hM hc_6 rfl htl (by decide) dX2_does_107 ?_
    rw [show (g0 t : Int32) = 4 from ((hg _ _ hrr).1.trans hk4)]
    refine lv_iconst (v := 3) hx hb dX2_does_108 (by decide) ?_
    refine lv_icmp_eq (tgt := 145) hx hb dX2_does_109 (by decide) (fun h9 => absurd h9 (by decide)) (fun _ => ?_)
    refine lv_aload_n hx hb dX2_does_112 rfl (lv_at hl 1 rfl) ?_
    refine va_get (D := Z.1) (ci := 1) (v := .ref kd) (C := RX2) (T := TX2) (N := 17) hx hb hts in_X2 hown hE.1 (hM.at hm1) 0 rfl mm_cX2 1 (by decide) (hts _ q2379) (fun _ h9 => h9) rfl dX2_does_113 ?_
    refine lv_iload_n hx hb dX2_does_116 rfl (lv_at hl 2 rfl) ?_
    refine mm_ialdK (k := t) hx hb hE hM hc_6 rfl htl (by decide) dX2_does_117 ?_
    rw [show (g0 t : Int32) = 4 from ((hg _ _ hrr).1.trans hk4)]
    refine lv_bipush (v := 7) hx hb dX2_does_118 (by decide) ?_
    refine lv_icmp_eq (tgt := 145) hx hb dX2_does_120 (by decide) (fun h9 => absurd h9 (by decide)) (fun _ => ?_)
    refine lv_aload_n hx hb dX2_does_123 rfl (lv_at hl 1 rfl) ?_
    refine va_get (D := Z.1) (ci := 1) (v := .ref kd) (C := RX2) (T := TX2) (N := 17) hx hb hts in_X2 hown hE.1 (hM.at hm1) 0 rfl mm_cX2 1 (by decide) (hts _ q2379) (fun _ h9 => h9) rfl dX2_does_124 ?_
    refine lv_iload_n hx hb dX2_does_127 rfl (lv_at hl 2 rfl) ?_
    refine mm_ialdK (k := t) hx hb hE hM hc_6 rfl htl (by decide) dX2_does_128 ?_
    rw [show (g0 t : Int32) = 4 from ((hg _ _ hrr).1.trans hk4)]
    refine lv_bipush (v := 13) hx hb dX2_does_129 (by decide) ?_
    refine lv_icmp_eq (tgt := 145) hx hb dX2_does_131 (by decide) (fun h9 => absurd h9 (by decide)) (fun _ => ?_)
    refine lv_aload_n hx hb dX2_does_134 rfl (lv_at hl 1 rfl) ?_
    refine va_get (D := Z.1) (ci := 1) (v := .ref kd) (C := RX2) (T := TX2) (N := 17) hx hb hts in_X2 hown hE.1 (hM.at hm1) 0 rfl mm_cX2 1 (by decide) (hts _ q2379) (fun _ h9 => h9) rfl dX2_does_135 ?_
    refine lv_iload_n hx hb dX2_does_138 rfl (lv_at hl 2 rfl) ?_
    refine mm_ialdK (k := t) hx hb hE hM hc_6 rfl htl (by decide) dX2_does_139 ?_
    rw [show (g0 t : Int32) = 4 from ((hg _ _ hrr).1.trans hk4)]
    refine lv_bipush (v := 14) hx hb dX2_does_140 (by decide) ?_
    refine lv_icmp_ne (tgt := 159) hx hb dX2_does_142 (by decide) (fun _ => ?_) (fun h9 => absurd h9 (by decide))
    refine lv_null hx hb dX2_does_159 ?_
    refine lv_astoreN hx hb dX2_does_160 hl (by decide) rfl (fun ls hl => ?_)
    replace hl : lv_has ls 12 [(4, .null), (3, .ref a1), (0, .ref mo), (1, .int (nI t)), (2, va_rf sc)] := hl
    refine lv_aload_n hx hb dX2_does_162 rfl (lv_at hl 2 rfl) ?_
    refine va_get (D := Z.1) (ci := 1) (v := .int (mm_b false)) (C := RX2) (T := TX2) (N := 17) hx hb hts in_X2 hown hE.1 (hM.at hm1) 0 rfl mm_cX2 15 (by decide) (hts _ q2393) (fun _ h9 => h9) rfl dX2_does_163 ?_
    refine lv_if_eq (tgt := 171) hx hb dX2_does_166 (by decide) (fun _ => ?_) (fun h9 => absurd (by decide) h9)
    refine lv_aload_n hx hb dX2_does_171 rfl (lv_at hl 2 rfl) ?_
    refine va_get (D := Z.1) (ci := 1) (v := .ref kd) (C := RX2) (T := TX2) (N := 17) hx hb hts in_X2 hown hE.1 (hM.at hm1) 0 rfl mm_cX2 1 (by decide) (hts _ q2379) (fun _ h9 => h9) rfl dX2_does_172 ?_
    refine lv_iload_n hx hb dX2_does_175 rfl (lv_at hl 3 rfl) ?_
    refine mm_ialdK (k := t) hx hb hE hM hc_6 rfl htl (by decide) dX2_does_176 ?_
    rw [show (g0 t : Int32) = 4 from ((hg _ _ hrr).1.trans hk4)]
    refine lv_tableIn (tgt := 367) (off := 190) hx hb dX2_does_177 (by decide) (by decide) (by decide) (by decide) ?_
    refine lv_aload_n hx hb dX2_does_367 rfl (lv_at hl 2 rfl) ?_
    refine lv_aload_n hx hb dX2_does_368 rfl (lv_at hl 2 rfl) ?_
    refine va_get (D := Z.1) (ci := 1) (v := .ref f2) (C := RX2) (T := TX2) (N := 17) hx hb hts in_X2 hown hE.1 (hM.at hm1) 0 rfl mm_cX2 4 (by decide) (hts _ q2382) (fun _ h9 => h9) rfl dX2_does_369 ?_
    refine lv_iload_n hx hb dX2_does_372 rfl (lv_at hl 3 rfl) ?_
    refine mm_ialdK (k := t) hx hb hE hM hc_9 rfl htl (by decide) dX2_does_373 ?_
    rw [show (g3 t : Int32) = nI j2 from ((hg _ _ hrr).2.2.2.1.trans (pt_i_at hj2))]
    refine mm_new (D := Z.1) (ci := 33) (fs := mm_f0X39) (C := RX39) (T := TX39) (N := 4) hx hb hts in_X39 tyX39 tyX39_ok hown (hts _ q2798) (hts _ q2799) (hts _ q112) hE.1 hM hS hA mm_cX39 mm_dfX39 (by (try dsimp only); omega) (by (try dsimp only); omega) dX2_does_374 (fun q_12 H nq_11 hM hS => ?_)
    have hM : mm_P Z.1 mm_cl A (mm_U M_4 q_12 (.inr (33, [.int 0, .null, .int 0, .null]))) H := hM
    have ne_13 : mo ≠ q_12 := (mm_neN hm1 nq_11)
    have ne_14 : kd ≠ q_12 := (mm_neN hc_6 nq_11)
    have ne_15 : wh ≠ q_12 := (mm_neN hc_7 nq_11)
    have ne_16 : f1 ≠ q_12 := (mm_neN hc_8 nq_11)
    have ne_17 : f2 ≠ q_12 := (mm_neN hc_9 nq_11)
    have ne_18 : f3 ≠ q_12 := (mm_neN hc_10 nq_11)
    have hc_19 : (mm_U M_4 q_12 (.inr (33, [.int 0, .null, .int 0, .null]))) q_12 = some (.inr (33, [.int 0, .null, .int 0, .null])) := mm_U_eq
    have hc_20 : (mm_U M_4 q_12 (.inr (33, [.int 0, .null, .int 0, .null]))) mo = some (.inr (1, [.int tm, .ref kd, .ref wh, .ref f1, .ref f2, .ref f3, .ref wg, .int ea, .int sp, va_rf rt, .int th, .int ak, .int wr, .ref pl, .int (nI c1), .int (mm_b false), .long st])) := (mm_U_ne ne_13).trans hm1
    have hc_21 : (mm_U M_4 q_12 (.inr (33, [.int 0, .null, .int 0, .null]))) kd = some (.inl (Z.2.1 0, 120, .inl g0)) := (mm_U_ne ne_14).trans hc_6
    have hc_22 : (mm_U M_4 q_12 (.inr (33, [.int 0, .null, .int 0, .null]))) wh = some (.inl (Z.2.1 0, 120, .inl g1)) := (mm_U_ne ne_15).trans hc_7
    have hc_23 : (mm_U M_4 q_12 (.inr (33, [.int 0, .null, .int 0, .null]))) f1 = some (.inl (Z.2.1 0, 120, .inl g2)) := (mm_U_ne ne_16).trans hc_8
    have hc_24 : (mm_U M_4 q_12 (.inr (33, [.int 0, .null, .int 0, .null]))) f2 = some (.inl (Z.2.1 0, 120, .inl g3)) := (mm_U_ne ne_17).trans hc_9
    have hc_25 : (mm_U M_4 q_12 (.inr (33, [.int 0, .null, .int 0, .null]))) f3 = some (.inl (Z.2.1 0, 120, .inl g4)) := (mm_U_ne ne_18).trans hc_10
    obtain ⟨M_26, eM_26⟩ : ∃ z, z = mm_U M_4 q_12 (.inr (33, [.int 0, .null, .int 0, .null])) := ⟨_, rfl⟩
    rw [← eM_26] at hM hc_20 hc_21 hc_22 hc_23 hc_24 hc_25 hc_19
    refine lv_dup hx hb dX2_does_377 rfl ?_
    refine lv_aload_n hx hb dX2_does_378 rfl (lv_at hl 2 rfl) ?_
    refine va_get (D := Z.1) (ci := 1) (v := .ref wh) (C := RX2) (T := TX2) (N := 17) hx hb hts in_X2 hown hE.1 (hM.at hc_20) 0 rfl mm_cX2 2 (by decide) (hts _ q2380) (fun _ h9 => h9) rfl dX2_does_379 ?_
    refine lv_iload_n hx hb dX2_does_382 rfl (lv_at hl 3 rfl) ?_
    refine mm_ialdK (k := t) hx hb hE hM hc_22 rfl htl (by decide) dX2_does_383 ?_
    rw [show (g1 t : Int32) = r.2.1 from (((hg _ _ hrr).2.1 (by rw [hk4]; decide) (by rw [hk4]; decide)).trans (pm_no17 (by rw [hk4]; decide)))]
    refine lv_aload_n hx hb dX2_does_384 rfl (lv_at hl 1 rfl) ?_
    refine lv_iconst (v := -1) hx hb dX2_does_385 (by decide) ?_
    refine mm_aload_n hx hb dX2_does_386 rfl (lv_at hl 4 rfl) ?_
    refine mm_callI (As := [.int r.2.1, .ref a1, .int (-1), va_rf sc]) (rest := [.ref q_12, .int (nI j2), .ref mo]) ⟨hx, hb, hml, hown, hts⟩ hE hST hA (c_X39_init l Z (M := M_26) (h0 := q_12) (x1 := r.2.1) (x2 := (some a1)) (x3 := (-1)) (x4 := sc) hc_19) (cwI (maxL := 5) 4 hts (lw_meth q2802) rfl rfl rfl (hts _ q112) (hts _ q2800) (hts _ q2801) rfl (by decide +kernel) ⟨(by (try dsimp only); omega), (by (try dsimp only); omega)⟩) hM hS rfl hl.1 (Nat.le_of_ble_eq_true rfl) dX2_does_387 rfl ⟨(by (try dsimp only); omega), (by (try dsimp only); omega)⟩ (fun _ _ _ _ _ _ h9 => h9.elim) (fun v_27 M_28 H locs hp_29 hM hS => ?_)
    obtain ⟨rfl, eM_28⟩ := hp_29
    rw [eM_28] at hM
    replace hM : mm_P Z.1 mm_cl A (mm_U M_26 q_12 (.inr (33, [.int r.2.1, .ref a1, .int (-1), va_rf sc]))) H := hM
    have hc_30 : (mm_U M_26 q_12 (.inr (33, [.int r.2.1, .ref a1, .int (-1), va_rf sc]))) q_12 = some (.inr (33, [.int r.2.1, .ref a1, .int (-1), va_rf sc])) := mm_U_eq
    have hc_31 : (mm_U M_26 q_12 (.inr (33, [.int r.2.1, .ref a1, .int (-1), va_rf sc]))) mo = some (.inr (1, [.int tm, .ref kd, .ref wh, .ref f1, .ref f2, .ref f3, .ref wg, .int ea, .int sp, va_rf rt, .int th, .int ak, .int wr, .ref pl, .int (nI c1), .int (mm_b false), .long st])) := (mm_U_ne ne_13).trans hc_20
    have hc_32 : (mm_U M_26 q_12 (.inr (33, [.int r.2.1, .ref a1, .int (-1), va_rf sc]))) kd = some (.inl (Z.2.1 0, 120, .inl g0)) := (mm_U_ne ne_14).trans hc_21
    have hc_33 : (mm_U M_26 q_12 (.inr (33, [.int r.2.1, .ref a1, .int (-1), va_rf sc]))) wh = some (.inl (Z.2.1 0, 120, .inl g1)) := (mm_U_ne ne_15).trans hc_22
    have hc_34 : (mm_U M_26 q_12 (.inr (33, [.int r.2.1, .ref a1, .int (-1), va_rf sc]))) f1 = some (.inl (Z.2.1 0, 120, .inl g2)) := (mm_U_ne ne_16).trans hc_23
    have hc_35 : (mm_U M_26 q_12 (.inr (33, [.int r.2.1, .ref a1, .int (-1), va_rf sc]))) f2 = some (.inl (Z.2.1 0, 120, .inl g3)) := (mm_U_ne ne_17).trans hc_24
    have hc_36 : (mm_U M_26 q_12 (.inr (33, [.int r.2.1, .ref a1, .int (-1), va_rf sc]))) f3 = some (.inl (Z.2.1 0, 120, .inl g4)) := (mm_U_ne ne_18).trans hc_25
    obtain ⟨M_37, eM_37⟩ : ∃ z, z = mm_U M_26 q_12 (.inr (33, [.int r.2.1, .ref a1, .int (-1), va_rf sc])) := ⟨_, rfl⟩
    rw [← eM_37] at hM hc_31 hc_32 hc_33 hc_34 hc_35 hc_36 hc_30
    have kx_38 : mm_Ext M_4 M_37 := by rw [eM_37, eM_26]; exact (((mm_Ext.rf _).UU nq_11).UU nq_11)
    have e4_39 := e41.trans kx_38.Exp
    have hut := us_tail (n0 := n0) hpe5 (by omega) (by omega)
    refine mm_callV (As := [.int (nI j2), .ref q_12]) (rest := []) ⟨hx, hb, hml, hown, hts⟩ hE hST hA (ih j2 (.add (.pow w1 (nN r.2.1)) en) (c1) res M_37 (some q_12) hc_31 ((e4_39.Km HMO).mdA hA1) (by omega) (mr_env hc_30 (mr.mono ((mm_Km.rf _).trans kx_38.Km) _ _ _ _ hw1) (mr.mono (e4_39.Km HMO) _ _ _ _ hsc)) hpe5) (cwV 2 hts (lw_V q2769 q2771 qs47 q54 q2772) rfl rfl rfl (by decide +kernel) ⟨(by (try dsimp only); omega), (by (try dsimp only); omega)⟩) hM hS mm_cX2 hc_31 rfl hl.1 (Nat.le_of_ble_eq_true rfl) dX2_does_390 rfl ⟨(by (try dsimp only); omega), (by (try dsimp only); omega)⟩ (fun _ _ _ _ _ _ h9 => h9.elim) (fun v_40 M_41 H locs hp_42 hM hS => ?_)
    rcases hp_42 with ⟨w9, n9, a9, rfl, rfl, hw9, hm9, hxx9⟩ | ⟨rfl, rfl, hm9, hxx9⟩
    · skip
      exact mm_reta hx hb hr (Or.inl ⟨_, rfl⟩) (Or.inr ⟨_, rfl⟩) hlk hM hS (Or.inl ⟨w9, n9, a9, rfl, rfl, hw9, hm9, hx1.trans (e4_39.trans hxx9)⟩) dX2_does_393 (by (try dsimp only); omega) (by (try dsimp only); omega)
    · skip
      exact mm_reta hx hb hr (Or.inl ⟨_, rfl⟩) (Or.inl rfl) hlk hM hS (Or.inr ⟨rfl, rfl, hm9, hx1.trans (e4_39.trans hxx9)⟩) dX2_does_393 (by (try dsimp only); omega) (by (try dsimp only); omega)
  rw [if_neg hk4] at hpe4
  by_cases hk5 : r.1 = 5
  · skip
    rw [if_pos hk5] at hpe4
    obtain ⟨r1, hxp1⟩ := pb_ne hpe4
    obtain ⟨j1, hj1, hr1⟩ := at_some hxp1
    have hro1 := us_pb (n0 := n0) hpe4 hxp1 (mono_at (fun j => hmr _ _ _ (by omega))) (fun _ _ _ _ => (by repeat' (first | exact mono_none _ | exact mono_ret (by omega) | exact hmr _ _ _ (by omega) | exact mono_same (by omega) | exact mono_cas hmr (by omega) | (refine mono_app hmr (by omega) ?_) | (refine mono_pb ?_ (fun _ _ _ _ => ?_)) | (refine mono_at (fun _ => ?_)) | split))) (by omega) (by omega)
    refine lv_aload_n hx hb dX2_does_27 rfl (lv_at hl 0 rfl) ?_
    refine va_get (D := Z.1) (ci := 1) (v := .ref kd) (C := RX2) (T := TX2) (N := 17) hx hb hts in_X2 hown hE.1 (hM.at HMO) 0 rfl mm_cX2 1 (by decide) (hts _ q2379) (fun _ h9 => h9) rfl dX2_does_28 ?_
    refine lv_iload_n hx hb dX2_does_31 rfl (lv_at hl 1 rfl) ?_
    refine mm_ialdK (k := t) hx hb hE hM ea0 rfl htl (by decide) dX2_does_32 ?_
    rw [show (g0 t : Int32) = 5 from ((hg _ _ hrr).1.trans hk5)]
    refine lv_if_eq (tgt := 77) hx hb dX2_does_33 (by decide) (fun h9 => absurd h9 (by decide)) (fun _ => ?_)
    refine lv_aload_n hx hb dX2_does_36 rfl (lv_at hl 0 rfl) ?_
    refine va_get (D := Z.1) (ci := 1) (v := .ref kd) (C := RX2) (T := TX2) (N := 17) hx hb hts in_X2 hown hE.1 (hM.at HMO) 0 rfl mm_cX2 1 (by decide) (hts _ q2379) (fun _ h9 => h9) rfl dX2_does_37 ?_
    refine lv_iload_n hx hb dX2_does_40 rfl (lv_at hl 1 rfl) ?_
    refine mm_ialdK (k := t) hx hb hE hM ea0 rfl htl (by decide) dX2_does_41 ?_
    rw [show (g0 t : Int32) = 5 from ((hg _ _ hrr).1.trans hk5)]
    refine lv_iconst (v := 1) hx hb dX2_does_42 (by decide) ?_
    refine lv_icmp_eq (tgt := 77) hx hb dX2_does_43 (by decide) (fun h9 => absurd h9 (by decide)) (fun _ => ?_)
    refine lv_aload_n hx hb dX2_does_46 rfl (lv_at hl 0 rfl) ?_
    refine va_get (D := Z.1) (ci := 1) (v := .ref kd) (C := RX2) (T := TX2) (N := 17) hx hb hts in_X2 hown hE.1 (hM.at HMO) 0 rfl mm_cX2 1 (by decide) (hts _ q2379) (fun _ h9 => h9) rfl dX2_does_47 ?_
    refine lv_iload_n hx hb dX2_does_50 rfl (lv_at hl 1 rfl) ?_
    refine mm_ialdK (k := t) hx hb hE hM ea0 rfl htl (by decide) dX2_does_51 ?_
    rw [show (g0 t : Int32) = 5 from ((hg _ _ hrr).1.trans hk5)]
    refine lv_iconst (v := 2) hx hb dX2_does_52 (by decide) ?_
    refine lv_icmp_eq (tgt := 77) hx hb dX2_does_53 (by decide) (fun h9 => absurd h9 (by decide)) (fun _ => ?_)
    refine lv_aload_n hx hb dX2_does_56 rfl (lv_at hl 0 rfl) ?_
    refine va_get (D := Z.1) (ci := 1) (v := .ref kd) (C := RX2) (T := TX2) (N := 17) hx hb hts in_X2 hown hE.1 (hM.at HMO) 0 rfl mm_cX2 1 (by decide) (hts _ q2379) (fun _ h9 => h9) rfl dX2_does_57 ?_
    refine lv_iload_n hx hb dX2_does_60 rfl (lv_at hl 1 rfl) ?_
    refine mm_ialdK (k := t) hx hb hE hM ea0 rfl htl (by decide) dX2_does_61 ?_
    rw [show (g0 t : Int32) = 5 from ((hg _ _ hrr).1.trans hk5)]
    refine lv_bipush (v := 6) hx hb dX2_does_62 (by decide) ?_
    refine lv_icmp_eq (tgt := 77) hx hb dX2_does_64 (by decide) (fun h9 => absurd h9 (by decide)) (fun _ => ?_)
    refine lv_aload_n hx hb dX2_does_67 rfl (lv_at hl 0 rfl) ?_
    refine va_get (D := Z.1) (ci := 1) (v := .ref kd) (C := RX2) (T := TX2) (N := 17) hx hb hts in_X2 hown hE.1 (hM.at HMO) 0 rfl mm_cX2 1 (by decide) (hts _ q2379) (fun _ h9 => h9) rfl dX2_does_68 ?_
    refine lv_iload_n hx hb dX2_does_71 rfl (lv_at hl 1 rfl) ?_
    refine mm_ialdK (k := t) hx hb hE hM ea0 rfl htl (by decide) dX2_does_72 ?_
    rw [show (g0 t : Int32) = 5 from ((hg _ _ hrr).1.trans hk5)]
    refine lv_iconst (v := 5) hx hb dX2_does_73 (by decide) ?_
    refine lv_icmp_ne (tgt := 81) hx hb dX2_does_74 (by decide) (fun h9 => absurd (by decide) h9) (fun _ => ?_)
    refine lv_null hx hb dX2_does_77 ?_
    refine lv_goto (tgt := 92) hx hb dX2_does_78 (by decide) ?_
    refine lv_astore_nN (lv' := [(3, .null), (0, .ref mo), (1, .int (nI t)), (2, va_rf sc)]) hx hb dX2_does_92 rfl hl (by decide) (by simp [mm_cat_o, mm_cat_r, mm_cat_i, mm_cat_n, mm_cat_l] <;> decide) (fun ls hl => ?_)
    refine lv_aload_n hx hb dX2_does_93 rfl (lv_at hl 1 rfl) ?_
    refine va_get (D := Z.1) (ci := 1) (v := .int (mm_b false)) (C := RX2) (T := TX2) (N := 17) hx hb hts in_X2 hown hE.1 (hM.at HMO) 0 rfl mm_cX2 15 (by decide) (hts _ q2393) (fun _ h9 => h9) rfl dX2_does_94 ?_
    refine lv_if_eq (tgt := 102) hx hb dX2_does_97 (by decide) (fun _ => ?_) (fun h9 => absurd (by decide) h9)
    refine lv_aload_n hx hb dX2_does_102 rfl (lv_at hl 1 rfl) ?_
    refine va_get (D := Z.1) (ci := 1) (v := .ref kd) (C := RX2) (T := TX2) (N := 17) hx hb hts in_X2 hown hE.1 (hM.at HMO) 0 rfl mm_cX2 1 (by decide) (hts _ q2379) (fun _ h9 => h9) rfl dX2_does_103 ?_
    refine lv_iload_n hx hb dX2_does_106 rfl (lv_at hl 2 rfl) ?_
    refine mm_ialdK (k := t) hx hb hE hM ea0 rfl htl (by decide) dX2_does_107 ?_
    rw [show (g0 t : Int32) = 5 from ((hg _ _ hrr).1.trans hk5)]
    refine lv_iconst (v := 3) hx hb dX2_does_108 (by decide) ?_
    refine lv_icmp_eq (tgt := 145) hx hb dX2_does_109 (by decide) (fun h9 => absurd h9 (by decide)) (fun _ => ?_)
    refine lv_aload_n hx hb dX2_does_112 rfl (lv_at hl 1 rfl) ?_
    refine va_get (D := Z.1) (ci := 1) (v := .ref kd) (C := RX2) (T := TX2) (N := 17) hx hb hts in_X2 hown hE.1 (hM.at HMO) 0 rfl mm_cX2 1 (by decide) (hts _ q2379) (fun _ h9 => h9) rfl dX2_does_113 ?_
    refine lv_iload_n hx hb dX2_does_116 rfl (lv_at hl 2 rfl) ?_
    refine mm_ialdK (k := t) hx hb hE hM ea0 rfl htl (by decide) dX2_does_117 ?_
    rw [show (g0 t : Int32) = 5 from ((hg _ _ hrr).1.trans hk5)]
    refine lv_bipush (v := 7) hx hb dX2_does_118 (by decide) ?_
    refine lv_icmp_eq (tgt := 145) hx hb dX2_does_120 (by decide) (fun h9 => absurd h9 (by decide)) (fun _ => ?_)
    refine lv_aload_n hx hb dX2_does_123 rfl (lv_at hl 1 rfl) ?_
    refine va_get (D := Z.1) (ci := 1) (v := .ref kd) (C := RX2) (T := TX2) (N := 17) hx hb hts in_X2 hown hE.1 (hM.at HMO) 0 rfl mm_cX2 1 (by decide) (hts _ q2379) (fun _ h9 => h9) rfl dX2_does_124 ?_
    refine lv_iload_n hx hb dX2_does_127 rfl (lv_at hl 2 rfl) ?_
    refine mm_ialdK (k := t) hx hb hE hM ea0 rfl htl (by decide) dX2_does_128 ?_
    rw [show (g0 t : Int32) = 5 from ((hg _ _ hrr).1.trans hk5)]
    refine lv_bipush (v := 13) hx hb dX2_does_129 (by decide) ?_
    refine lv_icmp_eq (tgt := 145) hx hb dX2_does_131 (by decide) (fun h9 => absurd h9 (by decide)) (fun _ => ?_)
    refine lv_aload_n hx hb dX2_does_134 rfl (lv_at hl 1 rfl) ?_
    refine va_get (D := Z.1) (ci := 1) (v := .ref kd) (C := RX2) (T := TX2) (N := 17) hx hb hts in_X2 hown hE.1 (hM.at HMO) 0 rfl mm_cX2 1 (by decide) (hts _ q2379) (fun _ h9 => h9) rfl dX2_does_135 ?_
    refine lv_iload_n hx hb dX2_does_138 rfl (lv_at hl 2 rfl) ?_
    refine mm_ialdK (k := t) hx hb hE hM ea0 rfl htl (by decide) dX2_does_139 ?_
    rw [show (g0 t : Int32) = 5 from ((hg _ _ hrr).1.trans hk5)]
    refine lv_bipush (v := 14) hx hb dX2_does_140 (by decide) ?_
    refine lv_icmp_ne (tgt := 159) hx hb dX2_does_142 (by decide) (fun _ => ?_) (fun h9 => absurd h9 (by decide))
    refine lv_null hx hb dX2_does_159 ?_
    refine lv_astoreN hx hb dX2_does_160 hl (by decide) rfl (fun ls hl => ?_)
    replace hl : lv_has ls 12 [(4, .null), (3, .null), (0, .ref mo), (1, .int (nI t)), (2, va_rf sc)] := hl
    refine lv_aload_n hx hb dX2_does_162 rfl (lv_at hl 2 rfl) ?_
    refine va_get (D := Z.1) (ci := 1) (v := .int (mm_b false)) (C := RX2) (T := TX2) (N := 17) hx hb hts in_X2 hown hE.1 (hM.at HMO) 0 rfl mm_cX2 15 (by decide) (hts _ q2393) (fun _ h9 => h9) rfl dX2_does_163 ?_
    refine lv_if_eq (tgt := 171) hx hb dX2_does_166 (by decide) (fun _ => ?_) (fun h9 => absurd (by decide) h9)
    refine lv_aload_n hx hb dX2_does_171 rfl (lv_at hl 2 rfl) ?_
    refine va_get (D := Z.1) (ci := 1) (v := .ref kd) (C := RX2) (T := TX2) (N := 17) hx hb hts in_X2 hown hE.1 (hM.at HMO) 0 rfl mm_cX2 1 (by decide) (hts _ q2379) (fun _ h9 => h9) rfl dX2_does_172 ?_
    refine lv_iload_n hx hb dX2_does_175 rfl (lv_at hl 3 rfl) ?_
    refine mm_ialdK (k := t) hx hb hE hM ea0 rfl htl (by decide) dX2_does_176 ?_
    rw [show (g0 t : Int32) = 5 from ((hg _ _ hrr).1.trans hk5)]
    refine lv_tableIn (tgt := 394) (off := 217) hx hb dX2_does_177 (by decide) (by decide) (by decide) (by decide) ?_
    refine lv_aload_n hx hb dX2_does_394 rfl (lv_at hl 2 rfl) ?_
    refine lv_aload_n hx hb dX2_does_395 rfl (lv_at hl 2 rfl) ?_
    refine va_get (D := Z.1) (ci := 1) (v := .ref f1) (C := RX2) (T := TX2) (N := 17) hx hb hts in_X2 hown hE.1 (hM.at HMO) 0 rfl mm_cX2 3 (by decide) (hts _ q2381) (fun _ h9 => h9) rfl dX2_does_396 ?_
    refine lv_iload_n hx hb dX2_does_399 rfl (lv_at hl 3 rfl) ?_
    refine mm_ialdK (k := t) hx hb hE hM ea2 rfl htl (by decide) dX2_does_400 ?_
    rw [show (g2 t : Int32) = nI j1 from ((hg _ _ hrr).2.2.1.trans (pt_i_at hj1))]
    refine mm_new (D := Z.1) (ci := 33) (fs := mm_f0X39) (C := RX39) (T := TX39) (N := 4) hx hb hts in_X39 tyX39 tyX39_ok hown (hts _ q2798) (hts _ q2799) (hts _ q112) hE.1 hM hS hA mm_cX39 mm_dfX39 (by (try dsimp only); omega) (by (try dsimp only); omega) dX2_does_401 (fun q_4 H nq_3 hM hS => ?_)
    have hM : mm_P Z.1 mm_cl A (mm_U M_2 q_4 (.inr (33, [.int 0, .null, .int 0, .null]))) H := hM
    have ne_5 : mo ≠ q_4 := (mm_neN HMO nq_3)
    have ne_6 : kd ≠ q_4 := (mm_neN ea0 nq_3)
    have ne_7 : wh ≠ q_4 := (mm_neN ea1 nq_3)
    have ne_8 : f1 ≠ q_4 := (mm_neN ea2 nq_3)
    have ne_9 : f2 ≠ q_4 := (mm_neN ea3 nq_3)
    have ne_10 : f3 ≠ q_4 := (mm_neN ea4 nq_3)
    have hc_11 : (mm_U M_2 q_4 (.inr (33, [.int 0, .null, .int 0, .null]))) q_4 = some (.inr (33, [.int 0, .null, .int 0, .null])) := mm_U_eq
    have hc_12 : (mm_U M_2 q_4 (.inr (33, [.int 0, .null, .int 0, .null]))) mo = some (.inr (1, [.int tm, .ref kd, .ref wh, .ref f1, .ref f2, .ref f3, .ref wg, .int ea, .int sp, va_rf rt, .int th, .int ak, .int wr, .ref pl, .int (nI (n0 + 1)), .int (mm_b false), .long st])) := (mm_U_ne ne_5).trans HMO
    have hc_13 : (mm_U M_2 q_4 (.inr (33, [.int 0, .null, .int 0, .null]))) kd = some (.inl (Z.2.1 0, 120, .inl g0)) := (mm_U_ne ne_6).trans ea0
    have hc_14 : (mm_U M_2 q_4 (.inr (33, [.int 0, .null, .int 0, .null]))) wh = some (.inl (Z.2.1 0, 120, .inl g1)) := (mm_U_ne ne_7).trans ea1
    have hc_15 : (mm_U M_2 q_4 (.inr (33, [.int 0, .null, .int 0, .null]))) f1 = some (.inl (Z.2.1 0, 120, .inl g2)) := (mm_U_ne ne_8).trans ea2
    have hc_16 : (mm_U M_2 q_4 (.inr (33, [.int 0, .null, .int 0, .null]))) f2 = some (.inl (Z.2.1 0, 120, .inl g3)) := (mm_U_ne ne_9).trans ea3
    have hc_17 : (mm_U M_2 q_4 (.inr (33, [.int 0, .null, .int 0, .null]))) f3 = some (.inl (Z.2.1 0, 120, .inl g4)) := (mm_U_ne ne_10).trans ea4
    obtain ⟨M_18, eM_18⟩ : ∃ z, z = mm_U M_2 q_4 (.inr (33, [.int 0, .null, .int 0, .null])) := ⟨_, rfl⟩
    rw [← eM_18] at hM hc_12 hc_13 hc_14 hc_15 hc_16 hc_17 hc_11
    refine lv_dup hx hb dX2_does_404 rfl ?_
    refine lv_aload_n hx hb dX2_does_405 rfl (lv_at hl 2 rfl) ?_
    refine va_get (D := Z.1) (ci := 1) (v := .ref wh) (C := RX2) (T := TX2) (N := 17) hx hb hts in_X2 hown hE.1 (hM.at hc_12) 0 rfl mm_cX2 2 (by decide) (hts _ q2380) (fun _ h9 => h9) rfl dX2_does_406 ?_
    refine lv_iload_n hx hb dX2_does_409 rfl (lv_at hl 3 rfl) ?_
    refine mm_ialdK (k := t) hx hb hE hM hc_14 rfl htl (by decide) dX2_does_410 ?_
    rw [show (g1 t : Int32) = r.2.1 from (((hg _ _ hrr).2.1 (by rw [hk5]; decide) (by rw [hk5]; decide)).trans (pm_no17 (by rw [hk5]; decide)))]
    refine lv_null hx hb dX2_does_411 ?_
    refine lv_aload_n hx hb dX2_does_412 rfl (lv_at hl 2 rfl) ?_
    refine va_get (D := Z.1) (ci := 1) (v := .ref f1) (C := RX2) (T := TX2) (N := 17) hx hb hts in_X2 hown hE.1 (hM.at hc_12) 0 rfl mm_cX2 3 (by decide) (hts _ q2381) (fun _ h9 => h9) rfl dX2_does_413 ?_
    refine lv_iload_n hx hb dX2_does_416 rfl (lv_at hl 3 rfl) ?_
    refine mm_ialdK (k := t) hx hb hE hM hc_15 rfl htl (by decide) dX2_does_417 ?_
    rw [show (g2 t : Int32) = nI j1 from ((hg _ _ hrr).2.2.1.trans (pt_i_at hj1))]
    refine mm_aload_n hx hb dX2_does_418 rfl (lv_at hl 4 rfl) ?_
    refine mm_callI (As := [.int r.2.1, .null, .int (nI j1), va_rf sc]) (rest := [.ref q_4, .int (nI j1), .ref mo]) ⟨hx, hb, hml, hown, hts⟩ hE hST hA (c_X39_init l Z (M := M_18) (h0 := q_4) (x1 := r.2.1) (x2 := none) (x3 := (nI j1)) (x4 := sc) hc_11) (cwI (maxL := 5) 4 hts (lw_meth q2802) rfl rfl rfl (hts _ q112) (hts _ q2800) (hts _ q2801) rfl (by decide +kernel) ⟨(by (try dsimp only); omega), (by (try dsimp only); omega)⟩) hM hS rfl hl.1 (Nat.le_of_ble_eq_true rfl) dX2_does_419 rfl ⟨(by (try dsimp only); omega), (by (try dsimp only); omega)⟩ (fun _ _ _ _ _ _ h9 => h9.elim) (fun v_19 M_20 H locs hp_21 hM hS => ?_)
    obtain ⟨rfl, eM_20⟩ := hp_21
    rw [eM_20] at hM
    replace hM : mm_P Z.1 mm_cl A (mm_U M_18 q_4 (.inr (33, [.int r.2.1, .null, .int (nI j1), va_rf sc]))) H := hM
    have hc_22 : (mm_U M_18 q_4 (.inr (33, [.int r.2.1, .null, .int (nI j1), va_rf sc]))) q_4 = some (.inr (33, [.int r.2.1, .null, .int (nI j1), va_rf sc])) := mm_U_eq
    have hc_23 : (mm_U M_18 q_4 (.inr (33, [.int r.2.1, .null, .int (nI j1), va_rf sc]))) mo = some (.inr (1, [.int tm, .ref kd, .ref wh, .ref f1, .ref f2, .ref f3, .ref wg, .int ea, .int sp, va_rf rt, .int th, .int ak, .int wr, .ref pl, .int (nI (n0 + 1)), .int (mm_b false), .long st])) := (mm_U_ne ne_5).trans hc_12
    have hc_24 : (mm_U M_18 q_4 (.inr (33, [.int r.2.1, .null, .int (nI j1), va_rf sc]))) kd = some (.inl (Z.2.1 0, 120, .inl g0)) := (mm_U_ne ne_6).trans hc_13
    have hc_25 : (mm_U M_18 q_4 (.inr (33, [.int r.2.1, .null, .int (nI j1), va_rf sc]))) wh = some (.inl (Z.2.1 0, 120, .inl g1)) := (mm_U_ne ne_7).trans hc_14
    have hc_26 : (mm_U M_18 q_4 (.inr (33, [.int r.2.1, .null, .int (nI j1), va_rf sc]))) f1 = some (.inl (Z.2.1 0, 120, .inl g2)) := (mm_U_ne ne_8).trans hc_15
    have hc_27 : (mm_U M_18 q_4 (.inr (33, [.int r.2.1, .null, .int (nI j1), va_rf sc]))) f2 = some (.inl (Z.2.1 0, 120, .inl g3)) := (mm_U_ne ne_9).trans hc_16
    have hc_28 : (mm_U M_18 q_4 (.inr (33, [.int r.2.1, .null, .int (nI j1), va_rf sc]))) f3 = some (.inl (Z.2.1 0, 120, .inl g4)) := (mm_U_ne ne_10).trans hc_17
    obtain ⟨M_29, eM_29⟩ : ∃ z, z = mm_U M_18 q_4 (.inr (33, [.int r.2.1, .null, .int (nI j1), va_rf sc])) := ⟨_, rfl⟩
    rw [← eM_29] at hM hc_23 hc_24 hc_25 hc_26 hc_27 hc_28 hc_22
    have kx_30 : mm_Ext M_2 M_29 := by rw [eM_29, eM_18]; exact (((mm_Ext.rf _).UU nq_3).UU nq_3)
    have e4_31 := e40.trans kx_30.Exp
    refine mm_callV (As := [.int (nI j1), .ref q_4]) (rest := []) ⟨hx, hb, hml, hown, hts⟩ hE hST hA (ih j1 (.add (.sub (.natCast j1) (.natCast (nN r.2.1))) en) (n0 + 1) r1 M_29 (some q_4) hc_23 ((e4_31.Km HMO).mdA hA1) (by omega) (mr_again hc_22 (mr.mono (e4_31.Km HMO) _ _ _ _ hsc)) hr1) (cwV 2 hts (lw_V q2769 q2771 qs47 q54 q2772) rfl rfl rfl (by decide +kernel) ⟨(by (try dsimp only); omega), (by (try dsimp only); omega)⟩) hM hS mm_cX2 hc_23 rfl hl.1 (Nat.le_of_ble_eq_true rfl) dX2_does_422 rfl ⟨(by (try dsimp only); omega), (by (try dsimp only); omega)⟩ (fun _ _ _ _ _ _ h9 => h9.elim) (fun v_32 M_33 H locs hp_34 hM hS => ?_)
    rcases hp_34.symm with ⟨rfl, rfl, hmf, hxf⟩ | ⟨w1, c1, a1, rfl, rfl, hw1, hm1, hxx1⟩
    · skip
      have hu9 : us (n0 + 1) (none : Option (ev × Nat)) = 1001 - (n0 + 1) := rfl
      refine lv_astoreN hx hb dX2_does_425 hl (by decide) rfl (fun ls hl => ?_)
      replace hl : lv_has ls 12 [(7, .null), (4, .null), (3, .null), (0, .ref mo), (1, .int (nI t)), (2, va_rf sc)] := hl
      refine lv_aload_n hx hb dX2_does_427 rfl (lv_at hl 3 rfl) ?_
      refine va_get (D := Z.1) (ci := 1) (v := .int (mm_b true)) (C := RX2) (T := TX2) (N := 17) hx hb hts in_X2 hown hE.1 (hM.at hmf) 0 rfl mm_cX2 15 (by decide) (hts _ q2393) (fun _ h9 => h9) rfl dX2_does_428 ?_
      refine lv_if_eq (tgt := 438) hx hb dX2_does_431 (by decide) (fun h9 => absurd h9 (by decide)) (fun _ => ?_)
      refine lv_null hx hb dX2_does_434 ?_
      refine lv_goto (tgt := 465) hx hb dX2_does_435 (by decide) ?_
      exact mm_reta hx hb hr (Or.inl ⟨_, rfl⟩) (Or.inl rfl) hlk hM hS (Or.inr ⟨hro1.2.1 rfl, rfl, hmf, hx1.trans (e4_31.trans hxf)⟩) dX2_does_465 (by (try dsimp only); omega) (by (try dsimp only); omega)
    obtain ⟨hpe1, hca1, hcb1⟩ := hro1.2.2 w1 c1 rfl
    have hu1 : us (n0 + 1) (some (w1, c1)) = c1 - (n0 + 1) := rfl
    have e41 := e4_31.trans hxx1
    have hc_35 := hxx1.atMA hc_23 hc_24
    have hc_36 := hxx1.atMA hc_23 hc_25
    have hc_37 := hxx1.atMA hc_23 hc_26
    have hc_38 := hxx1.atMA hc_23 hc_27
    have hc_39 := hxx1.atMA hc_23 hc_28
    have hc_40 := hxx1.atM hc_23 hc_22 (by decide)
    obtain ⟨j2, hj2, hpe5⟩ := at_some hpe1
    refine lv_astore hx hb dX2_does_425 hl (by decide) rfl (fun ls hl => ?_)
    replace hl : lv_has ls 12 [(7, .ref a1), (4, .null), (3, .null), (0, .ref mo), (1, .int (nI t)), (2, va_rf sc)] := hl
    refine lv_aload_n hx hb dX2_does_427 rfl (lv_at hl 3 rfl) ?_
    refine va_get (D := Z.1) (ci := 1) (v := .int (mm_b false)) (C := RX2) (T := TX2) (N := 17) hx hb hts in_X2 hown hE.1 (hM.at hm1) 0 rfl mm_cX2 15 (by decide) (hts _ q2393) (fun _ h9 => h9) rfl dX2_does_428 ?_
    refine lv_if_eq (tgt := 438) hx hb dX2_does_431 (by decide) (fun _ => ?_) (fun h9 => absurd (by decide) h9)
    refine lv_aload_n hx hb dX2_does_438 rfl (lv_at hl 3 rfl) ?_
    refine lv_aload_n hx hb dX2_does_439 rfl (lv_at hl 3 rfl) ?_
    refine va_get (D := Z.1) (ci := 1) (v := .ref f2) (C := RX2) (T := TX2) (N := 17) hx hb hts in_X2 hown hE.1 (hM.at hm1) 0 rfl mm_cX2 4 (by decide) (hts _ q2382) (fun _ h9 => h9) rfl dX2_does_440 ?_
    refine lv_iload_n hx hb dX2_does_443 rfl (lv_at hl 4 rfl) ?_
    refine mm_ialdK (k := t) hx hb hE hM hc_38 rfl htl (by decide) dX2_does_444 ?_
    rw [show (g3 t : Int32) = nI j2 from ((hg _ _ hrr).2.2.2.1.trans (pt_i_at hj2))]
    refine mm_new (D := Z.1) (ci := 33) (fs := mm_f0X39) (C := RX39) (T := TX39) (N := 4) hx hb hts in_X39 tyX39 tyX39_ok hown (hts _ q2798) (hts _ q2799) (hts _ q112) hE.1 hM hS hA mm_cX39 mm_dfX39 (by (try dsimp only); omega) (by (try dsimp only); omega) dX2_does_445 (fun q_42 H nq_41 hM hS => ?_)
    have hM : mm_P Z.1 mm_cl A (mm_U M_33 q_42 (.inr (33, [.int 0, .null, .int 0, .null]))) H := hM
    have ne_43 : mo ≠ q_42 := (mm_neN hm1 nq_41)
    have ne_44 : kd ≠ q_42 := (mm_neN hc_35 nq_41)
    have ne_45 : wh ≠ q_42 := (mm_neN hc_36 nq_41)
    have ne_46 : f1 ≠ q_42 := (mm_neN hc_37 nq_41)
    have ne_47 : f2 ≠ q_42 := (mm_neN hc_38 nq_41)
    have ne_48 : f3 ≠ q_42 := (mm_neN hc_39 nq_41)
    have ne_49 : q_4 ≠ q_42 := (mm_neN hc_40 nq_41)
    have hc_50 : (mm_U M_33 q_42 (.inr (33, [.int 0, .null, .int 0, .null]))) q_42 = some (.inr (33, [.int 0, .null, .int 0, .null])) := mm_U_eq
    have hc_51 : (mm_U M_33 q_42 (.inr (33, [.int 0, .null, .int 0, .null]))) mo = some (.inr (1, [.int tm, .ref kd, .ref wh, .ref f1, .ref f2, .ref f3, .ref wg, .int ea, .int sp, va_rf rt, .int th, .int ak, .int wr, .ref pl, .int (nI c1), .int (mm_b false), .long st])) := (mm_U_ne ne_43).trans hm1
    have hc_52 : (mm_U M_33 q_42 (.inr (33, [.int 0, .null, .int 0, .null]))) kd = some (.inl (Z.2.1 0, 120, .inl g0)) := (mm_U_ne ne_44).trans hc_35
    have hc_53 : (mm_U M_33 q_42 (.inr (33, [.int 0, .null, .int 0, .null]))) wh = some (.inl (Z.2.1 0, 120, .inl g1)) := (mm_U_ne ne_45).trans hc_36
    have hc_54 : (mm_U M_33 q_42 (.inr (33, [.int 0, .null, .int 0, .null]))) f1 = some (.inl (Z.2.1 0, 120, .inl g2)) := (mm_U_ne ne_46).trans hc_37
    have hc_55 : (mm_U M_33 q_42 (.inr (33, [.int 0, .null, .int 0, .null]))) f2 = some (.inl (Z.2.1 0, 120, .inl g3)) := (mm_U_ne ne_47).trans hc_38
    have hc_56 : (mm_U M_33 q_42 (.inr (33, [.int 0, .null, .int 0, .null]))) f3 = some (.inl (Z.2.1 0, 120, .inl g4)) := (mm_U_ne ne_48).trans hc_39
    have hc_57 : (mm_U M_33 q_42 (.inr (33, [.int 0, .null, .int 0, .null]))) q_4 = some (.inr (33, [.int r.2.1, .null, .int (nI j1), va_rf sc])) := (mm_U_ne ne_49).trans hc_40
    obtain ⟨M_58, eM_58⟩ : ∃ z, z = mm_U M_33 q_42 (.inr (33, [.int 0, .null, .int 0, .null])) := ⟨_, rfl⟩
    rw [← eM_58] at hM hc_51 hc_52 hc_53 hc_54 hc_55 hc_56 hc_57 hc_50
    refine lv_dup hx hb dX2_does_448 rfl ?_
    refine lv_aload_n hx hb dX2_does_449 rfl (lv_at hl 3 rfl) ?_
    refine va_get (D := Z.1) (ci := 1) (v := .ref wh) (C := RX2) (T := TX2) (N := 17) hx hb hts in_X2 hown hE.1 (hM.at hc_51) 0 rfl mm_cX2 2 (by decide) (hts _ q2380) (fun _ h9 => h9) rfl dX2_does_450 ?_
    refine lv_iload_n hx hb dX2_does_453 rfl (lv_at hl 4 rfl) ?_
    refine mm_ialdK (k := t) hx hb hE hM hc_53 rfl htl (by decide) dX2_does_454 ?_
    rw [show (g1 t : Int32) = r.2.1 from (((hg _ _ hrr).2.1 (by rw [hk5]; decide) (by rw [hk5]; decide)).trans (pm_no17 (by rw [hk5]; decide)))]
    refine lv_aload hx hb dX2_does_455 (lv_at hl 0 rfl) ?_
    refine lv_iconst (v := -1) hx hb dX2_does_457 (by decide) ?_
    refine mm_aload_n hx hb dX2_does_458 rfl (lv_at hl 5 rfl) ?_
    refine mm_callI (As := [.int r.2.1, .ref a1, .int (-1), va_rf sc]) (rest := [.ref q_42, .int (nI j2), .ref mo]) ⟨hx, hb, hml, hown, hts⟩ hE hST hA (c_X39_init l Z (M := M_58) (h0 := q_42) (x1 := r.2.1) (x2 := (some a1)) (x3 := (-1)) (x4 := sc) hc_50) (cwI (maxL := 5) 4 hts (lw_meth q2802) rfl rfl rfl (hts _ q112) (hts _ q2800) (hts _ q2801) rfl (by decide +kernel) ⟨(by (try dsimp only); omega), (by (try dsimp only); omega)⟩) hM hS rfl hl.1 (Nat.le_of_ble_eq_true rfl) dX2_does_459 rfl ⟨(by (try dsimp only); omega), (by (try dsimp only); omega)⟩ (fun _ _ _ _ _ _ h9 => h9.elim) (fun v_59 M_60 H locs hp_61 hM hS => ?_)
    obtain ⟨rfl, eM_60⟩ := hp_61
    rw [eM_60] at hM
    replace hM : mm_P Z.1 mm_cl A (mm_U M_58 q_42 (.inr (33, [.int r.2.1, .ref a1, .int (-1), va_rf sc]))) H := hM
    have hc_62 : (mm_U M_58 q_42 (.inr (33, [.int r.2.1, .ref a1, .int (-1), va_rf sc]))) q_42 = some (.inr (33, [.int r.2.1, .ref a1, .int (-1), va_rf sc])) := mm_U_eq
    have hc_63 : (mm_U M_58 q_42 (.inr (33, [.int r.2.1, .ref a1, .int (-1), va_rf sc]))) mo = some (.inr (1, [.int tm, .ref kd, .ref wh, .ref f1, .ref f2, .ref f3, .ref wg, .int ea, .int sp, va_rf rt, .int th, .int ak, .int wr, .ref pl, .int (nI c1), .int (mm_b false), .long st])) := (mm_U_ne ne_43).trans hc_51
    have hc_64 : (mm_U M_58 q_42 (.inr (33, [.int r.2.1, .ref a1, .int (-1), va_rf sc]))) kd = some (.inl (Z.2.1 0, 120, .inl g0)) := (mm_U_ne ne_44).trans hc_52
    have hc_65 : (mm_U M_58 q_42 (.inr (33, [.int r.2.1, .ref a1, .int (-1), va_rf sc]))) wh = some (.inl (Z.2.1 0, 120, .inl g1)) := (mm_U_ne ne_45).trans hc_53
    have hc_66 : (mm_U M_58 q_42 (.inr (33, [.int r.2.1, .ref a1, .int (-1), va_rf sc]))) f1 = some (.inl (Z.2.1 0, 120, .inl g2)) := (mm_U_ne ne_46).trans hc_54
    have hc_67 : (mm_U M_58 q_42 (.inr (33, [.int r.2.1, .ref a1, .int (-1), va_rf sc]))) f2 = some (.inl (Z.2.1 0, 120, .inl g3)) := (mm_U_ne ne_47).trans hc_55
    have hc_68 : (mm_U M_58 q_42 (.inr (33, [.int r.2.1, .ref a1, .int (-1), va_rf sc]))) f3 = some (.inl (Z.2.1 0, 120, .inl g4)) := (mm_U_ne ne_48).trans hc_56
    have hc_69 : (mm_U M_58 q_42 (.inr (33, [.int r.2.1, .ref a1, .int (-1), va_rf sc]))) q_4 = some (.inr (33, [.int r.2.1, .null, .int (nI j1), va_rf sc])) := (mm_U_ne ne_49).trans hc_57
    obtain ⟨M_70, eM_70⟩ : ∃ z, z = mm_U M_58 q_42 (.inr (33, [.int r.2.1, .ref a1, .int (-1), va_rf sc])) := ⟨_, rfl⟩
    rw [← eM_70] at hM hc_63 hc_64 hc_65 hc_66 hc_67 hc_68 hc_69 hc_62
    have kx_71 : mm_Ext M_33 M_70 := by rw [eM_70, eM_58]; exact (((mm_Ext.rf _).UU nq_41).UU nq_41)
    have e4_72 := e41.trans kx_71.Exp
    have hut := us_tail (n0 := n0) hpe5 (by omega) (by omega)
    refine mm_callV (As := [.int (nI j2), .ref q_42]) (rest := []) ⟨hx, hb, hml, hown, hts⟩ hE hST hA (ih j2 (.add (.pow w1 (nN r.2.1)) en) (c1) res M_70 (some q_42) hc_63 ((e4_72.Km HMO).mdA hA1) (by omega) (mr_env hc_62 (mr.mono ((mm_Km.rf _).trans kx_71.Km) _ _ _ _ hw1) (mr.mono (e4_72.Km HMO) _ _ _ _ hsc)) hpe5) (cwV 2 hts (lw_V q2769 q2771 qs47 q54 q2772) rfl rfl rfl (by decide +kernel) ⟨(by (try dsimp only); omega), (by (try dsimp only); omega)⟩) hM hS mm_cX2 hc_63 rfl hl.1 (Nat.le_of_ble_eq_true rfl) dX2_does_462 rfl ⟨(by (try dsimp only); omega), (by (try dsimp only); omega)⟩ (fun _ _ _ _ _ _ h9 => h9.elim) (fun v_73 M_74 H locs hp_75 hM hS => ?_)
    rcases hp_75 with ⟨w9, n9, a9, rfl, rfl, hw9, hm9, hxx9⟩ | ⟨rfl, rfl, hm9, hxx9⟩
    · skip
      exact mm_reta hx hb hr (Or.inl ⟨_, rfl⟩) (Or.inr ⟨_, rfl⟩) hlk hM hS (Or.inl ⟨w9, n9, a9, rfl, rfl, hw9, hm9, hx1.trans (e4_72.trans hxx9)⟩) dX2_does_465 (by (try dsimp only); omega) (by (try dsimp only); omega)
    · skip
      exact mm_reta hx hb hr (Or.inl ⟨_, rfl⟩) (Or.inl rfl) hlk hM hS (Or.inr ⟨rfl, rfl, hm9, hx1.trans (e4_72.trans hxx9)⟩) dX2_does_465 (by (try dsimp only); omega) (by (try dsimp only); omega)
  rw [if_neg hk5] at hpe4
  by_cases hk6 : r.1 = 6
  · skip
    rw [if_pos hk6] at hpe4
    refine lv_aload_n hx hb dX2_does_27 rfl (lv_at hl 0 rfl) ?_
    refine va_get (D := Z.1) (ci := 1) (v := .ref kd) (C := RX2) (T := TX2) (N := 17) hx hb hts in_X2 hown hE.1 (hM.at HMO) 0 rfl mm_cX2 1 (by decide) (hts _ q2379) (fun _ h9 => h9) rfl dX2_does_28 ?_
    refine lv_iload_n hx hb dX2_does_31 rfl (lv_at hl 1 rfl) ?_
    refine mm_ialdK (k := t) hx hb hE hM ea0 rfl htl (by decide) dX2_does_32 ?_
    rw [show (g0 t : Int32) = 6 from ((hg _ _ hrr).1.trans hk6)]
    refine lv_if_eq (tgt := 77) hx hb dX2_does_33 (by decide) (fun h9 => absurd h9 (by decide)) (fun _ => ?_)
    refine lv_aload_n hx hb dX2_does_36 rfl (lv_at hl 0 rfl) ?_
    refine va_get (D := Z.1) (ci := 1) (v := .ref kd) (C := RX2) (T := TX2) (N := 17) hx hb hts in_X2 hown hE.1 (hM.at HMO) 0 rfl mm_cX2 1 (by decide) (hts _ q2379) (fun _ h9 => h9) rfl dX2_does_37 ?_
    refine lv_iload_n hx hb dX2_does_40 rfl (lv_at hl 1 rfl) ?_
    refine mm_ialdK (k := t) hx hb hE hM ea0 rfl htl (by decide) dX2_does_41 ?_
    rw [show (g0 t : Int32) = 6 from ((hg _ _ hrr).1.trans hk6)]
    refine lv_iconst (v := 1) hx hb dX2_does_42 (by decide) ?_
    refine lv_icmp_eq (tgt := 77) hx hb dX2_does_43 (by decide) (fun h9 => absurd h9 (by decide)) (fun _ => ?_)
    refine lv_aload_n hx hb dX2_does_46 rfl (lv_at hl 0 rfl) ?_
    refine va_get (D := Z.1) (ci := 1) (v := .ref kd) (C := RX2) (T := TX2) (N := 17) hx hb hts in_X2 hown hE.1 (hM.at HMO) 0 rfl mm_cX2 1 (by decide) (hts _ q2379) (fun _ h9 => h9) rfl dX2_does_47 ?_
    refine lv_iload_n hx hb dX2_does_50 rfl (lv_at hl 1 rfl) ?_
    refine mm_ialdK (k := t) hx hb hE hM ea0 rfl htl (by decide) dX2_does_51 ?_
    rw [show (g0 t : Int32) = 6 from ((hg _ _ hrr).1.trans hk6)]
    refine lv_iconst (v := 2) hx hb dX2_does_52 (by decide) ?_
    refine lv_icmp_eq (tgt := 77) hx hb dX2_does_53 (by decide) (fun h9 => absurd h9 (by decide)) (fun _ => ?_)
    refine lv_aload_n hx hb dX2_does_56 rfl (lv_at hl 0 rfl) ?_
    refine va_get (D := Z.1) (ci := 1) (v := .ref kd) (C := RX2) (T := TX2) (N := 17) hx hb hts in_X2 hown hE.1 (hM.at HMO) 0 rfl mm_cX2 1 (by decide) (hts _ q2379) (fun _ h9 => h9) rfl dX2_does_57 ?_
    refine lv_iload_n hx hb dX2_does_60 rfl (lv_at hl 1 rfl) ?_
    refine mm_ialdK (k := t) hx hb hE hM ea0 rfl htl (by decide) dX2_does_61 ?_
    rw [show (g0 t : Int32) = 6 from ((hg _ _ hrr).1.trans hk6)]
    refine lv_bipush (v := 6) hx hb dX2_does_62 (by decide) ?_
    refine lv_icmp_eq (tgt := 77) hx hb dX2_does_64 (by decide) (fun _ => ?_) (fun h9 => absurd (by decide) h9)
    refine lv_null hx hb dX2_does_77 ?_
    refine lv_goto (tgt := 92) hx hb dX2_does_78 (by decide) ?_
    refine lv_astore_nN (lv' := [(3, .null), (0, .ref mo), (1, .int (nI t)), (2, va_rf sc)]) hx hb dX2_does_92 rfl hl (by decide) (by simp [mm_cat_o, mm_cat_r, mm_cat_i, mm_cat_n, mm_cat_l] <;> decide) (fun ls hl => ?_)
    refine lv_aload_n hx hb dX2_does_93 rfl (lv_at hl 1 rfl) ?_
    refine va_get (D := Z.1) (ci := 1) (v := .int (mm_b false)) (C := RX2) (T := TX2) (N := 17) hx hb hts in_X2 hown hE.1 (hM.at HMO) 0 rfl mm_cX2 15 (by decide) (hts _ q2393) (fun _ h9 => h9) rfl dX2_does_94 ?_
    refine lv_if_eq (tgt := 102) hx hb dX2_does_97 (by decide) (fun _ => ?_) (fun h9 => absurd (by decide) h9)
    refine lv_aload_n hx hb dX2_does_102 rfl (lv_at hl 1 rfl) ?_
    refine va_get (D := Z.1) (ci := 1) (v := .ref kd) (C := RX2) (T := TX2) (N := 17) hx hb hts in_X2 hown hE.1 (hM.at HMO) 0 rfl mm_cX2 1 (by decide) (hts _ q2379) (fun _ h9 => h9) rfl dX2_does_103 ?_
    refine lv_iload_n hx hb dX2_does_106 rfl (lv_at hl 2 rfl) ?_
    refine mm_ialdK (k := t) hx hb hE hM ea0 rfl htl (by decide) dX2_does_107 ?_
    rw [show (g0 t : Int32) = 6 from ((hg _ _ hrr).1.trans hk6)]
    refine lv_iconst (v := 3) hx hb dX2_does_108 (by decide) ?_
    refine lv_icmp_eq (tgt := 145) hx hb dX2_does_109 (by decide) (fun h9 => absurd h9 (by decide)) (fun _ => ?_)
    refine lv_aload_n hx hb dX2_does_112 rfl (lv_at hl 1 rfl) ?_
    refine va_get (D := Z.1) (ci := 1) (v := .ref kd) (C := RX2) (T := TX2) (N := 17) hx hb hts in_X2 hown hE.1 (hM.at HMO) 0 rfl mm_cX2 1 (by decide) (hts _ q2379) (fun _ h9 => h9) rfl dX2_does_113 ?_
    refine lv_iload_n hx hb dX2_does_116 rfl (lv_at hl 2 rfl) ?_
    refine mm_ialdK (k := t) hx hb hE hM ea0 rfl htl (by decide) dX2_does_117 ?_
    rw [show (g0 t : Int32) = 6 from ((hg _ _ hrr).1.trans hk6)]
    refine lv_bipush (v := 7) hx hb dX2_does_118 (by decide) ?_
    refine lv_icmp_eq (tgt := 145) hx hb dX2_does_120 (by decide) (fun h9 => absurd h9 (by decide)) (fun _ => ?_)
    refine lv_aload_n hx hb dX2_does_123 rfl (lv_at hl 1 rfl) ?_
    refine va_get (D := Z.1) (ci := 1) (v := .ref kd) (C := RX2) (T := TX2) (N := 17) hx hb hts in_X2 hown hE.1 (hM.at HMO) 0 rfl mm_cX2 1 (by decide) (hts _ q2379) (fun _ h9 => h9) rfl dX2_does_124 ?_
    refine lv_iload_n hx hb dX2_does_127 rfl (lv_at hl 2 rfl) ?_
    refine mm_ialdK (k := t) hx hb hE hM ea0 rfl htl (by decide) dX2_does_128 ?_
    rw [show (g0 t : Int32) = 6 from ((hg _ _ hrr).1.trans hk6)]
    refine lv_bipush (v := 13) hx hb dX2_does_129 (by decide) ?_
    refine lv_icmp_eq (tgt := 145) hx hb dX2_does_131 (by decide) (fun h9 => absurd h9 (by decide)) (fun _ => ?_)
    refine lv_aload_n hx hb dX2_does_134 rfl (lv_at hl 1 rfl) ?_
    refine va_get (D := Z.1) (ci := 1) (v := .ref kd) (C := RX2) (T := TX2) (N := 17) hx hb hts in_X2 hown hE.1 (hM.at HMO) 0 rfl mm_cX2 1 (by decide) (hts _ q2379) (fun _ h9 => h9) rfl dX2_does_135 ?_
    refine lv_iload_n hx hb dX2_does_138 rfl (lv_at hl 2 rfl) ?_
    refine mm_ialdK (k := t) hx hb hE hM ea0 rfl htl (by decide) dX2_does_139 ?_
    rw [show (g0 t : Int32) = 6 from ((hg _ _ hrr).1.trans hk6)]
    refine lv_bipush (v := 14) hx hb dX2_does_140 (by decide) ?_
    refine lv_icmp_ne (tgt := 159) hx hb dX2_does_142 (by decide) (fun _ => ?_) (fun h9 => absurd h9 (by decide))
    refine lv_null hx hb dX2_does_159 ?_
    refine lv_astoreN hx hb dX2_does_160 hl (by decide) rfl (fun ls hl => ?_)
    replace hl : lv_has ls 12 [(4, .null), (3, .null), (0, .ref mo), (1, .int (nI t)), (2, va_rf sc)] := hl
    refine lv_aload_n hx hb dX2_does_162 rfl (lv_at hl 2 rfl) ?_
    refine va_get (D := Z.1) (ci := 1) (v := .int (mm_b false)) (C := RX2) (T := TX2) (N := 17) hx hb hts in_X2 hown hE.1 (hM.at HMO) 0 rfl mm_cX2 15 (by decide) (hts _ q2393) (fun _ h9 => h9) rfl dX2_does_163 ?_
    refine lv_if_eq (tgt := 171) hx hb dX2_does_166 (by decide) (fun _ => ?_) (fun h9 => absurd (by decide) h9)
    refine lv_aload_n hx hb dX2_does_171 rfl (lv_at hl 2 rfl) ?_
    refine va_get (D := Z.1) (ci := 1) (v := .ref kd) (C := RX2) (T := TX2) (N := 17) hx hb hts in_X2 hown hE.1 (hM.at HMO) 0 rfl mm_cX2 1 (by decide) (hts _ q2379) (fun _ h9 => h9) rfl dX2_does_172 ?_
    refine lv_iload_n hx hb dX2_does_175 rfl (lv_at hl 3 rfl) ?_
    refine mm_ialdK (k := t) hx hb hE hM ea0 rfl htl (by decide) dX2_does_176 ?_
    rw [show (g0 t : Int32) = 6 from ((hg _ _ hrr).1.trans hk6)]
    refine lv_tableIn (tgt := 466) (off := 289) hx hb dX2_does_177 (by decide) (by decide) (by decide) (by decide) ?_
    refine lv_null hx hb dX2_does_466 ?_
    refine lv_iconst (v := -1) hx hb dX2_does_467 (by decide) ?_
    refine lv_null hx hb dX2_does_468 ?_
    refine mm_callS (As := [.null, .int (-1), .null]) (rest := []) ⟨hx, hb, hml, hown, hts⟩ hE hST hA (c_X2_record l Z (M := M_2) (fo := none) (its := none) (lb := -1) (f := fun _ => none) (fun a h => by cases h) (fun _ _ => rfl) (fun i y _ h => by cases h) (fun y h => by cases h)) (va_cwS 3 hts (lw_S q2821 q2822 q54 q2823) rfl rfl rfl (by decide +kernel) ⟨(by (try dsimp only); omega), (by (try dsimp only); omega)⟩) hM hS rfl hl.1 (Nat.le_of_ble_eq_true rfl) dX2_does_469 rfl ⟨(by (try dsimp only); omega), (by (try dsimp only); omega)⟩ (fun _ _ _ _ _ _ h9 => h9.elim) (fun v_3 M_4 H locs hp_5 hM hS => ?_)
    obtain ⟨b9, q9, gg, rfl, hb9, hq9, hgg, hex9⟩ := hp_5
    have hmb := hex9.at HMO
    have e4_6 := e40.trans hex9.Exp
    obtain rfl : res = some (rc_nil, n0 + 1) := (Option.some.inj hpe4).symm
    exact mm_reta hx hb hr (Or.inl ⟨_, rfl⟩) (Or.inr ⟨_, rfl⟩) hlk hM hS (Or.inl ⟨rc_nil, n0 + 1, b9, rfl, rfl, mr_rec.2 ⟨b9, q9, gg, rfl, hb9, hq9, mr_nil Z _ T (fun k hk => by rw [hgg k hk, ite_self])⟩, hmb, hx1.trans e4_6⟩) dX2_does_472 (by (try dsimp only); omega) (by (try dsimp only); omega)
  rw [if_neg hk6] at hpe4
  by_cases hk7 : r.1 = 7
  · skip
    rw [if_pos hk7] at hpe4
    obtain ⟨r1, hxp1⟩ := pb_ne hpe4
    obtain ⟨j1, hj1, hr1⟩ := at_some hxp1
    have hro1 := us_pb (n0 := n0) hpe4 hxp1 (mono_at (fun j => hmr _ _ _ (by omega))) (fun _ _ _ _ => (by repeat' (first | exact mono_none _ | exact mono_ret (by omega) | exact hmr _ _ _ (by omega) | exact mono_same (by omega) | exact mono_cas hmr (by omega) | (refine mono_app hmr (by omega) ?_) | (refine mono_pb ?_ (fun _ _ _ _ => ?_)) | (refine mono_at (fun _ => ?_)) | split))) (by omega) (by omega)
    refine lv_aload_n hx hb dX2_does_27 rfl (lv_at hl 0 rfl) ?_
    refine va_get (D := Z.1) (ci := 1) (v := .ref kd) (C := RX2) (T := TX2) (N := 17) hx hb hts in_X2 hown hE.1 (hM.at HMO) 0 rfl mm_cX2 1 (by decide) (hts _ q2379) (fun _ h9 => h9) rfl dX2_does_28 ?_
    refine lv_iload_n hx hb dX2_does_31 rfl (lv_at hl 1 rfl) ?_
    refine mm_ialdK (k := t) hx hb hE hM ea0 rfl htl (by decide) dX2_does_32 ?_
    rw [show (g0 t : Int32) = 7 from ((hg _ _ hrr).1.trans hk7)]
    refine lv_if_eq (tgt := 77) hx hb dX2_does_33 (by decide) (fun h9 => absurd h9 (by decide)) (fun _ => ?_)
    refine lv_aload_n hx hb dX2_does_36 rfl (lv_at hl 0 rfl) ?_
    refine va_get (D := Z.1) (ci := 1) (v := .ref kd) (C := RX2) (T := TX2) (N := 17) hx hb hts in_X2 hown hE.1 (hM.at HMO) 0 rfl mm_cX2 1 (by decide) (hts _ q2379) (fun _ h9 => h9) rfl dX2_does_37 ?_
    refine lv_iload_n hx hb dX2_does_40 rfl (lv_at hl 1 rfl) ?_
    refine mm_ialdK (k := t) hx hb hE hM ea0 rfl htl (by decide) dX2_does_41 ?_
    rw [show (g0 t : Int32) = 7 from ((hg _ _ hrr).1.trans hk7)]
    refine lv_iconst (v := 1) hx hb dX2_does_42 (by decide) ?_
    refine lv_icmp_eq (tgt := 77) hx hb dX2_does_43 (by decide) (fun h9 => absurd h9 (by decide)) (fun _ => ?_)
    refine lv_aload_n hx hb dX2_does_46 rfl (lv_at hl 0 rfl) ?_
    refine va_get (D := Z.1) (ci := 1) (v := .ref kd) (C := RX2) (T := TX2) (N := 17) hx hb hts in_X2 hown hE.1 (hM.at HMO) 0 rfl mm_cX2 1 (by decide) (hts _ q2379) (fun _ h9 => h9) rfl dX2_does_47 ?_
    refine lv_iload_n hx hb dX2_does_50 rfl (lv_at hl 1 rfl) ?_
    refine mm_ialdK (k := t) hx hb hE hM ea0 rfl htl (by decide) dX2_does_51 ?_
    rw [show (g0 t : Int32) = 7 from ((hg _ _ hrr).1.trans hk7)]
    refine lv_iconst (v := 2) hx hb dX2_does_52 (by decide) ?_
    refine lv_icmp_eq (tgt := 77) hx hb dX2_does_53 (by decide) (fun h9 => absurd h9 (by decide)) (fun _ => ?_)
    refine lv_aload_n hx hb dX2_does_56 rfl (lv_at hl 0 rfl) ?_
    refine va_get (D := Z.1) (ci := 1) (v := .ref kd) (C := RX2) (T := TX2) (N := 17) hx hb hts in_X2 hown hE.1 (hM.at HMO) 0 rfl mm_cX2 1 (by decide) (hts _ q2379) (fun _ h9 => h9) rfl dX2_does_57 ?_
    refine lv_iload_n hx hb dX2_does_60 rfl (lv_at hl 1 rfl) ?_
    refine mm_ialdK (k := t) hx hb hE hM ea0 rfl htl (by decide) dX2_does_61 ?_
    rw [show (g0 t : Int32) = 7 from ((hg _ _ hrr).1.trans hk7)]
    refine lv_bipush (v := 6) hx hb dX2_does_62 (by decide) ?_
    refine lv_icmp_eq (tgt := 77) hx hb dX2_does_64 (by decide) (fun h9 => absurd h9 (by decide)) (fun _ => ?_)
    refine lv_aload_n hx hb dX2_does_67 rfl (lv_at hl 0 rfl) ?_
    refine va_get (D := Z.1) (ci := 1) (v := .ref kd) (C := RX2) (T := TX2) (N := 17) hx hb hts in_X2 hown hE.1 (hM.at HMO) 0 rfl mm_cX2 1 (by decide) (hts _ q2379) (fun _ h9 => h9) rfl dX2_does_68 ?_
    refine lv_iload_n hx hb dX2_does_71 rfl (lv_at hl 1 rfl) ?_
    refine mm_ialdK (k := t) hx hb hE hM ea0 rfl htl (by decide) dX2_does_72 ?_
    rw [show (g0 t : Int32) = 7 from ((hg _ _ hrr).1.trans hk7)]
    refine lv_iconst (v := 5) hx hb dX2_does_73 (by decide) ?_
    refine lv_icmp_ne (tgt := 81) hx hb dX2_does_74 (by decide) (fun _ => ?_) (fun h9 => absurd h9 (by decide))
    refine lv_aload_n hx hb dX2_does_81 rfl (lv_at hl 0 rfl) ?_
    refine lv_aload_n hx hb dX2_does_82 rfl (lv_at hl 0 rfl) ?_
    refine va_get (D := Z.1) (ci := 1) (v := .ref f1) (C := RX2) (T := TX2) (N := 17) hx hb hts in_X2 hown hE.1 (hM.at HMO) 0 rfl mm_cX2 3 (by decide) (hts _ q2381) (fun _ h9 => h9) rfl dX2_does_83 ?_
    refine lv_iload_n hx hb dX2_does_86 rfl (lv_at hl 1 rfl) ?_
    refine mm_ialdK (k := t) hx hb hE hM ea2 rfl htl (by decide) dX2_does_87 ?_
    rw [show (g2 t : Int32) = nI j1 from ((hg _ _ hrr).2.2.1.trans (pt_i_at hj1))]
    refine mm_aload_n hx hb dX2_does_88 rfl (lv_at hl 2 rfl) ?_
    refine mm_callV (As := [.int (nI j1), va_rf sc]) (rest := []) ⟨hx, hb, hml, hown, hts⟩ hE hST hA (ih j1 (en) (n0 + 1) r1 M_2 sc HMO ((e40.Km HMO).mdA hA1) (by omega) (mr.mono (e40.Km HMO) _ _ _ _ hsc) hr1) (cwV 2 hts (lw_V q2769 q2771 qs47 q54 q2772) rfl rfl rfl (by decide +kernel) ⟨(by (try dsimp only); omega), (by (try dsimp only); omega)⟩) hM hS mm_cX2 HMO rfl hl.1 (Nat.le_of_ble_eq_true rfl) dX2_does_89 rfl ⟨(by (try dsimp only); omega), (by (try dsimp only); omega)⟩ (fun _ _ _ _ _ _ h9 => h9.elim) (fun v_3 M_4 H locs hp_5 hM hS => ?_)
    rcases hp_5.symm with ⟨rfl, rfl, hmf, hxf⟩ | ⟨w1, c1, a1, rfl, rfl, hw1, hm1, hxx1⟩
    · skip
      have hu9 : us (n0 + 1) (none : Option (ev × Nat)) = 1001 - (n0 + 1) := rfl
      refine lv_astore_nN (lv' := [(3, .null), (0, .ref mo), (1, .int (nI t)), (2, va_rf sc)]) hx hb dX2_does_92 rfl hl (by decide) (by simp [mm_cat_o, mm_cat_r, mm_cat_i, mm_cat_n, mm_cat_l] <;> decide) (fun ls hl => ?_)
      refine lv_aload_n hx hb dX2_does_93 rfl (lv_at hl 1 rfl) ?_
      refine va_get (D := Z.1) (ci := 1) (v := .int (mm_b true)) (C := RX2) (T := TX2) (N := 17) hx hb hts in_X2 hown hE.1 (hM.at hmf) 0 rfl mm_cX2 15 (by decide) (hts _ q2393) (fun _ h9 => h9) rfl dX2_does_94 ?_
      refine lv_if_eq (tgt := 102) hx hb dX2_does_97 (by decide) (fun h9 => absurd h9 (by decide)) (fun _ => ?_)
      refine lv_null hx hb dX2_does_100 ?_
      exact mm_reta hx hb hr (Or.inl ⟨_, rfl⟩) (Or.inl rfl) hlk hM hS (Or.inr ⟨hro1.2.1 rfl, rfl, hmf, hx1.trans (e40.trans hxf)⟩) dX2_does_101 (by (try dsimp only); omega) (by (try dsimp only); omega)
    obtain ⟨hpe1, hca1, hcb1⟩ := hro1.2.2 w1 c1 rfl
    have hu1 : us (n0 + 1) (some (w1, c1)) = c1 - (n0 + 1) := rfl
    have e41 := e40.trans hxx1
    have hc_6 := hxx1.atMA HMO ea0
    have hc_7 := hxx1.atMA HMO ea1
    have hc_8 := hxx1.atMA HMO ea2
    have hc_9 := hxx1.atMA HMO ea3
    have hc_10 := hxx1.atMA HMO ea4
    obtain ⟨r2, hxp2⟩ := pb_ne hpe1
    obtain ⟨j2, hj2, hr2⟩ := at_some hxp2
    have hro2 := us_pb (n0 := n0) hpe1 hxp2 (mono_at (fun j => hmr _ _ _ (by omega))) (fun _ _ _ _ => (by repeat' (first | exact mono_none _ | exact mono_ret (by omega) | exact hmr _ _ _ (by omega) | exact mono_same (by omega) | exact mono_cas hmr (by omega) | (refine mono_app hmr (by omega) ?_) | (refine mono_pb ?_ (fun _ _ _ _ => ?_)) | (refine mono_at (fun _ => ?_)) | split))) (by omega) (by omega)
    refine lv_astore_n (lv' := [(3, .ref a1), (0, .ref mo), (1, .int (nI t)), (2, va_rf sc)]) hx hb dX2_does_92 rfl hl (by decide) (by simp [mm_cat_o, mm_cat_r, mm_cat_i, mm_cat_n, mm_cat_l] <;> decide) (fun ls hl => ?_)
    refine lv_aload_n hx hb dX2_does_93 rfl (lv_at hl 1 rfl) ?_
    refine va_get (D := Z.1) (ci := 1) (v := .int (mm_b false)) (C := RX2) (T := TX2) (N := 17) hx hb hts in_X2 hown hE.1 (hM.at hm1) 0 rfl mm_cX2 15 (by decide) (hts _ q2393) (fun _ h9 => h9) rfl dX2_does_94 ?_
    refine lv_if_eq (tgt := 102) hx hb dX2_does_97 (by decide) (fun _ => ?_) (fun h9 => absurd (by decide) h9)
    refine lv_aload_n hx hb dX2_does_102 rfl (lv_at hl 1 rfl) ?_
    refine va_get (D := Z.1) (ci := 1) (v := .ref kd) (C := RX2) (T := TX2) (N := 17) hx hb hts in_X2 hown hE.1 (hM.at hm1) 0 rfl mm_cX2 1 (by decide) (hts _ q2379) (fun _ h9 => h9) rfl dX2_does_103 ?_
    refine lv_iload_n hx hb dX2_does_106 rfl (lv_at hl 2 rfl) ?_
    refine mm_ialdK (k := t) hx hb hE hM hc_6 rfl htl (by decide) dX2_does_107 ?_
    rw [show (g0 t : Int32) = 7 from ((hg _ _ hrr).1.trans hk7)]
    refine lv_iconst (v := 3) hx hb dX2_does_108 (by decide) ?_
    refine lv_icmp_eq (tgt := 145) hx hb dX2_does_109 (by decide) (fun h9 => absurd h9 (by decide)) (fun _ => ?_)
    refine lv_aload_n hx hb dX2_does_112 rfl (lv_at hl 1 rfl) ?_
    refine va_get (D := Z.1) (ci := 1) (v := .ref kd) (C := RX2) (T := TX2) (N := 17) hx hb hts in_X2 hown hE.1 (hM.at hm1) 0 rfl mm_cX2 1 (by decide) (hts _ q2379) (fun _ h9 => h9) rfl dX2_does_113 ?_
    refine lv_iload_n hx hb dX2_does_116 rfl (lv_at hl 2 rfl) ?_
    refine mm_ialdK (k := t) hx hb hE hM hc_6 rfl htl (by decide) dX2_does_117 ?_
    rw [show (g0 t : Int32) = 7 from ((hg _ _ hrr).1.trans hk7)]
    refine lv_bipush (v := 7) hx hb dX2_does_118 (by decide) ?_
    refine lv_icmp_eq (tgt := 145) hx hb dX2_does_120 (by decide) (fun _ => ?_) (fun h9 => absurd (by decide) h9)
    refine lv_aload_n hx hb dX2_does_145 rfl (lv_at hl 1 rfl) ?_
    refine lv_aload_n hx hb dX2_does_146 rfl (lv_at hl 1 rfl) ?_
    refine va_get (D := Z.1) (ci := 1) (v := .ref f2) (C := RX2) (T := TX2) (N := 17) hx hb hts in_X2 hown hE.1 (hM.at hm1) 0 rfl mm_cX2 4 (by decide) (hts _ q2382) (fun _ h9 => h9) rfl dX2_does_147 ?_
    refine lv_iload_n hx hb dX2_does_150 rfl (lv_at hl 2 rfl) ?_
    refine mm_ialdK (k := t) hx hb hE hM hc_9 rfl htl (by decide) dX2_does_151 ?_
    rw [show (g3 t : Int32) = nI j2 from ((hg _ _ hrr).2.2.2.1.trans (pt_i_at hj2))]
    refine mm_aload_n hx hb dX2_does_152 rfl (lv_at hl 3 rfl) ?_
    refine mm_callV (As := [.int (nI j2), va_rf sc]) (rest := []) ⟨hx, hb, hml, hown, hts⟩ hE hST hA (ih j2 (en) (c1) r2 M_4 sc hm1 ((e41.Km HMO).mdA hA1) (by omega) (mr.mono (e41.Km HMO) _ _ _ _ hsc) hr2) (cwV 2 hts (lw_V q2769 q2771 qs47 q54 q2772) rfl rfl rfl (by decide +kernel) ⟨(by (try dsimp only); omega), (by (try dsimp only); omega)⟩) hM hS mm_cX2 hm1 rfl hl.1 (Nat.le_of_ble_eq_true rfl) dX2_does_153 rfl ⟨(by (try dsimp only); omega), (by (try dsimp only); omega)⟩ (fun _ _ _ _ _ _ h9 => h9.elim) (fun v_11 M_12 H locs hp_13 hM hS => ?_)
    rcases hp_13.symm with ⟨rfl, rfl, hmf, hxf⟩ | ⟨w2, c2, a2, rfl, rfl, hw2, hm2, hxx2⟩
    · skip
      have hu9 : us (c1) (none : Option (ev × Nat)) = 1001 - (c1) := rfl
      refine lv_goto (tgt := 160) hx hb dX2_does_156 (by decide) ?_
      refine lv_astoreN hx hb dX2_does_160 hl (by decide) rfl (fun ls hl => ?_)
      replace hl : lv_has ls 12 [(4, .null), (3, .ref a1), (0, .ref mo), (1, .int (nI t)), (2, va_rf sc)] := hl
      refine lv_aload_n hx hb dX2_does_162 rfl (lv_at hl 2 rfl) ?_
      refine va_get (D := Z.1) (ci := 1) (v := .int (mm_b true)) (C := RX2) (T := TX2) (N := 17) hx hb hts in_X2 hown hE.1 (hM.at hmf) 0 rfl mm_cX2 15 (by decide) (hts _ q2393) (fun _ h9 => h9) rfl dX2_does_163 ?_
      refine lv_if_eq (tgt := 171) hx hb dX2_does_166 (by decide) (fun h9 => absurd h9 (by decide)) (fun _ => ?_)
      refine lv_null hx hb dX2_does_169 ?_
      exact mm_reta hx hb hr (Or.inl ⟨_, rfl⟩) (Or.inl rfl) hlk hM hS (Or.inr ⟨hro2.2.1 rfl, rfl, hmf, hx1.trans (e41.trans hxf)⟩) dX2_does_170 (by (try dsimp only); omega) (by (try dsimp only); omega)
    obtain ⟨hpe2, hca2, hcb2⟩ := hro2.2.2 w2 c2 rfl
    have hu2 : us (c1) (some (w2, c2)) = c2 - (c1) := rfl
    have e42 := e41.trans hxx2
    have hc_14 := hxx2.atMA hm1 hc_6
    have hc_15 := hxx2.atMA hm1 hc_7
    have hc_16 := hxx2.atMA hm1 hc_8
    have hc_17 := hxx2.atMA hm1 hc_9
    have hc_18 := hxx2.atMA hm1 hc_10
    obtain ⟨w9, hset9, hpe9⟩ : ∃ w9, rc_set w2 (nN r.2.1) w1 = some w9 ∧ some (some (w9, c2)) = some res := by
      (try dsimp only at hpe2)
      cases h9 : rc_set w2 (nN r.2.1) w1 with
      | none => rw [h9] at hpe2; cases hpe2
      | some w9 => rw [h9] at hpe2; exact ⟨w9, rfl, hpe2⟩
    obtain ⟨x0, r0, rfl, x9, r9, rfl⟩ := rc_some hset9
    obtain ⟨wa', wq, wf, e9, hwa, hwq, hws⟩ := mr_rec.1 hw2
    cases e9
    have hw1' := mr.mono ((mm_Km.rf _).trans (hxx2.Km hm1)) _ _ _ _ hw1
    refine lv_goto (tgt := 160) hx hb dX2_does_156 (by decide) ?_
    refine lv_astore hx hb dX2_does_160 hl (by decide) rfl (fun ls hl => ?_)
    replace hl : lv_has ls 12 [(4, .ref a2), (3, .ref a1), (0, .ref mo), (1, .int (nI t)), (2, va_rf sc)] := hl
    refine lv_aload_n hx hb dX2_does_162 rfl (lv_at hl 2 rfl) ?_
    refine va_get (D := Z.1) (ci := 1) (v := .int (mm_b false)) (C := RX2) (T := TX2) (N := 17) hx hb hts in_X2 hown hE.1 (hM.at hm2) 0 rfl mm_cX2 15 (by decide) (hts _ q2393) (fun _ h9 => h9) rfl dX2_does_163 ?_
    refine lv_if_eq (tgt := 171) hx hb dX2_does_166 (by decide) (fun _ => ?_) (fun h9 => absurd (by decide) h9)
    refine lv_aload_n hx hb dX2_does_171 rfl (lv_at hl 2 rfl) ?_
    refine va_get (D := Z.1) (ci := 1) (v := .ref kd) (C := RX2) (T := TX2) (N := 17) hx hb hts in_X2 hown hE.1 (hM.at hm2) 0 rfl mm_cX2 1 (by decide) (hts _ q2379) (fun _ h9 => h9) rfl dX2_does_172 ?_
    refine lv_iload_n hx hb dX2_does_175 rfl (lv_at hl 3 rfl) ?_
    refine mm_ialdK (k := t) hx hb hE hM hc_14 rfl htl (by decide) dX2_does_176 ?_
    rw [show (g0 t : Int32) = 7 from ((hg _ _ hrr).1.trans hk7)]
    refine lv_tableIn (tgt := 473) (off := 296) hx hb dX2_does_177 (by decide) (by decide) (by decide) (by decide) ?_
    refine lv_aload hx hb dX2_does_473 (lv_at hl 0 rfl) ?_
    refine lv_aload_n hx hb dX2_does_475 rfl (lv_at hl 2 rfl) ?_
    refine va_get (D := Z.1) (ci := 1) (v := .ref wh) (C := RX2) (T := TX2) (N := 17) hx hb hts in_X2 hown hE.1 (hM.at hm2) 0 rfl mm_cX2 2 (by decide) (hts _ q2380) (fun _ h9 => h9) rfl dX2_does_476 ?_
    refine lv_iload_n hx hb dX2_does_479 rfl (lv_at hl 3 rfl) ?_
    refine mm_ialdK (k := t) hx hb hE hM hc_15 rfl htl (by decide) dX2_does_480 ?_
    rw [show (g1 t : Int32) = r.2.1 from (((hg _ _ hrr).2.1 (by rw [hk7]; decide) (by rw [hk7]; decide)).trans (pm_no17 (by rw [hk7]; decide)))]
    refine lv_aload_n hx hb dX2_does_481 rfl (lv_at hl 1 rfl) ?_
    refine mm_callS (As := [.ref a2, .int r.2.1, .ref a1]) (rest := []) ⟨hx, hb, hml, hown, hts⟩ hE hST hA (c_X2_record l Z (M := M_12) (fo := some a2) (its := some a1) (lb := r.2.1) (f := wf) (fun a h => by cases h; exact ⟨wq, hwa, hwq⟩) (fun h => by cases h) (mr_isW hws) (fun y h => by cases h; obtain ⟨_, h7, h8⟩ := hw1'.isW; cases h7; exact h8)) (va_cwS 3 hts (lw_S q2821 q2822 q54 q2823) rfl rfl rfl (by decide +kernel) ⟨(by (try dsimp only); omega), (by (try dsimp only); omega)⟩) hM hS rfl hl.1 (Nat.le_of_ble_eq_true rfl) dX2_does_482 rfl ⟨(by (try dsimp only); omega), (by (try dsimp only); omega)⟩ (fun _ _ _ _ _ _ h9 => h9.elim) (fun v_19 M_20 H locs hp_21 hM hS => ?_)
    obtain ⟨b9, q9, gg, rfl, hb9, hq9, hgg, hex9⟩ := hp_21
    have hmb := hex9.at hm2
    have e4_22 := e42.trans hex9.Exp
    obtain rfl : res = some (_, c2) := (Option.some.inj hpe9).symm
    exact mm_reta hx hb hr (Or.inl ⟨_, rfl⟩) (Or.inr ⟨_, rfl⟩) hlk hM hS (Or.inl ⟨_, c2, b9, rfl, rfl, mr_rec.2 ⟨b9, q9, gg, rfl, hb9, hq9, mr_put (Or.inr ⟨mr_nabs hw1', mr.mono hex9.Km _ _ _ _ hw1'⟩) (mr.mono hex9.Km _ _ _ _ hws) hset9 hgg⟩, hmb, hx1.trans e4_22⟩) dX2_does_485 (by (try dsimp only); omega) (by (try dsimp only); omega)
  rw [if_neg hk7] at hpe4
  by_cases hk8 : r.1 = 8
  · skip
    rw [if_pos hk8] at hpe4
    obtain ⟨r1, hxp1⟩ := pb_ne hpe4
    obtain ⟨j1, hj1, hr1⟩ := at_some hxp1
    have hro1 := us_pb (n0 := n0) hpe4 hxp1 (mono_at (fun j => hmr _ _ _ (by omega))) (fun _ _ _ _ => (by repeat' (first | exact mono_none _ | exact mono_ret (by omega) | exact hmr _ _ _ (by omega) | exact mono_same (by omega) | exact mono_cas hmr (by omega) | (refine mono_app hmr (by omega) ?_) | (refine mono_pb ?_ (fun _ _ _ _ => ?_)) | (refine mono_at (fun _ => ?_)) | split))) (by omega) (by omega)
    refine lv_aload_n hx hb dX2_does_27 rfl (lv_at hl 0 rfl) ?_
    refine va_get (D := Z.1) (ci := 1) (v := .ref kd) (C := RX2) (T := TX2) (N := 17) hx hb hts in_X2 hown hE.1 (hM.at HMO) 0 rfl mm_cX2 1 (by decide) (hts _ q2379) (fun _ h9 => h9) rfl dX2_does_28 ?_
    refine lv_iload_n hx hb dX2_does_31 rfl (lv_at hl 1 rfl) ?_
    refine mm_ialdK (k := t) hx hb hE hM ea0 rfl htl (by decide) dX2_does_32 ?_
    rw [show (g0 t : Int32) = 8 from ((hg _ _ hrr).1.trans hk8)]
    refine lv_if_eq (tgt := 77) hx hb dX2_does_33 (by decide) (fun h9 => absurd h9 (by decide)) (fun _ => ?_)
    refine lv_aload_n hx hb dX2_does_36 rfl (lv_at hl 0 rfl) ?_
    refine va_get (D := Z.1) (ci := 1) (v := .ref kd) (C := RX2) (T := TX2) (N := 17) hx hb hts in_X2 hown hE.1 (hM.at HMO) 0 rfl mm_cX2 1 (by decide) (hts _ q2379) (fun _ h9 => h9) rfl dX2_does_37 ?_
    refine lv_iload_n hx hb dX2_does_40 rfl (lv_at hl 1 rfl) ?_
    refine mm_ialdK (k := t) hx hb hE hM ea0 rfl htl (by decide) dX2_does_41 ?_
    rw [show (g0 t : Int32) = 8 from ((hg _ _ hrr).1.trans hk8)]
    refine lv_iconst (v := 1) hx hb dX2_does_42 (by decide) ?_
    refine lv_icmp_eq (tgt := 77) hx hb dX2_does_43 (by decide) (fun h9 => absurd h9 (by decide)) (fun _ => ?_)
    refine lv_aload_n hx hb dX2_does_46 rfl (lv_at hl 0 rfl) ?_
    refine va_get (D := Z.1) (ci := 1) (v := .ref kd) (C := RX2) (T := TX2) (N := 17) hx hb hts in_X2 hown hE.1 (hM.at HMO) 0 rfl mm_cX2 1 (by decide) (hts _ q2379) (fun _ h9 => h9) rfl dX2_does_47 ?_
    refine lv_iload_n hx hb dX2_does_50 rfl (lv_at hl 1 rfl) ?_
    refine mm_ialdK (k := t) hx hb hE hM ea0 rfl htl (by decide) dX2_does_51 ?_
    rw [show (g0 t : Int32) = 8 from ((hg _ _ hrr).1.trans hk8)]
    refine lv_iconst (v := 2) hx hb dX2_does_52 (by decide) ?_
    refine lv_icmp_eq (tgt := 77) hx hb dX2_does_53 (by decide) (fun h9 => absurd h9 (by decide)) (fun _ => ?_)
    refine lv_aload_n hx hb dX2_does_56 rfl (lv_at hl 0 rfl) ?_
    refine va_get (D := Z.1) (ci := 1) (v := .ref kd) (C := RX2) (T := TX2) (N := 17) hx hb hts in_X2 hown hE.1 (hM.at HMO) 0 rfl mm_cX2 1 (by decide) (hts _ q2379) (fun _ h9 => h9) rfl dX2_does_57 ?_
    refine lv_iload_n hx hb dX2_does_60 rfl (lv_at hl 1 rfl) ?_
    refine mm_ialdK (k := t) hx hb hE hM ea0 rfl htl (by decide) dX2_does_61 ?_
    rw [show (g0 t : Int32) = 8 from ((hg _ _ hrr).1.trans hk8)]
    refine lv_bipush (v := 6) hx hb dX2_does_62 (by decide) ?_
    refine lv_icmp_eq (tgt := 77) hx hb dX2_does_64 (by decide) (fun h9 => absurd h9 (by decide)) (fun _ => ?_)
    refine lv_aload_n hx hb dX2_does_67 rfl (lv_at hl 0 rfl) ?_
    refine va_get (D := Z.1) (ci := 1) (v := .ref kd) (C := RX2) (T := TX2) (N := 17) hx hb hts in_X2 hown hE.1 (hM.at HMO) 0 rfl mm_cX2 1 (by decide) (hts _ q2379) (fun _ h9 => h9) rfl dX2_does_68 ?_
    refine lv_iload_n hx hb dX2_does_71 rfl (lv_at hl 1 rfl) ?_
    refine mm_ialdK (k := t) hx hb hE hM ea0 rfl htl (by decide) dX2_does_72 ?_
    rw [show (g0 t : Int32) = 8 from ((hg _ _ hrr).1.trans hk8)]
    refine lv_iconst (v := 5) hx hb dX2_does_73 (by decide) ?_
    refine lv_icmp_ne (tgt := 81) hx hb dX2_does_74 (by decide) (fun _ => ?_) (fun h9 => absurd h9 (by decide))
    refine lv_aload_n hx hb dX2_does_81 rfl (lv_at hl 0 rfl) ?_
    refine lv_aload_n hx hb dX2_does_82 rfl (lv_at hl 0 rfl) ?_
    refine va_get (D := Z.1) (ci := 1) (v := .ref f1) (C := RX2) (T := TX2) (N := 17) hx hb hts in_X2 hown hE.1 (hM.at HMO) 0 rfl mm_cX2 3 (by decide) (hts _ q2381) (fun _ h9 => h9) rfl dX2_does_83 ?_
    refine lv_iload_n hx hb dX2_does_86 rfl (lv_at hl 1 rfl) ?_
    refine mm_ialdK (k := t) hx hb hE hM ea2 rfl htl (by decide) dX2_does_87 ?_
    rw [show (g2 t : Int32) = nI j1 from ((hg _ _ hrr).2.2.1.trans (pt_i_at hj1))]
    refine mm_aload_n hx hb dX2_does_88 rfl (lv_at hl 2 rfl) ?_
    refine mm_callV (As := [.int (nI j1), va_rf sc]) (rest := []) ⟨hx, hb, hml, hown, hts⟩ hE hST hA (ih j1 (en) (n0 + 1) r1 M_2 sc HMO ((e40.Km HMO).mdA hA1) (by omega) (mr.mono (e40.Km HMO) _ _ _ _ hsc) hr1) (cwV 2 hts (lw_V q2769 q2771 qs47 q54 q2772) rfl rfl rfl (by decide +kernel) ⟨(by (try dsimp only); omega), (by (try dsimp only); omega)⟩) hM hS mm_cX2 HMO rfl hl.1 (Nat.le_of_ble_eq_true rfl) dX2_does_89 rfl ⟨(by (try dsimp only); omega), (by (try dsimp only); omega)⟩ (fun _ _ _ _ _ _ h9 => h9.elim) (fun v_3 M_4 H locs hp_5 hM hS => ?_)
    rcases hp_5.symm with ⟨rfl, rfl, hmf, hxf⟩ | ⟨w1, c1, a1, rfl, rfl, hw1, hm1, hxx1⟩
    · skip
      have hu9 : us (n0 + 1) (none : Option (ev × Nat)) = 1001 - (n0 + 1) := rfl
      refine lv_astore_nN (lv' := [(3, .null), (0, .ref mo), (1, .int (nI t)), (2, va_rf sc)]) hx hb dX2_does_92 rfl hl (by decide) (by simp [mm_cat_o, mm_cat_r, mm_cat_i, mm_cat_n, mm_cat_l] <;> decide) (fun ls hl => ?_)
      refine lv_aload_n hx hb dX2_does_93 rfl (lv_at hl 1 rfl) ?_
      refine va_get (D := Z.1) (ci := 1) (v := .int (mm_b true)) (C := RX2) (T := TX2) (N := 17) hx hb hts in_X2 hown hE.1 (hM.at hmf) 0 rfl mm_cX2 15 (by decide) (hts _ q2393) (fun _ h9 => h9) rfl dX2_does_94 ?_
      refine lv_if_eq (tgt := 102) hx hb dX2_does_97 (by decide) (fun h9 => absurd h9 (by decide)) (fun _ => ?_)
      refine lv_null hx hb dX2_does_100 ?_
      exact mm_reta hx hb hr (Or.inl ⟨_, rfl⟩) (Or.inl rfl) hlk hM hS (Or.inr ⟨hro1.2.1 rfl, rfl, hmf, hx1.trans (e40.trans hxf)⟩) dX2_does_101 (by (try dsimp only); omega) (by (try dsimp only); omega)
    obtain ⟨hpe1, hca1, hcb1⟩ := hro1.2.2 w1 c1 rfl
    have hu1 : us (n0 + 1) (some (w1, c1)) = c1 - (n0 + 1) := rfl
    have e41 := e40.trans hxx1
    have hc_6 := hxx1.atMA HMO ea0
    have hc_7 := hxx1.atMA HMO ea1
    have hc_8 := hxx1.atMA HMO ea2
    have hc_9 := hxx1.atMA HMO ea3
    have hc_10 := hxx1.atMA HMO ea4
    obtain ⟨w9, hget9, hna9, hpe9⟩ : ∃ w9, rc_get w1 (nN r.2.1) = some w9 ∧ ev_abs w9 = false ∧ some (some (w9, c1)) = some res := by
      (try dsimp only at hpe1)
      cases h9 : rc_get w1 (nN r.2.1) with
      | none => rw [h9] at hpe1; cases hpe1
      | some w9 =>
        rw [h9] at hpe1; (try dsimp only at hpe1)
        by_cases h8 : ev_abs w9 = true
        · rw [if_pos h8] at hpe1; cases hpe1
        · rw [if_neg h8] at hpe1; exact ⟨w9, rfl, by simpa using h8, hpe1⟩
    obtain ⟨x0, r0, rfl⟩ : ∃ x0 r0, w1 = .add x0 r0 := by
      cases w1 with
      | add x0 r0 => exact ⟨x0, r0, rfl⟩
      | _ => cases h9 : nN r.2.1 <;> rw [h9] at hget9 <;> simp [rc_get] at hget9
    obtain ⟨wa', wq, wf, e9, hwa, hwq, hws⟩ := mr_rec.1 hw1
    cases e9
    obtain ⟨hx9, hl10⟩ := mr_get _ 0 _ _ hws hget9
    rw [Nat.zero_add] at hx9 hl10
    obtain hx8 : mr Z M_4 T w9 0 (fun _ => none) (wf (nN r.2.1)) := by rcases hx9 with ⟨h1, -⟩ | ⟨-, h2⟩; exact absurd (h1.symm.trans hna9) (by decide); exact h2
    obtain ⟨b9, hb9, -⟩ := hx8.isW
    rw [hb9] at hx8
    refine lv_astore_n (lv' := [(3, .ref a1), (0, .ref mo), (1, .int (nI t)), (2, va_rf sc)]) hx hb dX2_does_92 rfl hl (by decide) (by simp [mm_cat_o, mm_cat_r, mm_cat_i, mm_cat_n, mm_cat_l] <;> decide) (fun ls hl => ?_)
    refine lv_aload_n hx hb dX2_does_93 rfl (lv_at hl 1 rfl) ?_
    refine va_get (D := Z.1) (ci := 1) (v := .int (mm_b false)) (C := RX2) (T := TX2) (N := 17) hx hb hts in_X2 hown hE.1 (hM.at hm1) 0 rfl mm_cX2 15 (by decide) (hts _ q2393) (fun _ h9 => h9) rfl dX2_does_94 ?_
    refine lv_if_eq (tgt := 102) hx hb dX2_does_97 (by decide) (fun _ => ?_) (fun h9 => absurd (by decide) h9)
    refine lv_aload_n hx hb dX2_does_102 rfl (lv_at hl 1 rfl) ?_
    refine va_get (D := Z.1) (ci := 1) (v := .ref kd) (C := RX2) (T := TX2) (N := 17) hx hb hts in_X2 hown hE.1 (hM.at hm1) 0 rfl mm_cX2 1 (by decide) (hts _ q2379) (fun _ h9 => h9) rfl dX2_does_103 ?_
    refine lv_iload_n hx hb dX2_does_106 rfl (lv_at hl 2 rfl) ?_
    refine mm_ialdK (k := t) hx hb hE hM hc_6 rfl htl (by decide) dX2_does_107 ?_
    rw [show (g0 t : Int32) = 8 from ((hg _ _ hrr).1.trans hk8)]
    refine lv_iconst (v := 3) hx hb dX2_does_108 (by decide) ?_
    refine lv_icmp_eq (tgt := 145) hx hb dX2_does_109 (by decide) (fun h9 => absurd h9 (by decide)) (fun _ => ?_)
    refine lv_aload_n hx hb dX2_does_112 rfl (lv_at hl 1 rfl) ?_
    refine va_get (D := Z.1) (ci := 1) (v := .ref kd) (C := RX2) (T := TX2) (N := 17) hx hb hts in_X2 hown hE.1 (hM.at hm1) 0 rfl mm_cX2 1 (by decide) (hts _ q2379) (fun _ h9 => h9) rfl dX2_does_113 ?_
    refine lv_iload_n hx hb dX2_does_116 rfl (lv_at hl 2 rfl) ?_
    refine mm_ialdK (k := t) hx hb hE hM hc_6 rfl htl (by decide) dX2_does_117 ?_
    rw [show (g0 t : Int32) = 8 from ((hg _ _ hrr).1.trans hk8)]
    refine lv_bipush (v := 7) hx hb dX2_does_118 (by decide) ?_
    refine lv_icmp_eq (tgt := 145) hx hb dX2_does_120 (by decide) (fun h9 => absurd h9 (by decide)) (fun _ => ?_)
    refine lv_aload_n hx hb dX2_does_123 rfl (lv_at hl 1 rfl) ?_
    refine va_get (D := Z.1) (ci := 1) (v := .ref kd) (C := RX2) (T := TX2) (N := 17) hx hb hts in_X2 hown hE.1 (hM.at hm1) 0 rfl mm_cX2 1 (by decide) (hts _ q2379) (fun _ h9 => h9) rfl dX2_does_124 ?_
    refine lv_iload_n hx hb dX2_does_127 rfl (lv_at hl 2 rfl) ?_
    refine mm_ialdK (k := t) hx hb hE hM hc_6 rfl htl (by decide) dX2_does_128 ?_
    rw [show (g0 t : Int32) = 8 from ((hg _ _ hrr).1.trans hk8)]
    refine lv_bipush (v := 13) hx hb dX2_does_129 (by decide) ?_
    refine lv_icmp_eq (tgt := 145) hx hb dX2_does_131 (by decide) (fun h9 => absurd h9 (by decide)) (fun _ => ?_)
    refine lv_aload_n hx hb dX2_does_134 rfl (lv_at hl 1 rfl) ?_
    refine va_get (D := Z.1) (ci := 1) (v := .ref kd) (C := RX2) (T := TX2) (N := 17) hx hb hts in_X2 hown hE.1 (hM.at hm1) 0 rfl mm_cX2 1 (by decide) (hts _ q2379) (fun _ h9 => h9) rfl dX2_does_135 ?_
    refine lv_iload_n hx hb dX2_does_138 rfl (lv_at hl 2 rfl) ?_
    refine mm_ialdK (k := t) hx hb hE hM hc_6 rfl htl (by decide) dX2_does_139 ?_
    rw [show (g0 t : Int32) = 8 from ((hg _ _ hrr).1.trans hk8)]
    refine lv_bipush (v := 14) hx hb dX2_does_140 (by decide) ?_
    refine lv_icmp_ne (tgt := 159) hx hb dX2_does_142 (by decide) (fun _ => ?_) (fun h9 => absurd h9 (by decide))
    refine lv_null hx hb dX2_does_159 ?_
    refine lv_astoreN hx hb dX2_does_160 hl (by decide) rfl (fun ls hl => ?_)
    replace hl : lv_has ls 12 [(4, .null), (3, .ref a1), (0, .ref mo), (1, .int (nI t)), (2, va_rf sc)] := hl
    refine lv_aload_n hx hb dX2_does_162 rfl (lv_at hl 2 rfl) ?_
    refine va_get (D := Z.1) (ci := 1) (v := .int (mm_b false)) (C := RX2) (T := TX2) (N := 17) hx hb hts in_X2 hown hE.1 (hM.at hm1) 0 rfl mm_cX2 15 (by decide) (hts _ q2393) (fun _ h9 => h9) rfl dX2_does_163 ?_
    refine lv_if_eq (tgt := 171) hx hb dX2_does_166 (by decide) (fun _ => ?_) (fun h9 => absurd (by decide) h9)
    refine lv_aload_n hx hb dX2_does_171 rfl (lv_at hl 2 rfl) ?_
    refine va_get (D := Z.1) (ci := 1) (v := .ref kd) (C := RX2) (T := TX2) (N := 17) hx hb hts in_X2 hown hE.1 (hM.at hm1) 0 rfl mm_cX2 1 (by decide) (hts _ q2379) (fun _ h9 => h9) rfl dX2_does_172 ?_
    refine lv_iload_n hx hb dX2_does_175 rfl (lv_at hl 3 rfl) ?_
    refine mm_ialdK (k := t) hx hb hE hM hc_6 rfl htl (by decide) dX2_does_176 ?_
    rw [show (g0 t : Int32) = 8 from ((hg _ _ hrr).1.trans hk8)]
    refine lv_tableIn (tgt := 486) (off := 309) hx hb dX2_does_177 (by decide) (by decide) (by decide) (by decide) ?_
    refine lv_aload_n hx hb dX2_does_486 rfl (lv_at hl 1 rfl) ?_
    refine va_get (D := Z.1) (ci := 32) (v := .ref wq) (C := RX38) (T := TX38) (N := 5) hx hb hts in_X38 hown hE.1 (hM.at hwa) 0 rfl mm_cX38 2 (by decide) (hts _ q2784) (fun _ h9 => h9) rfl dX2_does_487 ?_
    refine lv_aload_n hx hb dX2_does_490 rfl (lv_at hl 2 rfl) ?_
    refine va_get (D := Z.1) (ci := 1) (v := .ref wh) (C := RX2) (T := TX2) (N := 17) hx hb hts in_X2 hown hE.1 (hM.at hm1) 0 rfl mm_cX2 2 (by decide) (hts _ q2380) (fun _ h9 => h9) rfl dX2_does_491 ?_
    refine lv_iload_n hx hb dX2_does_494 rfl (lv_at hl 3 rfl) ?_
    refine mm_ialdK (k := t) hx hb hE hM hc_7 rfl htl (by decide) dX2_does_495 ?_
    rw [show (g1 t : Int32) = r.2.1 from (((hg _ _ hrr).2.1 (by rw [hk8]; decide) (by rw [hk8]; decide)).trans (pm_no17 (by rw [hk8]; decide)))]
    refine mm_aald (k := (nN r.2.1)) hx hb hE hM 9 hwq rfl (nI_nN _).symm hl10 (by decide) dX2_does_496 ?_
    rw [hb9]
    obtain rfl : res = some (w9, c1) := (Option.some.inj hpe9).symm
    exact mm_reta hx hb hr (Or.inl ⟨_, rfl⟩) (Or.inr ⟨_, rfl⟩) hlk hM hS (Or.inl ⟨w9, c1, b9, rfl, rfl, hx8, hm1, hx1.trans e41⟩) dX2_does_497 (by (try dsimp only); omega) (by (try dsimp only); omega)
  rw [if_neg hk8] at hpe4
  by_cases hk9 : r.1 = 9
  · skip
    rw [if_pos hk9] at hpe4
    obtain ⟨r1, hxp1⟩ := pb_ne hpe4
    obtain ⟨j1, hj1, hr1⟩ := at_some hxp1
    have hro1 := us_pb (n0 := n0) hpe4 hxp1 (mono_at (fun j => hmr _ _ _ (by omega))) (fun _ _ _ _ => (by repeat' (first | exact mono_none _ | exact mono_ret (by omega) | exact hmr _ _ _ (by omega) | exact mono_same (by omega) | exact mono_cas hmr (by omega) | (refine mono_app hmr (by omega) ?_) | (refine mono_pb ?_ (fun _ _ _ _ => ?_)) | (refine mono_at (fun _ => ?_)) | split))) (by omega) (by omega)
    refine lv_aload_n hx hb dX2_does_27 rfl (lv_at hl 0 rfl) ?_
    refine va_get (D := Z.1) (ci := 1) (v := .ref kd) (C := RX2) (T := TX2) (N := 17) hx hb hts in_X2 hown hE.1 (hM.at HMO) 0 rfl mm_cX2 1 (by decide) (hts _ q2379) (fun _ h9 => h9) rfl dX2_does_28 ?_
    refine lv_iload_n hx hb dX2_does_31 rfl (lv_at hl 1 rfl) ?_
    refine mm_ialdK (k := t) hx hb hE hM ea0 rfl htl (by decide) dX2_does_32 ?_
    rw [show (g0 t : Int32) = 9 from ((hg _ _ hrr).1.trans hk9)]
    refine lv_if_eq (tgt := 77) hx hb dX2_does_33 (by decide) (fun h9 => absurd h9 (by decide)) (fun _ => ?_)
    refine lv_aload_n hx hb dX2_does_36 rfl (lv_at hl 0 rfl) ?_
    refine va_get (D := Z.1) (ci := 1) (v := .ref kd) (C := RX2) (T := TX2) (N := 17) hx hb hts in_X2 hown hE.1 (hM.at HMO) 0 rfl mm_cX2 1 (by decide) (hts _ q2379) (fun _ h9 => h9) rfl dX2_does_37 ?_
    refine lv_iload_n hx hb dX2_does_40 rfl (lv_at hl 1 rfl) ?_
    refine mm_ialdK (k := t) hx hb hE hM ea0 rfl htl (by decide) dX2_does_41 ?_
    rw [show (g0 t : Int32) = 9 from ((hg _ _ hrr).1.trans hk9)]
    refine lv_iconst (v := 1) hx hb dX2_does_42 (by decide) ?_
    refine lv_icmp_eq (tgt := 77) hx hb dX2_does_43 (by decide) (fun h9 => absurd h9 (by decide)) (fun _ => ?_)
    refine lv_aload_n hx hb dX2_does_46 rfl (lv_at hl 0 rfl) ?_
    refine va_get (D := Z.1) (ci := 1) (v := .ref kd) (C := RX2) (T := TX2) (N := 17) hx hb hts in_X2 hown hE.1 (hM.at HMO) 0 rfl mm_cX2 1 (by decide) (hts _ q2379) (fun _ h9 => h9) rfl dX2_does_47 ?_
    refine lv_iload_n hx hb dX2_does_50 rfl (lv_at hl 1 rfl) ?_
    refine mm_ialdK (k := t) hx hb hE hM ea0 rfl htl (by decide) dX2_does_51 ?_
    rw [show (g0 t : Int32) = 9 from ((hg _ _ hrr).1.trans hk9)]
    refine lv_iconst (v := 2) hx hb dX2_does_52 (by decide) ?_
    refine lv_icmp_eq (tgt := 77) hx hb dX2_does_53 (by decide) (fun h9 => absurd h9 (by decide)) (fun _ => ?_)
    refine lv_aload_n hx hb dX2_does_56 rfl (lv_at hl 0 rfl) ?_
    refine va_get (D := Z.1) (ci := 1) (v := .ref kd) (C := RX2) (T := TX2) (N := 17) hx hb hts in_X2 hown hE.1 (hM.at HMO) 0 rfl mm_cX2 1 (by decide) (hts _ q2379) (fun _ h9 => h9) rfl dX2_does_57 ?_
    refine lv_iload_n hx hb dX2_does_60 rfl (lv_at hl 1 rfl) ?_
    refine mm_ialdK (k := t) hx hb hE hM ea0 rfl htl (by decide) dX2_does_61 ?_
    rw [show (g0 t : Int32) = 9 from ((hg _ _ hrr).1.trans hk9)]
    refine lv_bipush (v := 6) hx hb dX2_does_62 (by decide) ?_
    refine lv_icmp_eq (tgt := 77) hx hb dX2_does_64 (by decide) (fun h9 => absurd h9 (by decide)) (fun _ => ?_)
    refine lv_aload_n hx hb dX2_does_67 rfl (lv_at hl 0 rfl) ?_
    refine va_get (D := Z.1) (ci := 1) (v := .ref kd) (C := RX2) (T := TX2) (N := 17) hx hb hts in_X2 hown hE.1 (hM.at HMO) 0 rfl mm_cX2 1 (by decide) (hts _ q2379) (fun _ h9 => h9) rfl dX2_does_68 ?_
    refine lv_iload_n hx hb dX2_does_71 rfl (lv_at hl 1 rfl) ?_
    refine mm_ialdK (k := t) hx hb hE hM ea0 rfl htl (by decide) dX2_does_72 ?_
    rw [show (g0 t : Int32) = 9 from ((hg _ _ hrr).1.trans hk9)]
    refine lv_iconst (v := 5) hx hb dX2_does_73 (by decide) ?_
    refine lv_icmp_ne (tgt := 81) hx hb dX2_does_74 (by decide) (fun _ => ?_) (fun h9 => absurd h9 (by decide))
    refine lv_aload_n hx hb dX2_does_81 rfl (lv_at hl 0 rfl) ?_
    refine lv_aload_n hx hb dX2_does_82 rfl (lv_at hl 0 rfl) ?_
    refine va_get (D := Z.1) (ci := 1) (v := .ref f1) (C := RX2) (T := TX2) (N := 17) hx hb hts in_X2 hown hE.1 (hM.at HMO) 0 rfl mm_cX2 3 (by decide) (hts _ q2381) (fun _ h9 => h9) rfl dX2_does_83 ?_
    refine lv_iload_n hx hb dX2_does_86 rfl (lv_at hl 1 rfl) ?_
    refine mm_ialdK (k := t) hx hb hE hM ea2 rfl htl (by decide) dX2_does_87 ?_
    rw [show (g2 t : Int32) = nI j1 from ((hg _ _ hrr).2.2.1.trans (pt_i_at hj1))]
    refine mm_aload_n hx hb dX2_does_88 rfl (lv_at hl 2 rfl) ?_
    refine mm_callV (As := [.int (nI j1), va_rf sc]) (rest := []) ⟨hx, hb, hml, hown, hts⟩ hE hST hA (ih j1 (en) (n0 + 1) r1 M_2 sc HMO ((e40.Km HMO).mdA hA1) (by omega) (mr.mono (e40.Km HMO) _ _ _ _ hsc) hr1) (cwV 2 hts (lw_V q2769 q2771 qs47 q54 q2772) rfl rfl rfl (by decide +kernel) ⟨(by (try dsimp only); omega), (by (try dsimp only); omega)⟩) hM hS mm_cX2 HMO rfl hl.1 (Nat.le_of_ble_eq_true rfl) dX2_does_89 rfl ⟨(by (try dsimp only); omega), (by (try dsimp only); omega)⟩ (fun _ _ _ _ _ _ h9 => h9.elim) (fun v_3 M_4 H locs hp_5 hM hS => ?_)
    rcases hp_5.symm with ⟨rfl, rfl, hmf, hxf⟩ | ⟨w1, c1, a1, rfl, rfl, hw1, hm1, hxx1⟩
    · skip
      have hu9 : us (n0 + 1) (none : Option (ev × Nat)) = 1001 - (n0 + 1) := rfl
      refine lv_astore_nN (lv' := [(3, .null), (0, .ref mo), (1, .int (nI t)), (2, va_rf sc)]) hx hb dX2_does_92 rfl hl (by decide) (by simp [mm_cat_o, mm_cat_r, mm_cat_i, mm_cat_n, mm_cat_l] <;> decide) (fun ls hl => ?_)
      refine lv_aload_n hx hb dX2_does_93 rfl (lv_at hl 1 rfl) ?_
      refine va_get (D := Z.1) (ci := 1) (v := .int (mm_b true)) (C := RX2) (T := TX2) (N := 17) hx hb hts in_X2 hown hE.1 (hM.at hmf) 0 rfl mm_cX2 15 (by decide) (hts _ q2393) (fun _ h9 => h9) rfl dX2_does_94 ?_
      refine lv_if_eq (tgt := 102) hx hb dX2_does_97 (by decide) (fun h9 => absurd h9 (by decide)) (fun _ => ?_)
      refine lv_null hx hb dX2_does_100 ?_
      exact mm_reta hx hb hr (Or.inl ⟨_, rfl⟩) (Or.inl rfl) hlk hM hS (Or.inr ⟨hro1.2.1 rfl, rfl, hmf, hx1.trans (e40.trans hxf)⟩) dX2_does_101 (by (try dsimp only); omega) (by (try dsimp only); omega)
    obtain ⟨hpe1, hca1, hcb1⟩ := hro1.2.2 w1 c1 rfl
    have hu1 : us (n0 + 1) (some (w1, c1)) = c1 - (n0 + 1) := rfl
    have e41 := e40.trans hxx1
    have hc_6 := hxx1.atMA HMO ea0
    have hc_7 := hxx1.atMA HMO ea1
    have hc_8 := hxx1.atMA HMO ea2
    have hc_9 := hxx1.atMA HMO ea3
    have hc_10 := hxx1.atMA HMO ea4
    obtain ⟨w9, hset9, hpe9⟩ : ∃ w9, rc_set w1 (nN r.2.1) (.var 1) = some w9 ∧ some (some (w9, c1)) = some res := by
      (try dsimp only at hpe1)
      cases h9 : rc_set w1 (nN r.2.1) (.var 1) with
      | none => rw [h9] at hpe1; cases hpe1
      | some w9 => rw [h9] at hpe1; exact ⟨w9, rfl, hpe1⟩
    obtain ⟨x0, r0, rfl, x9, r9, rfl⟩ := rc_some hset9
    obtain ⟨wa', wq, wf, e9, hwa, hwq, hws⟩ := mr_rec.1 hw1
    cases e9
    refine lv_astore_n (lv' := [(3, .ref a1), (0, .ref mo), (1, .int (nI t)), (2, va_rf sc)]) hx hb dX2_does_92 rfl hl (by decide) (by simp [mm_cat_o, mm_cat_r, mm_cat_i, mm_cat_n, mm_cat_l] <;> decide) (fun ls hl => ?_)
    refine lv_aload_n hx hb dX2_does_93 rfl (lv_at hl 1 rfl) ?_
    refine va_get (D := Z.1) (ci := 1) (v := .int (mm_b false)) (C := RX2) (T := TX2) (N := 17) hx hb hts in_X2 hown hE.1 (hM.at hm1) 0 rfl mm_cX2 15 (by decide) (hts _ q2393) (fun _ h9 => h9) rfl dX2_does_94 ?_
    refine lv_if_eq (tgt := 102) hx hb dX2_does_97 (by decide) (fun _ => ?_) (fun h9 => absurd (by decide) h9)
    refine lv_aload_n hx hb dX2_does_102 rfl (lv_at hl 1 rfl) ?_
    refine va_get (D := Z.1) (ci := 1) (v := .ref kd) (C := RX2) (T := TX2) (N := 17) hx hb hts in_X2 hown hE.1 (hM.at hm1) 0 rfl mm_cX2 1 (by decide) (hts _ q2379) (fun _ h9 => h9) rfl dX2_does_103 ?_
    refine lv_iload_n hx hb dX2_does_106 rfl (lv_at hl 2 rfl) ?_
    refine mm_ialdK (k := t) hx hb hE hM hc_6 rfl htl (by decide) dX2_does_107 ?_
    rw [show (g0 t : Int32) = 9 from ((hg _ _ hrr).1.trans hk9)]
    refine lv_iconst (v := 3) hx hb dX2_does_108 (by decide) ?_
    refine lv_icmp_eq (tgt := 145) hx hb dX2_does_109 (by decide) (fun h9 => absurd h9 (by decide)) (fun _ => ?_)
    refine lv_aload_n hx hb dX2_does_112 rfl (lv_at hl 1 rfl) ?_
    refine va_get (D := Z.1) (ci := 1) (v := .ref kd) (C := RX2) (T := TX2) (N := 17) hx hb hts in_X2 hown hE.1 (hM.at hm1) 0 rfl mm_cX2 1 (by decide) (hts _ q2379) (fun _ h9 => h9) rfl dX2_does_113 ?_
    refine lv_iload_n hx hb dX2_does_116 rfl (lv_at hl 2 rfl) ?_
    refine mm_ialdK (k := t) hx hb hE hM hc_6 rfl htl (by decide) dX2_does_117 ?_
    rw [show (g0 t : Int32) = 9 from ((hg _ _ hrr).1.trans hk9)]
    refine lv_bipush (v := 7) hx hb dX2_does_118 (by decide) ?_
    refine lv_icmp_eq (tgt := 145) hx hb dX2_does_120 (by decide) (fun h9 => absurd h9 (by decide)) (fun _ => ?_)
    refine lv_aload_n hx hb dX2_does_123 rfl (lv_at hl 1 rfl) ?_
    refine va_get (D := Z.1) (ci := 1) (v := .ref kd) (C := RX2) (T := TX2) (N := 17) hx hb hts in_X2 hown hE.1 (hM.at hm1) 0 rfl mm_cX2 1 (by decide) (hts _ q2379) (fun _ h9 => h9) rfl dX2_does_124 ?_
    refine lv_iload_n hx hb dX2_does_127 rfl (lv_at hl 2 rfl) ?_
    refine mm_ialdK (k := t) hx hb hE hM hc_6 rfl htl (by decide) dX2_does_128 ?_
    rw [show (g0 t : Int32) = 9 from ((hg _ _ hrr).1.trans hk9)]
    refine lv_bipush (v := 13) hx hb dX2_does_129 (by decide) ?_
    refine lv_icmp_eq (tgt := 145) hx hb dX2_does_131 (by decide) (fun h9 => absurd h9 (by decide)) (fun _ => ?_)
    refine lv_aload_n hx hb dX2_does_134 rfl (lv_at hl 1 rfl) ?_
    refine va_get (D := Z.1) (ci := 1) (v := .ref kd) (C := RX2) (T := TX2) (N := 17) hx hb hts in_X2 hown hE.1 (hM.at hm1) 0 rfl mm_cX2 1 (by decide) (hts _ q2379) (fun _ h9 => h9) rfl dX2_does_135 ?_
    refine lv_iload_n hx hb dX2_does_138 rfl (lv_at hl 2 rfl) ?_
    refine mm_ialdK (k := t) hx hb hE hM hc_6 rfl htl (by decide) dX2_does_139 ?_
    rw [show (g0 t : Int32) = 9 from ((hg _ _ hrr).1.trans hk9)]
    refine lv_bipush (v := 14) hx hb dX2_does_140 (by decide) ?_
    refine lv_icmp_ne (tgt := 159) hx hb dX2_does_142 (by decide) (fun _ => ?_) (fun h9 => absurd h9 (by decide))
    refine lv_null hx hb dX2_does_159 ?_
    refine lv_astoreN hx hb dX2_does_160 hl (by decide) rfl (fun ls hl => ?_)
    replace hl : lv_has ls 12 [(4, .null), (3, .ref a1), (0, .ref mo), (1, .int (nI t)), (2, va_rf sc)] := hl
    refine lv_aload_n hx hb dX2_does_162 rfl (lv_at hl 2 rfl) ?_
    refine va_get (D := Z.1) (ci := 1) (v := .int (mm_b false)) (C := RX2) (T := TX2) (N := 17) hx hb hts in_X2 hown hE.1 (hM.at hm1) 0 rfl mm_cX2 15 (by decide) (hts _ q2393) (fun _ h9 => h9) rfl dX2_does_163 ?_
    refine lv_if_eq (tgt := 171) hx hb dX2_does_166 (by decide) (fun _ => ?_) (fun h9 => absurd (by decide) h9)
    refine lv_aload_n hx hb dX2_does_171 rfl (lv_at hl 2 rfl) ?_
    refine va_get (D := Z.1) (ci := 1) (v := .ref kd) (C := RX2) (T := TX2) (N := 17) hx hb hts in_X2 hown hE.1 (hM.at hm1) 0 rfl mm_cX2 1 (by decide) (hts _ q2379) (fun _ h9 => h9) rfl dX2_does_172 ?_
    refine lv_iload_n hx hb dX2_does_175 rfl (lv_at hl 3 rfl) ?_
    refine mm_ialdK (k := t) hx hb hE hM hc_6 rfl htl (by decide) dX2_does_176 ?_
    rw [show (g0 t : Int32) = 9 from ((hg _ _ hrr).1.trans hk9)]
    refine lv_tableIn (tgt := 498) (off := 321) hx hb dX2_does_177 (by decide) (by decide) (by decide) (by decide) ?_
    refine lv_aload_n hx hb dX2_does_498 rfl (lv_at hl 1 rfl) ?_
    refine lv_aload_n hx hb dX2_does_499 rfl (lv_at hl 2 rfl) ?_
    refine va_get (D := Z.1) (ci := 1) (v := .ref wh) (C := RX2) (T := TX2) (N := 17) hx hb hts in_X2 hown hE.1 (hM.at hm1) 0 rfl mm_cX2 2 (by decide) (hts _ q2380) (fun _ h9 => h9) rfl dX2_does_500 ?_
    refine lv_iload_n hx hb dX2_does_503 rfl (lv_at hl 3 rfl) ?_
    refine mm_ialdK (k := t) hx hb hE hM hc_7 rfl htl (by decide) dX2_does_504 ?_
    rw [show (g1 t : Int32) = r.2.1 from (((hg _ _ hrr).2.1 (by rw [hk9]; decide) (by rw [hk9]; decide)).trans (pm_no17 (by rw [hk9]; decide)))]
    refine lv_null hx hb dX2_does_505 ?_
    refine mm_callS (As := [.ref a1, .int r.2.1, .null]) (rest := []) ⟨hx, hb, hml, hown, hts⟩ hE hST hA (c_X2_record l Z (M := M_4) (fo := some a1) (its := none) (lb := r.2.1) (f := wf) (fun a h => by cases h; exact ⟨wq, hwa, hwq⟩) (fun h => by cases h) (mr_isW hws) (fun y h => by cases h)) (va_cwS 3 hts (lw_S q2821 q2822 q54 q2823) rfl rfl rfl (by decide +kernel) ⟨(by (try dsimp only); omega), (by (try dsimp only); omega)⟩) hM hS rfl hl.1 (Nat.le_of_ble_eq_true rfl) dX2_does_506 rfl ⟨(by (try dsimp only); omega), (by (try dsimp only); omega)⟩ (fun _ _ _ _ _ _ h9 => h9.elim) (fun v_11 M_12 H locs hp_13 hM hS => ?_)
    obtain ⟨b9, q9, gg, rfl, hb9, hq9, hgg, hex9⟩ := hp_13
    have hmb := hex9.at hm1
    have e4_14 := e41.trans hex9.Exp
    obtain rfl : res = some (_, c1) := (Option.some.inj hpe9).symm
    exact mm_reta hx hb hr (Or.inl ⟨_, rfl⟩) (Or.inr ⟨_, rfl⟩) hlk hM hS (Or.inl ⟨_, c1, b9, rfl, rfl, mr_rec.2 ⟨b9, q9, gg, rfl, hb9, hq9, mr_put (Or.inl ⟨rfl, rfl⟩) (mr.mono hex9.Km _ _ _ _ hws) hset9 hgg⟩, hmb, hx1.trans e4_14⟩) dX2_does_509 (by (try dsimp only); omega) (by (try dsimp only); omega)
  rw [if_neg hk9] at hpe4
  by_cases hk10 : r.1 = 10
  · skip
    rw [if_pos hk10] at hpe4
    obtain ⟨r1, hxp1⟩ := pb_ne hpe4
    obtain ⟨j1, hj1, hr1⟩ := at_some hxp1
    have hro1 := us_pb (n0 := n0) hpe4 hxp1 (mono_at (fun j => hmr _ _ _ (by omega))) (fun _ _ _ _ => (by repeat' (first | exact mono_none _ | exact mono_ret (by omega) | exact hmr _ _ _ (by omega) | exact mono_same (by omega) | exact mono_cas hmr (by omega) | (refine mono_app hmr (by omega) ?_) | (refine mono_pb ?_ (fun _ _ _ _ => ?_)) | (refine mono_at (fun _ => ?_)) | split))) (by omega) (by omega)
    refine lv_aload_n hx hb dX2_does_27 rfl (lv_at hl 0 rfl) ?_
    refine va_get (D := Z.1) (ci := 1) (v := .ref kd) (C := RX2) (T := TX2) (N := 17) hx hb hts in_X2 hown hE.1 (hM.at HMO) 0 rfl mm_cX2 1 (by decide) (hts _ q2379) (fun _ h9 => h9) rfl dX2_does_28 ?_
    refine lv_iload_n hx hb dX2_does_31 rfl (lv_at hl 1 rfl) ?_
    refine mm_ialdK (k := t) hx hb hE hM ea0 rfl htl (by decide) dX2_does_32 ?_
    rw [show (g0 t : Int32) = 10 from ((hg _ _ hrr).1.trans hk10)]
    refine lv_if_eq (tgt := 77) hx hb dX2_does_33 (by decide) (fun h9 => absurd h9 (by decide)) (fun _ => ?_)
    refine lv_aload_n hx hb dX2_does_36 rfl (lv_at hl 0 rfl) ?_
    refine va_get (D := Z.1) (ci := 1) (v := .ref kd) (C := RX2) (T := TX2) (N := 17) hx hb hts in_X2 hown hE.1 (hM.at HMO) 0 rfl mm_cX2 1 (by decide) (hts _ q2379) (fun _ h9 => h9) rfl dX2_does_37 ?_
    refine lv_iload_n hx hb dX2_does_40 rfl (lv_at hl 1 rfl) ?_
    refine mm_ialdK (k := t) hx hb hE hM ea0 rfl htl (by decide) dX2_does_41 ?_
    rw [show (g0 t : Int32) = 10 from ((hg _ _ hrr).1.trans hk10)]
    refine lv_iconst (v := 1) hx hb dX2_does_42 (by decide) ?_
    refine lv_icmp_eq (tgt := 77) hx hb dX2_does_43 (by decide) (fun h9 => absurd h9 (by decide)) (fun _ => ?_)
    refine lv_aload_n hx hb dX2_does_46 rfl (lv_at hl 0 rfl) ?_
    refine va_get (D := Z.1) (ci := 1) (v := .ref kd) (C := RX2) (T := TX2) (N := 17) hx hb hts in_X2 hown hE.1 (hM.at HMO) 0 rfl mm_cX2 1 (by decide) (hts _ q2379) (fun _ h9 => h9) rfl dX2_does_47 ?_
    refine lv_iload_n hx hb dX2_does_50 rfl (lv_at hl 1 rfl) ?_
    refine mm_ialdK (k := t) hx hb hE hM ea0 rfl htl (by decide) dX2_does_51 ?_
    rw [show (g0 t : Int32) = 10 from ((hg _ _ hrr).1.trans hk10)]
    refine lv_iconst (v := 2) hx hb dX2_does_52 (by decide) ?_
    refine lv_icmp_eq (tgt := 77) hx hb dX2_does_53 (by decide) (fun h9 => absurd h9 (by decide)) (fun _ => ?_)
    refine lv_aload_n hx hb dX2_does_56 rfl (lv_at hl 0 rfl) ?_
    refine va_get (D := Z.1) (ci := 1) (v := .ref kd) (C := RX2) (T := TX2) (N := 17) hx hb hts in_X2 hown hE.1 (hM.at HMO) 0 rfl mm_cX2 1 (by decide) (hts _ q2379) (fun _ h9 => h9) rfl dX2_does_57 ?_
    refine lv_iload_n hx hb dX2_does_60 rfl (lv_at hl 1 rfl) ?_
    refine mm_ialdK (k := t) hx hb hE hM ea0 rfl htl (by decide) dX2_does_61 ?_
    rw [show (g0 t : Int32) = 10 from ((hg _ _ hrr).1.trans hk10)]
    refine lv_bipush (v := 6) hx hb dX2_does_62 (by decide) ?_
    refine lv_icmp_eq (tgt := 77) hx hb dX2_does_64 (by decide) (fun h9 => absurd h9 (by decide)) (fun _ => ?_)
    refine lv_aload_n hx hb dX2_does_67 rfl (lv_at hl 0 rfl) ?_
    refine va_get (D := Z.1) (ci := 1) (v := .ref kd) (C := RX2) (T := TX2) (N := 17) hx hb hts in_X2 hown hE.1 (hM.at HMO) 0 rfl mm_cX2 1 (by decide) (hts _ q2379) (fun _ h9 => h9) rfl dX2_does_68 ?_
    refine lv_iload_n hx hb dX2_does_71 rfl (lv_at hl 1 rfl) ?_
    refine mm_ialdK (k := t) hx hb hE hM ea0 rfl htl (by decide) dX2_does_72 ?_
    rw [show (g0 t : Int32) = 10 from ((hg _ _ hrr).1.trans hk10)]
    refine lv_iconst (v := 5) hx hb dX2_does_73 (by decide) ?_
    refine lv_icmp_ne (tgt := 81) hx hb dX2_does_74 (by decide) (fun _ => ?_) (fun h9 => absurd h9 (by decide))
    refine lv_aload_n hx hb dX2_does_81 rfl (lv_at hl 0 rfl) ?_
    refine lv_aload_n hx hb dX2_does_82 rfl (lv_at hl 0 rfl) ?_
    refine va_get (D := Z.1) (ci := 1) (v := .ref f1) (C := RX2) (T := TX2) (N := 17) hx hb hts in_X2 hown hE.1 (hM.at HMO) 0 rfl mm_cX2 3 (by decide) (hts _ q2381) (fun _ h9 => h9) rfl dX2_does_83 ?_
    refine lv_iload_n hx hb dX2_does_86 rfl (lv_at hl 1 rfl) ?_
    refine mm_ialdK (k := t) hx hb hE hM ea2 rfl htl (by decide) dX2_does_87 ?_
    rw [show (g2 t : Int32) = nI j1 from ((hg _ _ hrr).2.2.1.trans (pt_i_at hj1))]
    refine mm_aload_n hx hb dX2_does_88 rfl (lv_at hl 2 rfl) ?_
    refine mm_callV (As := [.int (nI j1), va_rf sc]) (rest := []) ⟨hx, hb, hml, hown, hts⟩ hE hST hA (ih j1 (en) (n0 + 1) r1 M_2 sc HMO ((e40.Km HMO).mdA hA1) (by omega) (mr.mono (e40.Km HMO) _ _ _ _ hsc) hr1) (cwV 2 hts (lw_V q2769 q2771 qs47 q54 q2772) rfl rfl rfl (by decide +kernel) ⟨(by (try dsimp only); omega), (by (try dsimp only); omega)⟩) hM hS mm_cX2 HMO rfl hl.1 (Nat.le_of_ble_eq_true rfl) dX2_does_89 rfl ⟨(by (try dsimp only); omega), (by (try dsimp only); omega)⟩ (fun _ _ _ _ _ _ h9 => h9.elim) (fun v_3 M_4 H locs hp_5 hM hS => ?_)
    rcases hp_5.symm with ⟨rfl, rfl, hmf, hxf⟩ | ⟨w1, c1, a1, rfl, rfl, hw1, hm1, hxx1⟩
    · skip
      have hu9 : us (n0 + 1) (none : Option (ev × Nat)) = 1001 - (n0 + 1) := rfl
      refine lv_astore_nN (lv' := [(3, .null), (0, .ref mo), (1, .int (nI t)), (2, va_rf sc)]) hx hb dX2_does_92 rfl hl (by decide) (by simp [mm_cat_o, mm_cat_r, mm_cat_i, mm_cat_n, mm_cat_l] <;> decide) (fun ls hl => ?_)
      refine lv_aload_n hx hb dX2_does_93 rfl (lv_at hl 1 rfl) ?_
      refine va_get (D := Z.1) (ci := 1) (v := .int (mm_b true)) (C := RX2) (T := TX2) (N := 17) hx hb hts in_X2 hown hE.1 (hM.at hmf) 0 rfl mm_cX2 15 (by decide) (hts _ q2393) (fun _ h9 => h9) rfl dX2_does_94 ?_
      refine lv_if_eq (tgt := 102) hx hb dX2_does_97 (by decide) (fun h9 => absurd h9 (by decide)) (fun _ => ?_)
      refine lv_null hx hb dX2_does_100 ?_
      exact mm_reta hx hb hr (Or.inl ⟨_, rfl⟩) (Or.inl rfl) hlk hM hS (Or.inr ⟨hro1.2.1 rfl, rfl, hmf, hx1.trans (e40.trans hxf)⟩) dX2_does_101 (by (try dsimp only); omega) (by (try dsimp only); omega)
    obtain ⟨hpe1, hca1, hcb1⟩ := hro1.2.2 w1 c1 rfl
    have hu1 : us (n0 + 1) (some (w1, c1)) = c1 - (n0 + 1) := rfl
    have e41 := e40.trans hxx1
    have hc_6 := hxx1.atMA HMO ea0
    have hc_7 := hxx1.atMA HMO ea1
    have hc_8 := hxx1.atMA HMO ea2
    have hc_9 := hxx1.atMA HMO ea3
    have hc_10 := hxx1.atMA HMO ea4
    refine lv_astore_n (lv' := [(3, .ref a1), (0, .ref mo), (1, .int (nI t)), (2, va_rf sc)]) hx hb dX2_does_92 rfl hl (by decide) (by simp [mm_cat_o, mm_cat_r, mm_cat_i, mm_cat_n, mm_cat_l] <;> decide) (fun ls hl => ?_)
    refine lv_aload_n hx hb dX2_does_93 rfl (lv_at hl 1 rfl) ?_
    refine va_get (D := Z.1) (ci := 1) (v := .int (mm_b false)) (C := RX2) (T := TX2) (N := 17) hx hb hts in_X2 hown hE.1 (hM.at hm1) 0 rfl mm_cX2 15 (by decide) (hts _ q2393) (fun _ h9 => h9) rfl dX2_does_94 ?_
    refine lv_if_eq (tgt := 102) hx hb dX2_does_97 (by decide) (fun _ => ?_) (fun h9 => absurd (by decide) h9)
    refine lv_aload_n hx hb dX2_does_102 rfl (lv_at hl 1 rfl) ?_
    refine va_get (D := Z.1) (ci := 1) (v := .ref kd) (C := RX2) (T := TX2) (N := 17) hx hb hts in_X2 hown hE.1 (hM.at hm1) 0 rfl mm_cX2 1 (by decide) (hts _ q2379) (fun _ h9 => h9) rfl dX2_does_103 ?_
    refine lv_iload_n hx hb dX2_does_106 rfl (lv_at hl 2 rfl) ?_
    refine mm_ialdK (k := t) hx hb hE hM hc_6 rfl htl (by decide) dX2_does_107 ?_
    rw [show (g0 t : Int32) = 10 from ((hg _ _ hrr).1.trans hk10)]
    refine lv_iconst (v := 3) hx hb dX2_does_108 (by decide) ?_
    refine lv_icmp_eq (tgt := 145) hx hb dX2_does_109 (by decide) (fun h9 => absurd h9 (by decide)) (fun _ => ?_)
    refine lv_aload_n hx hb dX2_does_112 rfl (lv_at hl 1 rfl) ?_
    refine va_get (D := Z.1) (ci := 1) (v := .ref kd) (C := RX2) (T := TX2) (N := 17) hx hb hts in_X2 hown hE.1 (hM.at hm1) 0 rfl mm_cX2 1 (by decide) (hts _ q2379) (fun _ h9 => h9) rfl dX2_does_113 ?_
    refine lv_iload_n hx hb dX2_does_116 rfl (lv_at hl 2 rfl) ?_
    refine mm_ialdK (k := t) hx hb hE hM hc_6 rfl htl (by decide) dX2_does_117 ?_
    rw [show (g0 t : Int32) = 10 from ((hg _ _ hrr).1.trans hk10)]
    refine lv_bipush (v := 7) hx hb dX2_does_118 (by decide) ?_
    refine lv_icmp_eq (tgt := 145) hx hb dX2_does_120 (by decide) (fun h9 => absurd h9 (by decide)) (fun _ => ?_)
    refine lv_aload_n hx hb dX2_does_123 rfl (lv_at hl 1 rfl) ?_
    refine va_get (D := Z.1) (ci := 1) (v := .ref kd) (C := RX2) (T := TX2) (N := 17) hx hb hts in_X2 hown hE.1 (hM.at hm1) 0 rfl mm_cX2 1 (by decide) (hts _ q2379) (fun _ h9 => h9) rfl dX2_does_124 ?_
    refine lv_iload_n hx hb dX2_does_127 rfl (lv_at hl 2 rfl) ?_
    refine mm_ialdK (k := t) hx hb hE hM hc_6 rfl htl (by decide) dX2_does_128 ?_
    rw [show (g0 t : Int32) = 10 from ((hg _ _ hrr).1.trans hk10)]
    refine lv_bipush (v := 13) hx hb dX2_does_129 (by decide) ?_
    refine lv_icmp_eq (tgt := 145) hx hb dX2_does_131 (by decide) (fun h9 => absurd h9 (by decide)) (fun _ => ?_)
    refine lv_aload_n hx hb dX2_does_134 rfl (lv_at hl 1 rfl) ?_
    refine va_get (D := Z.1) (ci := 1) (v := .ref kd) (C := RX2) (T := TX2) (N := 17) hx hb hts in_X2 hown hE.1 (hM.at hm1) 0 rfl mm_cX2 1 (by decide) (hts _ q2379) (fun _ h9 => h9) rfl dX2_does_135 ?_
    refine lv_iload_n hx hb dX2_does_138 rfl (lv_at hl 2 rfl) ?_
    refine mm_ialdK (k := t) hx hb hE hM hc_6 rfl htl (by decide) dX2_does_139 ?_
    rw [show (g0 t : Int32) = 10 from ((hg _ _ hrr).1.trans hk10)]
    refine lv_bipush (v := 14) hx hb dX2_does_140 (by decide) ?_
    refine lv_icmp_ne (tgt := 159) hx hb dX2_does_142 (by decide) (fun _ => ?_) (fun h9 => absurd h9 (by decide))
    refine lv_null hx hb dX2_does_159 ?_
    refine lv_astoreN hx hb dX2_does_160 hl (by decide) rfl (fun ls hl => ?_)
    replace hl : lv_has ls 12 [(4, .null), (3, .ref a1), (0, .ref mo), (1, .int (nI t)), (2, va_rf sc)] := hl
    refine lv_aload_n hx hb dX2_does_162 rfl (lv_at hl 2 rfl) ?_
    refine va_get (D := Z.1) (ci := 1) (v := .int (mm_b false)) (C := RX2) (T := TX2) (N := 17) hx hb hts in_X2 hown hE.1 (hM.at hm1) 0 rfl mm_cX2 15 (by decide) (hts _ q2393) (fun _ h9 => h9) rfl dX2_does_163 ?_
    refine lv_if_eq (tgt := 171) hx hb dX2_does_166 (by decide) (fun _ => ?_) (fun h9 => absurd (by decide) h9)
    refine lv_aload_n hx hb dX2_does_171 rfl (lv_at hl 2 rfl) ?_
    refine va_get (D := Z.1) (ci := 1) (v := .ref kd) (C := RX2) (T := TX2) (N := 17) hx hb hts in_X2 hown hE.1 (hM.at hm1) 0 rfl mm_cX2 1 (by decide) (hts _ q2379) (fun _ h9 => h9) rfl dX2_does_172 ?_
    refine lv_iload_n hx hb dX2_does_175 rfl (lv_at hl 3 rfl) ?_
    refine mm_ialdK (k := t) hx hb hE hM hc_6 rfl htl (by decide) dX2_does_176 ?_
    rw [show (g0 t : Int32) = 10 from ((hg _ _ hrr).1.trans hk10)]
    refine lv_tableIn (tgt := 510) (off := 333) hx hb dX2_does_177 (by decide) (by decide) (by decide) (by decide) ?_
    refine lv_iconst (v := 4) hx hb dX2_does_510 (by decide) ?_
    refine lv_aload_n hx hb dX2_does_511 rfl (lv_at hl 2 rfl) ?_
    refine va_get (D := Z.1) (ci := 1) (v := .ref wh) (C := RX2) (T := TX2) (N := 17) hx hb hts in_X2 hown hE.1 (hM.at hm1) 0 rfl mm_cX2 2 (by decide) (hts _ q2380) (fun _ h9 => h9) rfl dX2_does_512 ?_
    refine lv_iload_n hx hb dX2_does_515 rfl (lv_at hl 3 rfl) ?_
    refine mm_ialdK (k := t) hx hb hE hM hc_7 rfl htl (by decide) dX2_does_516 ?_
    rw [show (g1 t : Int32) = r.2.1 from (((hg _ _ hrr).2.1 (by rw [hk10]; decide) (by rw [hk10]; decide)).trans (pm_no17 (by rw [hk10]; decide)))]
    refine mm_callS (As := [.int 4, .int r.2.1]) (rest := []) ⟨hx, hb, hml, hown, hts⟩ hE hST hA (c_X2_value l Z (M := M_4) (x1 := 4) (x2 := r.2.1) ) (va_cwS 2 hts (lw_S q2773 q2774 q54 q2775) rfl rfl rfl (by decide +kernel) ⟨(by (try dsimp only); omega), (by (try dsimp only); omega)⟩) hM hS rfl hl.1 (Nat.le_of_ble_eq_true rfl) dX2_does_517 rfl ⟨(by (try dsimp only); omega), (by (try dsimp only); omega)⟩ (fun _ _ _ _ _ _ h9 => h9.elim) (fun v_11 M_12 H locs hp_13 hM hS => ?_)
    obtain ⟨q_14, nq_15, rfl, eM_12⟩ := hp_13
    rw [eM_12] at hM
    have ne_16 : mo ≠ q_14 := (mm_neN hm1 nq_15)
    have ne_17 : kd ≠ q_14 := (mm_neN hc_6 nq_15)
    have ne_18 : wh ≠ q_14 := (mm_neN hc_7 nq_15)
    have ne_19 : f1 ≠ q_14 := (mm_neN hc_8 nq_15)
    have ne_20 : f2 ≠ q_14 := (mm_neN hc_9 nq_15)
    have ne_21 : f3 ≠ q_14 := (mm_neN hc_10 nq_15)
    replace hM : mm_P Z.1 mm_cl A (mm_U M_4 q_14 (.inr (32, [.int 4, .int r.2.1, .null, .null, .null]))) H := hM
    have hc_22 : (mm_U M_4 q_14 (.inr (32, [.int 4, .int r.2.1, .null, .null, .null]))) q_14 = some (.inr (32, [.int 4, .int r.2.1, .null, .null, .null])) := mm_U_eq
    have hc_23 : (mm_U M_4 q_14 (.inr (32, [.int 4, .int r.2.1, .null, .null, .null]))) mo = some (.inr (1, [.int tm, .ref kd, .ref wh, .ref f1, .ref f2, .ref f3, .ref wg, .int ea, .int sp, va_rf rt, .int th, .int ak, .int wr, .ref pl, .int (nI c1), .int (mm_b false), .long st])) := (mm_U_ne ne_16).trans hm1
    have hc_24 : (mm_U M_4 q_14 (.inr (32, [.int 4, .int r.2.1, .null, .null, .null]))) kd = some (.inl (Z.2.1 0, 120, .inl g0)) := (mm_U_ne ne_17).trans hc_6
    have hc_25 : (mm_U M_4 q_14 (.inr (32, [.int 4, .int r.2.1, .null, .null, .null]))) wh = some (.inl (Z.2.1 0, 120, .inl g1)) := (mm_U_ne ne_18).trans hc_7
    have hc_26 : (mm_U M_4 q_14 (.inr (32, [.int 4, .int r.2.1, .null, .null, .null]))) f1 = some (.inl (Z.2.1 0, 120, .inl g2)) := (mm_U_ne ne_19).trans hc_8
    have hc_27 : (mm_U M_4 q_14 (.inr (32, [.int 4, .int r.2.1, .null, .null, .null]))) f2 = some (.inl (Z.2.1 0, 120, .inl g3)) := (mm_U_ne ne_20).trans hc_9
    have hc_28 : (mm_U M_4 q_14 (.inr (32, [.int 4, .int r.2.1, .null, .null, .null]))) f3 = some (.inl (Z.2.1 0, 120, .inl g4)) := (mm_U_ne ne_21).trans hc_10
    obtain ⟨M_29, eM_29⟩ : ∃ z, z = mm_U M_4 q_14 (.inr (32, [.int 4, .int r.2.1, .null, .null, .null])) := ⟨_, rfl⟩
    rw [← eM_29] at hM hc_23 hc_24 hc_25 hc_26 hc_27 hc_28 hc_22
    refine lv_astore hx hb dX2_does_520 hl (by decide) rfl (fun ls hl => ?_)
    replace hl : lv_has ls 12 [(8, .ref q_14), (4, .null), (3, .ref a1), (0, .ref mo), (1, .int (nI t)), (2, va_rf sc)] := hl
    refine lv_aload hx hb dX2_does_522 (lv_at hl 0 rfl) ?_
    refine lv_aload_n hx hb dX2_does_524 rfl (lv_at hl 2 rfl) ?_
    refine mm_put (D := Z.1) (ci := 32) (v := .ref a1) (ty := .object "RowenTongueModel$Value") (C := RX38) (T := TX38) (N := 5) hx hb hts in_X38 tyX38 tyX38_ok nmX38 hown hE.1 hM hS hc_22 mm_cX38 3 (by decide) (hts _ q2785) (fun _ h9 => h9) rfl (by decide +kernel) rfl rfl (Nat.le_of_ble_eq_true rfl) dX2_does_525 (fun H locs hM hS => ?_)
    have hM : mm_P Z.1 mm_cl A (mm_U M_29 q_14 (.inr (32, [.int 4, .int r.2.1, .null, .ref a1, .null]))) H := hM
    have hc_30 : (mm_U M_29 q_14 (.inr (32, [.int 4, .int r.2.1, .null, .ref a1, .null]))) q_14 = some (.inr (32, [.int 4, .int r.2.1, .null, .ref a1, .null])) := mm_U_eq
    have hc_31 : (mm_U M_29 q_14 (.inr (32, [.int 4, .int r.2.1, .null, .ref a1, .null]))) mo = some (.inr (1, [.int tm, .ref kd, .ref wh, .ref f1, .ref f2, .ref f3, .ref wg, .int ea, .int sp, va_rf rt, .int th, .int ak, .int wr, .ref pl, .int (nI c1), .int (mm_b false), .long st])) := (mm_U_ne ne_16).trans hc_23
    have hc_32 : (mm_U M_29 q_14 (.inr (32, [.int 4, .int r.2.1, .null, .ref a1, .null]))) kd = some (.inl (Z.2.1 0, 120, .inl g0)) := (mm_U_ne ne_17).trans hc_24
    have hc_33 : (mm_U M_29 q_14 (.inr (32, [.int 4, .int r.2.1, .null, .ref a1, .null]))) wh = some (.inl (Z.2.1 0, 120, .inl g1)) := (mm_U_ne ne_18).trans hc_25
    have hc_34 : (mm_U M_29 q_14 (.inr (32, [.int 4, .int r.2.1, .null, .ref a1, .null]))) f1 = some (.inl (Z.2.1 0, 120, .inl g2)) := (mm_U_ne ne_19).trans hc_26
    have hc_35 : (mm_U M_29 q_14 (.inr (32, [.int 4, .int r.2.1, .null, .ref a1, .null]))) f2 = some (.inl (Z.2.1 0, 120, .inl g3)) := (mm_U_ne ne_20).trans hc_27
    have hc_36 : (mm_U M_29 q_14 (.inr (32, [.int 4, .int r.2.1, .null, .ref a1, .null]))) f3 = some (.inl (Z.2.1 0, 120, .inl g4)) := (mm_U_ne ne_21).trans hc_28
    obtain ⟨M_37, eM_37⟩ : ∃ z, z = mm_U M_29 q_14 (.inr (32, [.int 4, .int r.2.1, .null, .ref a1, .null])) := ⟨_, rfl⟩
    rw [← eM_37] at hM hc_31 hc_32 hc_33 hc_34 hc_35 hc_36 hc_30
    have kx_38 : mm_Ext M_4 M_37 := by rw [eM_37, eM_29]; exact (((mm_Ext.rf _).UU nq_15).UU nq_15)
    have e4_39 := e41.trans kx_38.Exp
    obtain rfl : res = some (.pow w1 (nN r.2.1), c1) := (Option.some.inj hpe1).symm
    refine lv_aload hx hb dX2_does_528 (lv_at hl 0 rfl) ?_
    exact mm_reta hx hb hr (Or.inl ⟨_, rfl⟩) (Or.inr ⟨_, rfl⟩) hlk hM hS (Or.inl ⟨.pow w1 (nN r.2.1), c1, q_14, rfl, rfl, by simp only [mr, nI_nN]; exact ⟨_, a1, rfl, hc_30, mr.mono ((mm_Km.rf _).trans kx_38.Km) _ _ _ _ hw1, (hok t r hrr).2.2.2 hk10⟩, hc_31, hx1.trans e4_39⟩) dX2_does_530 (by (try dsimp only); omega) (by (try dsimp only); omega)
  rw [if_neg hk10] at hpe4
  by_cases hk11 : r.1 = 11
  · skip
    rw [if_pos hk11] at hpe4
    obtain ⟨r1, hxp1⟩ := pb_ne hpe4
    obtain ⟨j1, hj1, hr1⟩ := at_some hxp1
    have hro1 := us_pb (n0 := n0) hpe4 hxp1 (mono_at (fun j => hmr _ _ _ (by omega))) (fun _ _ _ _ => (by repeat' (first | exact mono_none _ | exact mono_ret (by omega) | exact hmr _ _ _ (by omega) | exact mono_same (by omega) | exact mono_cas hmr (by omega) | (refine mono_app hmr (by omega) ?_) | (refine mono_pb ?_ (fun _ _ _ _ => ?_)) | (refine mono_at (fun _ => ?_)) | split))) (by omega) (by omega)
    refine lv_aload_n hx hb dX2_does_27 rfl (lv_at hl 0 rfl) ?_
    refine va_get (D := Z.1) (ci := 1) (v := .ref kd) (C := RX2) (T := TX2) (N := 17) hx hb hts in_X2 hown hE.1 (hM.at HMO) 0 rfl mm_cX2 1 (by decide) (hts _ q2379) (fun _ h9 => h9) rfl dX2_does_28 ?_
    refine lv_iload_n hx hb dX2_does_31 rfl (lv_at hl 1 rfl) ?_
    refine mm_ialdK (k := t) hx hb hE hM ea0 rfl htl (by decide) dX2_does_32 ?_
    rw [show (g0 t : Int32) = 11 from ((hg _ _ hrr).1.trans hk11)]
    refine lv_if_eq (tgt := 77) hx hb dX2_does_33 (by decide) (fun h9 => absurd h9 (by decide)) (fun _ => ?_)
    refine lv_aload_n hx hb dX2_does_36 rfl (lv_at hl 0 rfl) ?_
    refine va_get (D := Z.1) (ci := 1) (v := .ref kd) (C := RX2) (T := TX2) (N := 17) hx hb hts in_X2 hown hE.1 (hM.at HMO) 0 rfl mm_cX2 1 (by decide) (hts _ q2379) (fun _ h9 => h9) rfl dX2_does_37 ?_
    refine lv_iload_n hx hb dX2_does_40 rfl (lv_at hl 1 rfl) ?_
    refine mm_ialdK (k := t) hx hb hE hM ea0 rfl htl (by decide) dX2_does_41 ?_
    rw [show (g0 t : Int32) = 11 from ((hg _ _ hrr).1.trans hk11)]
    refine lv_iconst (v := 1) hx hb dX2_does_42 (by decide) ?_
    refine lv_icmp_eq (tgt := 77) hx hb dX2_does_43 (by decide) (fun h9 => absurd h9 (by decide)) (fun _ => ?_)
    refine lv_aload_n hx hb dX2_does_46 rfl (lv_at hl 0 rfl) ?_
    refine va_get (D := Z.1) (ci := 1) (v := .ref kd) (C := RX2) (T := TX2) (N := 17) hx hb hts in_X2 hown hE.1 (hM.at HMO) 0 rfl mm_cX2 1 (by decide) (hts _ q2379) (fun _ h9 => h9) rfl dX2_does_47 ?_
    refine lv_iload_n hx hb dX2_does_50 rfl (lv_at hl 1 rfl) ?_
    refine mm_ialdK (k := t) hx hb hE hM ea0 rfl htl (by decide) dX2_does_51 ?_
    rw [show (g0 t : Int32) = 11 from ((hg _ _ hrr).1.trans hk11)]
    refine lv_iconst (v := 2) hx hb dX2_does_52 (by decide) ?_
    refine lv_icmp_eq (tgt := 77) hx hb dX2_does_53 (by decide) (fun h9 => absurd h9 (by decide)) (fun _ => ?_)
    refine lv_aload_n hx hb dX2_does_56 rfl (lv_at hl 0 rfl) ?_
    refine va_get (D := Z.1) (ci := 1) (v := .ref kd) (C := RX2) (T := TX2) (N := 17) hx hb hts in_X2 hown hE.1 (hM.at HMO) 0 rfl mm_cX2 1 (by decide) (hts _ q2379) (fun _ h9 => h9) rfl dX2_does_57 ?_
    refine lv_iload_n hx hb dX2_does_60 rfl (lv_at hl 1 rfl) ?_
    refine mm_ialdK (k := t) hx hb hE hM ea0 rfl htl (by decide) dX2_does_61 ?_
    rw [show (g0 t : Int32) = 11 from ((hg _ _ hrr).1.trans hk11)]
    refine lv_bipush (v := 6) hx hb dX2_does_62 (by decide) ?_
    refine lv_icmp_eq (tgt := 77) hx hb dX2_does_64 (by decide) (fun h9 => absurd h9 (by decide)) (fun _ => ?_)
    refine lv_aload_n hx hb dX2_does_67 rfl (lv_at hl 0 rfl) ?_
    refine va_get (D := Z.1) (ci := 1) (v := .ref kd) (C := RX2) (T := TX2) (N := 17) hx hb hts in_X2 hown hE.1 (hM.at HMO) 0 rfl mm_cX2 1 (by decide) (hts _ q2379) (fun _ h9 => h9) rfl dX2_does_68 ?_
    refine lv_iload_n hx hb dX2_does_71 rfl (lv_at hl 1 rfl) ?_
    refine mm_ialdK (k := t) hx hb hE hM ea0 rfl htl (by decide) dX2_does_72 ?_
    rw [show (g0 t : Int32) = 11 from ((hg _ _ hrr).1.trans hk11)]
    refine lv_iconst (v := 5) hx hb dX2_does_73 (by decide) ?_
    refine lv_icmp_ne (tgt := 81) hx hb dX2_does_74 (by decide) (fun _ => ?_) (fun h9 => absurd h9 (by decide))
    refine lv_aload_n hx hb dX2_does_81 rfl (lv_at hl 0 rfl) ?_
    refine lv_aload_n hx hb dX2_does_82 rfl (lv_at hl 0 rfl) ?_
    refine va_get (D := Z.1) (ci := 1) (v := .ref f1) (C := RX2) (T := TX2) (N := 17) hx hb hts in_X2 hown hE.1 (hM.at HMO) 0 rfl mm_cX2 3 (by decide) (hts _ q2381) (fun _ h9 => h9) rfl dX2_does_83 ?_
    refine lv_iload_n hx hb dX2_does_86 rfl (lv_at hl 1 rfl) ?_
    refine mm_ialdK (k := t) hx hb hE hM ea2 rfl htl (by decide) dX2_does_87 ?_
    rw [show (g2 t : Int32) = nI j1 from ((hg _ _ hrr).2.2.1.trans (pt_i_at hj1))]
    refine mm_aload_n hx hb dX2_does_88 rfl (lv_at hl 2 rfl) ?_
    refine mm_callV (As := [.int (nI j1), va_rf sc]) (rest := []) ⟨hx, hb, hml, hown, hts⟩ hE hST hA (ih j1 (en) (n0 + 1) r1 M_2 sc HMO ((e40.Km HMO).mdA hA1) (by omega) (mr.mono (e40.Km HMO) _ _ _ _ hsc) hr1) (cwV 2 hts (lw_V q2769 q2771 qs47 q54 q2772) rfl rfl rfl (by decide +kernel) ⟨(by (try dsimp only); omega), (by (try dsimp only); omega)⟩) hM hS mm_cX2 HMO rfl hl.1 (Nat.le_of_ble_eq_true rfl) dX2_does_89 rfl ⟨(by (try dsimp only); omega), (by (try dsimp only); omega)⟩ (fun _ _ _ _ _ _ h9 => h9.elim) (fun v_3 M_4 H locs hp_5 hM hS => ?_)
    rcases hp_5.symm with ⟨rfl, rfl, hmf, hxf⟩ | ⟨w1, c1, a1, rfl, rfl, hw1, hm1, hxx1⟩
    · skip
      have hu9 : us (n0 + 1) (none : Option (ev × Nat)) = 1001 - (n0 + 1) := rfl
      refine lv_astore_nN (lv' := [(3, .null), (0, .ref mo), (1, .int (nI t)), (2, va_rf sc)]) hx hb dX2_does_92 rfl hl (by decide) (by simp [mm_cat_o, mm_cat_r, mm_cat_i, mm_cat_n, mm_cat_l] <;> decide) (fun ls hl => ?_)
      refine lv_aload_n hx hb dX2_does_93 rfl (lv_at hl 1 rfl) ?_
      refine va_get (D := Z.1) (ci := 1) (v := .int (mm_b true)) (C := RX2) (T := TX2) (N := 17) hx hb hts in_X2 hown hE.1 (hM.at hmf) 0 rfl mm_cX2 15 (by decide) (hts _ q2393) (fun _ h9 => h9) rfl dX2_does_94 ?_
      refine lv_if_eq (tgt := 102) hx hb dX2_does_97 (by decide) (fun h9 => absurd h9 (by decide)) (fun _ => ?_)
      refine lv_null hx hb dX2_does_100 ?_
      exact mm_reta hx hb hr (Or.inl ⟨_, rfl⟩) (Or.inl rfl) hlk hM hS (Or.inr ⟨hro1.2.1 rfl, rfl, hmf, hx1.trans (e40.trans hxf)⟩) dX2_does_101 (by (try dsimp only); omega) (by (try dsimp only); omega)
    obtain ⟨hpe1, hca1, hcb1⟩ := hro1.2.2 w1 c1 rfl
    have hu1 : us (n0 + 1) (some (w1, c1)) = c1 - (n0 + 1) := rfl
    have e41 := e40.trans hxx1
    have hc_6 := hxx1.atMA HMO ea0
    have hc_7 := hxx1.atMA HMO ea1
    have hc_8 := hxx1.atMA HMO ea2
    have hc_9 := hxx1.atMA HMO ea3
    have hc_10 := hxx1.atMA HMO ea4
    obtain ⟨j2, hj2, hpe5⟩ := at_some hpe1
    obtain ⟨u1, l1, t3, r3, j3, rfl, hcs, hr3, hj3, hpe6⟩ := cas_some hpe5
    have hw1' := hw1
    simp only [mr] at hw1
    obtain ⟨a9, va1, e9, hch, hva1, -⟩ := hw1
    cases e9
    refine lv_astore_n (lv' := [(3, .ref a1), (0, .ref mo), (1, .int (nI t)), (2, va_rf sc)]) hx hb dX2_does_92 rfl hl (by decide) (by simp [mm_cat_o, mm_cat_r, mm_cat_i, mm_cat_n, mm_cat_l] <;> decide) (fun ls hl => ?_)
    refine lv_aload_n hx hb dX2_does_93 rfl (lv_at hl 1 rfl) ?_
    refine va_get (D := Z.1) (ci := 1) (v := .int (mm_b false)) (C := RX2) (T := TX2) (N := 17) hx hb hts in_X2 hown hE.1 (hM.at hm1) 0 rfl mm_cX2 15 (by decide) (hts _ q2393) (fun _ h9 => h9) rfl dX2_does_94 ?_
    refine lv_if_eq (tgt := 102) hx hb dX2_does_97 (by decide) (fun _ => ?_) (fun h9 => absurd (by decide) h9)
    refine lv_aload_n hx hb dX2_does_102 rfl (lv_at hl 1 rfl) ?_
    refine va_get (D := Z.1) (ci := 1) (v := .ref kd) (C := RX2) (T := TX2) (N := 17) hx hb hts in_X2 hown hE.1 (hM.at hm1) 0 rfl mm_cX2 1 (by decide) (hts _ q2379) (fun _ h9 => h9) rfl dX2_does_103 ?_
    refine lv_iload_n hx hb dX2_does_106 rfl (lv_at hl 2 rfl) ?_
    refine mm_ialdK (k := t) hx hb hE hM hc_6 rfl htl (by decide) dX2_does_107 ?_
    rw [show (g0 t : Int32) = 11 from ((hg _ _ hrr).1.trans hk11)]
    refine lv_iconst (v := 3) hx hb dX2_does_108 (by decide) ?_
    refine lv_icmp_eq (tgt := 145) hx hb dX2_does_109 (by decide) (fun h9 => absurd h9 (by decide)) (fun _ => ?_)
    refine lv_aload_n hx hb dX2_does_112 rfl (lv_at hl 1 rfl) ?_
    refine va_get (D := Z.1) (ci := 1) (v := .ref kd) (C := RX2) (T := TX2) (N := 17) hx hb hts in_X2 hown hE.1 (hM.at hm1) 0 rfl mm_cX2 1 (by decide) (hts _ q2379) (fun _ h9 => h9) rfl dX2_does_113 ?_
    refine lv_iload_n hx hb dX2_does_116 rfl (lv_at hl 2 rfl) ?_
    refine mm_ialdK (k := t) hx hb hE hM hc_6 rfl htl (by decide) dX2_does_117 ?_
    rw [show (g0 t : Int32) = 11 from ((hg _ _ hrr).1.trans hk11)]
    refine lv_bipush (v := 7) hx hb dX2_does_118 (by decide) ?_
    refine lv_icmp_eq (tgt := 145) hx hb dX2_does_120 (by decide) (fun h9 => absurd h9 (by decide)) (fun _ => ?_)
    refine lv_aload_n hx hb dX2_does_123 rfl (lv_at hl 1 rfl) ?_
    refine va_get (D := Z.1) (ci := 1) (v := .ref kd) (C := RX2) (T := TX2) (N := 17) hx hb hts in_X2 hown hE.1 (hM.at hm1) 0 rfl mm_cX2 1 (by decide) (hts _ q2379) (fun _ h9 => h9) rfl dX2_does_124 ?_
    refine lv_iload_n hx hb dX2_does_127 rfl (lv_at hl 2 rfl) ?_
    refine mm_ialdK (k := t) hx hb hE hM hc_6 rfl htl (by decide) dX2_does_128 ?_
    rw [show (g0 t : Int32) = 11 from ((hg _ _ hrr).1.trans hk11)]
    refine lv_bipush (v := 13) hx hb dX2_does_129 (by decide) ?_
    refine lv_icmp_eq (tgt := 145) hx hb dX2_does_131 (by decide) (fun h9 => absurd h9 (by decide)) (fun _ => ?_)
    refine lv_aload_n hx hb dX2_does_134 rfl (lv_at hl 1 rfl) ?_
    refine va_get (D := Z.1) (ci := 1) (v := .ref kd) (C := RX2) (T := TX2) (N := 17) hx hb hts in_X2 hown hE.1 (hM.at hm1) 0 rfl mm_cX2 1 (by decide) (hts _ q2379) (fun _ h9 => h9) rfl dX2_does_135 ?_
    refine lv_iload_n hx hb dX2_does_138 rfl (lv_at hl 2 rfl) ?_
    refine mm_ialdK (k := t) hx hb hE hM hc_6 rfl htl (by decide) dX2_does_139 ?_
    rw [show (g0 t : Int32) = 11 from ((hg _ _ hrr).1.trans hk11)]
    refine lv_bipush (v := 14) hx hb dX2_does_140 (by decide) ?_
    refine lv_icmp_ne (tgt := 159) hx hb dX2_does_142 (by decide) (fun _ => ?_) (fun h9 => absurd h9 (by decide))
    refine lv_null hx hb dX2_does_159 ?_
    refine lv_astoreN hx hb dX2_does_160 hl (by decide) rfl (fun ls hl => ?_)
    replace hl : lv_has ls 12 [(4, .null), (3, .ref a1), (0, .ref mo), (1, .int (nI t)), (2, va_rf sc)] := hl
    refine lv_aload_n hx hb dX2_does_162 rfl (lv_at hl 2 rfl) ?_
    refine va_get (D := Z.1) (ci := 1) (v := .int (mm_b false)) (C := RX2) (T := TX2) (N := 17) hx hb hts in_X2 hown hE.1 (hM.at hm1) 0 rfl mm_cX2 15 (by decide) (hts _ q2393) (fun _ h9 => h9) rfl dX2_does_163 ?_
    refine lv_if_eq (tgt := 171) hx hb dX2_does_166 (by decide) (fun _ => ?_) (fun h9 => absurd (by decide) h9)
    refine lv_aload_n hx hb dX2_does_171 rfl (lv_at hl 2 rfl) ?_
    refine va_get (D := Z.1) (ci := 1) (v := .ref kd) (C := RX2) (T := TX2) (N := 17) hx hb hts in_X2 hown hE.1 (hM.at hm1) 0 rfl mm_cX2 1 (by decide) (hts _ q2379) (fun _ h9 => h9) rfl dX2_does_172 ?_
    refine lv_iload_n hx hb dX2_does_175 rfl (lv_at hl 3 rfl) ?_
    refine mm_ialdK (k := t) hx hb hE hM hc_6 rfl htl (by decide) dX2_does_176 ?_
    rw [show (g0 t : Int32) = 11 from ((hg _ _ hrr).1.trans hk11)]
    refine lv_tableIn (tgt := 531) (off := 354) hx hb dX2_does_177 (by decide) (by decide) (by decide) (by decide) ?_
    refine lv_aload_n hx hb dX2_does_531 rfl (lv_at hl 2 rfl) ?_
    refine va_get (D := Z.1) (ci := 1) (v := .ref f2) (C := RX2) (T := TX2) (N := 17) hx hb hts in_X2 hown hE.1 (hM.at hm1) 0 rfl mm_cX2 4 (by decide) (hts _ q2382) (fun _ h9 => h9) rfl dX2_does_532 ?_
    refine lv_iload_n hx hb dX2_does_535 rfl (lv_at hl 3 rfl) ?_
    refine mm_ialdK (k := t) hx hb hE hM hc_9 rfl htl (by decide) dX2_does_536 ?_
    rw [show (g3 t : Int32) = nI j2 from ((hg _ _ hrr).2.2.2.1.trans (pt_i_at hj2))]
    refine lv_istore hx hb dX2_does_537 hl (by decide) rfl (fun ls hl => ?_)
    replace hl : lv_has ls 12 [(9, .int (nI j2)), (4, .null), (3, .ref a1), (0, .ref mo), (1, .int (nI t)), (2, va_rf sc)] := hl
    refine mm_loopW (fun k1 M' ls cells' slots' => ∃ c9 : Nat, ev_case T l1 k1 c9 = some t3 ∧ (∀ r', T[c9]? = some r' → r'.1 = 15 ∨ r'.1 = 16 ∨ r'.1 = 17) ∧ M_4 = M' ∧ lv_has ls 12 [(9, .int (nI c9)), (3, .ref a1), (0, .ref mo), (1, .int (nI t)), (2, va_rf sc)] ∧ cells' ≤ 8 * us (n0 + 1) (some (Lean.Grind.CommRing.Expr.pow u1 l1, c1)) ∧ slots' ≤ 60 * us (n0 + 1) (some (Lean.Grind.CommRing.Expr.pow u1 l1, c1))) (fun k1 M1 ls H locs cells slots ih1 hI1 hM hS => ?_) ⟨j2, hcs, fun r' h => (hok t r hrr).2.2.1 j2 r' (Or.inl hk11) hj2 h, rfl, lv_sub hl [0, 2, 3, 4, 5] rfl, by (try dsimp only); omega, by (try dsimp only); omega⟩ hM hS
    obtain ⟨c9, hcs9, hcc9, rfl, hl, hc5, hc6⟩ := hI1
    cases k1 with
    | zero => simp [ev_case] at hcs9
    | succ k1 =>
      obtain ⟨rc, hrc⟩ : ∃ rc, T[c9]? = some rc := by cases h : T[c9]? with
        | none => simp [ev_case, h] at hcs9
        | some rc => exact ⟨rc, rfl⟩
      simp only [ev_case, hrc] at hcs9
      have htlc := hin hrc
      by_cases h17 : rc.1 = 17
      · skip
        have hdv := pm_div h17 ((hok c9 rc hrc).1 h17)
        have hwc : g1 c9 = pm_wh rc := (hg _ _ hrc).2.1 (by rw [h17]; decide) (by rw [h17]; decide)
        refine lv_aload_n hx hb dX2_does_539 rfl (lv_at hl 2 rfl) ?_
        refine va_get (D := Z.1) (ci := 1) (v := .ref kd) (C := RX2) (T := TX2) (N := 17) hx hb hts in_X2 hown hE.1 (hM.at hm1) 0 rfl mm_cX2 1 (by decide) (hts _ q2379) (fun _ h9 => h9) rfl dX2_does_540 ?_
        refine lv_iload hx hb dX2_does_543 (lv_at hl 0 rfl) ?_
        refine mm_ialdK (k := c9) hx hb hE hM hc_6 rfl htlc (by decide) dX2_does_545 ?_
        rw [show (g0 c9 : Int32) = 17 from ((hg _ _ hrc).1.trans h17)]
        refine lv_bipush (v := 17) hx hb dX2_does_546 (by decide) ?_
        refine lv_icmp_ne (tgt := 580) hx hb dX2_does_548 (by decide) (fun h9 => absurd (by decide) h9) (fun _ => ?_)
        refine lv_aload_n hx hb dX2_does_551 rfl (lv_at hl 2 rfl) ?_
        refine va_get (D := Z.1) (ci := 1) (v := .ref wh) (C := RX2) (T := TX2) (N := 17) hx hb hts in_X2 hown hE.1 (hM.at hm1) 0 rfl mm_cX2 2 (by decide) (hts _ q2380) (fun _ h9 => h9) rfl dX2_does_552 ?_
        refine lv_iload hx hb dX2_does_555 (lv_at hl 0 rfl) ?_
        refine mm_ialdK (k := c9) hx hb hE hM hc_7 rfl htlc (by decide) dX2_does_557 ?_
        rw [show (g1 c9 : Int32) = pm_wh rc from hwc]
        refine lv_bipush (v := 10) hx hb dX2_does_558 (by decide) ?_
        refine mm_idiv hx hb (by decide) dX2_does_560 ?_
        rw [show (pm_wh rc / 10 : Int32) = rc.2.1 from hdv.1]
        refine lv_aload_n hx hb dX2_does_561 rfl (lv_at hl 1 rfl) ?_
        refine va_get (D := Z.1) (ci := 32) (v := .int (nI l1)) (C := RX38) (T := TX38) (N := 5) hx hb hts in_X38 hown hE.1 (hM.at hch) 0 rfl mm_cX38 1 (by decide) (hts _ q2783) (fun _ h9 => h9) rfl dX2_does_562 ?_
        refine lv_icmp_eq (tgt := 580) hx hb dX2_does_565 (by decide) (fun c_11 => ?_) (fun c_11 => ?_)
        · skip
          rw [if_neg (fun h => h.2 c_11)] at hcs9
          obtain rfl : c9 = t3 := Option.some.inj hcs9
          obtain rfl : rc = r3 := Option.some.inj (hrc.symm.trans hr3)
          rw [if_neg (by rw [h17]; decide)] at hpe6
          refine lv_aload_n hx hb dX2_does_580 rfl (lv_at hl 2 rfl) ?_
          refine va_get (D := Z.1) (ci := 1) (v := .ref kd) (C := RX2) (T := TX2) (N := 17) hx hb hts in_X2 hown hE.1 (hM.at hm1) 0 rfl mm_cX2 1 (by decide) (hts _ q2379) (fun _ h9 => h9) rfl dX2_does_581 ?_
          refine lv_iload hx hb dX2_does_584 (lv_at hl 0 rfl) ?_
          refine mm_ialdK (k := c9) hx hb hE hM hc_6 rfl htlc (by decide) dX2_does_586 ?_
          rw [show (g0 c9 : Int32) = 17 from ((hg _ _ hrc).1.trans h17)]
          refine lv_bipush (v := 17) hx hb dX2_does_587 (by decide) ?_
          refine lv_icmp_ne (tgt := 596) hx hb dX2_does_589 (by decide) (fun h9 => absurd (by decide) h9) (fun _ => ?_)
          refine lv_iconst (v := 1) hx hb dX2_does_592 (by decide) ?_
          refine lv_goto (tgt := 597) hx hb dX2_does_593 (by decide) ?_
          refine lv_istore hx hb dX2_does_597 hl (by decide) rfl (fun ls hl => ?_)
          replace hl : lv_has ls 12 [(10, .int 1), (9, .int (nI c9)), (3, .ref a1), (0, .ref mo), (1, .int (nI t)), (2, va_rf sc)] := hl
          refine lv_aload_n hx hb dX2_does_599 rfl (lv_at hl 3 rfl) ?_
          refine lv_aload_n hx hb dX2_does_600 rfl (lv_at hl 3 rfl) ?_
          refine va_get (D := Z.1) (ci := 1) (v := .ref f1) (C := RX2) (T := TX2) (N := 17) hx hb hts in_X2 hown hE.1 (hM.at hm1) 0 rfl mm_cX2 3 (by decide) (hts _ q2381) (fun _ h9 => h9) rfl dX2_does_601 ?_
          refine lv_iload hx hb dX2_does_604 (lv_at hl 1 rfl) ?_
          refine mm_ialdK (k := c9) hx hb hE hM hc_8 rfl htlc (by decide) dX2_does_606 ?_
          rw [show (g2 c9 : Int32) = nI j3 from ((hg _ _ hrc).2.2.1.trans (pt_i_at hj3))]
          refine mm_new (D := Z.1) (ci := 33) (fs := mm_f0X39) (C := RX39) (T := TX39) (N := 4) hx hb hts in_X39 tyX39 tyX39_ok hown (hts _ q2798) (hts _ q2799) (hts _ q112) hE.1 hM hS hA mm_cX39 mm_dfX39 (by (try dsimp only); omega) (by (try dsimp only); omega) dX2_does_607 (fun q_13 H nq_12 hM hS => ?_)
          have hM : mm_P Z.1 mm_cl A (mm_U M_4 q_13 (.inr (33, [.int 0, .null, .int 0, .null]))) H := hM
          have ne_14 : mo ≠ q_13 := (mm_neN hm1 nq_12)
          have ne_15 : kd ≠ q_13 := (mm_neN hc_6 nq_12)
          have ne_16 : wh ≠ q_13 := (mm_neN hc_7 nq_12)
          have ne_17 : f1 ≠ q_13 := (mm_neN hc_8 nq_12)
          have ne_18 : f2 ≠ q_13 := (mm_neN hc_9 nq_12)
          have ne_19 : f3 ≠ q_13 := (mm_neN hc_10 nq_12)
          have ne_20 : a1 ≠ q_13 := (mm_neN hch nq_12)
          have hc_21 : (mm_U M_4 q_13 (.inr (33, [.int 0, .null, .int 0, .null]))) q_13 = some (.inr (33, [.int 0, .null, .int 0, .null])) := mm_U_eq
          have hc_22 : (mm_U M_4 q_13 (.inr (33, [.int 0, .null, .int 0, .null]))) mo = some (.inr (1, [.int tm, .ref kd, .ref wh, .ref f1, .ref f2, .ref f3, .ref wg, .int ea, .int sp, va_rf rt, .int th, .int ak, .int wr, .ref pl, .int (nI c1), .int (mm_b false), .long st])) := (mm_U_ne ne_14).trans hm1
          have hc_23 : (mm_U M_4 q_13 (.inr (33, [.int 0, .null, .int 0, .null]))) kd = some (.inl (Z.2.1 0, 120, .inl g0)) := (mm_U_ne ne_15).trans hc_6
          have hc_24 : (mm_U M_4 q_13 (.inr (33, [.int 0, .null, .int 0, .null]))) wh = some (.inl (Z.2.1 0, 120, .inl g1)) := (mm_U_ne ne_16).trans hc_7
          have hc_25 : (mm_U M_4 q_13 (.inr (33, [.int 0, .null, .int 0, .null]))) f1 = some (.inl (Z.2.1 0, 120, .inl g2)) := (mm_U_ne ne_17).trans hc_8
          have hc_26 : (mm_U M_4 q_13 (.inr (33, [.int 0, .null, .int 0, .null]))) f2 = some (.inl (Z.2.1 0, 120, .inl g3)) := (mm_U_ne ne_18).trans hc_9
          have hc_27 : (mm_U M_4 q_13 (.inr (33, [.int 0, .null, .int 0, .null]))) f3 = some (.inl (Z.2.1 0, 120, .inl g4)) := (mm_U_ne ne_19).trans hc_10
          have hc_28 : (mm_U M_4 q_13 (.inr (33, [.int 0, .null, .int 0, .null]))) a1 = some (.inr (32, [.int 4, .int (nI l1), .null, .ref va1, .null])) := (mm_U_ne ne_20).trans hch
          obtain ⟨M_29, eM_29⟩ : ∃ z, z = mm_U M_4 q_13 (.inr (33, [.int 0, .null, .int 0, .null])) := ⟨_, rfl⟩
          rw [← eM_29] at hM hc_22 hc_23 hc_24 hc_25 hc_26 hc_27 hc_28 hc_21
          refine lv_dup hx hb dX2_does_610 rfl ?_
          refine lv_iload hx hb dX2_does_611 (lv_at hl 0 rfl) ?_
          refine lv_if_eq (tgt := 629) hx hb dX2_does_613 (by decide) (fun h9 => absurd h9 (by decide)) (fun _ => ?_)
          refine lv_aload_n hx hb dX2_does_616 rfl (lv_at hl 3 rfl) ?_
          refine va_get (D := Z.1) (ci := 1) (v := .ref wh) (C := RX2) (T := TX2) (N := 17) hx hb hts in_X2 hown hE.1 (hM.at hc_22) 0 rfl mm_cX2 2 (by decide) (hts _ q2380) (fun _ h9 => h9) rfl dX2_does_617 ?_
          refine lv_iload hx hb dX2_does_620 (lv_at hl 1 rfl) ?_
          refine mm_ialdK (k := c9) hx hb hE hM hc_24 rfl htlc (by decide) dX2_does_622 ?_
          rw [show (g1 c9 : Int32) = pm_wh rc from hwc]
          refine lv_bipush (v := 10) hx hb dX2_does_623 (by decide) ?_
          refine mm_irem hx hb (by decide) dX2_does_625 ?_
          rw [show (pm_wh rc - pm_wh rc / 10 * 10 : Int32) = rc.2.2.1 from hdv.2]
          refine lv_goto (tgt := 636) hx hb dX2_does_626 (by decide) ?_
          refine lv_iload hx hb dX2_does_636 (lv_at hl 0 rfl) ?_
          refine lv_if_eq (tgt := 648) hx hb dX2_does_638 (by decide) (fun h9 => absurd h9 (by decide)) (fun _ => ?_)
          refine lv_aload_n hx hb dX2_does_641 rfl (lv_at hl 2 rfl) ?_
          refine va_get (D := Z.1) (ci := 32) (v := .ref va1) (C := RX38) (T := TX38) (N := 5) hx hb hts in_X38 hown hE.1 (hM.at hc_28) 0 rfl mm_cX38 3 (by decide) (hts _ q2785) (fun _ h9 => h9) rfl dX2_does_642 ?_
          refine lv_goto (tgt := 649) hx hb dX2_does_645 (by decide) ?_
          refine lv_iconst (v := -1) hx hb dX2_does_649 (by decide) ?_
          refine mm_aload_n hx hb dX2_does_650 rfl (lv_at hl 5 rfl) ?_
          refine mm_callI (As := [.int rc.2.2.1, .ref va1, .int (-1), va_rf sc]) (rest := [.ref q_13, .int (nI j3), .ref mo]) ⟨hx, hb, hml, hown, hts⟩ hE hST hA (c_X39_init l Z (M := M_29) (h0 := q_13) (x1 := rc.2.2.1) (x2 := (some va1)) (x3 := (-1)) (x4 := sc) hc_21) (cwI (maxL := 5) 4 hts (lw_meth q2802) rfl rfl rfl (hts _ q112) (hts _ q2800) (hts _ q2801) rfl (by decide +kernel) ⟨(by (try dsimp only); omega), (by (try dsimp only); omega)⟩) hM hS rfl hl.1 (Nat.le_of_ble_eq_true rfl) dX2_does_651 rfl ⟨(by (try dsimp only); omega), (by (try dsimp only); omega)⟩ (fun _ _ _ _ _ _ h9 => h9.elim) (fun v_30 M_31 H locs hp_32 hM hS => ?_)
          obtain ⟨rfl, eM_31⟩ := hp_32
          rw [eM_31] at hM
          replace hM : mm_P Z.1 mm_cl A (mm_U M_29 q_13 (.inr (33, [.int rc.2.2.1, .ref va1, .int (-1), va_rf sc]))) H := hM
          have hc_33 : (mm_U M_29 q_13 (.inr (33, [.int rc.2.2.1, .ref va1, .int (-1), va_rf sc]))) q_13 = some (.inr (33, [.int rc.2.2.1, .ref va1, .int (-1), va_rf sc])) := mm_U_eq
          have hc_34 : (mm_U M_29 q_13 (.inr (33, [.int rc.2.2.1, .ref va1, .int (-1), va_rf sc]))) mo = some (.inr (1, [.int tm, .ref kd, .ref wh, .ref f1, .ref f2, .ref f3, .ref wg, .int ea, .int sp, va_rf rt, .int th, .int ak, .int wr, .ref pl, .int (nI c1), .int (mm_b false), .long st])) := (mm_U_ne ne_14).trans hc_22
          have hc_35 : (mm_U M_29 q_13 (.inr (33, [.int rc.2.2.1, .ref va1, .int (-1), va_rf sc]))) kd = some (.inl (Z.2.1 0, 120, .inl g0)) := (mm_U_ne ne_15).trans hc_23
          have hc_36 : (mm_U M_29 q_13 (.inr (33, [.int rc.2.2.1, .ref va1, .int (-1), va_rf sc]))) wh = some (.inl (Z.2.1 0, 120, .inl g1)) := (mm_U_ne ne_16).trans hc_24
          have hc_37 : (mm_U M_29 q_13 (.inr (33, [.int rc.2.2.1, .ref va1, .int (-1), va_rf sc]))) f1 = some (.inl (Z.2.1 0, 120, .inl g2)) := (mm_U_ne ne_17).trans hc_25
          have hc_38 : (mm_U M_29 q_13 (.inr (33, [.int rc.2.2.1, .ref va1, .int (-1), va_rf sc]))) f2 = some (.inl (Z.2.1 0, 120, .inl g3)) := (mm_U_ne ne_18).trans hc_26
          have hc_39 : (mm_U M_29 q_13 (.inr (33, [.int rc.2.2.1, .ref va1, .int (-1), va_rf sc]))) f3 = some (.inl (Z.2.1 0, 120, .inl g4)) := (mm_U_ne ne_19).trans hc_27
          have hc_40 : (mm_U M_29 q_13 (.inr (33, [.int rc.2.2.1, .ref va1, .int (-1), va_rf sc]))) a1 = some (.inr (32, [.int 4, .int (nI l1), .null, .ref va1, .null])) := (mm_U_ne ne_20).trans hc_28
          obtain ⟨M_41, eM_41⟩ : ∃ z, z = mm_U M_29 q_13 (.inr (33, [.int rc.2.2.1, .ref va1, .int (-1), va_rf sc])) := ⟨_, rfl⟩
          rw [← eM_41] at hM hc_34 hc_35 hc_36 hc_37 hc_38 hc_39 hc_40 hc_33
          have kx_42 : mm_Ext M_4 M_41 := by rw [eM_41, eM_29]; exact (((mm_Ext.rf _).UU nq_12).UU nq_12)
          have e4_43 := e41.trans kx_42.Exp
          have hut := us_tail (n0 := n0) hpe6 (by omega) (by omega)
          refine mm_callV (As := [.int (nI j3), .ref q_13]) (rest := []) ⟨hx, hb, hml, hown, hts⟩ hE hST hA (ih j3 (.add (.pow u1 (nN rc.2.2.1)) en) (c1) res M_41 (some q_13) hc_34 ((e4_43.Km HMO).mdA hA1) (by omega) (mr_env hc_33 (mr.mono ((mm_Km.rf _).trans kx_42.Km) _ _ _ _ hva1) (mr.mono (e4_43.Km HMO) _ _ _ _ hsc)) hpe6) (cwV 2 hts (lw_V q2769 q2771 qs47 q54 q2772) rfl rfl rfl (by decide +kernel) ⟨(by (try dsimp only); omega), (by (try dsimp only); omega)⟩) hM hS mm_cX2 hc_34 rfl hl.1 (Nat.le_of_ble_eq_true rfl) dX2_does_654 rfl ⟨(by (try dsimp only); omega), (by (try dsimp only); omega)⟩ (fun _ _ _ _ _ _ h9 => h9.elim) (fun v_44 M_45 H locs hp_46 hM hS => ?_)
          rcases hp_46 with ⟨w9, n9, a9, rfl, rfl, hw9, hm9, hxx9⟩ | ⟨rfl, rfl, hm9, hxx9⟩
          · skip
            exact mm_reta hx hb hr (Or.inl ⟨_, rfl⟩) (Or.inr ⟨_, rfl⟩) hlk hM hS (Or.inl ⟨w9, n9, a9, rfl, rfl, hw9, hm9, hx1.trans (e4_43.trans hxx9)⟩) dX2_does_657 (by (try dsimp only); omega) (by (try dsimp only); omega)
          · skip
            exact mm_reta hx hb hr (Or.inl ⟨_, rfl⟩) (Or.inl rfl) hlk hM hS (Or.inr ⟨rfl, rfl, hm9, hx1.trans (e4_43.trans hxx9)⟩) dX2_does_657 (by (try dsimp only); omega) (by (try dsimp only); omega)
        · skip
          rw [if_pos ⟨h17, c_11⟩] at hcs9
          obtain ⟨j5, hj5, hcs8⟩ : ∃ j5, rc.2.2.2.1[1]? = some j5 ∧ ev_case T l1 k1 j5 = some t3 := by
            cases h : rc.2.2.2.1[1]? with
            | none => rw [h] at hcs9; cases hcs9
            | some j5 => rw [h] at hcs9; exact ⟨j5, rfl, hcs9⟩
          refine lv_aload_n hx hb dX2_does_568 rfl (lv_at hl 2 rfl) ?_
          refine va_get (D := Z.1) (ci := 1) (v := .ref f2) (C := RX2) (T := TX2) (N := 17) hx hb hts in_X2 hown hE.1 (hM.at hm1) 0 rfl mm_cX2 4 (by decide) (hts _ q2382) (fun _ h9 => h9) rfl dX2_does_569 ?_
          refine lv_iload hx hb dX2_does_572 (lv_at hl 0 rfl) ?_
          refine mm_ialdK (k := c9) hx hb hE hM hc_9 rfl htlc (by decide) dX2_does_574 ?_
          rw [show (g3 c9 : Int32) = nI j5 from ((hg _ _ hrc).2.2.2.1.trans (pt_i_at hj5))]
          refine lv_istore hx hb dX2_does_575 hl (by decide) rfl (fun ls hl => ?_)
          replace hl : lv_has ls 12 [(9, .int (nI j5)), (3, .ref a1), (0, .ref mo), (1, .int (nI t)), (2, va_rf sc)] := hl
          refine lv_goto (tgt := 539) hx hb dX2_does_577 (by decide) ?_
          refine ih1 k1 (Nat.lt_succ_self k1) _ _ _ _ _ _ ⟨j5, hcs8, fun r' h => (hok c9 rc hrc).2.2.1 j5 r' (Or.inr h17) hj5 h, rfl, lv_sub hl [0, 1, 2, 3, 4] rfl, hc5, hc6⟩ hM hS
      · skip
        rw [if_neg (fun h => h17 h.1)] at hcs9
        obtain rfl : c9 = t3 := Option.some.inj hcs9
        obtain rfl : rc = r3 := Option.some.inj (hrc.symm.trans hr3)
        have h16 : rc.1 = 16 := by rcases hcc9 rc hrc with h | h | h; (rw [(hok c9 rc hrc).2.1 h] at hj3; cases hj3); exact h; exact absurd h h17
        rw [if_pos h16] at hpe6
        refine lv_aload_n hx hb dX2_does_539 rfl (lv_at hl 2 rfl) ?_
        refine va_get (D := Z.1) (ci := 1) (v := .ref kd) (C := RX2) (T := TX2) (N := 17) hx hb hts in_X2 hown hE.1 (hM.at hm1) 0 rfl mm_cX2 1 (by decide) (hts _ q2379) (fun _ h9 => h9) rfl dX2_does_540 ?_
        refine lv_iload hx hb dX2_does_543 (lv_at hl 0 rfl) ?_
        refine mm_ialdK (k := c9) hx hb hE hM hc_6 rfl htlc (by decide) dX2_does_545 ?_
        rw [show (g0 c9 : Int32) = 16 from ((hg _ _ hrc).1.trans h16)]
        refine lv_bipush (v := 17) hx hb dX2_does_546 (by decide) ?_
        refine lv_icmp_ne (tgt := 580) hx hb dX2_does_548 (by decide) (fun _ => ?_) (fun h9 => absurd h9 (by decide))
        refine lv_aload_n hx hb dX2_does_580 rfl (lv_at hl 2 rfl) ?_
        refine va_get (D := Z.1) (ci := 1) (v := .ref kd) (C := RX2) (T := TX2) (N := 17) hx hb hts in_X2 hown hE.1 (hM.at hm1) 0 rfl mm_cX2 1 (by decide) (hts _ q2379) (fun _ h9 => h9) rfl dX2_does_581 ?_
        refine lv_iload hx hb dX2_does_584 (lv_at hl 0 rfl) ?_
        refine mm_ialdK (k := c9) hx hb hE hM hc_6 rfl htlc (by decide) dX2_does_586 ?_
        rw [show (g0 c9 : Int32) = 16 from ((hg _ _ hrc).1.trans h16)]
        refine lv_bipush (v := 17) hx hb dX2_does_587 (by decide) ?_
        refine lv_icmp_ne (tgt := 596) hx hb dX2_does_589 (by decide) (fun _ => ?_) (fun h9 => absurd h9 (by decide))
        refine lv_iconst (v := 0) hx hb dX2_does_596 (by decide) ?_
        refine lv_istore hx hb dX2_does_597 hl (by decide) rfl (fun ls hl => ?_)
        replace hl : lv_has ls 12 [(10, .int 0), (9, .int (nI c9)), (3, .ref a1), (0, .ref mo), (1, .int (nI t)), (2, va_rf sc)] := hl
        refine lv_aload_n hx hb dX2_does_599 rfl (lv_at hl 3 rfl) ?_
        refine lv_aload_n hx hb dX2_does_600 rfl (lv_at hl 3 rfl) ?_
        refine va_get (D := Z.1) (ci := 1) (v := .ref f1) (C := RX2) (T := TX2) (N := 17) hx hb hts in_X2 hown hE.1 (hM.at hm1) 0 rfl mm_cX2 3 (by decide) (hts _ q2381) (fun _ h9 => h9) rfl dX2_does_601 ?_
        refine lv_iload hx hb dX2_does_604 (lv_at hl 1 rfl) ?_
        refine mm_ialdK (k := c9) hx hb hE hM hc_8 rfl htlc (by decide) dX2_does_606 ?_
        rw [show (g2 c9 : Int32) = nI j3 from ((hg _ _ hrc).2.2.1.trans (pt_i_at hj3))]
        refine mm_new (D := Z.1) (ci := 33) (fs := mm_f0X39) (C := RX39) (T := TX39) (N := 4) hx hb hts in_X39 tyX39 tyX39_ok hown (hts _ q2798) (hts _ q2799) (hts _ q112) hE.1 hM hS hA mm_cX39 mm_dfX39 (by (try dsimp only); omega) (by (try dsimp only); omega) dX2_does_607 (fun q_12 H nq_11 hM hS => ?_)
        have hM : mm_P Z.1 mm_cl A (mm_U M_4 q_12 (.inr (33, [.int 0, .null, .int 0, .null]))) H := hM
        have ne_13 : mo ≠ q_12 := (mm_neN hm1 nq_11)
        have ne_14 : kd ≠ q_12 := (mm_neN hc_6 nq_11)
        have ne_15 : wh ≠ q_12 := (mm_neN hc_7 nq_11)
        have ne_16 : f1 ≠ q_12 := (mm_neN hc_8 nq_11)
        have ne_17 : f2 ≠ q_12 := (mm_neN hc_9 nq_11)
        have ne_18 : f3 ≠ q_12 := (mm_neN hc_10 nq_11)
        have ne_19 : a1 ≠ q_12 := (mm_neN hch nq_11)
        have hc_20 : (mm_U M_4 q_12 (.inr (33, [.int 0, .null, .int 0, .null]))) q_12 = some (.inr (33, [.int 0, .null, .int 0, .null])) := mm_U_eq
        have hc_21 : (mm_U M_4 q_12 (.inr (33, [.int 0, .null, .int 0, .null]))) mo = some (.inr (1, [.int tm, .ref kd, .ref wh, .ref f1, .ref f2, .ref f3, .ref wg, .int ea, .int sp, va_rf rt, .int th, .int ak, .int wr, .ref pl, .int (nI c1), .int (mm_b false), .long st])) := (mm_U_ne ne_13).trans hm1
        have hc_22 : (mm_U M_4 q_12 (.inr (33, [.int 0, .null, .int 0, .null]))) kd = some (.inl (Z.2.1 0, 120, .inl g0)) := (mm_U_ne ne_14).trans hc_6
        have hc_23 : (mm_U M_4 q_12 (.inr (33, [.int 0, .null, .int 0, .null]))) wh = some (.inl (Z.2.1 0, 120, .inl g1)) := (mm_U_ne ne_15).trans hc_7
        have hc_24 : (mm_U M_4 q_12 (.inr (33, [.int 0, .null, .int 0, .null]))) f1 = some (.inl (Z.2.1 0, 120, .inl g2)) := (mm_U_ne ne_16).trans hc_8
        have hc_25 : (mm_U M_4 q_12 (.inr (33, [.int 0, .null, .int 0, .null]))) f2 = some (.inl (Z.2.1 0, 120, .inl g3)) := (mm_U_ne ne_17).trans hc_9
        have hc_26 : (mm_U M_4 q_12 (.inr (33, [.int 0, .null, .int 0, .null]))) f3 = some (.inl (Z.2.1 0, 120, .inl g4)) := (mm_U_ne ne_18).trans hc_10
        have hc_27 : (mm_U M_4 q_12 (.inr (33, [.int 0, .null, .int 0, .null]))) a1 = some (.inr (32, [.int 4, .int (nI l1), .null, .ref va1, .null])) := (mm_U_ne ne_19).trans hch
        obtain ⟨M_28, eM_28⟩ : ∃ z, z = mm_U M_4 q_12 (.inr (33, [.int 0, .null, .int 0, .null])) := ⟨_, rfl⟩
        rw [← eM_28] at hM hc_21 hc_22 hc_23 hc_24 hc_25 hc_26 hc_27 hc_20
        refine lv_dup hx hb dX2_does_610 rfl ?_
        refine lv_iload hx hb dX2_does_611 (lv_at hl 0 rfl) ?_
        refine lv_if_eq (tgt := 629) hx hb dX2_does_613 (by decide) (fun _ => ?_) (fun h9 => absurd (by decide) h9)
        refine lv_aload_n hx hb dX2_does_629 rfl (lv_at hl 3 rfl) ?_
        refine va_get (D := Z.1) (ci := 1) (v := .ref wh) (C := RX2) (T := TX2) (N := 17) hx hb hts in_X2 hown hE.1 (hM.at hc_21) 0 rfl mm_cX2 2 (by decide) (hts _ q2380) (fun _ h9 => h9) rfl dX2_does_630 ?_
        refine lv_iload hx hb dX2_does_633 (lv_at hl 1 rfl) ?_
        refine mm_ialdK (k := c9) hx hb hE hM hc_23 rfl htlc (by decide) dX2_does_635 ?_
        rw [show (g1 c9 : Int32) = rc.2.1 from (((hg _ _ hrc).2.1 (by rw [h16]; decide) (by rw [h16]; decide)).trans (pm_no17 (by rw [h16]; decide)))]
        refine lv_iload hx hb dX2_does_636 (lv_at hl 0 rfl) ?_
        refine lv_if_eq (tgt := 648) hx hb dX2_does_638 (by decide) (fun _ => ?_) (fun h9 => absurd (by decide) h9)
        refine lv_aload_n hx hb dX2_does_648 rfl (lv_at hl 2 rfl) ?_
        refine lv_iconst (v := -1) hx hb dX2_does_649 (by decide) ?_
        refine mm_aload_n hx hb dX2_does_650 rfl (lv_at hl 5 rfl) ?_
        refine mm_callI (As := [.int rc.2.1, .ref a1, .int (-1), va_rf sc]) (rest := [.ref q_12, .int (nI j3), .ref mo]) ⟨hx, hb, hml, hown, hts⟩ hE hST hA (c_X39_init l Z (M := M_28) (h0 := q_12) (x1 := rc.2.1) (x2 := (some a1)) (x3 := (-1)) (x4 := sc) hc_20) (cwI (maxL := 5) 4 hts (lw_meth q2802) rfl rfl rfl (hts _ q112) (hts _ q2800) (hts _ q2801) rfl (by decide +kernel) ⟨(by (try dsimp only); omega), (by (try dsimp only); omega)⟩) hM hS rfl hl.1 (Nat.le_of_ble_eq_true rfl) dX2_does_651 rfl ⟨(by (try dsimp only); omega), (by (try dsimp only); omega)⟩ (fun _ _ _ _ _ _ h9 => h9.elim) (fun v_29 M_30 H locs hp_31 hM hS => ?_)
        obtain ⟨rfl, eM_30⟩ := hp_31
        rw [eM_30] at hM
        replace hM : mm_P Z.1 mm_cl A (mm_U M_28 q_12 (.inr (33, [.int rc.2.1, .ref a1, .int (-1), va_rf sc]))) H := hM
        have hc_32 : (mm_U M_28 q_12 (.inr (33, [.int rc.2.1, .ref a1, .int (-1), va_rf sc]))) q_12 = some (.inr (33, [.int rc.2.1, .ref a1, .int (-1), va_rf sc])) := mm_U_eq
        have hc_33 : (mm_U M_28 q_12 (.inr (33, [.int rc.2.1, .ref a1, .int (-1), va_rf sc]))) mo = some (.inr (1, [.int tm, .ref kd, .ref wh, .ref f1, .ref f2, .ref f3, .ref wg, .int ea, .int sp, va_rf rt, .int th, .int ak, .int wr, .ref pl, .int (nI c1), .int (mm_b false), .long st])) := (mm_U_ne ne_13).trans hc_21
        have hc_34 : (mm_U M_28 q_12 (.inr (33, [.int rc.2.1, .ref a1, .int (-1), va_rf sc]))) kd = some (.inl (Z.2.1 0, 120, .inl g0)) := (mm_U_ne ne_14).trans hc_22
        have hc_35 : (mm_U M_28 q_12 (.inr (33, [.int rc.2.1, .ref a1, .int (-1), va_rf sc]))) wh = some (.inl (Z.2.1 0, 120, .inl g1)) := (mm_U_ne ne_15).trans hc_23
        have hc_36 : (mm_U M_28 q_12 (.inr (33, [.int rc.2.1, .ref a1, .int (-1), va_rf sc]))) f1 = some (.inl (Z.2.1 0, 120, .inl g2)) := (mm_U_ne ne_16).trans hc_24
        have hc_37 : (mm_U M_28 q_12 (.inr (33, [.int rc.2.1, .ref a1, .int (-1), va_rf sc]))) f2 = some (.inl (Z.2.1 0, 120, .inl g3)) := (mm_U_ne ne_17).trans hc_25
        have hc_38 : (mm_U M_28 q_12 (.inr (33, [.int rc.2.1, .ref a1, .int (-1), va_rf sc]))) f3 = some (.inl (Z.2.1 0, 120, .inl g4)) := (mm_U_ne ne_18).trans hc_26
        have hc_39 : (mm_U M_28 q_12 (.inr (33, [.int rc.2.1, .ref a1, .int (-1), va_rf sc]))) a1 = some (.inr (32, [.int 4, .int (nI l1), .null, .ref va1, .null])) := (mm_U_ne ne_19).trans hc_27
        obtain ⟨M_40, eM_40⟩ : ∃ z, z = mm_U M_28 q_12 (.inr (33, [.int rc.2.1, .ref a1, .int (-1), va_rf sc])) := ⟨_, rfl⟩
        rw [← eM_40] at hM hc_33 hc_34 hc_35 hc_36 hc_37 hc_38 hc_39 hc_32
        have kx_41 : mm_Ext M_4 M_40 := by rw [eM_40, eM_28]; exact (((mm_Ext.rf _).UU nq_11).UU nq_11)
        have e4_42 := e41.trans kx_41.Exp
        have hut := us_tail (n0 := n0) hpe6 (by omega) (by omega)
        refine mm_callV (As := [.int (nI j3), .ref q_12]) (rest := []) ⟨hx, hb, hml, hown, hts⟩ hE hST hA (ih j3 (.add (.pow (.pow u1 l1) (nN rc.2.1)) en) (c1) res M_40 (some q_12) hc_33 ((e4_42.Km HMO).mdA hA1) (by omega) (mr_env hc_32 (mr.mono ((mm_Km.rf _).trans kx_41.Km) _ _ _ _ hw1') (mr.mono (e4_42.Km HMO) _ _ _ _ hsc)) hpe6) (cwV 2 hts (lw_V q2769 q2771 qs47 q54 q2772) rfl rfl rfl (by decide +kernel) ⟨(by (try dsimp only); omega), (by (try dsimp only); omega)⟩) hM hS mm_cX2 hc_33 rfl hl.1 (Nat.le_of_ble_eq_true rfl) dX2_does_654 rfl ⟨(by (try dsimp only); omega), (by (try dsimp only); omega)⟩ (fun _ _ _ _ _ _ h9 => h9.elim) (fun v_43 M_44 H locs hp_45 hM hS => ?_)
        rcases hp_45 with ⟨w9, n9, a9, rfl, rfl, hw9, hm9, hxx9⟩ | ⟨rfl, rfl, hm9, hxx9⟩
        · skip
          exact mm_reta hx hb hr (Or.inl ⟨_, rfl⟩) (Or.inr ⟨_, rfl⟩) hlk hM hS (Or.inl ⟨w9, n9, a9, rfl, rfl, hw9, hm9, hx1.trans (e4_42.trans hxx9)⟩) dX2_does_657 (by (try dsimp only); omega) (by (try dsimp only); omega)
        · skip
          exact mm_reta hx hb hr (Or.inl ⟨_, rfl⟩) (Or.inl rfl) hlk hM hS (Or.inr ⟨rfl, rfl, hm9, hx1.trans (e4_42.trans hxx9)⟩) dX2_does_657 (by (try dsimp only); omega) (by (try dsimp only); omega)
  rw [if_neg hk11] at hpe4
  by_cases hk12 : r.1 = 12
  · skip
    rw [if_pos hk12] at hpe4
    obtain ⟨r1, hxp1⟩ := pb_ne hpe4
    obtain ⟨j1, hj1, hr1⟩ := at_some hxp1
    have hro1 := us_pb (n0 := n0) hpe4 hxp1 (mono_at (fun j => hmr _ _ _ (by omega))) (fun _ _ _ _ => (by repeat' (first | exact mono_none _ | exact mono_ret (by omega) | exact hmr _ _ _ (by omega) | exact mono_same (by omega) | exact mono_cas hmr (by omega) | (refine mono_app hmr (by omega) ?_) | (refine mono_pb ?_ (fun _ _ _ _ => ?_)) | (refine mono_at (fun _ => ?_)) | split))) (by omega) (by omega)
    refine lv_aload_n hx hb dX2_does_27 rfl (lv_at hl 0 rfl) ?_
    refine va_get (D := Z.1) (ci := 1) (v := .ref kd) (C := RX2) (T := TX2) (N := 17) hx hb hts in_X2 hown hE.1 (hM.at HMO) 0 rfl mm_cX2 1 (by decide) (hts _ q2379) (fun _ h9 => h9) rfl dX2_does_28 ?_
    refine lv_iload_n hx hb dX2_does_31 rfl (lv_at hl 1 rfl) ?_
    refine mm_ialdK (k := t) hx hb hE hM ea0 rfl htl (by decide) dX2_does_32 ?_
    rw [show (g0 t : Int32) = 12 from ((hg _ _ hrr).1.trans hk12)]
    refine lv_if_eq (tgt := 77) hx hb dX2_does_33 (by decide) (fun h9 => absurd h9 (by decide)) (fun _ => ?_)
    refine lv_aload_n hx hb dX2_does_36 rfl (lv_at hl 0 rfl) ?_
    refine va_get (D := Z.1) (ci := 1) (v := .ref kd) (C := RX2) (T := TX2) (N := 17) hx hb hts in_X2 hown hE.1 (hM.at HMO) 0 rfl mm_cX2 1 (by decide) (hts _ q2379) (fun _ h9 => h9) rfl dX2_does_37 ?_
    refine lv_iload_n hx hb dX2_does_40 rfl (lv_at hl 1 rfl) ?_
    refine mm_ialdK (k := t) hx hb hE hM ea0 rfl htl (by decide) dX2_does_41 ?_
    rw [show (g0 t : Int32) = 12 from ((hg _ _ hrr).1.trans hk12)]
    refine lv_iconst (v := 1) hx hb dX2_does_42 (by decide) ?_
    refine lv_icmp_eq (tgt := 77) hx hb dX2_does_43 (by decide) (fun h9 => absurd h9 (by decide)) (fun _ => ?_)
    refine lv_aload_n hx hb dX2_does_46 rfl (lv_at hl 0 rfl) ?_
    refine va_get (D := Z.1) (ci := 1) (v := .ref kd) (C := RX2) (T := TX2) (N := 17) hx hb hts in_X2 hown hE.1 (hM.at HMO) 0 rfl mm_cX2 1 (by decide) (hts _ q2379) (fun _ h9 => h9) rfl dX2_does_47 ?_
    refine lv_iload_n hx hb dX2_does_50 rfl (lv_at hl 1 rfl) ?_
    refine mm_ialdK (k := t) hx hb hE hM ea0 rfl htl (by decide) dX2_does_51 ?_
    rw [show (g0 t : Int32) = 12 from ((hg _ _ hrr).1.trans hk12)]
    refine lv_iconst (v := 2) hx hb dX2_does_52 (by decide) ?_
    refine lv_icmp_eq (tgt := 77) hx hb dX2_does_53 (by decide) (fun h9 => absurd h9 (by decide)) (fun _ => ?_)
    refine lv_aload_n hx hb dX2_does_56 rfl (lv_at hl 0 rfl) ?_
    refine va_get (D := Z.1) (ci := 1) (v := .ref kd) (C := RX2) (T := TX2) (N := 17) hx hb hts in_X2 hown hE.1 (hM.at HMO) 0 rfl mm_cX2 1 (by decide) (hts _ q2379) (fun _ h9 => h9) rfl dX2_does_57 ?_
    refine lv_iload_n hx hb dX2_does_60 rfl (lv_at hl 1 rfl) ?_
    refine mm_ialdK (k := t) hx hb hE hM ea0 rfl htl (by decide) dX2_does_61 ?_
    rw [show (g0 t : Int32) = 12 from ((hg _ _ hrr).1.trans hk12)]
    refine lv_bipush (v := 6) hx hb dX2_does_62 (by decide) ?_
    refine lv_icmp_eq (tgt := 77) hx hb dX2_does_64 (by decide) (fun h9 => absurd h9 (by decide)) (fun _ => ?_)
    refine lv_aload_n hx hb dX2_does_67 rfl (lv_at hl 0 rfl) ?_
    refine va_get (D := Z.1) (ci := 1) (v := .ref kd) (C := RX2) (T := TX2) (N := 17) hx hb hts in_X2 hown hE.1 (hM.at HMO) 0 rfl mm_cX2 1 (by decide) (hts _ q2379) (fun _ h9 => h9) rfl dX2_does_68 ?_
    refine lv_iload_n hx hb dX2_does_71 rfl (lv_at hl 1 rfl) ?_
    refine mm_ialdK (k := t) hx hb hE hM ea0 rfl htl (by decide) dX2_does_72 ?_
    rw [show (g0 t : Int32) = 12 from ((hg _ _ hrr).1.trans hk12)]
    refine lv_iconst (v := 5) hx hb dX2_does_73 (by decide) ?_
    refine lv_icmp_ne (tgt := 81) hx hb dX2_does_74 (by decide) (fun _ => ?_) (fun h9 => absurd h9 (by decide))
    refine lv_aload_n hx hb dX2_does_81 rfl (lv_at hl 0 rfl) ?_
    refine lv_aload_n hx hb dX2_does_82 rfl (lv_at hl 0 rfl) ?_
    refine va_get (D := Z.1) (ci := 1) (v := .ref f1) (C := RX2) (T := TX2) (N := 17) hx hb hts in_X2 hown hE.1 (hM.at HMO) 0 rfl mm_cX2 3 (by decide) (hts _ q2381) (fun _ h9 => h9) rfl dX2_does_83 ?_
    refine lv_iload_n hx hb dX2_does_86 rfl (lv_at hl 1 rfl) ?_
    refine mm_ialdK (k := t) hx hb hE hM ea2 rfl htl (by decide) dX2_does_87 ?_
    rw [show (g2 t : Int32) = nI j1 from ((hg _ _ hrr).2.2.1.trans (pt_i_at hj1))]
    refine mm_aload_n hx hb dX2_does_88 rfl (lv_at hl 2 rfl) ?_
    refine mm_callV (As := [.int (nI j1), va_rf sc]) (rest := []) ⟨hx, hb, hml, hown, hts⟩ hE hST hA (ih j1 (en) (n0 + 1) r1 M_2 sc HMO ((e40.Km HMO).mdA hA1) (by omega) (mr.mono (e40.Km HMO) _ _ _ _ hsc) hr1) (cwV 2 hts (lw_V q2769 q2771 qs47 q54 q2772) rfl rfl rfl (by decide +kernel) ⟨(by (try dsimp only); omega), (by (try dsimp only); omega)⟩) hM hS mm_cX2 HMO rfl hl.1 (Nat.le_of_ble_eq_true rfl) dX2_does_89 rfl ⟨(by (try dsimp only); omega), (by (try dsimp only); omega)⟩ (fun _ _ _ _ _ _ h9 => h9.elim) (fun v_3 M_4 H locs hp_5 hM hS => ?_)
    rcases hp_5.symm with ⟨rfl, rfl, hmf, hxf⟩ | ⟨w1, c1, a1, rfl, rfl, hw1, hm1, hxx1⟩
    · skip
      have hu9 : us (n0 + 1) (none : Option (ev × Nat)) = 1001 - (n0 + 1) := rfl
      refine lv_astore_nN (lv' := [(3, .null), (0, .ref mo), (1, .int (nI t)), (2, va_rf sc)]) hx hb dX2_does_92 rfl hl (by decide) (by simp [mm_cat_o, mm_cat_r, mm_cat_i, mm_cat_n, mm_cat_l] <;> decide) (fun ls hl => ?_)
      refine lv_aload_n hx hb dX2_does_93 rfl (lv_at hl 1 rfl) ?_
      refine va_get (D := Z.1) (ci := 1) (v := .int (mm_b true)) (C := RX2) (T := TX2) (N := 17) hx hb hts in_X2 hown hE.1 (hM.at hmf) 0 rfl mm_cX2 15 (by decide) (hts _ q2393) (fun _ h9 => h9) rfl dX2_does_94 ?_
      refine lv_if_eq (tgt := 102) hx hb dX2_does_97 (by decide) (fun h9 => absurd h9 (by decide)) (fun _ => ?_)
      refine lv_null hx hb dX2_does_100 ?_
      exact mm_reta hx hb hr (Or.inl ⟨_, rfl⟩) (Or.inl rfl) hlk hM hS (Or.inr ⟨hro1.2.1 rfl, rfl, hmf, hx1.trans (e40.trans hxf)⟩) dX2_does_101 (by (try dsimp only); omega) (by (try dsimp only); omega)
    obtain ⟨hpe1, hca1, hcb1⟩ := hro1.2.2 w1 c1 rfl
    have hu1 : us (n0 + 1) (some (w1, c1)) = c1 - (n0 + 1) := rfl
    have e41 := e40.trans hxx1
    have hc_6 := hxx1.atMA HMO ea0
    have hc_7 := hxx1.atMA HMO ea1
    have hc_8 := hxx1.atMA HMO ea2
    have hc_9 := hxx1.atMA HMO ea3
    have hc_10 := hxx1.atMA HMO ea4
    obtain ⟨n1, rfl⟩ : ∃ n9, w1 = .natCast n9 := by cases w1 <;> first | exact ⟨_, rfl⟩ | cases hpe1
    (try dsimp only at hpe1)
    simp only [mr] at hw1
    obtain ⟨a9, e9, ham1⟩ := hw1
    cases e9
    refine lv_astore_n (lv' := [(3, .ref a1), (0, .ref mo), (1, .int (nI t)), (2, va_rf sc)]) hx hb dX2_does_92 rfl hl (by decide) (by simp [mm_cat_o, mm_cat_r, mm_cat_i, mm_cat_n, mm_cat_l] <;> decide) (fun ls hl => ?_)
    refine lv_aload_n hx hb dX2_does_93 rfl (lv_at hl 1 rfl) ?_
    refine va_get (D := Z.1) (ci := 1) (v := .int (mm_b false)) (C := RX2) (T := TX2) (N := 17) hx hb hts in_X2 hown hE.1 (hM.at hm1) 0 rfl mm_cX2 15 (by decide) (hts _ q2393) (fun _ h9 => h9) rfl dX2_does_94 ?_
    refine lv_if_eq (tgt := 102) hx hb dX2_does_97 (by decide) (fun _ => ?_) (fun h9 => absurd (by decide) h9)
    refine lv_aload_n hx hb dX2_does_102 rfl (lv_at hl 1 rfl) ?_
    refine va_get (D := Z.1) (ci := 1) (v := .ref kd) (C := RX2) (T := TX2) (N := 17) hx hb hts in_X2 hown hE.1 (hM.at hm1) 0 rfl mm_cX2 1 (by decide) (hts _ q2379) (fun _ h9 => h9) rfl dX2_does_103 ?_
    refine lv_iload_n hx hb dX2_does_106 rfl (lv_at hl 2 rfl) ?_
    refine mm_ialdK (k := t) hx hb hE hM hc_6 rfl htl (by decide) dX2_does_107 ?_
    rw [show (g0 t : Int32) = 12 from ((hg _ _ hrr).1.trans hk12)]
    refine lv_iconst (v := 3) hx hb dX2_does_108 (by decide) ?_
    refine lv_icmp_eq (tgt := 145) hx hb dX2_does_109 (by decide) (fun h9 => absurd h9 (by decide)) (fun _ => ?_)
    refine lv_aload_n hx hb dX2_does_112 rfl (lv_at hl 1 rfl) ?_
    refine va_get (D := Z.1) (ci := 1) (v := .ref kd) (C := RX2) (T := TX2) (N := 17) hx hb hts in_X2 hown hE.1 (hM.at hm1) 0 rfl mm_cX2 1 (by decide) (hts _ q2379) (fun _ h9 => h9) rfl dX2_does_113 ?_
    refine lv_iload_n hx hb dX2_does_116 rfl (lv_at hl 2 rfl) ?_
    refine mm_ialdK (k := t) hx hb hE hM hc_6 rfl htl (by decide) dX2_does_117 ?_
    rw [show (g0 t : Int32) = 12 from ((hg _ _ hrr).1.trans hk12)]
    refine lv_bipush (v := 7) hx hb dX2_does_118 (by decide) ?_
    refine lv_icmp_eq (tgt := 145) hx hb dX2_does_120 (by decide) (fun h9 => absurd h9 (by decide)) (fun _ => ?_)
    refine lv_aload_n hx hb dX2_does_123 rfl (lv_at hl 1 rfl) ?_
    refine va_get (D := Z.1) (ci := 1) (v := .ref kd) (C := RX2) (T := TX2) (N := 17) hx hb hts in_X2 hown hE.1 (hM.at hm1) 0 rfl mm_cX2 1 (by decide) (hts _ q2379) (fun _ h9 => h9) rfl dX2_does_124 ?_
    refine lv_iload_n hx hb dX2_does_127 rfl (lv_at hl 2 rfl) ?_
    refine mm_ialdK (k := t) hx hb hE hM hc_6 rfl htl (by decide) dX2_does_128 ?_
    rw [show (g0 t : Int32) = 12 from ((hg _ _ hrr).1.trans hk12)]
    refine lv_bipush (v := 13) hx hb dX2_does_129 (by decide) ?_
    refine lv_icmp_eq (tgt := 145) hx hb dX2_does_131 (by decide) (fun h9 => absurd h9 (by decide)) (fun _ => ?_)
    refine lv_aload_n hx hb dX2_does_134 rfl (lv_at hl 1 rfl) ?_
    refine va_get (D := Z.1) (ci := 1) (v := .ref kd) (C := RX2) (T := TX2) (N := 17) hx hb hts in_X2 hown hE.1 (hM.at hm1) 0 rfl mm_cX2 1 (by decide) (hts _ q2379) (fun _ h9 => h9) rfl dX2_does_135 ?_
    refine lv_iload_n hx hb dX2_does_138 rfl (lv_at hl 2 rfl) ?_
    refine mm_ialdK (k := t) hx hb hE hM hc_6 rfl htl (by decide) dX2_does_139 ?_
    rw [show (g0 t : Int32) = 12 from ((hg _ _ hrr).1.trans hk12)]
    refine lv_bipush (v := 14) hx hb dX2_does_140 (by decide) ?_
    refine lv_icmp_ne (tgt := 159) hx hb dX2_does_142 (by decide) (fun _ => ?_) (fun h9 => absurd h9 (by decide))
    refine lv_null hx hb dX2_does_159 ?_
    refine lv_astoreN hx hb dX2_does_160 hl (by decide) rfl (fun ls hl => ?_)
    replace hl : lv_has ls 12 [(4, .null), (3, .ref a1), (0, .ref mo), (1, .int (nI t)), (2, va_rf sc)] := hl
    refine lv_aload_n hx hb dX2_does_162 rfl (lv_at hl 2 rfl) ?_
    refine va_get (D := Z.1) (ci := 1) (v := .int (mm_b false)) (C := RX2) (T := TX2) (N := 17) hx hb hts in_X2 hown hE.1 (hM.at hm1) 0 rfl mm_cX2 15 (by decide) (hts _ q2393) (fun _ h9 => h9) rfl dX2_does_163 ?_
    refine lv_if_eq (tgt := 171) hx hb dX2_does_166 (by decide) (fun _ => ?_) (fun h9 => absurd (by decide) h9)
    refine lv_aload_n hx hb dX2_does_171 rfl (lv_at hl 2 rfl) ?_
    refine va_get (D := Z.1) (ci := 1) (v := .ref kd) (C := RX2) (T := TX2) (N := 17) hx hb hts in_X2 hown hE.1 (hM.at hm1) 0 rfl mm_cX2 1 (by decide) (hts _ q2379) (fun _ h9 => h9) rfl dX2_does_172 ?_
    refine lv_iload_n hx hb dX2_does_175 rfl (lv_at hl 3 rfl) ?_
    refine mm_ialdK (k := t) hx hb hE hM hc_6 rfl htl (by decide) dX2_does_176 ?_
    rw [show (g0 t : Int32) = 12 from ((hg _ _ hrr).1.trans hk12)]
    refine lv_tableIn (tgt := 658) (off := 481) hx hb dX2_does_177 (by decide) (by decide) (by decide) (by decide) ?_
    refine lv_aload_n hx hb dX2_does_658 rfl (lv_at hl 2 rfl) ?_
    refine lv_aload_n hx hb dX2_does_659 rfl (lv_at hl 1 rfl) ?_
    refine va_get (D := Z.1) (ci := 32) (v := .int (nI n1)) (C := RX38) (T := TX38) (N := 5) hx hb hts in_X38 hown hE.1 (hM.at ham1) 0 rfl mm_cX38 1 (by decide) (hts _ q2783) (fun _ h9 => h9) rfl dX2_does_660 ?_
    refine lv_if_eq (tgt := 675) hx hb dX2_does_663 (by decide) (fun c_11 => ?_) (fun c_11 => ?_)
    · skip
      rw [if_pos c_11] at hpe1
      obtain ⟨j2, hj2, hpe5⟩ := at_some hpe1
      have hut := us_tail (n0 := n0) hpe5 (by omega) (by omega)
      refine lv_aload_n hx hb dX2_does_675 rfl (lv_at hl 2 rfl) ?_
      refine va_get (D := Z.1) (ci := 1) (v := .ref f3) (C := RX2) (T := TX2) (N := 17) hx hb hts in_X2 hown hE.1 (hM.at hm1) 0 rfl mm_cX2 5 (by decide) (hts _ q2383) (fun _ h9 => h9) rfl dX2_does_676 ?_
      refine lv_iload_n hx hb dX2_does_679 rfl (lv_at hl 3 rfl) ?_
      refine mm_ialdK (k := t) hx hb hE hM hc_10 rfl htl (by decide) dX2_does_680 ?_
      rw [show (g4 t : Int32) = nI j2 from ((hg _ _ hrr).2.2.2.2.1.trans (pt_i_at hj2))]
      refine mm_aload_n hx hb dX2_does_681 rfl (lv_at hl 4 rfl) ?_
      refine mm_callV (As := [.int (nI j2), va_rf sc]) (rest := []) ⟨hx, hb, hml, hown, hts⟩ hE hST hA (ih j2 (en) (c1) res M_4 sc hm1 ((e41.Km HMO).mdA hA1) (by omega) (mr.mono (e41.Km HMO) _ _ _ _ hsc) hpe5) (cwV 2 hts (lw_V q2769 q2771 qs47 q54 q2772) rfl rfl rfl (by decide +kernel) ⟨(by (try dsimp only); omega), (by (try dsimp only); omega)⟩) hM hS mm_cX2 hm1 rfl hl.1 (Nat.le_of_ble_eq_true rfl) dX2_does_682 rfl ⟨(by (try dsimp only); omega), (by (try dsimp only); omega)⟩ (fun _ _ _ _ _ _ h9 => h9.elim) (fun v_12 M_13 H locs hp_14 hM hS => ?_)
      rcases hp_14 with ⟨w9, n9, a9, rfl, rfl, hw9, hm9, hxx9⟩ | ⟨rfl, rfl, hm9, hxx9⟩
      · skip
        exact mm_reta hx hb hr (Or.inl ⟨_, rfl⟩) (Or.inr ⟨_, rfl⟩) hlk hM hS (Or.inl ⟨w9, n9, a9, rfl, rfl, hw9, hm9, hx1.trans (e41.trans hxx9)⟩) dX2_does_685 (by (try dsimp only); omega) (by (try dsimp only); omega)
      · skip
        exact mm_reta hx hb hr (Or.inl ⟨_, rfl⟩) (Or.inl rfl) hlk hM hS (Or.inr ⟨rfl, rfl, hm9, hx1.trans (e41.trans hxx9)⟩) dX2_does_685 (by (try dsimp only); omega) (by (try dsimp only); omega)
    · skip
      rw [if_neg c_11] at hpe1
      obtain ⟨j2, hj2, hpe5⟩ := at_some hpe1
      have hut := us_tail (n0 := n0) hpe5 (by omega) (by omega)
      refine lv_aload_n hx hb dX2_does_666 rfl (lv_at hl 2 rfl) ?_
      refine va_get (D := Z.1) (ci := 1) (v := .ref f2) (C := RX2) (T := TX2) (N := 17) hx hb hts in_X2 hown hE.1 (hM.at hm1) 0 rfl mm_cX2 4 (by decide) (hts _ q2382) (fun _ h9 => h9) rfl dX2_does_667 ?_
      refine lv_iload_n hx hb dX2_does_670 rfl (lv_at hl 3 rfl) ?_
      refine mm_ialdK (k := t) hx hb hE hM hc_9 rfl htl (by decide) dX2_does_671 ?_
      rw [show (g3 t : Int32) = nI j2 from ((hg _ _ hrr).2.2.2.1.trans (pt_i_at hj2))]
      refine lv_goto (tgt := 681) hx hb dX2_does_672 (by decide) ?_
      refine mm_aload_n hx hb dX2_does_681 rfl (lv_at hl 4 rfl) ?_
      refine mm_callV (As := [.int (nI j2), va_rf sc]) (rest := []) ⟨hx, hb, hml, hown, hts⟩ hE hST hA (ih j2 (en) (c1) res M_4 sc hm1 ((e41.Km HMO).mdA hA1) (by omega) (mr.mono (e41.Km HMO) _ _ _ _ hsc) hpe5) (cwV 2 hts (lw_V q2769 q2771 qs47 q54 q2772) rfl rfl rfl (by decide +kernel) ⟨(by (try dsimp only); omega), (by (try dsimp only); omega)⟩) hM hS mm_cX2 hm1 rfl hl.1 (Nat.le_of_ble_eq_true rfl) dX2_does_682 rfl ⟨(by (try dsimp only); omega), (by (try dsimp only); omega)⟩ (fun _ _ _ _ _ _ h9 => h9.elim) (fun v_12 M_13 H locs hp_14 hM hS => ?_)
      rcases hp_14 with ⟨w9, n9, a9, rfl, rfl, hw9, hm9, hxx9⟩ | ⟨rfl, rfl, hm9, hxx9⟩
      · skip
        exact mm_reta hx hb hr (Or.inl ⟨_, rfl⟩) (Or.inr ⟨_, rfl⟩) hlk hM hS (Or.inl ⟨w9, n9, a9, rfl, rfl, hw9, hm9, hx1.trans (e41.trans hxx9)⟩) dX2_does_685 (by (try dsimp only); omega) (by (try dsimp only); omega)
      · skip
        exact mm_reta hx hb hr (Or.inl ⟨_, rfl⟩) (Or.inl rfl) hlk hM hS (Or.inr ⟨rfl, rfl, hm9, hx1.trans (e41.trans hxx9)⟩) dX2_does_685 (by (try dsimp only); omega) (by (try dsimp only); omega)
  rw [if_neg hk12] at hpe4
  by_cases hk13 : r.1 = 13
  · skip
    rw [if_pos hk13] at hpe4
    obtain ⟨r1, hxp1⟩ := pb_ne hpe4
    obtain ⟨j1, hj1, hr1⟩ := at_some hxp1
    have hro1 := us_pb (n0 := n0) hpe4 hxp1 (mono_at (fun j => hmr _ _ _ (by omega))) (fun _ _ _ _ => (by repeat' (first | exact mono_none _ | exact mono_ret (by omega) | exact hmr _ _ _ (by omega) | exact mono_same (by omega) | exact mono_cas hmr (by omega) | (refine mono_app hmr (by omega) ?_) | (refine mono_pb ?_ (fun _ _ _ _ => ?_)) | (refine mono_at (fun _ => ?_)) | split))) (by omega) (by omega)
    refine lv_aload_n hx hb dX2_does_27 rfl (lv_at hl 0 rfl) ?_
    refine va_get (D := Z.1) (ci := 1) (v := .ref kd) (C := RX2) (T := TX2) (N := 17) hx hb hts in_X2 hown hE.1 (hM.at HMO) 0 rfl mm_cX2 1 (by decide) (hts _ q2379) (fun _ h9 => h9) rfl dX2_does_28 ?_
    refine lv_iload_n hx hb dX2_does_31 rfl (lv_at hl 1 rfl) ?_
    refine mm_ialdK (k := t) hx hb hE hM ea0 rfl htl (by decide) dX2_does_32 ?_
    rw [show (g0 t : Int32) = 13 from ((hg _ _ hrr).1.trans hk13)]
    refine lv_if_eq (tgt := 77) hx hb dX2_does_33 (by decide) (fun h9 => absurd h9 (by decide)) (fun _ => ?_)
    refine lv_aload_n hx hb dX2_does_36 rfl (lv_at hl 0 rfl) ?_
    refine va_get (D := Z.1) (ci := 1) (v := .ref kd) (C := RX2) (T := TX2) (N := 17) hx hb hts in_X2 hown hE.1 (hM.at HMO) 0 rfl mm_cX2 1 (by decide) (hts _ q2379) (fun _ h9 => h9) rfl dX2_does_37 ?_
    refine lv_iload_n hx hb dX2_does_40 rfl (lv_at hl 1 rfl) ?_
    refine mm_ialdK (k := t) hx hb hE hM ea0 rfl htl (by decide) dX2_does_41 ?_
    rw [show (g0 t : Int32) = 13 from ((hg _ _ hrr).1.trans hk13)]
    refine lv_iconst (v := 1) hx hb dX2_does_42 (by decide) ?_
    refine lv_icmp_eq (tgt := 77) hx hb dX2_does_43 (by decide) (fun h9 => absurd h9 (by decide)) (fun _ => ?_)
    refine lv_aload_n hx hb dX2_does_46 rfl (lv_at hl 0 rfl) ?_
    refine va_get (D := Z.1) (ci := 1) (v := .ref kd) (C := RX2) (T := TX2) (N := 17) hx hb hts in_X2 hown hE.1 (hM.at HMO) 0 rfl mm_cX2 1 (by decide) (hts _ q2379) (fun _ h9 => h9) rfl dX2_does_47 ?_
    refine lv_iload_n hx hb dX2_does_50 rfl (lv_at hl 1 rfl) ?_
    refine mm_ialdK (k := t) hx hb hE hM ea0 rfl htl (by decide) dX2_does_51 ?_
    rw [show (g0 t : Int32) = 13 from ((hg _ _ hrr).1.trans hk13)]
    refine lv_iconst (v := 2) hx hb dX2_does_52 (by decide) ?_
    refine lv_icmp_eq (tgt := 77) hx hb dX2_does_53 (by decide) (fun h9 => absurd h9 (by decide)) (fun _ => ?_)
    refine lv_aload_n hx hb dX2_does_56 rfl (lv_at hl 0 rfl) ?_
    refine va_get (D := Z.1) (ci := 1) (v := .ref kd) (C := RX2) (T := TX2) (N := 17) hx hb hts in_X2 hown hE.1 (hM.at HMO) 0 rfl mm_cX2 1 (by decide) (hts _ q2379) (fun _ h9 => h9) rfl dX2_does_57 ?_
    refine lv_iload_n hx hb dX2_does_60 rfl (lv_at hl 1 rfl) ?_
    refine mm_ialdK (k := t) hx hb hE hM ea0 rfl htl (by decide) dX2_does_61 ?_
    rw [show (g0 t : Int32) = 13 from ((hg _ _ hrr).1.trans hk13)]
    refine lv_bipush (v := 6) hx hb dX2_does_62 (by decide) ?_
    refine lv_icmp_eq (tgt := 77) hx hb dX2_does_64 (by decide) (fun h9 => absurd h9 (by decide)) (fun _ => ?_)
    refine lv_aload_n hx hb dX2_does_67 rfl (lv_at hl 0 rfl) ?_
    refine va_get (D := Z.1) (ci := 1) (v := .ref kd) (C := RX2) (T := TX2) (N := 17) hx hb hts in_X2 hown hE.1 (hM.at HMO) 0 rfl mm_cX2 1 (by decide) (hts _ q2379) (fun _ h9 => h9) rfl dX2_does_68 ?_
    refine lv_iload_n hx hb dX2_does_71 rfl (lv_at hl 1 rfl) ?_
    refine mm_ialdK (k := t) hx hb hE hM ea0 rfl htl (by decide) dX2_does_72 ?_
    rw [show (g0 t : Int32) = 13 from ((hg _ _ hrr).1.trans hk13)]
    refine lv_iconst (v := 5) hx hb dX2_does_73 (by decide) ?_
    refine lv_icmp_ne (tgt := 81) hx hb dX2_does_74 (by decide) (fun _ => ?_) (fun h9 => absurd h9 (by decide))
    refine lv_aload_n hx hb dX2_does_81 rfl (lv_at hl 0 rfl) ?_
    refine lv_aload_n hx hb dX2_does_82 rfl (lv_at hl 0 rfl) ?_
    refine va_get (D := Z.1) (ci := 1) (v := .ref f1) (C := RX2) (T := TX2) (N := 17) hx hb hts in_X2 hown hE.1 (hM.at HMO) 0 rfl mm_cX2 3 (by decide) (hts _ q2381) (fun _ h9 => h9) rfl dX2_does_83 ?_
    refine lv_iload_n hx hb dX2_does_86 rfl (lv_at hl 1 rfl) ?_
    refine mm_ialdK (k := t) hx hb hE hM ea2 rfl htl (by decide) dX2_does_87 ?_
    rw [show (g2 t : Int32) = nI j1 from ((hg _ _ hrr).2.2.1.trans (pt_i_at hj1))]
    refine mm_aload_n hx hb dX2_does_88 rfl (lv_at hl 2 rfl) ?_
    refine mm_callV (As := [.int (nI j1), va_rf sc]) (rest := []) ⟨hx, hb, hml, hown, hts⟩ hE hST hA (ih j1 (en) (n0 + 1) r1 M_2 sc HMO ((e40.Km HMO).mdA hA1) (by omega) (mr.mono (e40.Km HMO) _ _ _ _ hsc) hr1) (cwV 2 hts (lw_V q2769 q2771 qs47 q54 q2772) rfl rfl rfl (by decide +kernel) ⟨(by (try dsimp only); omega), (by (try dsimp only); omega)⟩) hM hS mm_cX2 HMO rfl hl.1 (Nat.le_of_ble_eq_true rfl) dX2_does_89 rfl ⟨(by (try dsimp only); omega), (by (try dsimp only); omega)⟩ (fun _ _ _ _ _ _ h9 => h9.elim) (fun v_3 M_4 H locs hp_5 hM hS => ?_)
    rcases hp_5.symm with ⟨rfl, rfl, hmf, hxf⟩ | ⟨w1, c1, a1, rfl, rfl, hw1, hm1, hxx1⟩
    · skip
      have hu9 : us (n0 + 1) (none : Option (ev × Nat)) = 1001 - (n0 + 1) := rfl
      refine lv_astore_nN (lv' := [(3, .null), (0, .ref mo), (1, .int (nI t)), (2, va_rf sc)]) hx hb dX2_does_92 rfl hl (by decide) (by simp [mm_cat_o, mm_cat_r, mm_cat_i, mm_cat_n, mm_cat_l] <;> decide) (fun ls hl => ?_)
      refine lv_aload_n hx hb dX2_does_93 rfl (lv_at hl 1 rfl) ?_
      refine va_get (D := Z.1) (ci := 1) (v := .int (mm_b true)) (C := RX2) (T := TX2) (N := 17) hx hb hts in_X2 hown hE.1 (hM.at hmf) 0 rfl mm_cX2 15 (by decide) (hts _ q2393) (fun _ h9 => h9) rfl dX2_does_94 ?_
      refine lv_if_eq (tgt := 102) hx hb dX2_does_97 (by decide) (fun h9 => absurd h9 (by decide)) (fun _ => ?_)
      refine lv_null hx hb dX2_does_100 ?_
      exact mm_reta hx hb hr (Or.inl ⟨_, rfl⟩) (Or.inl rfl) hlk hM hS (Or.inr ⟨hro1.2.1 rfl, rfl, hmf, hx1.trans (e40.trans hxf)⟩) dX2_does_101 (by (try dsimp only); omega) (by (try dsimp only); omega)
    obtain ⟨hpe1, hca1, hcb1⟩ := hro1.2.2 w1 c1 rfl
    have hu1 : us (n0 + 1) (some (w1, c1)) = c1 - (n0 + 1) := rfl
    have e41 := e40.trans hxx1
    have hc_6 := hxx1.atMA HMO ea0
    have hc_7 := hxx1.atMA HMO ea1
    have hc_8 := hxx1.atMA HMO ea2
    have hc_9 := hxx1.atMA HMO ea3
    have hc_10 := hxx1.atMA HMO ea4
    obtain ⟨n1, rfl⟩ : ∃ n9, w1 = .natCast n9 := by cases w1 <;> first | exact ⟨_, rfl⟩ | cases hpe1
    (try dsimp only at hpe1)
    simp only [mr] at hw1
    obtain ⟨a9, e9, ham1⟩ := hw1
    cases e9
    obtain ⟨r2, hxp2⟩ := pb_ne hpe1
    obtain ⟨j2, hj2, hr2⟩ := at_some hxp2
    have hro2 := us_pb (n0 := n0) hpe1 hxp2 (mono_at (fun j => hmr _ _ _ (by omega))) (fun _ _ _ _ => (by repeat' (first | exact mono_none _ | exact mono_ret (by omega) | exact hmr _ _ _ (by omega) | exact mono_same (by omega) | exact mono_cas hmr (by omega) | (refine mono_app hmr (by omega) ?_) | (refine mono_pb ?_ (fun _ _ _ _ => ?_)) | (refine mono_at (fun _ => ?_)) | split))) (by omega) (by omega)
    refine lv_astore_n (lv' := [(3, .ref a1), (0, .ref mo), (1, .int (nI t)), (2, va_rf sc)]) hx hb dX2_does_92 rfl hl (by decide) (by simp [mm_cat_o, mm_cat_r, mm_cat_i, mm_cat_n, mm_cat_l] <;> decide) (fun ls hl => ?_)
    refine lv_aload_n hx hb dX2_does_93 rfl (lv_at hl 1 rfl) ?_
    refine va_get (D := Z.1) (ci := 1) (v := .int (mm_b false)) (C := RX2) (T := TX2) (N := 17) hx hb hts in_X2 hown hE.1 (hM.at hm1) 0 rfl mm_cX2 15 (by decide) (hts _ q2393) (fun _ h9 => h9) rfl dX2_does_94 ?_
    refine lv_if_eq (tgt := 102) hx hb dX2_does_97 (by decide) (fun _ => ?_) (fun h9 => absurd (by decide) h9)
    refine lv_aload_n hx hb dX2_does_102 rfl (lv_at hl 1 rfl) ?_
    refine va_get (D := Z.1) (ci := 1) (v := .ref kd) (C := RX2) (T := TX2) (N := 17) hx hb hts in_X2 hown hE.1 (hM.at hm1) 0 rfl mm_cX2 1 (by decide) (hts _ q2379) (fun _ h9 => h9) rfl dX2_does_103 ?_
    refine lv_iload_n hx hb dX2_does_106 rfl (lv_at hl 2 rfl) ?_
    refine mm_ialdK (k := t) hx hb hE hM hc_6 rfl htl (by decide) dX2_does_107 ?_
    rw [show (g0 t : Int32) = 13 from ((hg _ _ hrr).1.trans hk13)]
    refine lv_iconst (v := 3) hx hb dX2_does_108 (by decide) ?_
    refine lv_icmp_eq (tgt := 145) hx hb dX2_does_109 (by decide) (fun h9 => absurd h9 (by decide)) (fun _ => ?_)
    refine lv_aload_n hx hb dX2_does_112 rfl (lv_at hl 1 rfl) ?_
    refine va_get (D := Z.1) (ci := 1) (v := .ref kd) (C := RX2) (T := TX2) (N := 17) hx hb hts in_X2 hown hE.1 (hM.at hm1) 0 rfl mm_cX2 1 (by decide) (hts _ q2379) (fun _ h9 => h9) rfl dX2_does_113 ?_
    refine lv_iload_n hx hb dX2_does_116 rfl (lv_at hl 2 rfl) ?_
    refine mm_ialdK (k := t) hx hb hE hM hc_6 rfl htl (by decide) dX2_does_117 ?_
    rw [show (g0 t : Int32) = 13 from ((hg _ _ hrr).1.trans hk13)]
    refine lv_bipush (v := 7) hx hb dX2_does_118 (by decide) ?_
    refine lv_icmp_eq (tgt := 145) hx hb dX2_does_120 (by decide) (fun h9 => absurd h9 (by decide)) (fun _ => ?_)
    refine lv_aload_n hx hb dX2_does_123 rfl (lv_at hl 1 rfl) ?_
    refine va_get (D := Z.1) (ci := 1) (v := .ref kd) (C := RX2) (T := TX2) (N := 17) hx hb hts in_X2 hown hE.1 (hM.at hm1) 0 rfl mm_cX2 1 (by decide) (hts _ q2379) (fun _ h9 => h9) rfl dX2_does_124 ?_
    refine lv_iload_n hx hb dX2_does_127 rfl (lv_at hl 2 rfl) ?_
    refine mm_ialdK (k := t) hx hb hE hM hc_6 rfl htl (by decide) dX2_does_128 ?_
    rw [show (g0 t : Int32) = 13 from ((hg _ _ hrr).1.trans hk13)]
    refine lv_bipush (v := 13) hx hb dX2_does_129 (by decide) ?_
    refine lv_icmp_eq (tgt := 145) hx hb dX2_does_131 (by decide) (fun _ => ?_) (fun h9 => absurd (by decide) h9)
    refine lv_aload_n hx hb dX2_does_145 rfl (lv_at hl 1 rfl) ?_
    refine lv_aload_n hx hb dX2_does_146 rfl (lv_at hl 1 rfl) ?_
    refine va_get (D := Z.1) (ci := 1) (v := .ref f2) (C := RX2) (T := TX2) (N := 17) hx hb hts in_X2 hown hE.1 (hM.at hm1) 0 rfl mm_cX2 4 (by decide) (hts _ q2382) (fun _ h9 => h9) rfl dX2_does_147 ?_
    refine lv_iload_n hx hb dX2_does_150 rfl (lv_at hl 2 rfl) ?_
    refine mm_ialdK (k := t) hx hb hE hM hc_9 rfl htl (by decide) dX2_does_151 ?_
    rw [show (g3 t : Int32) = nI j2 from ((hg _ _ hrr).2.2.2.1.trans (pt_i_at hj2))]
    refine mm_aload_n hx hb dX2_does_152 rfl (lv_at hl 3 rfl) ?_
    refine mm_callV (As := [.int (nI j2), va_rf sc]) (rest := []) ⟨hx, hb, hml, hown, hts⟩ hE hST hA (ih j2 (en) (c1) r2 M_4 sc hm1 ((e41.Km HMO).mdA hA1) (by omega) (mr.mono (e41.Km HMO) _ _ _ _ hsc) hr2) (cwV 2 hts (lw_V q2769 q2771 qs47 q54 q2772) rfl rfl rfl (by decide +kernel) ⟨(by (try dsimp only); omega), (by (try dsimp only); omega)⟩) hM hS mm_cX2 hm1 rfl hl.1 (Nat.le_of_ble_eq_true rfl) dX2_does_153 rfl ⟨(by (try dsimp only); omega), (by (try dsimp only); omega)⟩ (fun _ _ _ _ _ _ h9 => h9.elim) (fun v_11 M_12 H locs hp_13 hM hS => ?_)
    rcases hp_13.symm with ⟨rfl, rfl, hmf, hxf⟩ | ⟨w2, c2, a2, rfl, rfl, hw2, hm2, hxx2⟩
    · skip
      have hu9 : us (c1) (none : Option (ev × Nat)) = 1001 - (c1) := rfl
      refine lv_goto (tgt := 160) hx hb dX2_does_156 (by decide) ?_
      refine lv_astoreN hx hb dX2_does_160 hl (by decide) rfl (fun ls hl => ?_)
      replace hl : lv_has ls 12 [(4, .null), (3, .ref a1), (0, .ref mo), (1, .int (nI t)), (2, va_rf sc)] := hl
      refine lv_aload_n hx hb dX2_does_162 rfl (lv_at hl 2 rfl) ?_
      refine va_get (D := Z.1) (ci := 1) (v := .int (mm_b true)) (C := RX2) (T := TX2) (N := 17) hx hb hts in_X2 hown hE.1 (hM.at hmf) 0 rfl mm_cX2 15 (by decide) (hts _ q2393) (fun _ h9 => h9) rfl dX2_does_163 ?_
      refine lv_if_eq (tgt := 171) hx hb dX2_does_166 (by decide) (fun h9 => absurd h9 (by decide)) (fun _ => ?_)
      refine lv_null hx hb dX2_does_169 ?_
      exact mm_reta hx hb hr (Or.inl ⟨_, rfl⟩) (Or.inl rfl) hlk hM hS (Or.inr ⟨hro2.2.1 rfl, rfl, hmf, hx1.trans (e41.trans hxf)⟩) dX2_does_170 (by (try dsimp only); omega) (by (try dsimp only); omega)
    obtain ⟨hpe2, hca2, hcb2⟩ := hro2.2.2 w2 c2 rfl
    have hu2 : us (c1) (some (w2, c2)) = c2 - (c1) := rfl
    have e42 := e41.trans hxx2
    have hc_14 := hxx2.atMA hm1 hc_6
    have hc_15 := hxx2.atMA hm1 hc_7
    have hc_16 := hxx2.atMA hm1 hc_8
    have hc_17 := hxx2.atMA hm1 hc_9
    have hc_18 := hxx2.atMA hm1 hc_10
    have hc_19 := hxx2.atM hm1 ham1 (by decide)
    obtain ⟨n2, rfl⟩ : ∃ n9, w2 = .natCast n9 := by cases w2 <;> first | exact ⟨_, rfl⟩ | cases hpe2
    (try dsimp only at hpe2)
    simp only [mr] at hw2
    obtain ⟨a9, e9, ham2⟩ := hw2
    cases e9
    refine lv_goto (tgt := 160) hx hb dX2_does_156 (by decide) ?_
    refine lv_astore hx hb dX2_does_160 hl (by decide) rfl (fun ls hl => ?_)
    replace hl : lv_has ls 12 [(4, .ref a2), (3, .ref a1), (0, .ref mo), (1, .int (nI t)), (2, va_rf sc)] := hl
    refine lv_aload_n hx hb dX2_does_162 rfl (lv_at hl 2 rfl) ?_
    refine va_get (D := Z.1) (ci := 1) (v := .int (mm_b false)) (C := RX2) (T := TX2) (N := 17) hx hb hts in_X2 hown hE.1 (hM.at hm2) 0 rfl mm_cX2 15 (by decide) (hts _ q2393) (fun _ h9 => h9) rfl dX2_does_163 ?_
    refine lv_if_eq (tgt := 171) hx hb dX2_does_166 (by decide) (fun _ => ?_) (fun h9 => absurd (by decide) h9)
    refine lv_aload_n hx hb dX2_does_171 rfl (lv_at hl 2 rfl) ?_
    refine va_get (D := Z.1) (ci := 1) (v := .ref kd) (C := RX2) (T := TX2) (N := 17) hx hb hts in_X2 hown hE.1 (hM.at hm2) 0 rfl mm_cX2 1 (by decide) (hts _ q2379) (fun _ h9 => h9) rfl dX2_does_172 ?_
    refine lv_iload_n hx hb dX2_does_175 rfl (lv_at hl 3 rfl) ?_
    refine mm_ialdK (k := t) hx hb hE hM hc_14 rfl htl (by decide) dX2_does_176 ?_
    rw [show (g0 t : Int32) = 13 from ((hg _ _ hrr).1.trans hk13)]
    refine lv_tableIn (tgt := 686) (off := 509) hx hb dX2_does_177 (by decide) (by decide) (by decide) (by decide) ?_
    refine lv_iconst (v := 1) hx hb dX2_does_686 (by decide) ?_
    refine lv_aload_n hx hb dX2_does_687 rfl (lv_at hl 1 rfl) ?_
    refine va_get (D := Z.1) (ci := 32) (v := .int (nI n1)) (C := RX38) (T := TX38) (N := 5) hx hb hts in_X38 hown hE.1 (hM.at hc_19) 0 rfl mm_cX38 1 (by decide) (hts _ q2783) (fun _ h9 => h9) rfl dX2_does_688 ?_
    refine lv_aload hx hb dX2_does_691 (lv_at hl 0 rfl) ?_
    refine va_get (D := Z.1) (ci := 32) (v := .int (nI n2)) (C := RX38) (T := TX38) (N := 5) hx hb hts in_X38 hown hE.1 (hM.at ham2) 0 rfl mm_cX38 1 (by decide) (hts _ q2783) (fun _ h9 => h9) rfl dX2_does_693 ?_
    refine lv_iadd hx hb dX2_does_696 ?_
    rw [show ((nI n1) + (nI n2) : Int32) = nI (n1 + n2) from nI_add _ _]
    refine mm_callS (As := [.int 1, .int (nI (n1 + n2))]) (rest := []) ⟨hx, hb, hml, hown, hts⟩ hE hST hA (c_X2_value l Z (M := M_12) (x1 := 1) (x2 := (nI (n1 + n2))) ) (va_cwS 2 hts (lw_S q2773 q2774 q54 q2775) rfl rfl rfl (by decide +kernel) ⟨(by (try dsimp only); omega), (by (try dsimp only); omega)⟩) hM hS rfl hl.1 (Nat.le_of_ble_eq_true rfl) dX2_does_697 rfl ⟨(by (try dsimp only); omega), (by (try dsimp only); omega)⟩ (fun _ _ _ _ _ _ h9 => h9.elim) (fun v_20 M_21 H locs hp_22 hM hS => ?_)
    obtain ⟨q_23, nq_24, rfl, eM_21⟩ := hp_22
    rw [eM_21] at hM
    have ne_25 : mo ≠ q_23 := (mm_neN hm2 nq_24)
    have ne_26 : kd ≠ q_23 := (mm_neN hc_14 nq_24)
    have ne_27 : wh ≠ q_23 := (mm_neN hc_15 nq_24)
    have ne_28 : f1 ≠ q_23 := (mm_neN hc_16 nq_24)
    have ne_29 : f2 ≠ q_23 := (mm_neN hc_17 nq_24)
    have ne_30 : f3 ≠ q_23 := (mm_neN hc_18 nq_24)
    have ne_31 : a1 ≠ q_23 := (mm_neN hc_19 nq_24)
    have ne_32 : a2 ≠ q_23 := (mm_neN ham2 nq_24)
    replace hM : mm_P Z.1 mm_cl A (mm_U M_12 q_23 (.inr (32, [.int 1, .int (nI (n1 + n2)), .null, .null, .null]))) H := hM
    have hc_33 : (mm_U M_12 q_23 (.inr (32, [.int 1, .int (nI (n1 + n2)), .null, .null, .null]))) q_23 = some (.inr (32, [.int 1, .int (nI (n1 + n2)), .null, .null, .null])) := mm_U_eq
    have hc_34 : (mm_U M_12 q_23 (.inr (32, [.int 1, .int (nI (n1 + n2)), .null, .null, .null]))) mo = some (.inr (1, [.int tm, .ref kd, .ref wh, .ref f1, .ref f2, .ref f3, .ref wg, .int ea, .int sp, va_rf rt, .int th, .int ak, .int wr, .ref pl, .int (nI c2), .int (mm_b false), .long st])) := (mm_U_ne ne_25).trans hm2
    have hc_35 : (mm_U M_12 q_23 (.inr (32, [.int 1, .int (nI (n1 + n2)), .null, .null, .null]))) kd = some (.inl (Z.2.1 0, 120, .inl g0)) := (mm_U_ne ne_26).trans hc_14
    have hc_36 : (mm_U M_12 q_23 (.inr (32, [.int 1, .int (nI (n1 + n2)), .null, .null, .null]))) wh = some (.inl (Z.2.1 0, 120, .inl g1)) := (mm_U_ne ne_27).trans hc_15
    have hc_37 : (mm_U M_12 q_23 (.inr (32, [.int 1, .int (nI (n1 + n2)), .null, .null, .null]))) f1 = some (.inl (Z.2.1 0, 120, .inl g2)) := (mm_U_ne ne_28).trans hc_16
    have hc_38 : (mm_U M_12 q_23 (.inr (32, [.int 1, .int (nI (n1 + n2)), .null, .null, .null]))) f2 = some (.inl (Z.2.1 0, 120, .inl g3)) := (mm_U_ne ne_29).trans hc_17
    have hc_39 : (mm_U M_12 q_23 (.inr (32, [.int 1, .int (nI (n1 + n2)), .null, .null, .null]))) f3 = some (.inl (Z.2.1 0, 120, .inl g4)) := (mm_U_ne ne_30).trans hc_18
    have hc_40 : (mm_U M_12 q_23 (.inr (32, [.int 1, .int (nI (n1 + n2)), .null, .null, .null]))) a1 = some (.inr (32, [.int 1, .int (nI n1), .null, .null, .null])) := (mm_U_ne ne_31).trans hc_19
    have hc_41 : (mm_U M_12 q_23 (.inr (32, [.int 1, .int (nI (n1 + n2)), .null, .null, .null]))) a2 = some (.inr (32, [.int 1, .int (nI n2), .null, .null, .null])) := (mm_U_ne ne_32).trans ham2
    obtain ⟨M_42, eM_42⟩ : ∃ z, z = mm_U M_12 q_23 (.inr (32, [.int 1, .int (nI (n1 + n2)), .null, .null, .null])) := ⟨_, rfl⟩
    rw [← eM_42] at hM hc_34 hc_35 hc_36 hc_37 hc_38 hc_39 hc_40 hc_41 hc_33
    have kx_43 : mm_Ext M_12 M_42 := by rw [eM_42]; exact ((mm_Ext.rf _).UU nq_24)
    have e4_44 := e42.trans kx_43.Exp
    obtain rfl : res = some (.natCast (n1 + n2), c2) := (Option.some.inj hpe2).symm
    exact mm_reta hx hb hr (Or.inl ⟨_, rfl⟩) (Or.inr ⟨_, rfl⟩) hlk hM hS (Or.inl ⟨.natCast (n1 + n2), c2, q_23, rfl, rfl, by simp only [mr]; exact ⟨_, rfl, hc_33⟩, hc_34, hx1.trans e4_44⟩) dX2_does_700 (by (try dsimp only); omega) (by (try dsimp only); omega)
  rw [if_neg hk13] at hpe4
  by_cases hk14 : r.1 = 14
  · skip
    rw [if_pos hk14] at hpe4
    obtain ⟨r1, hxp1⟩ := pb_ne hpe4
    obtain ⟨j1, hj1, hr1⟩ := at_some hxp1
    have hro1 := us_pb (n0 := n0) hpe4 hxp1 (mono_at (fun j => hmr _ _ _ (by omega))) (fun _ _ _ _ => (by repeat' (first | exact mono_none _ | exact mono_ret (by omega) | exact hmr _ _ _ (by omega) | exact mono_same (by omega) | exact mono_cas hmr (by omega) | (refine mono_app hmr (by omega) ?_) | (refine mono_pb ?_ (fun _ _ _ _ => ?_)) | (refine mono_at (fun _ => ?_)) | split))) (by omega) (by omega)
    refine lv_aload_n hx hb dX2_does_27 rfl (lv_at hl 0 rfl) ?_
    refine va_get (D := Z.1) (ci := 1) (v := .ref kd) (C := RX2) (T := TX2) (N := 17) hx hb hts in_X2 hown hE.1 (hM.at HMO) 0 rfl mm_cX2 1 (by decide) (hts _ q2379) (fun _ h9 => h9) rfl dX2_does_28 ?_
    refine lv_iload_n hx hb dX2_does_31 rfl (lv_at hl 1 rfl) ?_
    refine mm_ialdK (k := t) hx hb hE hM ea0 rfl htl (by decide) dX2_does_32 ?_
    rw [show (g0 t : Int32) = 14 from ((hg _ _ hrr).1.trans hk14)]
    refine lv_if_eq (tgt := 77) hx hb dX2_does_33 (by decide) (fun h9 => absurd h9 (by decide)) (fun _ => ?_)
    refine lv_aload_n hx hb dX2_does_36 rfl (lv_at hl 0 rfl) ?_
    refine va_get (D := Z.1) (ci := 1) (v := .ref kd) (C := RX2) (T := TX2) (N := 17) hx hb hts in_X2 hown hE.1 (hM.at HMO) 0 rfl mm_cX2 1 (by decide) (hts _ q2379) (fun _ h9 => h9) rfl dX2_does_37 ?_
    refine lv_iload_n hx hb dX2_does_40 rfl (lv_at hl 1 rfl) ?_
    refine mm_ialdK (k := t) hx hb hE hM ea0 rfl htl (by decide) dX2_does_41 ?_
    rw [show (g0 t : Int32) = 14 from ((hg _ _ hrr).1.trans hk14)]
    refine lv_iconst (v := 1) hx hb dX2_does_42 (by decide) ?_
    refine lv_icmp_eq (tgt := 77) hx hb dX2_does_43 (by decide) (fun h9 => absurd h9 (by decide)) (fun _ => ?_)
    refine lv_aload_n hx hb dX2_does_46 rfl (lv_at hl 0 rfl) ?_
    refine va_get (D := Z.1) (ci := 1) (v := .ref kd) (C := RX2) (T := TX2) (N := 17) hx hb hts in_X2 hown hE.1 (hM.at HMO) 0 rfl mm_cX2 1 (by decide) (hts _ q2379) (fun _ h9 => h9) rfl dX2_does_47 ?_
    refine lv_iload_n hx hb dX2_does_50 rfl (lv_at hl 1 rfl) ?_
    refine mm_ialdK (k := t) hx hb hE hM ea0 rfl htl (by decide) dX2_does_51 ?_
    rw [show (g0 t : Int32) = 14 from ((hg _ _ hrr).1.trans hk14)]
    refine lv_iconst (v := 2) hx hb dX2_does_52 (by decide) ?_
    refine lv_icmp_eq (tgt := 77) hx hb dX2_does_53 (by decide) (fun h9 => absurd h9 (by decide)) (fun _ => ?_)
    refine lv_aload_n hx hb dX2_does_56 rfl (lv_at hl 0 rfl) ?_
    refine va_get (D := Z.1) (ci := 1) (v := .ref kd) (C := RX2) (T := TX2) (N := 17) hx hb hts in_X2 hown hE.1 (hM.at HMO) 0 rfl mm_cX2 1 (by decide) (hts _ q2379) (fun _ h9 => h9) rfl dX2_does_57 ?_
    refine lv_iload_n hx hb dX2_does_60 rfl (lv_at hl 1 rfl) ?_
    refine mm_ialdK (k := t) hx hb hE hM ea0 rfl htl (by decide) dX2_does_61 ?_
    rw [show (g0 t : Int32) = 14 from ((hg _ _ hrr).1.trans hk14)]
    refine lv_bipush (v := 6) hx hb dX2_does_62 (by decide) ?_
    refine lv_icmp_eq (tgt := 77) hx hb dX2_does_64 (by decide) (fun h9 => absurd h9 (by decide)) (fun _ => ?_)
    refine lv_aload_n hx hb dX2_does_67 rfl (lv_at hl 0 rfl) ?_
    refine va_get (D := Z.1) (ci := 1) (v := .ref kd) (C := RX2) (T := TX2) (N := 17) hx hb hts in_X2 hown hE.1 (hM.at HMO) 0 rfl mm_cX2 1 (by decide) (hts _ q2379) (fun _ h9 => h9) rfl dX2_does_68 ?_
    refine lv_iload_n hx hb dX2_does_71 rfl (lv_at hl 1 rfl) ?_
    refine mm_ialdK (k := t) hx hb hE hM ea0 rfl htl (by decide) dX2_does_72 ?_
    rw [show (g0 t : Int32) = 14 from ((hg _ _ hrr).1.trans hk14)]
    refine lv_iconst (v := 5) hx hb dX2_does_73 (by decide) ?_
    refine lv_icmp_ne (tgt := 81) hx hb dX2_does_74 (by decide) (fun _ => ?_) (fun h9 => absurd h9 (by decide))
    refine lv_aload_n hx hb dX2_does_81 rfl (lv_at hl 0 rfl) ?_
    refine lv_aload_n hx hb dX2_does_82 rfl (lv_at hl 0 rfl) ?_
    refine va_get (D := Z.1) (ci := 1) (v := .ref f1) (C := RX2) (T := TX2) (N := 17) hx hb hts in_X2 hown hE.1 (hM.at HMO) 0 rfl mm_cX2 3 (by decide) (hts _ q2381) (fun _ h9 => h9) rfl dX2_does_83 ?_
    refine lv_iload_n hx hb dX2_does_86 rfl (lv_at hl 1 rfl) ?_
    refine mm_ialdK (k := t) hx hb hE hM ea2 rfl htl (by decide) dX2_does_87 ?_
    rw [show (g2 t : Int32) = nI j1 from ((hg _ _ hrr).2.2.1.trans (pt_i_at hj1))]
    refine mm_aload_n hx hb dX2_does_88 rfl (lv_at hl 2 rfl) ?_
    refine mm_callV (As := [.int (nI j1), va_rf sc]) (rest := []) ⟨hx, hb, hml, hown, hts⟩ hE hST hA (ih j1 (en) (n0 + 1) r1 M_2 sc HMO ((e40.Km HMO).mdA hA1) (by omega) (mr.mono (e40.Km HMO) _ _ _ _ hsc) hr1) (cwV 2 hts (lw_V q2769 q2771 qs47 q54 q2772) rfl rfl rfl (by decide +kernel) ⟨(by (try dsimp only); omega), (by (try dsimp only); omega)⟩) hM hS mm_cX2 HMO rfl hl.1 (Nat.le_of_ble_eq_true rfl) dX2_does_89 rfl ⟨(by (try dsimp only); omega), (by (try dsimp only); omega)⟩ (fun _ _ _ _ _ _ h9 => h9.elim) (fun v_3 M_4 H locs hp_5 hM hS => ?_)
    rcases hp_5.symm with ⟨rfl, rfl, hmf, hxf⟩ | ⟨w1, c1, a1, rfl, rfl, hw1, hm1, hxx1⟩
    · skip
      have hu9 : us (n0 + 1) (none : Option (ev × Nat)) = 1001 - (n0 + 1) := rfl
      refine lv_astore_nN (lv' := [(3, .null), (0, .ref mo), (1, .int (nI t)), (2, va_rf sc)]) hx hb dX2_does_92 rfl hl (by decide) (by simp [mm_cat_o, mm_cat_r, mm_cat_i, mm_cat_n, mm_cat_l] <;> decide) (fun ls hl => ?_)
      refine lv_aload_n hx hb dX2_does_93 rfl (lv_at hl 1 rfl) ?_
      refine va_get (D := Z.1) (ci := 1) (v := .int (mm_b true)) (C := RX2) (T := TX2) (N := 17) hx hb hts in_X2 hown hE.1 (hM.at hmf) 0 rfl mm_cX2 15 (by decide) (hts _ q2393) (fun _ h9 => h9) rfl dX2_does_94 ?_
      refine lv_if_eq (tgt := 102) hx hb dX2_does_97 (by decide) (fun h9 => absurd h9 (by decide)) (fun _ => ?_)
      refine lv_null hx hb dX2_does_100 ?_
      exact mm_reta hx hb hr (Or.inl ⟨_, rfl⟩) (Or.inl rfl) hlk hM hS (Or.inr ⟨hro1.2.1 rfl, rfl, hmf, hx1.trans (e40.trans hxf)⟩) dX2_does_101 (by (try dsimp only); omega) (by (try dsimp only); omega)
    obtain ⟨hpe1, hca1, hcb1⟩ := hro1.2.2 w1 c1 rfl
    have hu1 : us (n0 + 1) (some (w1, c1)) = c1 - (n0 + 1) := rfl
    have e41 := e40.trans hxx1
    have hc_6 := hxx1.atMA HMO ea0
    have hc_7 := hxx1.atMA HMO ea1
    have hc_8 := hxx1.atMA HMO ea2
    have hc_9 := hxx1.atMA HMO ea3
    have hc_10 := hxx1.atMA HMO ea4
    obtain ⟨r2, hxp2⟩ := pb_ne hpe1
    obtain ⟨j2, hj2, hr2⟩ := at_some hxp2
    have hro2 := us_pb (n0 := n0) hpe1 hxp2 (mono_at (fun j => hmr _ _ _ (by omega))) (fun _ _ _ _ => (by repeat' (first | exact mono_none _ | exact mono_ret (by omega) | exact hmr _ _ _ (by omega) | exact mono_same (by omega) | exact mono_cas hmr (by omega) | (refine mono_app hmr (by omega) ?_) | (refine mono_pb ?_ (fun _ _ _ _ => ?_)) | (refine mono_at (fun _ => ?_)) | split))) (by omega) (by omega)
    refine lv_astore_n (lv' := [(3, .ref a1), (0, .ref mo), (1, .int (nI t)), (2, va_rf sc)]) hx hb dX2_does_92 rfl hl (by decide) (by simp [mm_cat_o, mm_cat_r, mm_cat_i, mm_cat_n, mm_cat_l] <;> decide) (fun ls hl => ?_)
    refine lv_aload_n hx hb dX2_does_93 rfl (lv_at hl 1 rfl) ?_
    refine va_get (D := Z.1) (ci := 1) (v := .int (mm_b false)) (C := RX2) (T := TX2) (N := 17) hx hb hts in_X2 hown hE.1 (hM.at hm1) 0 rfl mm_cX2 15 (by decide) (hts _ q2393) (fun _ h9 => h9) rfl dX2_does_94 ?_
    refine lv_if_eq (tgt := 102) hx hb dX2_does_97 (by decide) (fun _ => ?_) (fun h9 => absurd (by decide) h9)
    refine lv_aload_n hx hb dX2_does_102 rfl (lv_at hl 1 rfl) ?_
    refine va_get (D := Z.1) (ci := 1) (v := .ref kd) (C := RX2) (T := TX2) (N := 17) hx hb hts in_X2 hown hE.1 (hM.at hm1) 0 rfl mm_cX2 1 (by decide) (hts _ q2379) (fun _ h9 => h9) rfl dX2_does_103 ?_
    refine lv_iload_n hx hb dX2_does_106 rfl (lv_at hl 2 rfl) ?_
    refine mm_ialdK (k := t) hx hb hE hM hc_6 rfl htl (by decide) dX2_does_107 ?_
    rw [show (g0 t : Int32) = 14 from ((hg _ _ hrr).1.trans hk14)]
    refine lv_iconst (v := 3) hx hb dX2_does_108 (by decide) ?_
    refine lv_icmp_eq (tgt := 145) hx hb dX2_does_109 (by decide) (fun h9 => absurd h9 (by decide)) (fun _ => ?_)
    refine lv_aload_n hx hb dX2_does_112 rfl (lv_at hl 1 rfl) ?_
    refine va_get (D := Z.1) (ci := 1) (v := .ref kd) (C := RX2) (T := TX2) (N := 17) hx hb hts in_X2 hown hE.1 (hM.at hm1) 0 rfl mm_cX2 1 (by decide) (hts _ q2379) (fun _ h9 => h9) rfl dX2_does_113 ?_
    refine lv_iload_n hx hb dX2_does_116 rfl (lv_at hl 2 rfl) ?_
    refine mm_ialdK (k := t) hx hb hE hM hc_6 rfl htl (by decide) dX2_does_117 ?_
    rw [show (g0 t : Int32) = 14 from ((hg _ _ hrr).1.trans hk14)]
    refine lv_bipush (v := 7) hx hb dX2_does_118 (by decide) ?_
    refine lv_icmp_eq (tgt := 145) hx hb dX2_does_120 (by decide) (fun h9 => absurd h9 (by decide)) (fun _ => ?_)
    refine lv_aload_n hx hb dX2_does_123 rfl (lv_at hl 1 rfl) ?_
    refine va_get (D := Z.1) (ci := 1) (v := .ref kd) (C := RX2) (T := TX2) (N := 17) hx hb hts in_X2 hown hE.1 (hM.at hm1) 0 rfl mm_cX2 1 (by decide) (hts _ q2379) (fun _ h9 => h9) rfl dX2_does_124 ?_
    refine lv_iload_n hx hb dX2_does_127 rfl (lv_at hl 2 rfl) ?_
    refine mm_ialdK (k := t) hx hb hE hM hc_6 rfl htl (by decide) dX2_does_128 ?_
    rw [show (g0 t : Int32) = 14 from ((hg _ _ hrr).1.trans hk14)]
    refine lv_bipush (v := 13) hx hb dX2_does_129 (by decide) ?_
    refine lv_icmp_eq (tgt := 145) hx hb dX2_does_131 (by decide) (fun h9 => absurd h9 (by decide)) (fun _ => ?_)
    refine lv_aload_n hx hb dX2_does_134 rfl (lv_at hl 1 rfl) ?_
    refine va_get (D := Z.1) (ci := 1) (v := .ref kd) (C := RX2) (T := TX2) (N := 17) hx hb hts in_X2 hown hE.1 (hM.at hm1) 0 rfl mm_cX2 1 (by decide) (hts _ q2379) (fun _ h9 => h9) rfl dX2_does_135 ?_
    refine lv_iload_n hx hb dX2_does_138 rfl (lv_at hl 2 rfl) ?_
    refine mm_ialdK (k := t) hx hb hE hM hc_6 rfl htl (by decide) dX2_does_139 ?_
    rw [show (g0 t : Int32) = 14 from ((hg _ _ hrr).1.trans hk14)]
    refine lv_bipush (v := 14) hx hb dX2_does_140 (by decide) ?_
    refine lv_icmp_ne (tgt := 159) hx hb dX2_does_142 (by decide) (fun h9 => absurd (by decide) h9) (fun _ => ?_)
    refine lv_aload_n hx hb dX2_does_145 rfl (lv_at hl 1 rfl) ?_
    refine lv_aload_n hx hb dX2_does_146 rfl (lv_at hl 1 rfl) ?_
    refine va_get (D := Z.1) (ci := 1) (v := .ref f2) (C := RX2) (T := TX2) (N := 17) hx hb hts in_X2 hown hE.1 (hM.at hm1) 0 rfl mm_cX2 4 (by decide) (hts _ q2382) (fun _ h9 => h9) rfl dX2_does_147 ?_
    refine lv_iload_n hx hb dX2_does_150 rfl (lv_at hl 2 rfl) ?_
    refine mm_ialdK (k := t) hx hb hE hM hc_9 rfl htl (by decide) dX2_does_151 ?_
    rw [show (g3 t : Int32) = nI j2 from ((hg _ _ hrr).2.2.2.1.trans (pt_i_at hj2))]
    refine mm_aload_n hx hb dX2_does_152 rfl (lv_at hl 3 rfl) ?_
    refine mm_callV (As := [.int (nI j2), va_rf sc]) (rest := []) ⟨hx, hb, hml, hown, hts⟩ hE hST hA (ih j2 (en) (c1) r2 M_4 sc hm1 ((e41.Km HMO).mdA hA1) (by omega) (mr.mono (e41.Km HMO) _ _ _ _ hsc) hr2) (cwV 2 hts (lw_V q2769 q2771 qs47 q54 q2772) rfl rfl rfl (by decide +kernel) ⟨(by (try dsimp only); omega), (by (try dsimp only); omega)⟩) hM hS mm_cX2 hm1 rfl hl.1 (Nat.le_of_ble_eq_true rfl) dX2_does_153 rfl ⟨(by (try dsimp only); omega), (by (try dsimp only); omega)⟩ (fun _ _ _ _ _ _ h9 => h9.elim) (fun v_11 M_12 H locs hp_13 hM hS => ?_)
    rcases hp_13.symm with ⟨rfl, rfl, hmf, hxf⟩ | ⟨w2, c2, a2, rfl, rfl, hw2, hm2, hxx2⟩
    · skip
      have hu9 : us (c1) (none : Option (ev × Nat)) = 1001 - (c1) := rfl
      refine lv_goto (tgt := 160) hx hb dX2_does_156 (by decide) ?_
      refine lv_astoreN hx hb dX2_does_160 hl (by decide) rfl (fun ls hl => ?_)
      replace hl : lv_has ls 12 [(4, .null), (3, .ref a1), (0, .ref mo), (1, .int (nI t)), (2, va_rf sc)] := hl
      refine lv_aload_n hx hb dX2_does_162 rfl (lv_at hl 2 rfl) ?_
      refine va_get (D := Z.1) (ci := 1) (v := .int (mm_b true)) (C := RX2) (T := TX2) (N := 17) hx hb hts in_X2 hown hE.1 (hM.at hmf) 0 rfl mm_cX2 15 (by decide) (hts _ q2393) (fun _ h9 => h9) rfl dX2_does_163 ?_
      refine lv_if_eq (tgt := 171) hx hb dX2_does_166 (by decide) (fun h9 => absurd h9 (by decide)) (fun _ => ?_)
      refine lv_null hx hb dX2_does_169 ?_
      exact mm_reta hx hb hr (Or.inl ⟨_, rfl⟩) (Or.inl rfl) hlk hM hS (Or.inr ⟨hro2.2.1 rfl, rfl, hmf, hx1.trans (e41.trans hxf)⟩) dX2_does_170 (by (try dsimp only); omega) (by (try dsimp only); omega)
    obtain ⟨hpe2, hca2, hcb2⟩ := hro2.2.2 w2 c2 rfl
    have hu2 : us (c1) (some (w2, c2)) = c2 - (c1) := rfl
    have e42 := e41.trans hxx2
    have hc_14 := hxx2.atMA hm1 hc_6
    have hc_15 := hxx2.atMA hm1 hc_7
    have hc_16 := hxx2.atMA hm1 hc_8
    have hc_17 := hxx2.atMA hm1 hc_9
    have hc_18 := hxx2.atMA hm1 hc_10
    obtain ⟨r3, hxp3⟩ := pb_ne hpe2
    have hro3 := us_pb (n0 := n0) hpe2 hxp3 (mono_same (by omega)) (fun _ _ _ _ => (by repeat' (first | exact mono_none _ | exact mono_ret (by omega) | exact hmr _ _ _ (by omega) | exact mono_same (by omega) | exact mono_cas hmr (by omega) | (refine mono_app hmr (by omega) ?_) | (refine mono_pb ?_ (fun _ _ _ _ => ?_)) | (refine mono_at (fun _ => ?_)) | split))) (by omega) (by omega)
    refine lv_goto (tgt := 160) hx hb dX2_does_156 (by decide) ?_
    refine lv_astore hx hb dX2_does_160 hl (by decide) rfl (fun ls hl => ?_)
    replace hl : lv_has ls 12 [(4, .ref a2), (3, .ref a1), (0, .ref mo), (1, .int (nI t)), (2, va_rf sc)] := hl
    refine lv_aload_n hx hb dX2_does_162 rfl (lv_at hl 2 rfl) ?_
    refine va_get (D := Z.1) (ci := 1) (v := .int (mm_b false)) (C := RX2) (T := TX2) (N := 17) hx hb hts in_X2 hown hE.1 (hM.at hm2) 0 rfl mm_cX2 15 (by decide) (hts _ q2393) (fun _ h9 => h9) rfl dX2_does_163 ?_
    refine lv_if_eq (tgt := 171) hx hb dX2_does_166 (by decide) (fun _ => ?_) (fun h9 => absurd (by decide) h9)
    refine lv_aload_n hx hb dX2_does_171 rfl (lv_at hl 2 rfl) ?_
    refine va_get (D := Z.1) (ci := 1) (v := .ref kd) (C := RX2) (T := TX2) (N := 17) hx hb hts in_X2 hown hE.1 (hM.at hm2) 0 rfl mm_cX2 1 (by decide) (hts _ q2379) (fun _ h9 => h9) rfl dX2_does_172 ?_
    refine lv_iload_n hx hb dX2_does_175 rfl (lv_at hl 3 rfl) ?_
    refine mm_ialdK (k := t) hx hb hE hM hc_14 rfl htl (by decide) dX2_does_176 ?_
    rw [show (g0 t : Int32) = 14 from ((hg _ _ hrr).1.trans hk14)]
    refine lv_tableOut (tgt := 701) hx hb dX2_does_177 (by decide) (by decide) ?_
    refine lv_aload_n hx hb dX2_does_701 rfl (lv_at hl 2 rfl) ?_
    refine lv_aload_n hx hb dX2_does_702 rfl (lv_at hl 1 rfl) ?_
    refine lv_aload hx hb dX2_does_703 (lv_at hl 0 rfl) ?_
    refine mm_callV (As := [.ref a1, .ref a2]) (rest := []) ⟨hx, hb, hml, hown, hts⟩ hE hST hA (c_X2_areSame l Z T mo (SizeOf.sizeOf w1 + 1) w1 w2 c2 r3 M_12 a1 a2 (Nat.lt_succ_self _) hm2 (by omega) (mr.mono ((mm_Km.rf _).trans (hxx2.Km hm1)) _ _ _ _ hw1) hw2 hxp3) (cwV 2 hts (lw_V q2825 q2827 qs48 q54 q2828) rfl rfl rfl (by decide +kernel) ⟨(by (try dsimp only); omega), (by (try dsimp only); omega)⟩) hM hS mm_cX2 hm2 rfl hl.1 (Nat.le_of_ble_eq_true rfl) dX2_does_705 rfl ⟨(by (try dsimp only); omega), (by (try dsimp only); omega)⟩ (fun _ _ _ _ _ _ h9 => h9.elim) (fun v_19 M_20 H locs hp_21 hM hS => ?_)
    rcases hp_21.symm with ⟨rfl, rfl, hmf, hxf⟩ | ⟨bb, c3, rfl, rfl, hm3, hxx3⟩
    · skip
      refine lv_istore hx hb dX2_does_708 hl (by decide) rfl (fun ls hl => ?_)
      replace hl : lv_has ls 12 [(11, .int 0), (4, .ref a2), (3, .ref a1), (0, .ref mo), (1, .int (nI t)), (2, va_rf sc)] := hl
      refine lv_aload_n hx hb dX2_does_710 rfl (lv_at hl 3 rfl) ?_
      refine va_get (D := Z.1) (ci := 1) (v := .int (mm_b true)) (C := RX2) (T := TX2) (N := 17) hx hb hts in_X2 hown hE.1 (hM.at hmf) 0 rfl mm_cX2 15 (by decide) (hts _ q2393) (fun _ h9 => h9) rfl dX2_does_711 ?_
      refine lv_if_eq (tgt := 721) hx hb dX2_does_714 (by decide) (fun h9 => absurd h9 (by decide)) (fun _ => ?_)
      refine lv_null hx hb dX2_does_717 ?_
      refine lv_goto (tgt := 735) hx hb dX2_does_718 (by decide) ?_
      exact mm_reta hx hb hr (Or.inl ⟨_, rfl⟩) (Or.inl rfl) hlk hM hS (Or.inr ⟨hro3.2.1 rfl, rfl, hmf, hx1.trans (e42.trans hxf)⟩) dX2_does_735 (by (try dsimp only); omega) (by (try dsimp only); omega)
    obtain ⟨hpe3, hca3, hcb3⟩ := hro3.2.2 bb c3 rfl
    have e43 := e42.trans hxx3
    cases bb
    · skip
      refine lv_istore hx hb dX2_does_708 hl (by decide) rfl (fun ls hl => ?_)
      replace hl : lv_has ls 12 [(11, .int (mm_b false)), (4, .ref a2), (3, .ref a1), (0, .ref mo), (1, .int (nI t)), (2, va_rf sc)] := hl
      refine lv_aload_n hx hb dX2_does_710 rfl (lv_at hl 3 rfl) ?_
      refine va_get (D := Z.1) (ci := 1) (v := .int (mm_b false)) (C := RX2) (T := TX2) (N := 17) hx hb hts in_X2 hown hE.1 (hM.at hm3) 0 rfl mm_cX2 15 (by decide) (hts _ q2393) (fun _ h9 => h9) rfl dX2_does_711 ?_
      refine lv_if_eq (tgt := 721) hx hb dX2_does_714 (by decide) (fun _ => ?_) (fun h9 => absurd (by decide) h9)
      refine lv_iconst (v := 1) hx hb dX2_does_721 (by decide) ?_
      refine lv_iload hx hb dX2_does_722 (lv_at hl 0 rfl) ?_
      refine lv_if_eq (tgt := 731) hx hb dX2_does_724 (by decide) (fun _ => ?_) (fun h9 => absurd (by decide) h9)
      refine lv_iconst (v := 0) hx hb dX2_does_731 (by decide) ?_
      refine mm_callS (As := [.int 1, .int 0]) (rest := []) ⟨hx, hb, hml, hown, hts⟩ hE hST hA (c_X2_value l Z (M := M_20) (x1 := 1) (x2 := 0) ) (va_cwS 2 hts (lw_S q2773 q2774 q54 q2775) rfl rfl rfl (by decide +kernel) ⟨(by (try dsimp only); omega), (by (try dsimp only); omega)⟩) hM hS rfl hl.1 (Nat.le_of_ble_eq_true rfl) dX2_does_732 rfl ⟨(by (try dsimp only); omega), (by (try dsimp only); omega)⟩ (fun _ _ _ _ _ _ h9 => h9.elim) (fun v_22 M_23 H locs hp_24 hM hS => ?_)
      obtain ⟨q_25, nq_26, rfl, eM_23⟩ := hp_24
      rw [eM_23] at hM
      have ne_27 : mo ≠ q_25 := (mm_neN hm3 nq_26)
      replace hM : mm_P Z.1 mm_cl A (mm_U M_20 q_25 (.inr (32, [.int 1, .int 0, .null, .null, .null]))) H := hM
      have hc_28 : (mm_U M_20 q_25 (.inr (32, [.int 1, .int 0, .null, .null, .null]))) q_25 = some (.inr (32, [.int 1, .int 0, .null, .null, .null])) := mm_U_eq
      have hc_29 : (mm_U M_20 q_25 (.inr (32, [.int 1, .int 0, .null, .null, .null]))) mo = some (.inr (1, [.int tm, .ref kd, .ref wh, .ref f1, .ref f2, .ref f3, .ref wg, .int ea, .int sp, va_rf rt, .int th, .int ak, .int wr, .ref pl, .int (nI c3), .int (mm_b false), .long st])) := (mm_U_ne ne_27).trans hm3
      obtain ⟨M_30, eM_30⟩ : ∃ z, z = mm_U M_20 q_25 (.inr (32, [.int 1, .int 0, .null, .null, .null])) := ⟨_, rfl⟩
      rw [← eM_30] at hM hc_29 hc_28
      have kx_31 : mm_Ext M_20 M_30 := by rw [eM_30]; exact ((mm_Ext.rf _).UU nq_26)
      have e4_32 := e43.trans kx_31.Exp
      obtain rfl : res = some (.natCast 0, c3) := (Option.some.inj hpe3).symm
      exact mm_reta hx hb hr (Or.inl ⟨_, rfl⟩) (Or.inr ⟨_, rfl⟩) hlk hM hS (Or.inl ⟨.natCast 0, c3, q_25, rfl, rfl, by simp only [mr]; exact ⟨_, rfl, hc_28⟩, hc_29, hx1.trans e4_32⟩) dX2_does_735 (by (try dsimp only); omega) (by (try dsimp only); omega)
    · skip
      refine lv_istore hx hb dX2_does_708 hl (by decide) rfl (fun ls hl => ?_)
      replace hl : lv_has ls 12 [(11, .int (mm_b true)), (4, .ref a2), (3, .ref a1), (0, .ref mo), (1, .int (nI t)), (2, va_rf sc)] := hl
      refine lv_aload_n hx hb dX2_does_710 rfl (lv_at hl 3 rfl) ?_
      refine va_get (D := Z.1) (ci := 1) (v := .int (mm_b false)) (C := RX2) (T := TX2) (N := 17) hx hb hts in_X2 hown hE.1 (hM.at hm3) 0 rfl mm_cX2 15 (by decide) (hts _ q2393) (fun _ h9 => h9) rfl dX2_does_711 ?_
      refine lv_if_eq (tgt := 721) hx hb dX2_does_714 (by decide) (fun _ => ?_) (fun h9 => absurd (by decide) h9)
      refine lv_iconst (v := 1) hx hb dX2_does_721 (by decide) ?_
      refine lv_iload hx hb dX2_does_722 (lv_at hl 0 rfl) ?_
      refine lv_if_eq (tgt := 731) hx hb dX2_does_724 (by decide) (fun h9 => absurd h9 (by decide)) (fun _ => ?_)
      refine lv_iconst (v := 1) hx hb dX2_does_727 (by decide) ?_
      refine lv_goto (tgt := 732) hx hb dX2_does_728 (by decide) ?_
      refine mm_callS (As := [.int 1, .int 1]) (rest := []) ⟨hx, hb, hml, hown, hts⟩ hE hST hA (c_X2_value l Z (M := M_20) (x1 := 1) (x2 := 1) ) (va_cwS 2 hts (lw_S q2773 q2774 q54 q2775) rfl rfl rfl (by decide +kernel) ⟨(by (try dsimp only); omega), (by (try dsimp only); omega)⟩) hM hS rfl hl.1 (Nat.le_of_ble_eq_true rfl) dX2_does_732 rfl ⟨(by (try dsimp only); omega), (by (try dsimp only); omega)⟩ (fun _ _ _ _ _ _ h9 => h9.elim) (fun v_22 M_23 H locs hp_24 hM hS => ?_)
      obtain ⟨q_25, nq_26, rfl, eM_23⟩ := hp_24
      rw [eM_23] at hM
      have ne_27 : mo ≠ q_25 := (mm_neN hm3 nq_26)
      replace hM : mm_P Z.1 mm_cl A (mm_U M_20 q_25 (.inr (32, [.int 1, .int 1, .null, .null, .null]))) H := hM
      have hc_28 : (mm_U M_20 q_25 (.inr (32, [.int 1, .int 1, .null, .null, .null]))) q_25 = some (.inr (32, [.int 1, .int 1, .null, .null, .null])) := mm_U_eq
      have hc_29 : (mm_U M_20 q_25 (.inr (32, [.int 1, .int 1, .null, .null, .null]))) mo = some (.inr (1, [.int tm, .ref kd, .ref wh, .ref f1, .ref f2, .ref f3, .ref wg, .int ea, .int sp, va_rf rt, .int th, .int ak, .int wr, .ref pl, .int (nI c3), .int (mm_b false), .long st])) := (mm_U_ne ne_27).trans hm3
      obtain ⟨M_30, eM_30⟩ : ∃ z, z = mm_U M_20 q_25 (.inr (32, [.int 1, .int 1, .null, .null, .null])) := ⟨_, rfl⟩
      rw [← eM_30] at hM hc_29 hc_28
      have kx_31 : mm_Ext M_20 M_30 := by rw [eM_30]; exact ((mm_Ext.rf _).UU nq_26)
      have e4_32 := e43.trans kx_31.Exp
      obtain rfl : res = some (.natCast 1, c3) := (Option.some.inj hpe3).symm
      exact mm_reta hx hb hr (Or.inl ⟨_, rfl⟩) (Or.inr ⟨_, rfl⟩) hlk hM hS (Or.inl ⟨.natCast 1, c3, q_25, rfl, rfl, by simp only [mr]; exact ⟨_, rfl, hc_28⟩, hc_29, hx1.trans e4_32⟩) dX2_does_735 (by (try dsimp only); omega) (by (try dsimp only); omega)
  rw [if_neg hk14] at hpe4
  cases hpe4
