/-! ===== the model: compares ===== -/
set_option maxRecDepth 100000
/-- a Wrong er was thrown: at q -/
def mX (M : mm_M) (er : Int32) (E : String) (q : Nat) (M' : mm_M) : Prop := E = "RowenTongueModel$Wrong" ∧ M q = none ∧ M' q = some (.inr (21, [.null, .null, .null, .null, .null, .int 0, .int er])) ∧ mK M M'
theorem mX.of {M M' : mm_M} {er : Int32} {E : String} {q : Nat} (h : E = "RowenTongueModel$Wrong" ∧ M q = none ∧ M' = mm_U M q (.inr (21, [.null, .null, .null, .null, .null, .int 0, .int er]))) : mX M er E q M' := by
  obtain ⟨h1, h2, h3⟩ := h
  rw [h3]
  exact ⟨h1, h2, mm_U_eq, (mm_Ext.U h2).mK⟩
theorem mX.after {M N M' : mm_M} {er : Int32} {E : String} {q : Nat} (h : mX N er E q M') (hK : mK M N) : mX M er E q M' := ⟨h.1, Classical.byContradiction fun h9 => hK.hasN h9 h.2.1, h.2.2.1, hK.trans h.2.2.2⟩
/-- what bears the mark and is no larger than s is without functions, all its variables are comparable -/
def mY (M : mm_M) (L : List Nat) (vr : Nat → Nat) (D : Nat → Bool) (S : ts) (mark : Int64) (s : Nat) : Prop := ∀ b ∈ L, mk M mark b → ∀ tb, mtp M L vr D tb false b → SizeOf.sizeOf (uap S.2.1 tb) ≤ s → uhf (uap S.2.1 tb) = false ∧ ∀ u, uoc u (uap S.2.1 tb) = true → S.2.2.1 u = true
def mY2 (M M' : mm_M) (L : List Nat) (vr : Nat → Nat) (D : Nat → Bool) (S : ts) (mark : Int64) : Prop := ∀ b ∈ L, mk M' mark b → mk M mark b ∨ ∀ tb, mtp M' L vr D tb false b → uhf (uap S.2.1 tb) = false ∧ ∀ u, uoc u (uap S.2.1 tb) = true → S.2.2.1 u = true
theorem mY.next {M M' : mm_M} {L : List Nat} {vr : Nat → Nat} {D : Nat → Bool} {S S' : ts} {mark : Int64} {s : Nat} (hC : mCI M L vr D S) (h : mY M L vr D S mark s) (h2 : mY2 M M' L vr D S' mark) (hL : mL mark M M') (e : S'.2.1 = S.2.1) (hm : ∀ u, S.2.2.1 u = true → S'.2.2.1 u = true) : mY M' L vr D S' mark s := fun b hb hk tb htb hz => by
  rcases h2 b hb hk with h3 | h3
  · obtain ⟨m, t0, h4⟩ := hC.2.2.1 b hb
    obtain ⟨rfl, rfl⟩ := mtp.uniq hC.1.2.2.1 _ _ _ _ _ htb (h4.light hL)
    rw [e] at hz ⊢
    obtain ⟨k1, k2⟩ := h b hb h3 tb h4 hz
    exact ⟨k1, fun u hu => hm u (k2 u hu)⟩
  · exact h3 tb htb
theorem mY2.trans {M N O : mm_M} {L : List Nat} {vr : Nat → Nat} {D : Nat → Bool} {S S' : ts} {mark : Int64} (hC : mCI N L vr D S) (h1 : mY2 M N L vr D S mark) (h2 : mY2 N O L vr D S' mark) (hL : mL mark N O) (e : S'.2.1 = S.2.1) (hm : ∀ u, S.2.2.1 u = true → S'.2.2.1 u = true) : mY2 M O L vr D S' mark := fun b hb hk => by
  rcases h2 b hb hk with h3 | h3
  · rcases h1 b hb h3 with h4 | h4
    · exact Or.inl h4
    · refine Or.inr fun tb htb => ?_
      obtain ⟨m, t0, h5⟩ := hC.2.2.1 b hb
      obtain ⟨rfl, rfl⟩ := mtp.uniq hC.1.2.2.1 _ _ _ _ _ htb (h5.light hL)
      rw [e]
      exact ⟨(h4 tb h5).1, fun u hu => hm u ((h4 tb h5).2 u hu)⟩
  · exact Or.inr h3
theorem mY2.rf {M : mm_M} {L : List Nat} {vr : Nat → Nat} {D : Nat → Bool} {S : ts} {mark : Int64} : mY2 M M L vr D S mark := fun _ _ h => Or.inl h
/-- a variable's flag changes -/
theorem mCI.setC {mark : Int64} {M M' : mm_M} {L : List Nat} {vr : Nat → Nat} {D : Nat → Bool} {S S' : ts} (hC : mCI M L vr D S) (hL : mL mark M M') (h1 : S'.1 = S.1) (h2 : S'.2.1 = S.2.1) (h3 : S'.2.2.2.1 = S.2.2.2.1) {u : Nat} (hu : D u = true) (hq : ∀ q, q ≠ vr u → M' q = M q) (hw : ∀ w, w ≠ u → S'.2.2.1 w = S.2.2.1 w)
    (hn : (∃ is sn cp, M' (vr u) = some (mt_E 0 is none none none (S'.2.2.1 u) sn cp) ∧ (is = none ↔ S.2.1 u = .var u)) ∨ ∃ is, M' (vr u) = some (mr_E 0 is 0 none none (S'.2.2.2.1 u) (S'.2.2.1 u)) ∧ (is = none ↔ S.2.1 u = .var u)) : mCI M' L vr D S' :=
  hC.light hL h1 h2 fun w hD => by
    by_cases e : w = u
    · subst e; exact hn
    · have hne : vr w ≠ vr u := fun e9 => e (hC.1.2.2.1 w u hD hu e9)
      rw [hq _ hne, hw w e, h3]
      exact (hC.2.1 w hD).2
theorem mL.putT {mark : Int64} {M : mm_M} {a : Nat} {k : Int32} {is fr to rw cp : Option Nat} {cm cm' : Bool} {sn : Int64} (h : M a = some (mt_E k is fr to rw cm sn cp)) : mL mark M (mm_U M a (mt_E k is fr to rw cm' sn cp)) := fun q e he => by
  by_cases hq : q = a
  · subst hq; rw [h] at he; cases he; exact Or.inr (Or.inl ⟨_, _, _, _, _, _, _, _, _, _, _, rfl, mm_U_eq, Or.inl rfl⟩)
  · exact Or.inl ((mm_U_ne hq).trans he)
theorem mL.putR {mark : Int64} {M : mm_M} {a : Nat} {is : Option Nat} {lk : Int32} {cm cm' : Bool} (h : M a = some (mr_E 0 is 0 none none lk cm)) : mL mark M (mm_U M a (mr_E 0 is 0 none none lk cm')) := fun q e he => by
  by_cases hq : q = a
  · subst hq; rw [h] at he; cases he; exact Or.inr (Or.inr ⟨_, _, _, _, rfl, mm_U_eq⟩)
  · exact Or.inl ((mm_U_ne hq).trans he)
theorem mY2.put {M : mm_M} {L : List Nat} {vr : Nat → Nat} {D : Nat → Bool} {S : ts} {mark : Int64} {a : Nat} {e : va_E} (h : mk (mm_U M a e) mark a → mk M mark a) : mY2 M (mm_U M a e) L vr D S mark := fun b hb hm => by
  by_cases hb : b = a
  · subst hb; exact Or.inl (h hm)
  · obtain ⟨k, is, fr, to, rw, cm, cp, h1⟩ := hm
    rw [mm_U_ne hb] at h1
    exact Or.inl ⟨_, _, _, _, _, _, _, h1⟩
theorem mL.atC {mark : Int64} {M M' : mm_M} {a ci : Nat} {fs : List Value} (h : mL mark M M') (ha : M a = some (.inr (ci, fs))) (hc : ci ≠ 20 ∧ ci ≠ 22) : M' a = some (.inr (ci, fs)) := by
  rcases h a _ ha with k1 | ⟨k2, is2, fr2, to2, rw2, cm2, sn2, cp2, cm3, sn3, cp3, e, k1, -⟩ | ⟨is2, lk2, cm2, cm3, e, k1⟩
  · exact k1
  · exact absurd (Prod.mk.inj (Sum.inr.inj e)).1 hc.1
  · exact absurd (Prod.mk.inj (Sum.inr.inj e)).1 hc.2
theorem mRow.lightL {mark : Int64} {M M' : mm_M} {L : List Nat} {vr : Nat → Nat} {D : Nat → Bool} {S : ts} {x r : ev} {ty rs : Nat} (hL : mL mark M M') (h1 : mtp M L vr D x false ty) (h2 : mtp M L vr D r true rs) : mtp M' L vr D x false ty ∧ mtp M' L vr D r true rs := ⟨h1.light hL, h2.light hL⟩
theorem ts_like_self {S : ts} {T : ev} (h : ∀ u, uoc u T = true → S.2.2.1 u = true) : ts_like S T = S := by
  have e : (fun u => S.2.2.1 u || uoc u T) = S.2.2.1 := by
    funext u
    cases h1 : uoc u T with
    | false => rw [Bool.or_false]
    | true => rw [h u h1]; rfl
  exact congrArg (fun f => ((S.1, S.2.1, f, S.2.2.2.1, S.2.2.2.2) : ts)) e
theorem ts_like_mono (S : ts) (T : ev) : ∀ u, S.2.2.1 u = true → (ts_like S T).2.2.1 u = true := fun u h => by simp [ts_like, h]

set_option maxHeartbeats 4000000 in
set_option maxRecDepth 100000 in
theorem c_compares (l : Launch) (Z : mm_G) (L : List Nat) (vr : Nat → Nat) (D : Nat → Bool) (mark : Int64) (N : Nat) : ∀ (T t : ev) (a : Nat) (M : mm_M) (S : ts), SizeOf.sizeOf T < N → uap S.2.1 t = T → mCI M L vr D S → mtp M L vr D t false a → mY M L vr D S mark (SizeOf.sizeOf T) → mm_D l Z yX2_compares (ws_ yX2_compares cX2_compares 5 none) { frames := uh T + 6, cells := 1, slots := 8, locals := 30 * uh T + 300 } [.ref a, .long mark] M (fun v M' n9 k9 => v = none ∧ n9 = 0 ∧ k9 = 0 ∧ uhf T = false ∧ mL mark M M' ∧ mCI M' L vr D (ts_like S T) ∧ mY2 M M' L vr D (ts_like S T) mark) (fun E q M' => uhf T = true ∧ mX M 5 E q M') := by
  induction N with
  | zero => exact fun _ _ _ _ _ h => absurd h (Nat.not_lt_zero _)
  | succ N ih =>
  intro T t a M S hz hT hC htp hmy
  refine mm_ofWD (cc := cX2_compares) (maxL := 5) (ret := none) (by decide) rfl (Nat.le_of_ble_eq_true rfl) ?_
  intro p e s m below meth c A ls hx hb hr hlk hml hown hmn hts htab hE hST hA hM hS hl
  replace hl : lv_has ls 5 [(0, .ref a), (1, .long mark)] := hl
  obtain ⟨d1, b1, t1, hn1, htb, he1, hbL, hcs⟩ := hC.nowT htp
  refine lv_aload_n hx hb dX2_compares_0 rfl (lv_at hl 0 rfl) ?_
  obtain ⟨-, k9, is9, fr9, to9, rw9, cm9, sn9, cp9, hq9⟩ := (htp).cellT
  refine mm_callV (As := []) (rest := []) ⟨hx, hb, hml, hown, hts⟩ hE hST hA (c_X25_now l Z hn1) (cwV 0 hts (lw_V q2604 q2605 q2606 q98 q2607) rfl rfl rfl (by decide +kernel) ⟨(by (try dsimp only); omega), (by (try dsimp only); omega)⟩) hM hS mm_cX25 hq9 rfl hl.1 (Nat.le_of_ble_eq_true rfl) dX2_compares_1 rfl ⟨(by (try dsimp only); omega), (by (try dsimp only); omega)⟩ (fun _ _ _ _ _ _ h9 => h9.elim) (fun v_1 M_2 H locs hp_3 hM hS => ?_)
  obtain ⟨rfl, eM_2⟩ := hp_3
  rw [eM_2] at hM
  refine lv_astore_n hx hb dX2_compares_4 rfl hl (by decide) rfl (fun ls hl => ?_)
  replace hl : lv_has ls 5 [(3, .ref b1), (0, .ref a), (1, .long mark)] := hl
  rcases hcs with ⟨eT, cm1, sn1, cp1, hb1⟩ | ⟨u, hu, eT, hsu, hbu, sn1, cp1, hb1⟩ | ⟨x1, y1, f1, g1, cm1, sn1, cp1, eT, hb1, hf1, hg1⟩ | ⟨r1, iv1, w1, cm1, sn1, cp1, eT, hb1, hw1⟩
  · skip
    rw [hT] at eT
    refine lv_aload_n hx hb dX2_compares_5 rfl (lv_at hl 0 rfl) ?_
    refine va_get (D := Z.1) (ci := 20) (v := .int 1) (C := RX25) (T := TX25) (N := 8) hx hb hts in_X25 hown hE.1 (hM.at hb1) 0 rfl mm_cX25 0 (by decide) (hts _ q2504) (fun _ h9 => h9) rfl dX2_compares_6 ?_
    refine lv_iconst (v := 2) hx hb dX2_compares_9 (by decide) ?_
    refine lv_icmp_ne (tgt := 22) hx hb dX2_compares_10 (by decide) (fun _ => ?_) (fun h9 => absurd h9 (by decide))
    refine lv_aload_n hx hb dX2_compares_22 rfl (lv_at hl 0 rfl) ?_
    refine va_get (D := Z.1) (ci := 20) (v := .int 1) (C := RX25) (T := TX25) (N := 8) hx hb hts in_X25 hown hE.1 (hM.at hb1) 0 rfl mm_cX25 0 (by decide) (hts _ q2504) (fun _ h9 => h9) rfl dX2_compares_23 ?_
    refine lv_if_ne (tgt := 37) hx hb dX2_compares_26 (by decide) (fun _ => ?_) (fun h9 => absurd h9 (by decide))
    refine lv_aload_n hx hb dX2_compares_37 rfl (lv_at hl 0 rfl) ?_
    refine va_get (D := Z.1) (ci := 20) (v := .int 1) (C := RX25) (T := TX25) (N := 8) hx hb hts in_X25 hown hE.1 (hM.at hb1) 0 rfl mm_cX25 0 (by decide) (hts _ q2504) (fun _ h9 => h9) rfl dX2_compares_38 ?_
    refine lv_iconst (v := 1) hx hb dX2_compares_41 (by decide) ?_
    refine lv_icmp_eq (tgt := 125) hx hb dX2_compares_42 (by decide) (fun _ => ?_) (fun h9 => absurd (by decide) h9)
    exact mm_retvD hx hb hr hlk hM hS ⟨rfl, rfl, rfl, by rw [eT]; rfl, mL.rf _, by rw [eT, ts_like_none (fun _ => rfl)]; exact hC, mY2.rf⟩ dX2_compares_125 (by (try dsimp only); omega) (by (try dsimp only); omega)
  · skip
    rw [hT] at eT
    refine lv_aload_n hx hb dX2_compares_5 rfl (lv_at hl 0 rfl) ?_
    refine va_get (D := Z.1) (ci := 20) (v := .int 0) (C := RX25) (T := TX25) (N := 8) hx hb hts in_X25 hown hE.1 (hM.at hb1) 0 rfl mm_cX25 0 (by decide) (hts _ q2504) (fun _ h9 => h9) rfl dX2_compares_6 ?_
    refine lv_iconst (v := 2) hx hb dX2_compares_9 (by decide) ?_
    refine lv_icmp_ne (tgt := 22) hx hb dX2_compares_10 (by decide) (fun _ => ?_) (fun h9 => absurd h9 (by decide))
    refine lv_aload_n hx hb dX2_compares_22 rfl (lv_at hl 0 rfl) ?_
    refine va_get (D := Z.1) (ci := 20) (v := .int 0) (C := RX25) (T := TX25) (N := 8) hx hb hts in_X25 hown hE.1 (hM.at hb1) 0 rfl mm_cX25 0 (by decide) (hts _ q2504) (fun _ h9 => h9) rfl dX2_compares_23 ?_
    refine lv_if_ne (tgt := 37) hx hb dX2_compares_26 (by decide) (fun h9 => absurd (by decide) h9) (fun _ => ?_)
    refine lv_aload_n hx hb dX2_compares_29 rfl (lv_at hl 0 rfl) ?_
    refine lv_iconst (v := 1) hx hb dX2_compares_30 (by decide) ?_
    refine mm_put (D := Z.1) (ci := 20) (v := .int 1) (ty := .boolean) (C := RX25) (T := TX25) (N := 8) hx hb hts in_X25 tyX25 tyX25_ok nmX25 hown hE.1 hM hS hb1 mm_cX25 5 (by decide) (hts _ q2510) (fun _ h9 => h9) rfl (by decide +kernel) rfl rfl (Nat.le_of_ble_eq_true rfl) dX2_compares_31 (fun H locs hM hS => ?_)
    have hM : mm_P Z.1 mm_cl A (mm_U M b1 (.inr (20, [.int 0, .null, .null, .null, .null, .int 1, .long sn1, va_rf cp1]))) H := hM
    have hc_4 : (mm_U M b1 (.inr (20, [.int 0, .null, .null, .null, .null, .int 1, .long sn1, va_rf cp1]))) b1 = some (.inr (20, [.int 0, .null, .null, .null, .null, .int 1, .long sn1, va_rf cp1])) := mm_U_eq
    obtain ⟨M_5, eM_5⟩ : ∃ z, z = mm_U M b1 (.inr (20, [.int 0, .null, .null, .null, .null, .int 1, .long sn1, va_rf cp1])) := ⟨_, rfl⟩
    rw [← eM_5] at hM hc_4
    refine lv_goto (tgt := 125) hx hb dX2_compares_34 (by decide) ?_
    have hMe : M_5 = mm_U M b1 (mt_E 0 none none none none true sn1 cp1) := by subst eM_5; rfl
    have hL9 : mL mark M M_5 := by rw [hMe]; exact mL.putT hb1
    exact mm_retvD hx hb hr hlk hM hS ⟨rfl, rfl, rfl, by rw [eT]; rfl, hL9, hC.setC (u := u) hL9 rfl rfl rfl hu (fun q hq => by rw [hMe]; exact mm_U_ne (hbu ▸ hq)) (fun w hw => by rw [eT]; simp [ts_like, uoc, Ne.symm hw]) (Or.inl ⟨none, sn1, cp1, by rw [hMe, eT, ← hbu]; simp [ts_like, uoc]; exact mm_U_eq, by simp [hsu]⟩), by rw [hMe]; exact mY2.put (fun ⟨k, is, fr, to, rw, cm, cp, h⟩ => by rw [mm_U_eq] at h; obtain ⟨-, -, -, -, -, -, e9, -⟩ := mt_inj (Option.some.inj h); subst e9; exact ⟨_, _, _, _, _, _, _, hb1⟩)⟩ dX2_compares_125 (by (try dsimp only); omega) (by (try dsimp only); omega)
  · skip
    rw [hT] at eT
    refine lv_aload_n hx hb dX2_compares_5 rfl (lv_at hl 0 rfl) ?_
    refine va_get (D := Z.1) (ci := 20) (v := .int 2) (C := RX25) (T := TX25) (N := 8) hx hb hts in_X25 hown hE.1 (hM.at hb1) 0 rfl mm_cX25 0 (by decide) (hts _ q2504) (fun _ h9 => h9) rfl dX2_compares_6 ?_
    refine lv_iconst (v := 2) hx hb dX2_compares_9 (by decide) ?_
    refine lv_icmp_ne (tgt := 22) hx hb dX2_compares_10 (by decide) (fun h9 => absurd (by decide) h9) (fun _ => ?_)
    refine mm_new (D := Z.1) (ci := 21) (fs := mm_f0X26) (C := RX26) (T := TX26) (N := 7) hx hb hts in_X26 tyX26 tyX26_ok hown (hts _ q2492) (hts _ q2530) (hts _ q99) hE.1 hM hS hA mm_cX26 mm_dfX26 (by (try dsimp only); omega) (by (try dsimp only); omega) dX2_compares_13 (fun q_5 H nq_4 hM hS => ?_)
    have hM : mm_P Z.1 mm_cl A (mm_U M q_5 (.inr (21, [.null, .null, .null, .null, .null, .int 0, .int 0]))) H := hM
    have ne_6 : b1 ≠ q_5 := (mm_neN hb1 nq_4)
    have hc_7 : (mm_U M q_5 (.inr (21, [.null, .null, .null, .null, .null, .int 0, .int 0]))) q_5 = some (.inr (21, [.null, .null, .null, .null, .null, .int 0, .int 0])) := mm_U_eq
    have hc_8 : (mm_U M q_5 (.inr (21, [.null, .null, .null, .null, .null, .int 0, .int 0]))) b1 = some (.inr (20, [.int 2, .null, .ref f1, .ref g1, .null, .int (mm_b cm1), .long sn1, va_rf cp1])) := (mm_U_ne ne_6).trans hb1
    obtain ⟨M_9, eM_9⟩ : ∃ z, z = mm_U M q_5 (.inr (21, [.null, .null, .null, .null, .null, .int 0, .int 0])) := ⟨_, rfl⟩
    rw [← eM_9] at hM hc_8 hc_7
    refine lv_dup hx hb dX2_compares_16 rfl ?_
    refine lv_iconst (v := 5) hx hb dX2_compares_17 (by decide) ?_
    refine mm_callI (As := [.int 5]) (rest := [.ref q_5]) ⟨hx, hb, hml, hown, hts⟩ hE hST hA (c_X26_init l Z (er := 5) hc_7) (cwI (maxL := 2) 1 hts (lw_meth q2540) rfl rfl rfl (hts _ q99) (hts _ q2538) (hts _ q2539) rfl (by decide +kernel) ⟨(by (try dsimp only); omega), (by (try dsimp only); omega)⟩) hM hS rfl hl.1 (Nat.le_of_ble_eq_true rfl) dX2_compares_18 rfl ⟨(by (try dsimp only); omega), (by (try dsimp only); omega)⟩ (fun _ _ _ _ _ _ h9 => h9.elim) (fun v_10 M_11 H locs hp_12 hM hS => ?_)
    obtain ⟨rfl, eM_11⟩ := hp_12
    rw [eM_11] at hM
    have hc_13 : (mm_U M_9 q_5 (.inr (21, [.null, .null, .null, .null, .null, .int 0, .int 5]))) q_5 = some (.inr (21, [.null, .null, .null, .null, .null, .int 0, .int 5])) := mm_U_eq
    have hc_14 : (mm_U M_9 q_5 (.inr (21, [.null, .null, .null, .null, .null, .int 0, .int 5]))) b1 = some (.inr (20, [.int 2, .null, .ref f1, .ref g1, .null, .int (mm_b cm1), .long sn1, va_rf cp1])) := (mm_U_ne ne_6).trans hc_8
    obtain ⟨M_15, eM_15⟩ : ∃ z, z = mm_U M_9 q_5 (.inr (21, [.null, .null, .null, .null, .null, .int 0, .int 5])) := ⟨_, rfl⟩
    rw [← eM_15] at hM hc_14 hc_13
    exact mm_athrowD hx hb htab hlk hE hM hS hc_13 mm_cX26 ⟨by rw [eT]; rfl, mX.of ⟨rfl, nq_4, by subst eM_15 eM_9; simp only [mm_U_U]⟩⟩ dX2_compares_21 (by (try dsimp only); omega) (by (try dsimp only); omega)
  · skip
    rw [hT] at eT
    cases iv1
    · skip
      replace hb1 : M b1 = some (mt_E 3 none none none (some w1) cm1 sn1 cp1) := hb1
      refine lv_aload_n hx hb dX2_compares_5 rfl (lv_at hl 0 rfl) ?_
      refine va_get (D := Z.1) (ci := 20) (v := .int 3) (C := RX25) (T := TX25) (N := 8) hx hb hts in_X25 hown hE.1 (hM.at hb1) 0 rfl mm_cX25 0 (by decide) (hts _ q2504) (fun _ h9 => h9) rfl dX2_compares_6 ?_
      refine lv_iconst (v := 2) hx hb dX2_compares_9 (by decide) ?_
      refine lv_icmp_ne (tgt := 22) hx hb dX2_compares_10 (by decide) (fun _ => ?_) (fun h9 => absurd h9 (by decide))
      refine lv_aload_n hx hb dX2_compares_22 rfl (lv_at hl 0 rfl) ?_
      refine va_get (D := Z.1) (ci := 20) (v := .int 3) (C := RX25) (T := TX25) (N := 8) hx hb hts in_X25 hown hE.1 (hM.at hb1) 0 rfl mm_cX25 0 (by decide) (hts _ q2504) (fun _ h9 => h9) rfl dX2_compares_23 ?_
      refine lv_if_ne (tgt := 37) hx hb dX2_compares_26 (by decide) (fun _ => ?_) (fun h9 => absurd h9 (by decide))
      refine lv_aload_n hx hb dX2_compares_37 rfl (lv_at hl 0 rfl) ?_
      refine va_get (D := Z.1) (ci := 20) (v := .int 3) (C := RX25) (T := TX25) (N := 8) hx hb hts in_X25 hown hE.1 (hM.at hb1) 0 rfl mm_cX25 0 (by decide) (hts _ q2504) (fun _ h9 => h9) rfl dX2_compares_38 ?_
      refine lv_iconst (v := 1) hx hb dX2_compares_41 (by decide) ?_
      refine lv_icmp_eq (tgt := 125) hx hb dX2_compares_42 (by decide) (fun h9 => absurd h9 (by decide)) (fun _ => ?_)
      refine lv_aload_n hx hb dX2_compares_45 rfl (lv_at hl 0 rfl) ?_
      refine va_get (D := Z.1) (ci := 20) (v := .long sn1) (C := RX25) (T := TX25) (N := 8) hx hb hts in_X25 hown hE.1 (hM.at hb1) 0 rfl mm_cX25 6 (by decide) (hts _ q2511) (fun _ h9 => h9) rfl dX2_compares_46 ?_
      refine lv_lload_n hx hb dX2_compares_49 rfl (lv_at hl 2 rfl) ?_
      have hsz : SizeOf.sizeOf (uap S.2.1 r1) < SizeOf.sizeOf T := by rw [eT]; simp <;> omega
      have huh : uh T = uh (uap S.2.1 r1) + 1 := by rw [eT]; rfl
      have hor : ∀ u, uoc u T = uoc u (uap S.2.1 r1) := fun u => by rw [eT]; rfl
      have hof : uhf T = uhf (uap S.2.1 r1) := by rw [eT]; rfl
      refine W.lcmp hx hb dX2_compares_50 ?_
      refine lv_if_eq (tgt := 125) hx hb dX2_compares_51 (by decide) (fun c_4 => ?_) (fun c_4 => ?_)
      · skip
        have hsn : sn1 = mark := lg_cmp_0.1 (by first | exact c_4 | exact Classical.not_not.1 c_4)
        subst hsn
        obtain ⟨hm1, hm2⟩ := hmy b1 hbL ⟨_, _, _, _, _, _, _, hb1⟩ t1 htb (by rw [he1, hT]; exact Nat.le_refl _)
        rw [he1, hT] at hm1 hm2
        exact mm_retvD hx hb hr hlk hM hS ⟨rfl, rfl, rfl, hm1, mL.rf _, by rw [ts_like_self hm2]; exact hC, mY2.rf⟩ dX2_compares_125 (by (try dsimp only); omega) (by (try dsimp only); omega)
      · skip
        refine lv_aload_n hx hb dX2_compares_54 rfl (lv_at hl 0 rfl) ?_
        refine lv_lload_n hx hb dX2_compares_55 rfl (lv_at hl 2 rfl) ?_
        refine mm_put (D := Z.1) (ci := 20) (v := .long mark) (ty := .long) (C := RX25) (T := TX25) (N := 8) hx hb hts in_X25 tyX25 tyX25_ok nmX25 hown hE.1 hM hS hb1 mm_cX25 6 (by decide) (hts _ q2511) (fun _ h9 => h9) rfl (by decide +kernel) rfl rfl (Nat.le_of_ble_eq_true rfl) dX2_compares_56 (fun H locs hM hS => ?_)
        have hM : mm_P Z.1 mm_cl A (mm_U M b1 (.inr (20, [.int 3, .null, .null, .null, .ref w1, .int (mm_b cm1), .long mark, va_rf cp1]))) H := hM
        have hc_5 : (mm_U M b1 (.inr (20, [.int 3, .null, .null, .null, .ref w1, .int (mm_b cm1), .long mark, va_rf cp1]))) b1 = some (.inr (20, [.int 3, .null, .null, .null, .ref w1, .int (mm_b cm1), .long mark, va_rf cp1])) := mm_U_eq
        obtain ⟨M_6, eM_6⟩ : ∃ z, z = mm_U M b1 (.inr (20, [.int 3, .null, .null, .null, .ref w1, .int (mm_b cm1), .long mark, va_rf cp1])) := ⟨_, rfl⟩
        rw [← eM_6] at hM hc_5
        have hS1 : mS mark M M_6 := by rw [eM_6]; exact mS.put hb1
        have hC1 := hC.seen hS1
        have hw2 := hw1.light hS1.L
        have hbq := hc_5
        have hbig : ∀ {s : Nat}, s < SizeOf.sizeOf T → mY M_6 L vr D S mark s := fun {s} hs b hb hm tb htb9 hz9 => by
          rw [eM_6] at hm
          have h0 : mtp M L vr D tb false b := by
            obtain ⟨m, t0, h4⟩ := hC.2.2.1 b hb
            obtain ⟨rfl, rfl⟩ := mtp.uniq hC.1.2.2.1 _ _ _ _ _ htb9 (h4.light hS1.L)
            exact h4
          rcases mk_put hm with h3 | h3
          · subst h3
            obtain ⟨rfl, -⟩ := mtp.uniq hC.1.2.2.1 _ _ _ _ _ h0 htb
            rw [he1, hT] at hz9
            exact absurd hz9 (by omega)
          · exact hmy b hb h3 tb h0 (by omega)
        have hlast : ∀ (M9 : mm_M), mL mark M_6 M9 → uhf T = false → mY2 M_6 M9 L vr D (ts_like S T) mark → mY2 M M9 L vr D (ts_like S T) mark := fun M9 hL9 h9 h8 b hb hm => by
          rcases h8 b hb hm with h7 | h7
          · rw [eM_6] at h7
            rcases mk_put h7 with h3 | h3
            · subst h3
              refine Or.inr fun tb htb9 => ?_
              obtain ⟨rfl, -⟩ := mtp.uniq hC.1.2.2.1 _ _ _ _ _ htb9 ((htb.light hS1.L).light hL9)
              refine ⟨by show uhf (uap S.2.1 tb) = false; rw [he1, hT]; exact h9, fun u hu9 => ?_⟩
              replace hu9 : uoc u (uap S.2.1 tb) = true := hu9
              rw [he1, hT] at hu9; simp [ts_like, hu9]
            · exact Or.inl h3
          · exact Or.inr h7
        obtain ⟨d3, b3, hn3, hcs3⟩ := hC1.nowR' hw2
        refine lv_aload_n hx hb dX2_compares_59 rfl (lv_at hl 0 rfl) ?_
        refine va_get (D := Z.1) (ci := 20) (v := .ref w1) (C := RX25) (T := TX25) (N := 8) hx hb hts in_X25 hown hE.1 (hM.at hc_5) 0 rfl mm_cX25 4 (by decide) (hts _ q2509) (fun _ h9 => h9) rfl dX2_compares_60 ?_
        obtain ⟨k9, is9, lb9, ty9, rs9, lk9, cm9, hq9, -⟩ := (hw2).cellR
        refine mm_callV (As := []) (rest := []) ⟨hx, hb, hml, hown, hts⟩ hE hST hA (c_X27_now l Z hn3) (cwV 0 hts (lw_V q2614 q2615 q2616 q100 q2617) rfl rfl rfl (by decide +kernel) ⟨(by (try dsimp only); omega), (by (try dsimp only); omega)⟩) hM hS mm_cX27 hq9 rfl hl.1 (Nat.le_of_ble_eq_true rfl) dX2_compares_63 rfl ⟨(by (try dsimp only); omega), (by (try dsimp only); omega)⟩ (fun _ _ _ _ _ _ h9 => h9.elim) (fun v_7 M_8 H locs hp_9 hM hS => ?_)
        obtain ⟨rfl, eM_8⟩ := hp_9
        rw [eM_8] at hM
        refine lv_astore hx hb dX2_compares_66 hl (by decide) rfl (fun ls hl => ?_)
        replace hl : lv_has ls 5 [(4, .ref b3), (3, .ref b1), (0, .ref a), (1, .long mark)] := hl
        refine mm_loopW (fun k M' ls cells slots => ∃ (T2 : ev) (b : Nat) (S2 : ts), k = SizeOf.sizeOf T2 ∧ SizeOf.sizeOf T2 ≤ SizeOf.sizeOf (uap S.2.1 r1) ∧ uh T2 ≤ uh (uap S.2.1 r1) ∧ lv_has ls 5 [(4, .ref b), (0, .ref a), (1, .long mark)] ∧ (S2.1 = S.1 ∧ S2.2.1 = S.2.1 ∧ ∀ u, S.2.2.1 u = true → S2.2.2.1 u = true) ∧ mL mark M_6 M' ∧ mCI M' L vr D S2 ∧ mRow M' L vr D S2 T2 b ∧ ts_like S2 T2 = ts_like S (uap S.2.1 r1) ∧ uhf T2 = uhf (uap S.2.1 r1) ∧ mY2 M_6 M' L vr D S2 mark ∧ cells = 0 ∧ slots = 0) (fun k M3 ls H locs cells slots ih9 hI hM hS => ?_) ⟨uap S.2.1 r1, b3, S, rfl, Nat.le_refl _, Nat.le_refl _, lv_sub hl [0, 2, 3] rfl, ⟨rfl, rfl, fun _ h => h⟩, mL.rf _, hC1, hcs3, rfl, rfl, mY2.rf, rfl, rfl⟩ hM hS
        obtain ⟨T2, b, S2, rfl, hz2, hh2, hl, ⟨hS21, hS22, hS23⟩, hL0, hC0, hrow, hlev, hocc, hy0, rfl, rfl⟩ := hI
        have hTr : ts_like S T = ts_like S (uap S.2.1 r1) := ts_like_cg hor
        rcases hrow with ⟨eR, hb4⟩ | ⟨u, hu, eR, hsu, hbu, hbL4, hb4⟩ | ⟨x1, k1, r2, ty1, rs1, eR, hk1, hb4, hx1, hr1⟩
        · skip
          refine lv_aload hx hb dX2_compares_68 (lv_at hl 0 rfl) ?_
          refine va_get (D := Z.1) (ci := 22) (v := .int 1) (C := RX27) (T := TX27) (N := 7) hx hb hts in_X27 hown hE.1 (hM.at hb4) 0 rfl mm_cX27 0 (by decide) (hts _ q2577) (fun _ h9 => h9) rfl dX2_compares_70 ?_
          refine lv_iconst (v := 2) hx hb dX2_compares_73 (by decide) ?_
          refine lv_icmp_ne (tgt := 99) hx hb dX2_compares_74 (by decide) (fun _ => ?_) (fun h9 => absurd h9 (by decide))
          refine lv_aload hx hb dX2_compares_99 (lv_at hl 0 rfl) ?_
          refine lv_aload hx hb dX2_compares_101 (lv_at hl 0 rfl) ?_
          refine va_get (D := Z.1) (ci := 22) (v := .int (mm_b false)) (C := RX27) (T := TX27) (N := 7) hx hb hts in_X27 hown hE.1 (hM.at hb4) 0 rfl mm_cX27 6 (by decide) (hts _ q2584) (fun _ h9 => h9) rfl dX2_compares_103 ?_
          refine lv_if_ne (tgt := 117) hx hb dX2_compares_106 (by decide) (fun h9 => absurd (rfl : mm_b false = 0) h9) (fun _ => ?_)
          refine lv_aload hx hb dX2_compares_109 (lv_at hl 0 rfl) ?_
          refine va_get (D := Z.1) (ci := 22) (v := .int 1) (C := RX27) (T := TX27) (N := 7) hx hb hts in_X27 hown hE.1 (hM.at hb4) 0 rfl mm_cX27 0 (by decide) (hts _ q2577) (fun _ h9 => h9) rfl dX2_compares_111 ?_
          refine lv_if_ne (tgt := 121) hx hb dX2_compares_114 (by decide) (fun _ => ?_) (fun h9 => absurd h9 (by decide))
          refine lv_iconst (v := 0) hx hb dX2_compares_121 (by decide) ?_
          refine mm_put (D := Z.1) (ci := 22) (v := .int 0) (ty := .boolean) (C := RX27) (T := TX27) (N := 7) hx hb hts in_X27 tyX27 tyX27_ok nmX27 hown hE.1 hM hS hb4 mm_cX27 6 (by decide) (hts _ q2584) (fun _ h9 => h9) rfl (by decide +kernel) rfl rfl (Nat.le_of_ble_eq_true rfl) dX2_compares_122 (fun H locs hM hS => ?_)
          have hM : mm_P Z.1 mm_cl A (mm_U M3 b (.inr (22, [.int 1, .null, .int 0, .null, .null, .int 0, .int 0]))) H := hM
          have hc_10 : (mm_U M3 b (.inr (22, [.int 1, .null, .int 0, .null, .null, .int 0, .int 0]))) b = some (.inr (22, [.int 1, .null, .int 0, .null, .null, .int 0, .int 0])) := mm_U_eq
          obtain ⟨M_11, eM_11⟩ : ∃ z, z = mm_U M3 b (.inr (22, [.int 1, .null, .int 0, .null, .null, .int 0, .int 0])) := ⟨_, rfl⟩
          rw [← eM_11] at hM hc_10
          have hMe : M_11 = M3 := by subst eM_11; exact mm_U_self hb4
          have hh9 : uhf T = false := by rw [hof, ← hocc, eR]; rfl
          have hts9 : ts_like S T = S2 := by rw [hTr, ← hlev, eR, ts_like_none (fun _ => rfl)]
          exact mm_retvD hx hb hr hlk hM hS ⟨rfl, rfl, rfl, hh9, by rw [hMe]; exact hS1.L.trans hL0, by rw [hMe, hts9]; exact hC0, hlast _ (by rw [hMe]; exact hL0) hh9 (by rw [hMe, hts9]; exact hy0)⟩ dX2_compares_125 (by (try dsimp only); omega) (by (try dsimp only); omega)
        · skip
          refine lv_aload hx hb dX2_compares_68 (lv_at hl 0 rfl) ?_
          refine va_get (D := Z.1) (ci := 22) (v := .int 0) (C := RX27) (T := TX27) (N := 7) hx hb hts in_X27 hown hE.1 (hM.at hb4) 0 rfl mm_cX27 0 (by decide) (hts _ q2577) (fun _ h9 => h9) rfl dX2_compares_70 ?_
          refine lv_iconst (v := 2) hx hb dX2_compares_73 (by decide) ?_
          refine lv_icmp_ne (tgt := 99) hx hb dX2_compares_74 (by decide) (fun _ => ?_) (fun h9 => absurd h9 (by decide))
          refine lv_aload hx hb dX2_compares_99 (lv_at hl 0 rfl) ?_
          refine lv_aload hx hb dX2_compares_101 (lv_at hl 0 rfl) ?_
          refine va_get (D := Z.1) (ci := 22) (v := .int (mm_b (S2.2.2.1 u))) (C := RX27) (T := TX27) (N := 7) hx hb hts in_X27 hown hE.1 (hM.at hb4) 0 rfl mm_cX27 6 (by decide) (hts _ q2584) (fun _ h9 => h9) rfl dX2_compares_103 ?_
          have hh9 : uhf T = false := by rw [hof, ← hocc, eR]; rfl
          have hts9 : ts_like S T = ts_like S2 (.var u) := by rw [hTr, ← hlev, eR]
          refine lv_if_ne (tgt := 117) hx hb dX2_compares_106 (by decide) (fun c_10 => ?_) (fun c_10 => ?_)
          · skip
            refine lv_iconst (v := 1) hx hb dX2_compares_117 (by decide) ?_
            refine lv_goto (tgt := 122) hx hb dX2_compares_118 (by decide) ?_
            refine mm_put (D := Z.1) (ci := 22) (v := .int 1) (ty := .boolean) (C := RX27) (T := TX27) (N := 7) hx hb hts in_X27 tyX27 tyX27_ok nmX27 hown hE.1 hM hS hb4 mm_cX27 6 (by decide) (hts _ q2584) (fun _ h9 => h9) rfl (by decide +kernel) rfl rfl (Nat.le_of_ble_eq_true rfl) dX2_compares_122 (fun H locs hM hS => ?_)
            have hM : mm_P Z.1 mm_cl A (mm_U M3 b (.inr (22, [.int 0, .null, .int 0, .null, .null, .int (S2.2.2.2.1 u), .int 1]))) H := hM
            have hc_11 : (mm_U M3 b (.inr (22, [.int 0, .null, .int 0, .null, .null, .int (S2.2.2.2.1 u), .int 1]))) b = some (.inr (22, [.int 0, .null, .int 0, .null, .null, .int (S2.2.2.2.1 u), .int 1])) := mm_U_eq
            obtain ⟨M_12, eM_12⟩ : ∃ z, z = mm_U M3 b (.inr (22, [.int 0, .null, .int 0, .null, .null, .int (S2.2.2.2.1 u), .int 1])) := ⟨_, rfl⟩
            rw [← eM_12] at hM hc_11
            have hMe : M_12 = mm_U M3 b (mr_E 0 none 0 none none (S2.2.2.2.1 u) true) := by subst eM_12; rfl
            have hL9 : mL mark M3 M_12 := by rw [hMe]; exact mL.putR hb4
            have hC9 : mCI M_12 L vr D (ts_like S2 (.var u)) := hC0.setC (u := u) hL9 rfl rfl rfl hu (fun q hq => by rw [hMe]; exact mm_U_ne (hbu ▸ hq)) (fun w hw => by simp [ts_like, uoc, Ne.symm hw]) (Or.inr ⟨none, by rw [hMe, ← hbu]; simp [ts_like, uoc]; exact mm_U_eq, by simp [hsu]⟩)
            have hy9 : mY2 M3 M_12 L vr D (ts_like S2 (.var u)) mark := by rw [hMe]; exact mY2.put (fun ⟨k, is, fr, to, rw, cm, cp, h⟩ => by rw [mm_U_eq] at h; exact absurd (Option.some.inj h).symm mt_ne_mr)
            exact mm_retvD hx hb hr hlk hM hS ⟨rfl, rfl, rfl, hh9, hS1.L.trans (hL0.trans hL9), by rw [hts9]; exact hC9, hlast _ (hL0.trans hL9) hh9 (by rw [hts9]; exact hy0.trans hC0 hy9 hL9 rfl (ts_like_mono _ _))⟩ dX2_compares_125 (by (try dsimp only); omega) (by (try dsimp only); omega)
          · skip
            refine lv_aload hx hb dX2_compares_109 (lv_at hl 0 rfl) ?_
            refine va_get (D := Z.1) (ci := 22) (v := .int 0) (C := RX27) (T := TX27) (N := 7) hx hb hts in_X27 hown hE.1 (hM.at hb4) 0 rfl mm_cX27 0 (by decide) (hts _ q2577) (fun _ h9 => h9) rfl dX2_compares_111 ?_
            refine lv_if_ne (tgt := 121) hx hb dX2_compares_114 (by decide) (fun h9 => absurd (by decide) h9) (fun _ => ?_)
            refine lv_iconst (v := 1) hx hb dX2_compares_117 (by decide) ?_
            refine lv_goto (tgt := 122) hx hb dX2_compares_118 (by decide) ?_
            refine mm_put (D := Z.1) (ci := 22) (v := .int 1) (ty := .boolean) (C := RX27) (T := TX27) (N := 7) hx hb hts in_X27 tyX27 tyX27_ok nmX27 hown hE.1 hM hS hb4 mm_cX27 6 (by decide) (hts _ q2584) (fun _ h9 => h9) rfl (by decide +kernel) rfl rfl (Nat.le_of_ble_eq_true rfl) dX2_compares_122 (fun H locs hM hS => ?_)
            have hM : mm_P Z.1 mm_cl A (mm_U M3 b (.inr (22, [.int 0, .null, .int 0, .null, .null, .int (S2.2.2.2.1 u), .int 1]))) H := hM
            have hc_11 : (mm_U M3 b (.inr (22, [.int 0, .null, .int 0, .null, .null, .int (S2.2.2.2.1 u), .int 1]))) b = some (.inr (22, [.int 0, .null, .int 0, .null, .null, .int (S2.2.2.2.1 u), .int 1])) := mm_U_eq
            obtain ⟨M_12, eM_12⟩ : ∃ z, z = mm_U M3 b (.inr (22, [.int 0, .null, .int 0, .null, .null, .int (S2.2.2.2.1 u), .int 1])) := ⟨_, rfl⟩
            rw [← eM_12] at hM hc_11
            have hMe : M_12 = mm_U M3 b (mr_E 0 none 0 none none (S2.2.2.2.1 u) true) := by subst eM_12; rfl
            have hL9 : mL mark M3 M_12 := by rw [hMe]; exact mL.putR hb4
            have hC9 : mCI M_12 L vr D (ts_like S2 (.var u)) := hC0.setC (u := u) hL9 rfl rfl rfl hu (fun q hq => by rw [hMe]; exact mm_U_ne (hbu ▸ hq)) (fun w hw => by simp [ts_like, uoc, Ne.symm hw]) (Or.inr ⟨none, by rw [hMe, ← hbu]; simp [ts_like, uoc]; exact mm_U_eq, by simp [hsu]⟩)
            have hy9 : mY2 M3 M_12 L vr D (ts_like S2 (.var u)) mark := by rw [hMe]; exact mY2.put (fun ⟨k, is, fr, to, rw, cm, cp, h⟩ => by rw [mm_U_eq] at h; exact absurd (Option.some.inj h).symm mt_ne_mr)
            exact mm_retvD hx hb hr hlk hM hS ⟨rfl, rfl, rfl, hh9, hS1.L.trans (hL0.trans hL9), by rw [hts9]; exact hC9, hlast _ (hL0.trans hL9) hh9 (by rw [hts9]; exact hy0.trans hC0 hy9 hL9 rfl (ts_like_mono _ _))⟩ dX2_compares_125 (by (try dsimp only); omega) (by (try dsimp only); omega)
        · skip
          have hsz2 : SizeOf.sizeOf T2 = 1 + (1 + SizeOf.sizeOf (uap S2.2.1 x1) + SizeOf.sizeOf k1) + SizeOf.sizeOf (uap S2.2.1 r2) := by rw [eR, uins_size]
          have huh2 : uh T2 = max (uh (uap S2.2.1 x1) + 1) (uh (uap S2.2.1 r2)) := by rw [eR, uins_h]
          refine lv_aload hx hb dX2_compares_68 (lv_at hl 0 rfl) ?_
          refine va_get (D := Z.1) (ci := 22) (v := .int 2) (C := RX27) (T := TX27) (N := 7) hx hb hts in_X27 hown hE.1 (hM.at hb4) 0 rfl mm_cX27 0 (by decide) (hts _ q2577) (fun _ h9 => h9) rfl dX2_compares_70 ?_
          refine lv_iconst (v := 2) hx hb dX2_compares_73 (by decide) ?_
          refine lv_icmp_ne (tgt := 99) hx hb dX2_compares_74 (by decide) (fun h9 => absurd (by decide) h9) (fun _ => ?_)
          refine lv_aload hx hb dX2_compares_77 (lv_at hl 0 rfl) ?_
          refine va_get (D := Z.1) (ci := 22) (v := .ref ty1) (C := RX27) (T := TX27) (N := 7) hx hb hts in_X27 hown hE.1 (hM.at hb4) 0 rfl mm_cX27 3 (by decide) (hts _ q2581) (fun _ h9 => h9) rfl dX2_compares_79 ?_
          refine lv_lload_n hx hb dX2_compares_82 rfl (lv_at hl 2 rfl) ?_
          refine mm_callSD (As := [.ref ty1, .long mark]) (rest := []) ⟨hx, hb, hml, hown, hts⟩ hE hST hA (ih _ _ _ _ _ (by omega) rfl hC0 hx1 ((hbig (s := SizeOf.sizeOf (uap S2.2.1 x1)) (by omega)).next hC1 hy0 hL0 hS22 hS23)) (va_cwS 2 hts (lw_S q2668 q2669 q54 q2670) rfl rfl rfl (by decide +kernel) ⟨(by (try dsimp only); omega), (by (try dsimp only); omega)⟩) hM hS rfl hl.1 (Nat.le_of_ble_eq_true rfl) dX2_compares_83 rfl ⟨(by (try dsimp only); omega), (by (try dsimp only); omega)⟩ (fun E ce q M9 H1 locs1 hp9 hM9 hS9 hce hcv hcl => by exact mm_outxD htab hlk hM9 hS9 hce hcv hcl ⟨by rw [hof, ← hocc, eR]; simp [uins_hf, hp9.1], hp9.2.after (hS1.L.trans hL0).K⟩ (by (try dsimp only); omega) (by (try dsimp only); omega)) (fun v_10 M_11 n_13 k_14 H locs hp_12 hM hS => ?_)
          obtain ⟨rfl, rfl, rfl, ho5, hL5, hC5, hy5⟩ := hp_12
          have hb5 := hL5.r hb4
          obtain ⟨cm5, hb5⟩ := hb5
          refine lv_aload hx hb dX2_compares_86 (lv_at hl 0 rfl) ?_
          refine va_get (D := Z.1) (ci := 22) (v := .ref rs1) (C := RX27) (T := TX27) (N := 7) hx hb hts in_X27 hown hE.1 (hM.at hb5) 0 rfl mm_cX27 4 (by decide) (hts _ q2582) (fun _ h9 => h9) rfl dX2_compares_88 ?_
          have hr5 := hr1.light hL5
          obtain ⟨d6, b6, hn6, hcs6⟩ := hC5.nowR' hr5
          obtain ⟨k9, is9, lb9, ty9, rs9, lk9, cm9, hq9, -⟩ := (hr5).cellR
          refine mm_callV (As := []) (rest := []) ⟨hx, hb, hml, hown, hts⟩ hE hST hA (c_X27_now l Z hn6) (cwV 0 hts (lw_V q2614 q2615 q2616 q100 q2617) rfl rfl rfl (by decide +kernel) ⟨(by (try dsimp only); omega), (by (try dsimp only); omega)⟩) hM hS mm_cX27 hq9 rfl hl.1 (Nat.le_of_ble_eq_true rfl) dX2_compares_91 rfl ⟨(by (try dsimp only); omega), (by (try dsimp only); omega)⟩ (fun _ _ _ _ _ _ h9 => h9.elim) (fun v_15 M_16 H locs hp_17 hM hS => ?_)
          obtain ⟨rfl, eM_16⟩ := hp_17
          rw [eM_16] at hM
          refine lv_astore hx hb dX2_compares_94 hl (by decide) rfl (fun ls hl => ?_)
          replace hl : lv_has ls 5 [(4, .ref b6), (0, .ref a), (1, .long mark)] := hl
          refine lv_goto (tgt := 68) hx hb dX2_compares_96 (by decide) ?_
          refine ih9 (SizeOf.sizeOf (uap S2.2.1 r2)) (by omega) _ _ _ _ _ _ ⟨uap S2.2.1 r2, b6, ts_like S2 (uap S2.2.1 x1), rfl, by omega, by omega, lv_sub hl [0, 1, 2] rfl, ⟨hS21, hS22, fun u h9 => ts_like_mono _ _ u (hS23 u h9)⟩, hL0.trans hL5, hC5, hcs6, ?_, ?_, hy0.trans hC0 hy5 hL5 rfl (ts_like_mono _ _), rfl, rfl⟩ hM hS
          · rw [← hlev, eR]; exact ts_like_or (fun _ => uins_oc _)
          · rw [← hocc, eR]; simp [uins_hf, ho5]
    · skip
      replace hb1 : M b1 = some (mt_E 4 none none none (some w1) cm1 sn1 cp1) := hb1
      refine lv_aload_n hx hb dX2_compares_5 rfl (lv_at hl 0 rfl) ?_
      refine va_get (D := Z.1) (ci := 20) (v := .int 4) (C := RX25) (T := TX25) (N := 8) hx hb hts in_X25 hown hE.1 (hM.at hb1) 0 rfl mm_cX25 0 (by decide) (hts _ q2504) (fun _ h9 => h9) rfl dX2_compares_6 ?_
      refine lv_iconst (v := 2) hx hb dX2_compares_9 (by decide) ?_
      refine lv_icmp_ne (tgt := 22) hx hb dX2_compares_10 (by decide) (fun _ => ?_) (fun h9 => absurd h9 (by decide))
      refine lv_aload_n hx hb dX2_compares_22 rfl (lv_at hl 0 rfl) ?_
      refine va_get (D := Z.1) (ci := 20) (v := .int 4) (C := RX25) (T := TX25) (N := 8) hx hb hts in_X25 hown hE.1 (hM.at hb1) 0 rfl mm_cX25 0 (by decide) (hts _ q2504) (fun _ h9 => h9) rfl dX2_compares_23 ?_
      refine lv_if_ne (tgt := 37) hx hb dX2_compares_26 (by decide) (fun _ => ?_) (fun h9 => absurd h9 (by decide))
      refine lv_aload_n hx hb dX2_compares_37 rfl (lv_at hl 0 rfl) ?_
      refine va_get (D := Z.1) (ci := 20) (v := .int 4) (C := RX25) (T := TX25) (N := 8) hx hb hts in_X25 hown hE.1 (hM.at hb1) 0 rfl mm_cX25 0 (by decide) (hts _ q2504) (fun _ h9 => h9) rfl dX2_compares_38 ?_
      refine lv_iconst (v := 1) hx hb dX2_compares_41 (by decide) ?_
      refine lv_icmp_eq (tgt := 125) hx hb dX2_compares_42 (by decide) (fun h9 => absurd h9 (by decide)) (fun _ => ?_)
      refine lv_aload_n hx hb dX2_compares_45 rfl (lv_at hl 0 rfl) ?_
      refine va_get (D := Z.1) (ci := 20) (v := .long sn1) (C := RX25) (T := TX25) (N := 8) hx hb hts in_X25 hown hE.1 (hM.at hb1) 0 rfl mm_cX25 6 (by decide) (hts _ q2511) (fun _ h9 => h9) rfl dX2_compares_46 ?_
      refine lv_lload_n hx hb dX2_compares_49 rfl (lv_at hl 2 rfl) ?_
      have hsz : SizeOf.sizeOf (uap S.2.1 r1) < SizeOf.sizeOf T := by rw [eT]; simp <;> omega
      have huh : uh T = uh (uap S.2.1 r1) + 1 := by rw [eT]; rfl
      have hor : ∀ u, uoc u T = uoc u (uap S.2.1 r1) := fun u => by rw [eT]; rfl
      have hof : uhf T = uhf (uap S.2.1 r1) := by rw [eT]; rfl
      refine W.lcmp hx hb dX2_compares_50 ?_
      refine lv_if_eq (tgt := 125) hx hb dX2_compares_51 (by decide) (fun c_4 => ?_) (fun c_4 => ?_)
      · skip
        have hsn : sn1 = mark := lg_cmp_0.1 (by first | exact c_4 | exact Classical.not_not.1 c_4)
        subst hsn
        obtain ⟨hm1, hm2⟩ := hmy b1 hbL ⟨_, _, _, _, _, _, _, hb1⟩ t1 htb (by rw [he1, hT]; exact Nat.le_refl _)
        rw [he1, hT] at hm1 hm2
        exact mm_retvD hx hb hr hlk hM hS ⟨rfl, rfl, rfl, hm1, mL.rf _, by rw [ts_like_self hm2]; exact hC, mY2.rf⟩ dX2_compares_125 (by (try dsimp only); omega) (by (try dsimp only); omega)
      · skip
        refine lv_aload_n hx hb dX2_compares_54 rfl (lv_at hl 0 rfl) ?_
        refine lv_lload_n hx hb dX2_compares_55 rfl (lv_at hl 2 rfl) ?_
        refine mm_put (D := Z.1) (ci := 20) (v := .long mark) (ty := .long) (C := RX25) (T := TX25) (N := 8) hx hb hts in_X25 tyX25 tyX25_ok nmX25 hown hE.1 hM hS hb1 mm_cX25 6 (by decide) (hts _ q2511) (fun _ h9 => h9) rfl (by decide +kernel) rfl rfl (Nat.le_of_ble_eq_true rfl) dX2_compares_56 (fun H locs hM hS => ?_)
        have hM : mm_P Z.1 mm_cl A (mm_U M b1 (.inr (20, [.int 4, .null, .null, .null, .ref w1, .int (mm_b cm1), .long mark, va_rf cp1]))) H := hM
        have hc_5 : (mm_U M b1 (.inr (20, [.int 4, .null, .null, .null, .ref w1, .int (mm_b cm1), .long mark, va_rf cp1]))) b1 = some (.inr (20, [.int 4, .null, .null, .null, .ref w1, .int (mm_b cm1), .long mark, va_rf cp1])) := mm_U_eq
        obtain ⟨M_6, eM_6⟩ : ∃ z, z = mm_U M b1 (.inr (20, [.int 4, .null, .null, .null, .ref w1, .int (mm_b cm1), .long mark, va_rf cp1])) := ⟨_, rfl⟩
        rw [← eM_6] at hM hc_5
        have hS1 : mS mark M M_6 := by rw [eM_6]; exact mS.put hb1
        have hC1 := hC.seen hS1
        have hw2 := hw1.light hS1.L
        have hbq := hc_5
        have hbig : ∀ {s : Nat}, s < SizeOf.sizeOf T → mY M_6 L vr D S mark s := fun {s} hs b hb hm tb htb9 hz9 => by
          rw [eM_6] at hm
          have h0 : mtp M L vr D tb false b := by
            obtain ⟨m, t0, h4⟩ := hC.2.2.1 b hb
            obtain ⟨rfl, rfl⟩ := mtp.uniq hC.1.2.2.1 _ _ _ _ _ htb9 (h4.light hS1.L)
            exact h4
          rcases mk_put hm with h3 | h3
          · subst h3
            obtain ⟨rfl, -⟩ := mtp.uniq hC.1.2.2.1 _ _ _ _ _ h0 htb
            rw [he1, hT] at hz9
            exact absurd hz9 (by omega)
          · exact hmy b hb h3 tb h0 (by omega)
        have hlast : ∀ (M9 : mm_M), mL mark M_6 M9 → uhf T = false → mY2 M_6 M9 L vr D (ts_like S T) mark → mY2 M M9 L vr D (ts_like S T) mark := fun M9 hL9 h9 h8 b hb hm => by
          rcases h8 b hb hm with h7 | h7
          · rw [eM_6] at h7
            rcases mk_put h7 with h3 | h3
            · subst h3
              refine Or.inr fun tb htb9 => ?_
              obtain ⟨rfl, -⟩ := mtp.uniq hC.1.2.2.1 _ _ _ _ _ htb9 ((htb.light hS1.L).light hL9)
              refine ⟨by show uhf (uap S.2.1 tb) = false; rw [he1, hT]; exact h9, fun u hu9 => ?_⟩
              replace hu9 : uoc u (uap S.2.1 tb) = true := hu9
              rw [he1, hT] at hu9; simp [ts_like, hu9]
            · exact Or.inl h3
          · exact Or.inr h7
        obtain ⟨d3, b3, hn3, hcs3⟩ := hC1.nowR' hw2
        refine lv_aload_n hx hb dX2_compares_59 rfl (lv_at hl 0 rfl) ?_
        refine va_get (D := Z.1) (ci := 20) (v := .ref w1) (C := RX25) (T := TX25) (N := 8) hx hb hts in_X25 hown hE.1 (hM.at hc_5) 0 rfl mm_cX25 4 (by decide) (hts _ q2509) (fun _ h9 => h9) rfl dX2_compares_60 ?_
        obtain ⟨k9, is9, lb9, ty9, rs9, lk9, cm9, hq9, -⟩ := (hw2).cellR
        refine mm_callV (As := []) (rest := []) ⟨hx, hb, hml, hown, hts⟩ hE hST hA (c_X27_now l Z hn3) (cwV 0 hts (lw_V q2614 q2615 q2616 q100 q2617) rfl rfl rfl (by decide +kernel) ⟨(by (try dsimp only); omega), (by (try dsimp only); omega)⟩) hM hS mm_cX27 hq9 rfl hl.1 (Nat.le_of_ble_eq_true rfl) dX2_compares_63 rfl ⟨(by (try dsimp only); omega), (by (try dsimp only); omega)⟩ (fun _ _ _ _ _ _ h9 => h9.elim) (fun v_7 M_8 H locs hp_9 hM hS => ?_)
        obtain ⟨rfl, eM_8⟩ := hp_9
        rw [eM_8] at hM
        refine lv_astore hx hb dX2_compares_66 hl (by decide) rfl (fun ls hl => ?_)
        replace hl : lv_has ls 5 [(4, .ref b3), (3, .ref b1), (0, .ref a), (1, .long mark)] := hl
        refine mm_loopW (fun k M' ls cells slots => ∃ (T2 : ev) (b : Nat) (S2 : ts), k = SizeOf.sizeOf T2 ∧ SizeOf.sizeOf T2 ≤ SizeOf.sizeOf (uap S.2.1 r1) ∧ uh T2 ≤ uh (uap S.2.1 r1) ∧ lv_has ls 5 [(4, .ref b), (0, .ref a), (1, .long mark)] ∧ (S2.1 = S.1 ∧ S2.2.1 = S.2.1 ∧ ∀ u, S.2.2.1 u = true → S2.2.2.1 u = true) ∧ mL mark M_6 M' ∧ mCI M' L vr D S2 ∧ mRow M' L vr D S2 T2 b ∧ ts_like S2 T2 = ts_like S (uap S.2.1 r1) ∧ uhf T2 = uhf (uap S.2.1 r1) ∧ mY2 M_6 M' L vr D S2 mark ∧ cells = 0 ∧ slots = 0) (fun k M3 ls H locs cells slots ih9 hI hM hS => ?_) ⟨uap S.2.1 r1, b3, S, rfl, Nat.le_refl _, Nat.le_refl _, lv_sub hl [0, 2, 3] rfl, ⟨rfl, rfl, fun _ h => h⟩, mL.rf _, hC1, hcs3, rfl, rfl, mY2.rf, rfl, rfl⟩ hM hS
        obtain ⟨T2, b, S2, rfl, hz2, hh2, hl, ⟨hS21, hS22, hS23⟩, hL0, hC0, hrow, hlev, hocc, hy0, rfl, rfl⟩ := hI
        have hTr : ts_like S T = ts_like S (uap S.2.1 r1) := ts_like_cg hor
        rcases hrow with ⟨eR, hb4⟩ | ⟨u, hu, eR, hsu, hbu, hbL4, hb4⟩ | ⟨x1, k1, r2, ty1, rs1, eR, hk1, hb4, hx1, hr1⟩
        · skip
          refine lv_aload hx hb dX2_compares_68 (lv_at hl 0 rfl) ?_
          refine va_get (D := Z.1) (ci := 22) (v := .int 1) (C := RX27) (T := TX27) (N := 7) hx hb hts in_X27 hown hE.1 (hM.at hb4) 0 rfl mm_cX27 0 (by decide) (hts _ q2577) (fun _ h9 => h9) rfl dX2_compares_70 ?_
          refine lv_iconst (v := 2) hx hb dX2_compares_73 (by decide) ?_
          refine lv_icmp_ne (tgt := 99) hx hb dX2_compares_74 (by decide) (fun _ => ?_) (fun h9 => absurd h9 (by decide))
          refine lv_aload hx hb dX2_compares_99 (lv_at hl 0 rfl) ?_
          refine lv_aload hx hb dX2_compares_101 (lv_at hl 0 rfl) ?_
          refine va_get (D := Z.1) (ci := 22) (v := .int (mm_b false)) (C := RX27) (T := TX27) (N := 7) hx hb hts in_X27 hown hE.1 (hM.at hb4) 0 rfl mm_cX27 6 (by decide) (hts _ q2584) (fun _ h9 => h9) rfl dX2_compares_103 ?_
          refine lv_if_ne (tgt := 117) hx hb dX2_compares_106 (by decide) (fun h9 => absurd (rfl : mm_b false = 0) h9) (fun _ => ?_)
          refine lv_aload hx hb dX2_compares_109 (lv_at hl 0 rfl) ?_
          refine va_get (D := Z.1) (ci := 22) (v := .int 1) (C := RX27) (T := TX27) (N := 7) hx hb hts in_X27 hown hE.1 (hM.at hb4) 0 rfl mm_cX27 0 (by decide) (hts _ q2577) (fun _ h9 => h9) rfl dX2_compares_111 ?_
          refine lv_if_ne (tgt := 121) hx hb dX2_compares_114 (by decide) (fun _ => ?_) (fun h9 => absurd h9 (by decide))
          refine lv_iconst (v := 0) hx hb dX2_compares_121 (by decide) ?_
          refine mm_put (D := Z.1) (ci := 22) (v := .int 0) (ty := .boolean) (C := RX27) (T := TX27) (N := 7) hx hb hts in_X27 tyX27 tyX27_ok nmX27 hown hE.1 hM hS hb4 mm_cX27 6 (by decide) (hts _ q2584) (fun _ h9 => h9) rfl (by decide +kernel) rfl rfl (Nat.le_of_ble_eq_true rfl) dX2_compares_122 (fun H locs hM hS => ?_)
          have hM : mm_P Z.1 mm_cl A (mm_U M3 b (.inr (22, [.int 1, .null, .int 0, .null, .null, .int 0, .int 0]))) H := hM
          have hc_10 : (mm_U M3 b (.inr (22, [.int 1, .null, .int 0, .null, .null, .int 0, .int 0]))) b = some (.inr (22, [.int 1, .null, .int 0, .null, .null, .int 0, .int 0])) := mm_U_eq
          obtain ⟨M_11, eM_11⟩ : ∃ z, z = mm_U M3 b (.inr (22, [.int 1, .null, .int 0, .null, .null, .int 0, .int 0])) := ⟨_, rfl⟩
          rw [← eM_11] at hM hc_10
          have hMe : M_11 = M3 := by subst eM_11; exact mm_U_self hb4
          have hh9 : uhf T = false := by rw [hof, ← hocc, eR]; rfl
          have hts9 : ts_like S T = S2 := by rw [hTr, ← hlev, eR, ts_like_none (fun _ => rfl)]
          exact mm_retvD hx hb hr hlk hM hS ⟨rfl, rfl, rfl, hh9, by rw [hMe]; exact hS1.L.trans hL0, by rw [hMe, hts9]; exact hC0, hlast _ (by rw [hMe]; exact hL0) hh9 (by rw [hMe, hts9]; exact hy0)⟩ dX2_compares_125 (by (try dsimp only); omega) (by (try dsimp only); omega)
        · skip
          refine lv_aload hx hb dX2_compares_68 (lv_at hl 0 rfl) ?_
          refine va_get (D := Z.1) (ci := 22) (v := .int 0) (C := RX27) (T := TX27) (N := 7) hx hb hts in_X27 hown hE.1 (hM.at hb4) 0 rfl mm_cX27 0 (by decide) (hts _ q2577) (fun _ h9 => h9) rfl dX2_compares_70 ?_
          refine lv_iconst (v := 2) hx hb dX2_compares_73 (by decide) ?_
          refine lv_icmp_ne (tgt := 99) hx hb dX2_compares_74 (by decide) (fun _ => ?_) (fun h9 => absurd h9 (by decide))
          refine lv_aload hx hb dX2_compares_99 (lv_at hl 0 rfl) ?_
          refine lv_aload hx hb dX2_compares_101 (lv_at hl 0 rfl) ?_
          refine va_get (D := Z.1) (ci := 22) (v := .int (mm_b (S2.2.2.1 u))) (C := RX27) (T := TX27) (N := 7) hx hb hts in_X27 hown hE.1 (hM.at hb4) 0 rfl mm_cX27 6 (by decide) (hts _ q2584) (fun _ h9 => h9) rfl dX2_compares_103 ?_
          have hh9 : uhf T = false := by rw [hof, ← hocc, eR]; rfl
          have hts9 : ts_like S T = ts_like S2 (.var u) := by rw [hTr, ← hlev, eR]
          refine lv_if_ne (tgt := 117) hx hb dX2_compares_106 (by decide) (fun c_10 => ?_) (fun c_10 => ?_)
          · skip
            refine lv_iconst (v := 1) hx hb dX2_compares_117 (by decide) ?_
            refine lv_goto (tgt := 122) hx hb dX2_compares_118 (by decide) ?_
            refine mm_put (D := Z.1) (ci := 22) (v := .int 1) (ty := .boolean) (C := RX27) (T := TX27) (N := 7) hx hb hts in_X27 tyX27 tyX27_ok nmX27 hown hE.1 hM hS hb4 mm_cX27 6 (by decide) (hts _ q2584) (fun _ h9 => h9) rfl (by decide +kernel) rfl rfl (Nat.le_of_ble_eq_true rfl) dX2_compares_122 (fun H locs hM hS => ?_)
            have hM : mm_P Z.1 mm_cl A (mm_U M3 b (.inr (22, [.int 0, .null, .int 0, .null, .null, .int (S2.2.2.2.1 u), .int 1]))) H := hM
            have hc_11 : (mm_U M3 b (.inr (22, [.int 0, .null, .int 0, .null, .null, .int (S2.2.2.2.1 u), .int 1]))) b = some (.inr (22, [.int 0, .null, .int 0, .null, .null, .int (S2.2.2.2.1 u), .int 1])) := mm_U_eq
            obtain ⟨M_12, eM_12⟩ : ∃ z, z = mm_U M3 b (.inr (22, [.int 0, .null, .int 0, .null, .null, .int (S2.2.2.2.1 u), .int 1])) := ⟨_, rfl⟩
            rw [← eM_12] at hM hc_11
            have hMe : M_12 = mm_U M3 b (mr_E 0 none 0 none none (S2.2.2.2.1 u) true) := by subst eM_12; rfl
            have hL9 : mL mark M3 M_12 := by rw [hMe]; exact mL.putR hb4
            have hC9 : mCI M_12 L vr D (ts_like S2 (.var u)) := hC0.setC (u := u) hL9 rfl rfl rfl hu (fun q hq => by rw [hMe]; exact mm_U_ne (hbu ▸ hq)) (fun w hw => by simp [ts_like, uoc, Ne.symm hw]) (Or.inr ⟨none, by rw [hMe, ← hbu]; simp [ts_like, uoc]; exact mm_U_eq, by simp [hsu]⟩)
            have hy9 : mY2 M3 M_12 L vr D (ts_like S2 (.var u)) mark := by rw [hMe]; exact mY2.put (fun ⟨k, is, fr, to, rw, cm, cp, h⟩ => by rw [mm_U_eq] at h; exact absurd (Option.some.inj h).symm mt_ne_mr)
            exact mm_retvD hx hb hr hlk hM hS ⟨rfl, rfl, rfl, hh9, hS1.L.trans (hL0.trans hL9), by rw [hts9]; exact hC9, hlast _ (hL0.trans hL9) hh9 (by rw [hts9]; exact hy0.trans hC0 hy9 hL9 rfl (ts_like_mono _ _))⟩ dX2_compares_125 (by (try dsimp only); omega) (by (try dsimp only); omega)
          · skip
            refine lv_aload hx hb dX2_compares_109 (lv_at hl 0 rfl) ?_
            refine va_get (D := Z.1) (ci := 22) (v := .int 0) (C := RX27) (T := TX27) (N := 7) hx hb hts in_X27 hown hE.1 (hM.at hb4) 0 rfl mm_cX27 0 (by decide) (hts _ q2577) (fun _ h9 => h9) rfl dX2_compares_111 ?_
            refine lv_if_ne (tgt := 121) hx hb dX2_compares_114 (by decide) (fun h9 => absurd (by decide) h9) (fun _ => ?_)
            refine lv_iconst (v := 1) hx hb dX2_compares_117 (by decide) ?_
            refine lv_goto (tgt := 122) hx hb dX2_compares_118 (by decide) ?_
            refine mm_put (D := Z.1) (ci := 22) (v := .int 1) (ty := .boolean) (C := RX27) (T := TX27) (N := 7) hx hb hts in_X27 tyX27 tyX27_ok nmX27 hown hE.1 hM hS hb4 mm_cX27 6 (by decide) (hts _ q2584) (fun _ h9 => h9) rfl (by decide +kernel) rfl rfl (Nat.le_of_ble_eq_true rfl) dX2_compares_122 (fun H locs hM hS => ?_)
            have hM : mm_P Z.1 mm_cl A (mm_U M3 b (.inr (22, [.int 0, .null, .int 0, .null, .null, .int (S2.2.2.2.1 u), .int 1]))) H := hM
            have hc_11 : (mm_U M3 b (.inr (22, [.int 0, .null, .int 0, .null, .null, .int (S2.2.2.2.1 u), .int 1]))) b = some (.inr (22, [.int 0, .null, .int 0, .null, .null, .int (S2.2.2.2.1 u), .int 1])) := mm_U_eq
            obtain ⟨M_12, eM_12⟩ : ∃ z, z = mm_U M3 b (.inr (22, [.int 0, .null, .int 0, .null, .null, .int (S2.2.2.2.1 u), .int 1])) := ⟨_, rfl⟩
            rw [← eM_12] at hM hc_11
            have hMe : M_12 = mm_U M3 b (mr_E 0 none 0 none none (S2.2.2.2.1 u) true) := by subst eM_12; rfl
            have hL9 : mL mark M3 M_12 := by rw [hMe]; exact mL.putR hb4
            have hC9 : mCI M_12 L vr D (ts_like S2 (.var u)) := hC0.setC (u := u) hL9 rfl rfl rfl hu (fun q hq => by rw [hMe]; exact mm_U_ne (hbu ▸ hq)) (fun w hw => by simp [ts_like, uoc, Ne.symm hw]) (Or.inr ⟨none, by rw [hMe, ← hbu]; simp [ts_like, uoc]; exact mm_U_eq, by simp [hsu]⟩)
            have hy9 : mY2 M3 M_12 L vr D (ts_like S2 (.var u)) mark := by rw [hMe]; exact mY2.put (fun ⟨k, is, fr, to, rw, cm, cp, h⟩ => by rw [mm_U_eq] at h; exact absurd (Option.some.inj h).symm mt_ne_mr)
            exact mm_retvD hx hb hr hlk hM hS ⟨rfl, rfl, rfl, hh9, hS1.L.trans (hL0.trans hL9), by rw [hts9]; exact hC9, hlast _ (hL0.trans hL9) hh9 (by rw [hts9]; exact hy0.trans hC0 hy9 hL9 rfl (ts_like_mono _ _))⟩ dX2_compares_125 (by (try dsimp only); omega) (by (try dsimp only); omega)
        · skip
          have hsz2 : SizeOf.sizeOf T2 = 1 + (1 + SizeOf.sizeOf (uap S2.2.1 x1) + SizeOf.sizeOf k1) + SizeOf.sizeOf (uap S2.2.1 r2) := by rw [eR, uins_size]
          have huh2 : uh T2 = max (uh (uap S2.2.1 x1) + 1) (uh (uap S2.2.1 r2)) := by rw [eR, uins_h]
          refine lv_aload hx hb dX2_compares_68 (lv_at hl 0 rfl) ?_
          refine va_get (D := Z.1) (ci := 22) (v := .int 2) (C := RX27) (T := TX27) (N := 7) hx hb hts in_X27 hown hE.1 (hM.at hb4) 0 rfl mm_cX27 0 (by decide) (hts _ q2577) (fun _ h9 => h9) rfl dX2_compares_70 ?_
          refine lv_iconst (v := 2) hx hb dX2_compares_73 (by decide) ?_
          refine lv_icmp_ne (tgt := 99) hx hb dX2_compares_74 (by decide) (fun h9 => absurd (by decide) h9) (fun _ => ?_)
          refine lv_aload hx hb dX2_compares_77 (lv_at hl 0 rfl) ?_
          refine va_get (D := Z.1) (ci := 22) (v := .ref ty1) (C := RX27) (T := TX27) (N := 7) hx hb hts in_X27 hown hE.1 (hM.at hb4) 0 rfl mm_cX27 3 (by decide) (hts _ q2581) (fun _ h9 => h9) rfl dX2_compares_79 ?_
          refine lv_lload_n hx hb dX2_compares_82 rfl (lv_at hl 2 rfl) ?_
          refine mm_callSD (As := [.ref ty1, .long mark]) (rest := []) ⟨hx, hb, hml, hown, hts⟩ hE hST hA (ih _ _ _ _ _ (by omega) rfl hC0 hx1 ((hbig (s := SizeOf.sizeOf (uap S2.2.1 x1)) (by omega)).next hC1 hy0 hL0 hS22 hS23)) (va_cwS 2 hts (lw_S q2668 q2669 q54 q2670) rfl rfl rfl (by decide +kernel) ⟨(by (try dsimp only); omega), (by (try dsimp only); omega)⟩) hM hS rfl hl.1 (Nat.le_of_ble_eq_true rfl) dX2_compares_83 rfl ⟨(by (try dsimp only); omega), (by (try dsimp only); omega)⟩ (fun E ce q M9 H1 locs1 hp9 hM9 hS9 hce hcv hcl => by exact mm_outxD htab hlk hM9 hS9 hce hcv hcl ⟨by rw [hof, ← hocc, eR]; simp [uins_hf, hp9.1], hp9.2.after (hS1.L.trans hL0).K⟩ (by (try dsimp only); omega) (by (try dsimp only); omega)) (fun v_10 M_11 n_13 k_14 H locs hp_12 hM hS => ?_)
          obtain ⟨rfl, rfl, rfl, ho5, hL5, hC5, hy5⟩ := hp_12
          have hb5 := hL5.r hb4
          obtain ⟨cm5, hb5⟩ := hb5
          refine lv_aload hx hb dX2_compares_86 (lv_at hl 0 rfl) ?_
          refine va_get (D := Z.1) (ci := 22) (v := .ref rs1) (C := RX27) (T := TX27) (N := 7) hx hb hts in_X27 hown hE.1 (hM.at hb5) 0 rfl mm_cX27 4 (by decide) (hts _ q2582) (fun _ h9 => h9) rfl dX2_compares_88 ?_
          have hr5 := hr1.light hL5
          obtain ⟨d6, b6, hn6, hcs6⟩ := hC5.nowR' hr5
          obtain ⟨k9, is9, lb9, ty9, rs9, lk9, cm9, hq9, -⟩ := (hr5).cellR
          refine mm_callV (As := []) (rest := []) ⟨hx, hb, hml, hown, hts⟩ hE hST hA (c_X27_now l Z hn6) (cwV 0 hts (lw_V q2614 q2615 q2616 q100 q2617) rfl rfl rfl (by decide +kernel) ⟨(by (try dsimp only); omega), (by (try dsimp only); omega)⟩) hM hS mm_cX27 hq9 rfl hl.1 (Nat.le_of_ble_eq_true rfl) dX2_compares_91 rfl ⟨(by (try dsimp only); omega), (by (try dsimp only); omega)⟩ (fun _ _ _ _ _ _ h9 => h9.elim) (fun v_15 M_16 H locs hp_17 hM hS => ?_)
          obtain ⟨rfl, eM_16⟩ := hp_17
          rw [eM_16] at hM
          refine lv_astore hx hb dX2_compares_94 hl (by decide) rfl (fun ls hl => ?_)
          replace hl : lv_has ls 5 [(4, .ref b6), (0, .ref a), (1, .long mark)] := hl
          refine lv_goto (tgt := 68) hx hb dX2_compares_96 (by decide) ?_
          refine ih9 (SizeOf.sizeOf (uap S2.2.1 r2)) (by omega) _ _ _ _ _ _ ⟨uap S2.2.1 r2, b6, ts_like S2 (uap S2.2.1 x1), rfl, by omega, by omega, lv_sub hl [0, 1, 2] rfl, ⟨hS21, hS22, fun u h9 => ts_like_mono _ _ u (hS23 u h9)⟩, hL0.trans hL5, hC5, hcs6, ?_, ?_, hy0.trans hC0 hy5 hL5 rfl (ts_like_mono _ _), rfl, rfl⟩ hM hS
          · rw [← hlev, eR]; exact ts_like_or (fun _ => uins_oc _)
          · rw [← hocc, eR]; simp [uins_hf, ho5]
