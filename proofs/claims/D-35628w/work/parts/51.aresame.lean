/-! ===== Plain.areSame ===== -/
set_option maxRecDepth 100000
section MCUTI
variable {p : Program} {l : Launch} {e : Env} {R : Room} {s : State} {m : MethodId} {args : Array Value} {below : List Frame} {meth : Method} {c : Code} {H : Heap} {locs : List Loc} {cells slots : Nat} {Q : State → Prop}
variable {ls : Array Slot} {A : Nat → Prop} {M : mm_M} {H0 : Heap} {Z : mm_G}
/-- several ways come together, each with a memory of its own -/
theorem mm_cutI {ι : Type} (I : ι → mm_M → Nat → Nat → Prop) (stk : ι → List Value) (pc2 : Nat) {g : JFrame}
    (k : (∀ (x : ι) (M : mm_M) (H : Heap) (locs : List Loc) (cells slots : Nat), I x M cells slots → mm_P Z.1 mm_cl A M H → va_S A H0 H locs → W p l e R s m args below meth c H locs cells slots Q (F0 m pc2 ls (stk x))) → W p l e R s m args below meth c H locs cells slots Q g)
    (main : ∀ (x : ι) (M : mm_M) (H : Heap) (locs : List Loc) (cells slots : Nat), I x M cells slots → mm_P Z.1 mm_cl A M H → va_S A H0 H locs → W p l e R s m args below meth c H locs cells slots Q (F0 m pc2 ls (stk x))) (_hM : mm_P Z.1 mm_cl A M H) (_hS : va_S A H0 H locs) :
    W p l e R s m args below meth c H locs cells slots Q g := k main
end MCUTI
theorem AL.K {Z : mm_G} {M M' : mm_M} {a ar cap : Nat} {xs : List (Option Nat)} (h : AL Z M a ar cap xs) (he : mm_Kp M M') : AL Z M' a ar cap xs := by
  obtain ⟨md, f, h1, h2, h3⟩ := h
  exact ⟨md, f, he.1 _ _ _ h1 ⟨by decide, by simp [mm_zs]⟩, he.2 _ _ h2, h3⟩
theorem al_0.K {Z : mm_G} {M M' : mm_M} (h : al_0 Z M) (he : mm_Kp M M') : al_0 Z M' := by
  obtain ⟨f, hf⟩ := h
  exact ⟨f, he.2 _ _ hf⟩
theorem mm_Exp.rf (p : Nat) (M : mm_M) : mm_Exp p M M := fun _ _ _ => rfl
theorem mm_Exp.trans {p : Nat} {M N O : mm_M} (h1 : mm_Exp p M N) (h2 : mm_Exp p N O) : mm_Exp p M O := fun q hq hp => by rw [h2 q (by rw [h1 q hq hp]; exact hq) hp, h1 q hq hp]
theorem mm_Ext.Exp {M N : mm_M} {p : Nat} (h : mm_Ext M N) : mm_Exp p M N := fun q hq _ => h q hq
theorem mm_Exp.self {p : Nat} {M : mm_M} {e : va_E} : mm_Exp p M (mm_U M p e) := fun _ _ hp => mm_U_ne hp
theorem ps_drop {α : Type} {L : List α} {i : Nat} {a b : α} {r : List α} (h : L.drop (2 * i) = a :: b :: r) : L[2 * i]? = some a ∧ L[2 * i + 1]? = some b ∧ L.drop (2 * (i + 1)) = r := by
  refine ⟨?_, ?_, ?_⟩
  · rw [← List.head?_drop, h]; rfl
  · rw [← List.head?_drop, ← List.tail_drop, h]; rfl
  · rw [show 2 * (i + 1) = 2 * i + 1 + 1 by omega, ← List.tail_drop, ← List.tail_drop, h]; rfl

set_option maxHeartbeats 4000000 in
set_option maxRecDepth 100000 in
theorem c_X30_areSame (l : Launch) (Z : mm_G) (htr : l.stackTraces = false) (ad : List Nat) (T : List pt_R) (N : Nat) : ∀ (v1 v2 : ev) (n0 : Nat) (res : Option (Bool × Nat)) (M : mm_M) (pl a b : Nat), SizeOf.sizeOf v1 < N → al_0 Z M → M pl = some (cp_E n0) → n0 ≤ 1000 → cr Z M ad T v1 0 (fun _ => none) (some a) → cr Z M ad T v2 0 (fun _ => none) (some b) → pe_same v1 false v2 n0 = some res →
    mm_C l Z yX30_areSame (ws_ yX30_areSame cX30_areSame 6 (some .boolean)) { frames := 1001 - n0 + 20, cells := 6 * us n0 res, slots := 60 * us n0 res, locals := 30 * (1001 - n0) + 500 } [.ref pl, .ref a, .ref b] M (fun v M' => ∃ (bb : Bool) (n1 : Nat), res = some (bb, n1) ∧ v = some (.int (mm_b bb)) ∧ M' pl = some (cp_E n1) ∧ mm_Exp pl M M') (fun E _ M' => res = none ∧ E = "RowenTongue$Far" ∧ M' pl = some (cp_E 1000) ∧ mm_Exp pl M M') := by
  induction N with
  | zero => intro v1 v2 n0 res M pl a b hsz; omega
  | succ N ihN =>
  intro v1 v2 n0 res M pl a b hsz hz9 hpl hn0 hv1 hv2 hres
  refine mm_ofW (cc := cX30_areSame) (maxL := 6) (ret := (some .boolean)) (by decide) rfl (Nat.le_of_ble_eq_true rfl) ?_
  intro p e s m below meth c A ls hx hb hr hlk hml hown hmn hts htab hE hST hA hM hS hl
  replace hl : lv_has ls 6 [(0, .ref pl), (1, .ref a), (2, .ref b)] := hl
  have hu1 := us_pos hn0 hres
  refine lv_aload_n hx hb dX30_areSame_0 rfl (lv_at hl 0 rfl) ?_
  refine mm_callV (As := []) (rest := []) ⟨hx, hb, hml, hown, hts⟩ hE hST hA (c_X30_count l Z htr hpl hn0) (cwV 0 hts (lw_V q1804 q1806 qs23 q103 q1807) rfl rfl rfl (by decide +kernel) ⟨(by dsimp only; omega), (by dsimp only; omega)⟩) hM hS mm_cX30 hpl rfl hl.1 (Nat.le_of_ble_eq_true rfl) dX30_areSame_1 rfl ⟨(by dsimp only; omega), (by dsimp only; omega)⟩ ?_ (fun v_1 M_2 H locs hp_3 hM hS => ?_)
  · intro E ce q9 M9 H1 locs1 hp9 hM9 hS9 hce hcv hcl
    obtain ⟨hc, rfl, ru, rs, hq, rfl⟩ := hp9
    subst hc
    obtain rfl : res = none := Option.some.inj (hres.symm.trans (pe_same_1000 _ _))
    exact mm_outx htab hlk hM9 hS9 hce hcv hcl ⟨rfl, rfl, (mm_U_ne (fun h9 => by rw [h9, hq] at hpl; cases hpl)).trans hpl, fun z h8 h7 => mm_U_ne (fun h9 => h8 (h9 ▸ hq))⟩ (by dsimp only [us]; omega) (by dsimp only [us]; omega)
  obtain ⟨hlt, rfl, eM_2⟩ := hp_3
  rw [eM_2] at hM
  have hc_4 : (mm_U M pl (.inr (25, [.int (nI (n0 + 1))]))) pl = some (.inr (25, [.int (nI (n0 + 1))])) := mm_U_eq
  obtain ⟨M_5, eM_5⟩ : ∃ z, z = mm_U M pl (.inr (25, [.int (nI (n0 + 1))])) := ⟨_, rfl⟩
  rw [← eM_5] at hM hc_4
  have hne : n0 ≠ 1000 := by omega
  have hx1 : mm_Exp pl M M_5 := by rw [eM_5]; exact mm_Exp.self
  have hk1 := hx1.K hpl
  replace hv1 := cr.mono hk1 _ _ _ _ hv1
  replace hv2 := cr.mono hk1 _ _ _ _ hv2
  have hz1 := hz9.K hk1
  refine mm_cutI (ls := ls) (ι := Nat × Nat × Nat × List (ev × ev) × List (Option Nat)) (fun y M2 cells slots => AN Z M_5 M2 y.1 y.2.1 y.2.2.1 y.2.2.2.2 ∧ pq Z M2 ad T y.2.2.2.1 y.2.2.2.2 ∧ pe_seq y.2.2.2.1 (n0 + 1) = some res ∧ (∀ z ∈ y.2.2.2.1, SizeOf.sizeOf z.1 < N) ∧ cells ≤ 5 ∧ slots ≤ 56) (fun y => [.ref y.1]) 9 (fun kk => ?_) ?_ hM hS
  · skip
    cases v1 with
    | natCast i1 =>
      cases v2 with
      | natCast i2 =>
        simp only [pe_same, if_neg hne, Option.some.injEq] at hres
        subst hres
        simp only [cr] at hv1 hv2
        obtain ⟨a1, e1, ha⟩ := hv1
        cases e1
        obtain ⟨b1, e2, hbb⟩ := hv2
        cases e2
        refine lv_aload_n hx hb dX30_areSame_4 rfl (lv_at hl 1 rfl) ?_
        refine lv_aload_n hx hb dX30_areSame_5 rfl (lv_at hl 2 rfl) ?_
        refine mm_callU (As := [.ref b]) (rest := []) ⟨hx, hb, hml, hown, hts⟩ hE hST hA (c_X33_parts l Z ha hbb) (va_cwA (x := ⟨"RowenTongue$Value", "parts", "(LRowenTongue$Value;)Ljava/util/ArrayList;"⟩) (C := RX33) (owner := "RowenTongue$Value") 1 hts (lw_app (lw_in _ [1891, 1893, 1894, 1895, 106] (by decide +kernel) (by decide +kernel)) (lw_meth q1896)) rfl rfl rfl (hE.2.1 _ q1892 rfl) (by decide +kernel) ⟨(by dsimp only; omega), (by dsimp only; omega)⟩) hM hS mm_cX33 ha rfl hl.1 (Nat.le_of_ble_eq_true rfl) dX30_areSame_6 rfl ⟨(by dsimp only [us]; omega), (by dsimp only [us]; omega)⟩ (fun _ _ _ _ _ _ h9 => h9.elim) (fun v_6 M_7 H locs hp_8 hM hS => ?_)
        rcases hp_8 with ⟨hk, q, nq, rfl, eM_7⟩ | ⟨hk, rfl, eM_7⟩
        · skip
          rw [eM_7] at hM
          have ne_9 : pl ≠ q := (mm_neN hc_4 nq)
          have ne_10 : a ≠ q := (mm_neN ha nq)
          have ne_11 : b ≠ q := (mm_neN hbb nq)
          have hc_12 : (mm_U M_5 q (.inr (41, [.int 0, .ref (Z.2.2.1 2), .int (nI 0)]))) q = some (.inr (41, [.int 0, .ref (Z.2.2.1 2), .int (nI 0)])) := mm_U_eq
          have hc_13 : (mm_U M_5 q (.inr (41, [.int 0, .ref (Z.2.2.1 2), .int (nI 0)]))) pl = some (.inr (25, [.int (nI (n0 + 1))])) := (mm_U_ne ne_9).trans hc_4
          have hc_14 : (mm_U M_5 q (.inr (41, [.int 0, .ref (Z.2.2.1 2), .int (nI 0)]))) a = some (.inr (27, [.int (nI i1)])) := (mm_U_ne ne_10).trans ha
          have hc_15 : (mm_U M_5 q (.inr (41, [.int 0, .ref (Z.2.2.1 2), .int (nI 0)]))) b = some (.inr (27, [.int (nI i2)])) := (mm_U_ne ne_11).trans hbb
          obtain ⟨M_16, eM_16⟩ : ∃ z, z = mm_U M_5 q (.inr (41, [.int 0, .ref (Z.2.2.1 2), .int (nI 0)])) := ⟨_, rfl⟩
          rw [← eM_16] at hM hc_13 hc_14 hc_15 hc_12
          refine lv_astore_n hx hb dX30_areSame_9 rfl hl (by decide) rfl (fun ls hl => ?_)
          replace hl : lv_has ls 6 [(3, .ref q), (0, .ref pl), (1, .ref a), (2, .ref b)] := hl
          refine lv_aload_n hx hb dX30_areSame_10 rfl (lv_at hl 0 rfl) ?_
          refine lv_ifnull hx hb dX30_areSame_11 ?_
          refine lv_iconst (v := 1) hx hb dX30_areSame_14 (by decide) ?_
          refine lv_goto (tgt := 19) hx hb dX30_areSame_15 (by decide) ?_
          refine lv_istore hx hb dX30_areSame_19 hl (by decide) rfl (fun ls hl => ?_)
          replace hl : lv_has ls 6 [(4, .int 1), (3, .ref q), (0, .ref pl), (1, .ref a), (2, .ref b)] := hl
          refine lv_iconst (v := 0) hx hb dX30_areSame_21 (by decide) ?_
          refine lv_istore hx hb dX30_areSame_22 hl (by decide) rfl (fun ls hl => ?_)
          replace hl : lv_has ls 6 [(5, .int 0), (4, .int 1), (3, .ref q), (0, .ref pl), (1, .ref a), (2, .ref b)] := hl
          refine lv_iload hx hb dX30_areSame_24 (lv_at hl 1 rfl) ?_
          refine lv_if_eq (tgt := 70) hx hb dX30_areSame_26 (by decide) (fun h9 => absurd h9 (by decide)) (fun _ => ?_)
          refine lv_iload hx hb dX30_areSame_29 (lv_at hl 0 rfl) ?_
          refine lv_aload_n hx hb dX30_areSame_31 rfl (lv_at hl 2 rfl) ?_
          refine mm_callV (As := []) (rest := [.int 0]) ⟨hx, hb, hml, hown, hts⟩ hE hST hA (c_J2_size l Z (M := M_16) (h0 := q) (f0 := 0) (f1 := (some (Z.2.2.1 2))) (f2 := (nI 0)) hc_12) (cwV 0 hts (lw_V q1917 q178 q179 q53 q180) rfl rfl rfl (by decide +kernel) ⟨(by dsimp only; omega), (by dsimp only; omega)⟩) hM hS mm_cJ2 hc_12 rfl hl.1 (Nat.le_of_ble_eq_true rfl) dX30_areSame_32 rfl ⟨(by dsimp only [us]; omega), (by dsimp only [us]; omega)⟩ (fun _ _ _ _ _ _ h9 => h9.elim) (fun v_17 M_18 H locs hp_19 hM hS => ?_)
          obtain ⟨rfl, eM_18⟩ := hp_19
          rw [eM_18] at hM
          refine lv_icmp_ge (tgt := 70) hx hb dX30_areSame_35 (by decide) (fun _ => ?_) (fun h9 => absurd (by decide) h9)
          refine lv_iload hx hb dX30_areSame_70 (lv_at hl 1 rfl) ?_
          rw [show (1 : Int32) = mm_b (decide (nI i2 = nI i1)) from by rw [decide_eq_true hk]; rfl]
          exact mm_retz hx hb hr (mm_b_nar _) hlk hM hS ⟨_, _, rfl, rfl, hc_13, hx1.trans (by rw [eM_16]; exact (mm_Ext.U nq).Exp)⟩ dX30_areSame_72 (by dsimp only [us]; omega) (by dsimp only [us]; omega)
        · skip
          rw [eM_7] at hM
          refine lv_astore_nN hx hb dX30_areSame_9 rfl hl (by decide) rfl (fun ls hl => ?_)
          replace hl : lv_has ls 6 [(3, .null), (0, .ref pl), (1, .ref a), (2, .ref b)] := hl
          refine lv_aload_nN hx hb dX30_areSame_10 rfl (lv_at hl 0 rfl) ?_
          refine lv_ifnullN (tgt := 18) hx hb dX30_areSame_11 (by decide) ?_
          refine lv_iconst (v := 0) hx hb dX30_areSame_18 (by decide) ?_
          refine lv_istore hx hb dX30_areSame_19 hl (by decide) rfl (fun ls hl => ?_)
          replace hl : lv_has ls 6 [(4, .int 0), (3, .null), (0, .ref pl), (1, .ref a), (2, .ref b)] := hl
          refine lv_iconst (v := 0) hx hb dX30_areSame_21 (by decide) ?_
          refine lv_istore hx hb dX30_areSame_22 hl (by decide) rfl (fun ls hl => ?_)
          replace hl : lv_has ls 6 [(5, .int 0), (4, .int 0), (3, .null), (0, .ref pl), (1, .ref a), (2, .ref b)] := hl
          refine lv_iload hx hb dX30_areSame_24 (lv_at hl 1 rfl) ?_
          refine lv_if_eq (tgt := 70) hx hb dX30_areSame_26 (by decide) (fun _ => ?_) (fun h9 => absurd rfl h9)
          refine lv_iload hx hb dX30_areSame_70 (lv_at hl 1 rfl) ?_
          rw [show (0 : Int32) = mm_b (decide (nI i2 = nI i1)) from by rw [decide_eq_false hk]; rfl]
          exact mm_retz hx hb hr (mm_b_nar _) hlk hM hS ⟨_, _, rfl, rfl, hc_4, hx1⟩ dX30_areSame_72 (by dsimp only [us]; omega) (by dsimp only [us]; omega)
      | _ => simp [pe_same, hne] at hres
    | pow u1 l1 =>
      cases v2 with
      | pow u2 l2 =>
        simp only [cr] at hv1 hv2
        obtain ⟨a1, va, e1, ha, hva⟩ := hv1
        cases e1
        obtain ⟨b1, vb, e2, hbb, hvb⟩ := hv2
        cases e2
        obtain ⟨_, eva, hiva⟩ := hva.isV
        cases eva
        obtain ⟨_, evb, hivb⟩ := hvb.isV
        cases evb
        refine lv_aload_n hx hb dX30_areSame_4 rfl (lv_at hl 1 rfl) ?_
        refine lv_aload_n hx hb dX30_areSame_5 rfl (lv_at hl 2 rfl) ?_
        refine mm_callU (As := [.ref b]) (rest := []) ⟨hx, hb, hml, hown, hts⟩ hE hST hA (c_X37_parts l Z hz1 ha hbb hiva hivb) (va_cwA (x := ⟨"RowenTongue$Value", "parts", "(LRowenTongue$Value;)Ljava/util/ArrayList;"⟩) (C := RX37) (owner := "RowenTongue$Value") 1 hts (lw_app (lw_in _ [1891, 1893, 1907, 1908, 110] (by decide +kernel) (by decide +kernel)) (lw_meth q1909)) rfl rfl rfl (hE.2.1 _ q1892 rfl) (by decide +kernel) ⟨(by dsimp only; omega), (by dsimp only; omega)⟩) hM hS mm_cX37 ha rfl hl.1 (Nat.le_of_ble_eq_true rfl) dX30_areSame_6 rfl ⟨(by dsimp only; omega), (by dsimp only; omega)⟩ (fun _ _ _ _ _ _ h9 => h9.elim) (fun v_6 M_7 H locs hp_8 hM hS => ?_)
        rcases hp_8 with ⟨hk, q, ar, cap, rfl, hN⟩ | ⟨hk, rfl, eM_7⟩
        · skip
          refine kk (q, ar, cap, [(u1, u2)], [some va, some vb]) _ _ _ _ _ ⟨hN, ⟨⟨hva.nabs, cr.mono hN.2.2.2.2.K _ _ _ _ hva⟩, Or.inr ⟨hvb.nabs, cr.mono hN.2.2.2.2.K _ _ _ _ hvb⟩, trivial⟩, ?_, ?_, by dsimp only; omega, by dsimp only; omega⟩ hM hS
          · unfold pe_same at hres
            simp only [if_neg hne, if_pos hk] at hres
            simp only [pe_seq, hvb.nabs, Bool.false_eq_true, if_false, hres]
            cases res with
            | none => rfl
            | some z => obtain ⟨b9, n9⟩ := z; cases b9 <;> rfl
          · intro z hz; simp only [List.mem_cons, List.not_mem_nil, or_false] at hz; subst hz; simp at hsz ⊢; omega
        · skip
          rw [eM_7] at hM
          unfold pe_same at hres
          simp only [if_neg hne, if_neg hk, Option.some.injEq] at hres
          subst hres
          refine lv_astore_nN hx hb dX30_areSame_9 rfl hl (by decide) rfl (fun ls hl => ?_)
          replace hl : lv_has ls 6 [(3, .null), (0, .ref pl), (1, .ref a), (2, .ref b)] := hl
          refine lv_aload_nN hx hb dX30_areSame_10 rfl (lv_at hl 0 rfl) ?_
          refine lv_ifnullN (tgt := 18) hx hb dX30_areSame_11 (by decide) ?_
          refine lv_iconst (v := 0) hx hb dX30_areSame_18 (by decide) ?_
          refine lv_istore hx hb dX30_areSame_19 hl (by decide) rfl (fun ls hl => ?_)
          replace hl : lv_has ls 6 [(4, .int 0), (3, .null), (0, .ref pl), (1, .ref a), (2, .ref b)] := hl
          refine lv_iconst (v := 0) hx hb dX30_areSame_21 (by decide) ?_
          refine lv_istore hx hb dX30_areSame_22 hl (by decide) rfl (fun ls hl => ?_)
          replace hl : lv_has ls 6 [(5, .int 0), (4, .int 0), (3, .null), (0, .ref pl), (1, .ref a), (2, .ref b)] := hl
          refine lv_iload hx hb dX30_areSame_24 (lv_at hl 1 rfl) ?_
          refine lv_if_eq (tgt := 70) hx hb dX30_areSame_26 (by decide) (fun _ => ?_) (fun h9 => absurd rfl h9)
          refine lv_iload hx hb dX30_areSame_70 (lv_at hl 1 rfl) ?_
          rw [show (0 : Int32) = mm_b false from rfl]
          exact mm_retz hx hb hr (mm_b_nar _) hlk hM hS ⟨_, _, rfl, rfl, hc_4, hx1⟩ dX30_areSame_72 (by dsimp only [us]; omega) (by dsimp only [us]; omega)
      | _ => unfold pe_same at hres; simp [hne] at hres
    | add x1 r1 =>
      cases v2 with
      | add x2 r2 =>
        obtain ⟨a1, qa, f, e1, ha, hqa, hra⟩ := cr_rec.1 hv1
        cases e1
        obtain ⟨b1, qb, g, e2, hbb, hqb, hrb⟩ := cr_rec.1 hv2
        cases e2
        refine lv_aload_n hx hb dX30_areSame_4 rfl (lv_at hl 1 rfl) ?_
        refine lv_aload_n hx hb dX30_areSame_5 rfl (lv_at hl 2 rfl) ?_
        refine mm_callU (As := [.ref b]) (rest := []) ⟨hx, hb, hml, hown, hts⟩ hE hST hA (c_X36_parts l Z hz1 ha hbb hqa hqb (fun j y => cr_isV hra j y) (fun j y => cr_isV hrb j y)) (va_cwA (x := ⟨"RowenTongue$Value", "parts", "(LRowenTongue$Value;)Ljava/util/ArrayList;"⟩) (C := RX36) (owner := "RowenTongue$Value") 1 hts (lw_app (lw_in _ [1891, 1893, 1900, 1901, 109] (by decide +kernel) (by decide +kernel)) (lw_meth q1902)) rfl rfl rfl (hE.2.1 _ q1892 rfl) (by decide +kernel) ⟨(by dsimp only; omega), (by dsimp only; omega)⟩) hM hS mm_cX36 ha rfl hl.1 (Nat.le_of_ble_eq_true rfl) dX30_areSame_6 rfl ⟨(by dsimp only; omega), (by dsimp only; omega)⟩ (fun _ _ _ _ _ _ h9 => h9.elim) (fun v_6 M_7 H locs hp_8 hM hS => ?_)
        obtain ⟨q, ar, cap, rfl, hN⟩ := hp_8
        have hpq := pq.mono hN.2.2.2.2.K _ _ (pq_rec _ _ 0 hra hrb)
        rw [show rq f g (10 - 0) 0 = rp f g 10 from by rw [show (10 : Nat) = 0 + 10 from rfl, ← rp_rq f g 10 0]; rfl] at hpq
        exact kk (q, ar, cap, rc_ps (.add x1 r1) (.add x2 r2), rp f g 10) _ _ _ _ _ ⟨hN, hpq, pe_same_add hres hne, fun z hz => by have := rc_ps_size _ _ z.1 z.2 hz; omega, by dsimp only; omega, by dsimp only; omega⟩ hM hS
      | _ => simp [pe_same, hne] at hres
    | _ => first | (simp [cr] at hv1; done) | (unfold pe_same at hres; simp [hne] at hres; done)
  rintro ⟨q, ar, cap, ps, L⟩ M2 H locs cells slots ⟨hN, hpq, hseq, hsz2, hc1, hc2⟩ hM hS
  dsimp only at hN hpq hseq hsz2 hM ⊢
  have hx2 : mm_Exp pl M M2 := hx1.trans hN.2.2.2.2.Exp
  have hp2 := hN.2.2.2.2.at hc_4
  refine lv_astore_n hx hb dX30_areSame_9 rfl hl (by decide) rfl (fun ls hl => ?_)
  replace hl : lv_has ls 6 [(3, .ref q), (0, .ref pl), (1, .ref a), (2, .ref b)] := hl
  refine lv_aload_n hx hb dX30_areSame_10 rfl (lv_at hl 0 rfl) ?_
  refine lv_ifnull hx hb dX30_areSame_11 ?_
  refine lv_iconst (v := 1) hx hb dX30_areSame_14 (by decide) ?_
  refine lv_goto (tgt := 19) hx hb dX30_areSame_15 (by decide) ?_
  refine lv_istore hx hb dX30_areSame_19 hl (by decide) rfl (fun ls hl => ?_)
  replace hl : lv_has ls 6 [(4, .int 1), (3, .ref q), (0, .ref pl), (1, .ref a), (2, .ref b)] := hl
  refine lv_iconst (v := 0) hx hb dX30_areSame_21 (by decide) ?_
  refine lv_istore hx hb dX30_areSame_22 hl (by decide) rfl (fun ls hl => ?_)
  replace hl : lv_has ls 6 [(5, .int 0), (4, .int 1), (3, .ref q), (0, .ref pl), (1, .ref a), (2, .ref b)] := hl
  replace hl : lv_has ls 6 [(5, .int (nI (2 * 0))), (4, .int (mm_b true)), (3, .ref q), (0, .ref pl), (1, .ref a), (2, .ref b)] := hl
  have hpl2 := pq.len _ _ hpq
  have hL22 : L.length ≤ 22 := by have h1 := hN.len; rcases hN.2.2.2.1 with h2 | h2 | h2 | h2 <;> omega
  refine mm_loopW (fun k M' ls cells slots => ∃ (i n : Nat) (bb : Bool) (ps' : List (ev × ev)), k = (if bb then ps'.length + 1 else 0) ∧ lv_has ls 6 [(5, .int (nI (2 * i))), (4, .int (mm_b bb)), (3, .ref q), (0, .ref pl)] ∧ M' pl = some (cp_E n) ∧ n0 < n ∧ n ≤ 1000 ∧ mm_Exp pl M2 M' ∧ (bb = true → pq Z M' ad T ps' (L.drop (2 * i)) ∧ pe_seq ps' n = some res ∧ (∀ z ∈ ps', SizeOf.sizeOf z.1 < N)) ∧ (bb = false → res = some (false, n)) ∧ i ≤ 11 ∧ 2 * i + 2 * (if bb then ps'.length else 0) ≤ 22 ∧ cells ≤ 6 * (n - n0) ∧ slots ≤ 60 * (n - n0)) (fun k M3 ls H locs cells slots ih hI hM hS => ?_) ⟨0, n0 + 1, true, ps, rfl, lv_sub hl [0, 1, 2, 3] rfl, hp2, by omega, by omega, mm_Exp.rf pl M2, fun _ => ⟨hpq, hseq, hsz2⟩, fun h9 => (by cases h9), by omega, by simp; omega, by omega, by omega⟩ hM hS
  obtain ⟨i, n, bb, ps', rfl, hl, hp3, hn1, hn2, hx3, hbt, hbf, hi10, hps20, hc3, hc4⟩ := hI
  cases bb
  · skip
    have hres' := hbf rfl
    refine lv_iload hx hb dX30_areSame_24 (lv_at hl 1 rfl) ?_
    refine lv_if_eq (tgt := 70) hx hb dX30_areSame_26 (by decide) (fun _ => ?_) (fun h9 => absurd (by decide) h9)
    refine lv_iload hx hb dX30_areSame_70 (lv_at hl 1 rfl) ?_
    have hus9 : us n0 res = n - n0 := by rw [hres']; rfl
    exact mm_retz hx hb hr (mm_b_nar _) hlk hM hS ⟨false, n, hres', rfl, hp3, hx2.trans hx3⟩ dX30_areSame_72 (by (try dsimp only); omega) (by (try dsimp only); omega)
  · skip
    obtain ⟨hq3, hs3, hz3⟩ := hbt rfl
    have hlen3 := pq.len _ _ hq3
    rw [List.length_drop] at hlen3
    have hk3 := hx3.K hp2
    have hA3 := hN.1.K hk3
    obtain ⟨mdq, fq, hq9, -⟩ := id hA3
    have hcap20 : L.length < 2 ^ 20 := by obtain ⟨_, _, _, _, g1, g2, -⟩ := hA3; omega
    have hus8 : n - n0 ≤ us n0 res := by
      cases res with
      | none => simp only [us]; omega
      | some w => obtain ⟨b8, n8⟩ := w; have := pe_seq_mono _ _ _ _ hn2 hs3; simp only [us]; omega
    refine lv_iload hx hb dX30_areSame_24 (lv_at hl 1 rfl) ?_
    refine lv_if_eq (tgt := 70) hx hb dX30_areSame_26 (by decide) (fun h9 => absurd h9 (by decide)) (fun _ => ?_)
    refine lv_iload hx hb dX30_areSame_29 (lv_at hl 0 rfl) ?_
    refine lv_aload_n hx hb dX30_areSame_31 rfl (lv_at hl 2 rfl) ?_
    refine mm_callV (As := []) (rest := [.int (nI (2 * i))]) ⟨hx, hb, hml, hown, hts⟩ hE hST hA (c_J2_size l Z (M := M3) (h0 := q) (f0 := mdq) (f1 := (some ar)) (f2 := (nI L.length)) hq9) (cwV 0 hts (lw_V q1917 q178 q179 q53 q180) rfl rfl rfl (by decide +kernel) ⟨(by dsimp only; omega), (by dsimp only; omega)⟩) hM hS mm_cJ2 hq9 rfl hl.1 (Nat.le_of_ble_eq_true rfl) dX30_areSame_32 rfl ⟨(by (try dsimp only); omega), (by (try dsimp only); omega)⟩ (fun _ _ _ _ _ _ h9 => h9.elim) (fun v_6 M_7 H locs hp_8 hM hS => ?_)
    obtain ⟨rfl, eM_7⟩ := hp_8
    rw [eM_7] at hM
    refine lv_icmp_ge (tgt := 70) hx hb dX30_areSame_35 (by decide) (fun c_9 => ?_) (fun c_9 => ?_)
    · skip
      have hge : L.length ≤ 2 * i := (nI_leI (by omega) (by omega)).1 c_9
      obtain rfl : ps' = [] := List.eq_nil_of_length_eq_zero (by omega)
      obtain rfl : res = some (true, n) := (Option.some.inj hs3).symm
      refine lv_iload hx hb dX30_areSame_70 (lv_at hl 1 rfl) ?_
      exact mm_retz hx hb hr (mm_b_nar _) hlk hM hS ⟨true, n, rfl, rfl, hp3, hx2.trans hx3⟩ dX30_areSame_72 (by dsimp only [us]; omega) (by dsimp only [us]; omega)
    · skip
      have hlt3 : 2 * i < L.length := by have := (nI_ltI (a := 2 * i) (b := L.length) (by omega) (by omega)).1 (Int32.not_le.1 c_9); exact this
      obtain ⟨x, yv, ps2, rfl⟩ : ∃ x yv ps2, ps' = (x, yv) :: ps2 := by cases ps' with
        | nil => simp at hlen3; omega
        | cons z ps2 => exact ⟨z.1, z.2, ps2, rfl⟩
      obtain ⟨oa, ob, L2, hL2⟩ : ∃ oa ob L2, L.drop (2 * i) = oa :: ob :: L2 := by
        cases h9 : L.drop (2 * i) with
        | nil => rw [h9] at hq3; simp [pq] at hq3
        | cons oa L1 => cases L1 with
          | nil => rw [h9] at hq3; simp [pq] at hq3
          | cons ob L2 => exact ⟨oa, ob, L2, rfl⟩
      obtain ⟨hd1, hd2, hd3⟩ := ps_drop hL2
      rw [hL2] at hq3
      obtain ⟨⟨hxa, hxc⟩, hyc, hq4⟩ := hq3
      obtain ⟨va, rfl, hva⟩ := hxc.isV
      simp only [pe_seq] at hs3
      have hyn : ¬ ev_abs yv = true := fun h9 => by rw [if_pos h9] at hs3; cases hs3
      rw [if_neg hyn] at hs3
      obtain hyc : cr Z M3 ad T yv 0 (fun _ => none) ob := by rcases hyc with ⟨h9, -⟩ | ⟨-, h9⟩; exact absurd h9 hyn; exact h9
      obtain ⟨vb, rfl, hvb⟩ := hyc.isV
      obtain ⟨res', hr1⟩ : ∃ res', pe_same x false yv n = some res' := by cases h9 : pe_same x false yv n with
        | none => rw [h9] at hs3; cases hs3
        | some z => exact ⟨z, rfl⟩
      rw [hr1] at hs3
      have hszx : SizeOf.sizeOf x < N := hz3 (x, yv) List.mem_cons_self
      have hlen4 : 2 * i + 1 < L.length := (List.getElem?_eq_some_iff.mp hd2).1
      have hroom : us n res' + (n - n0) ≤ us n0 res ∧ (res' = none → res = none) := by
        cases res' with
        | none => obtain rfl : res = none := (Option.some.inj hs3).symm; simp only [us]; exact ⟨by omega, fun _ => trivial⟩
        | some z =>
          obtain ⟨b9, n9⟩ := z
          have hm := pe_same_mono x false yv n b9 n9 hn2 hr1
          refine ⟨?_, fun h9 => by cases h9⟩
          cases res with
          | none => simp only [us]; omega
          | some w =>
            obtain ⟨b8, n8⟩ := w
            simp only [us]
            cases b9 with
            | true => have := pe_seq_mono _ _ _ _ hm.2 hs3; omega
            | false => cases (Option.some.inj (Option.some.inj hs3)); omega
      refine lv_aload_n hx hb dX30_areSame_38 rfl (lv_at hl 3 rfl) ?_
      refine lv_aload_n hx hb dX30_areSame_39 rfl (lv_at hl 2 rfl) ?_
      refine lv_iload hx hb dX30_areSame_40 (lv_at hl 0 rfl) ?_
      refine mm_callV (As := [.int (nI (2 * i))]) (rest := [.ref pl]) ⟨hx, hb, hml, hown, hts⟩ hE hST hA (c_J2_get l Z hA3 hlt3) (cwV 1 hts (lw_V q1918 q500 q501 q53 q502) rfl rfl rfl (by decide +kernel) ⟨(by dsimp only; omega), (by dsimp only; omega)⟩) hM hS mm_cJ2 hq9 rfl hl.1 (Nat.le_of_ble_eq_true rfl) dX30_areSame_42 rfl ⟨(by (try dsimp only); omega), (by (try dsimp only); omega)⟩ (fun _ _ _ _ _ _ h9 => h9.elim) (fun v_10 M_11 H locs hp_12 hM hS => ?_)
      obtain ⟨⟨r9, hr9, rfl⟩, eM_11⟩ := hp_12
      rw [eM_11] at hM
      cases hr9.symm.trans hd1
      refine mm_castVal hx hb hown (hts _ q1919) hE hM hva dX30_areSame_45 ?_
      refine lv_aload_n hx hb dX30_areSame_48 rfl (lv_at hl 2 rfl) ?_
      refine lv_iload hx hb dX30_areSame_49 (lv_at hl 0 rfl) ?_
      refine lv_iconst (v := 1) hx hb dX30_areSame_51 (by decide) ?_
      refine lv_iadd hx hb dX30_areSame_52 ?_
      rw [show ((nI (2 * i)) + 1 : Int32) = nI (2 * i + 1) from nI_1 _]
      refine mm_callV (As := [.int (nI (2 * i + 1))]) (rest := [.ref va, .ref pl]) ⟨hx, hb, hml, hown, hts⟩ hE hST hA (c_J2_get l Z hA3 hlen4) (cwV 1 hts (lw_V q1918 q500 q501 q53 q502) rfl rfl rfl (by decide +kernel) ⟨(by dsimp only; omega), (by dsimp only; omega)⟩) hM hS mm_cJ2 hq9 rfl hl.1 (Nat.le_of_ble_eq_true rfl) dX30_areSame_53 rfl ⟨(by (try dsimp only); omega), (by (try dsimp only); omega)⟩ (fun _ _ _ _ _ _ h9 => h9.elim) (fun v_13 M_14 H locs hp_15 hM hS => ?_)
      obtain ⟨⟨r9, hr9, rfl⟩, eM_14⟩ := hp_15
      rw [eM_14] at hM
      cases hr9.symm.trans hd2
      refine mm_castVal hx hb hown (hts _ q1919) hE hM hvb dX30_areSame_56 ?_
      refine mm_callV (As := [.ref va, .ref vb]) (rest := []) ⟨hx, hb, hml, hown, hts⟩ hE hST hA (ihN x yv n res' M3 pl va vb hszx (hz1.K (hN.2.2.2.2.K.trans hk3)) hp3 hn2 hxc hyc hr1) (cwV 2 hts (lw_V q1887 q1889 qs24 q103 q1890) rfl rfl rfl (by decide +kernel) ⟨(by dsimp only; omega), (by dsimp only; omega)⟩) hM hS mm_cX30 hp3 rfl hl.1 (Nat.le_of_ble_eq_true rfl) dX30_areSame_59 rfl ⟨(by (try dsimp only); omega), (by (try dsimp only); omega)⟩ ?_ (fun v_16 M_17 H locs hp_18 hM hS => ?_)
      · intro E ce q9 M9 H1 locs1 hp9 hM9 hS9 hce hcv hcl
        obtain ⟨rfl, rfl, h8, h7⟩ := hp9
        exact mm_outx htab hlk hM9 hS9 hce hcv hcl ⟨hroom.2 rfl, rfl, h8, (hx2.trans hx3).trans h7⟩ (by dsimp only; omega) (by dsimp only; omega)
      obtain ⟨b9, n9, rfl, rfl, hp4, hx4⟩ := hp_18
      have hm9 := pe_same_mono x false yv n b9 n9 hn2 hr1
      have hn9 : n < n9 := by by_cases h9 : n + 1 ≤ n9; omega; exact (pe_same_lt hn2 h9 hr1).elim
      refine lv_istore hx hb dX30_areSame_62 hl (by decide) rfl (fun ls hl => ?_)
      replace hl : lv_has ls 6 [(4, .int (mm_b b9)), (5, .int (nI (2 * i))), (3, .ref q), (0, .ref pl)] := hl
      obtain ⟨x9, ex9⟩ : ∃ z : Int32, z = nI (2 * i) + 2 := ⟨_, rfl⟩
      refine lv_iinc (v := x9) (lv' := [(5, .int x9), (4, .int (mm_b b9)), (3, .ref q), (0, .ref pl)]) hx hb dX30_areSame_64 hl (k := 1) rfl (by rw [ex9]; rfl) (by decide) rfl (fun ls hl => ?_)
      rw [show x9 = nI (2 * (i + 1)) from by rw [ex9]; exact nI_add (2 * i) 2] at hl
      refine lv_goto (tgt := 24) hx hb dX30_areSame_67 (by decide) ?_
      refine ih (if b9 then ps2.length + 1 else 0) (by cases b9 <;> simp) _ _ _ _ _ _ ⟨i + 1, n9, b9, ps2, rfl, lv_sub hl [0, 1, 2, 3] rfl, hp4, by omega, hm9.2, hx3.trans hx4, fun h9 => ⟨by rw [hd3]; exact pq.mono (hx4.K hp3) _ _ hq4, by subst h9; exact hs3, fun z hz => hz3 z (List.mem_cons_of_mem _ hz)⟩, fun h9 => by subst h9; exact (Option.some.inj hs3).symm, by simp at hps20; omega, by simp at hps20; cases b9 <;> simp <;> omega, ?_, ?_⟩ hM hS
      · have hu9 : us n (some (b9, n9)) = n9 - n := rfl
        dsimp only; omega
      · have hu9 : us n (some (b9, n9)) = n9 - n := rfl
        dsimp only; omega
