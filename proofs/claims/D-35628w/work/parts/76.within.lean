/-! ===== Walk.through: Within ===== -/
set_option maxRecDepth 100000
section MCR
variable {p : Program} {l : Launch} {e : Env} {R : Room} {s : State} {m : MethodId} {args : Array Value} {below : List Frame} {meth : Method} {c : Code} {H : Heap} {locs : List Loc} {cells slots : Nat} {Q : State → Prop}
variable {ls : Array Slot} {rest : List Value} {A : Nat → Prop} {Z : mm_G} {M : mm_M} {H0 : Heap}
/-- ways come together, a reference on top -/
theorem mm_cutR {g : JFrame} {b : Nat} {pc2 : Nat} (k : (∀ (H : Heap) (locs : List Loc), mm_P Z.1 mm_cl A M H → va_S A H0 H locs → W p l e R s m args below meth c H locs cells slots Q (F0 m pc2 ls (.ref b :: rest))) → W p l e R s m args below meth c H locs cells slots Q g)
    (main : ∀ (H : Heap) (locs : List Loc), mm_P Z.1 mm_cl A M H → va_S A H0 H locs → W p l e R s m args below meth c H locs cells slots Q (F0 m pc2 ls (.ref b :: rest))) (_hM : mm_P Z.1 mm_cl A M H) (_hS : va_S A H0 H locs) : W p l e R s m args below meth c H locs cells slots Q g := k main
end MCR
theorem ct_now.at {M : mm_M} {d a b : Nat} (h : ct_now M d a b) : ∃ sm, ct_at M a sm := by
  cases d with
  | zero => exact ⟨_, h.2⟩
  | succ d => obtain ⟨q, h1, -⟩ := h; exact ⟨_, h1⟩
theorem cr_now.at {M : mm_M} {d a b : Nat} (h : cr_now M d a b) : ∃ sm, cr_at M a sm := by
  cases d with
  | zero => exact ⟨_, h.2⟩
  | succ d => obtain ⟨q, h1, -⟩ := h; exact ⟨_, h1⟩
theorem umi_umi (x y : Int32) : umi x (umi x y) = umi x y := by
  unfold umi
  by_cases h : x < y
  · rw [if_pos h, ite_self]
  · rw [if_neg h, if_neg h]
theorem ts_lev_or {S : ts} {x : Int32} {X Y T : ev} (h : ∀ u, uoc u T = (uoc u X || uoc u Y)) : ts_lev (ts_lev S x X) x Y = ts_lev S x T := by
  have e : (fun u => if uoc u Y then umi x (if uoc u X then umi x (S.2.2.2.2 u) else S.2.2.2.2 u) else (if uoc u X then umi x (S.2.2.2.2 u) else S.2.2.2.2 u)) = fun u => if uoc u T then umi x (S.2.2.2.2 u) else S.2.2.2.2 u := by
    funext u
    rw [h u]
    cases uoc u X <;> cases uoc u Y <;> simp [umi_umi]
  exact congrArg (fun f => ((S.1, S.2.1, S.2.2.1, S.2.2.2.1, f) : ts)) e
theorem ts_lev_none {S : ts} {x : Int32} {T : ev} (h : ∀ u, uoc u T = false) : ts_lev S x T = S := by
  have e : (fun u => if uoc u T then umi x (S.2.2.2.2 u) else S.2.2.2.2 u) = S.2.2.2.2 := by
    funext u
    rw [h u]; rfl
  exact congrArg (fun f => ((S.1, S.2.1, S.2.2.1, S.2.2.2.1, f) : ts)) e
theorem ts_lev_cg {S : ts} {x : Int32} {T T' : ev} (h : ∀ u, uoc u T = uoc u T') : ts_lev S x T = ts_lev S x T' := by
  have e : (fun u => if uoc u T then umi x (S.2.2.2.2 u) else S.2.2.2.2 u) = fun u => if uoc u T' then umi x (S.2.2.2.2 u) else S.2.2.2.2 u := by
    funext u
    rw [h u]
  exact congrArg (fun f => ((S.1, S.2.1, S.2.2.1, S.2.2.2.1, f) : ts)) e
/-- a type's height -/
def uh : ev → Nat
  | .sub x y => max (uh x) (uh y) + 1
  | .add x y => max (uh x) (uh y)
  | .pow x _ => uh x + 1
  | _ => 0
theorem uins_h {l : Nat} {t : ev} : ∀ r : ev, uh (uins l t r) = max (uh t + 1) (uh r) := by
  intro r
  have key : ∀ (N : Nat) (r : ev), SizeOf.sizeOf r < N → uh (uins l t r) = max (uh t + 1) (uh r) := by
    intro N
    induction N with
    | zero => intro r h; omega
    | succ N ih =>
      intro r hz
      unfold uins
      split
      · rename_i u k r
        have z1 : SizeOf.sizeOf (Lean.Grind.CommRing.Expr.add (.pow u k) r) = 1 + (1 + SizeOf.sizeOf u + SizeOf.sizeOf k) + SizeOf.sizeOf r := rfl
        split
        · simp only [uh]
        · simp only [uh]
          rw [ih r (by omega)]; omega
      · simp only [uh]
  exact key _ r (Nat.lt_succ_self _)
abbrev wi_E (op rw9 : Option Nat) (lw : Int32) : va_E := .inr (15, [va_rf op, va_rf rw9, .int lw])
/-- the variable that Within looks for: a row's, or a type's -/
def wop (ro : Bool) (x : Nat) : Option Nat := if ro then none else some x
def wrw (ro : Bool) (x : Nat) : Option Nat := if ro then some x else none
def uVK (M : mm_M) (ro : Bool) (x : Nat) : Prop := (ro = false → ∃ bd lv lk, M x = some (co_E bd lv lk)) ∧ (ro = true → ∃ bd lv lk lc, M x = some (cr_E bd lv lk lc))
theorem uL.VK {M M' : mm_M} (h : uL M M') {ro : Bool} {x : Nat} (h1 : uVK M ro x) : uVK M' ro x := by
  refine ⟨fun e => ?_, fun e => ?_⟩
  · obtain ⟨bd, lv, lk, h2⟩ := h1.1 e
    rcases h x _ h2 with k | ⟨bd2, lv2, lk2, lv3, lk3, -, k⟩ | ⟨bd2, lv2, lk2, lv3, lk3, lc3, e2, k⟩
    · exact ⟨_, _, _, k⟩
    · exact ⟨_, _, _, k⟩
    · exfalso; simp at e2
  · obtain ⟨bd, lv, lk, lc, h2⟩ := h1.2 e
    rcases h x _ h2 with k | ⟨bd2, lv2, lk2, lv3, lk3, e2, k⟩ | ⟨bd2, lv2, lk2, lv3, lk3, lc3, -, k⟩
    · exact ⟨_, _, _, _, k⟩
    · exfalso; simp at e2
    · exact ⟨_, _, _, _, k⟩
theorem uL.at {M M' : mm_M} (h : uL M M') {a : Nat} {e : va_E} (ha : M a = some e) (h1 : ∀ bd lv lk, e ≠ co_E bd lv lk) (h2 : ∀ bd lv lk lc, e ≠ cr_E bd lv lk lc) : M' a = some e := by
  rcases h a e ha with k | ⟨bd2, lv2, lk2, lv3, lk3, e2, k⟩ | ⟨bd2, lv2, lk2, lv3, lk3, lc3, e2, k⟩
  · exact k
  · exact absurd e2 (h1 _ _ _)
  · exact absurd e2 (h2 _ _ _ _)
theorem uL.atC {M M' : mm_M} {a ci : Nat} {fs : List Value} (h : uL M M') (ha : M a = some (.inr (ci, fs))) (hc : ci ≠ 9 ∧ ci ≠ 12) : M' a = some (.inr (ci, fs)) :=
  h.at ha (fun _ _ _ h9 => hc.1 (Prod.mk.inj (Sum.inr.inj h9)).1) (fun _ _ _ _ h9 => hc.2 (Prod.mk.inj (Sum.inr.inj h9)).1)
theorem uL.none {M M' : mm_M} (h : uL M M') {q : Nat} (hq : M' q = none) : M q = none := by
  cases e : M q with
  | none => rfl
  | some x =>
    rcases h q x e with k | ⟨bd2, lv2, lk2, lv3, lk3, e2, k⟩ | ⟨bd2, lv2, lk2, lv3, lk3, lc3, e2, k⟩ <;> (rw [hq] at k; cases k)
/-- a Clash er was thrown: at q -/
def uX (M : mm_M) (er : Int32) (E : String) (q : Nat) (M' : mm_M) : Prop := E = "RowenTongue$Clash" ∧ M q = none ∧ (∃ ru rs : Option Nat, M' q = some (.inr (16, [.ref q, va_rf ru, va_rf rs, .null, .null, .int 0, .int er]))) ∧ uK M M'
theorem uX.of {M M' : mm_M} {er : Int32} {E : String} {q : Nat} (h : E = "RowenTongue$Clash" ∧ ∃ ru rs : Option Nat, M q = none ∧ M' = mm_U M q (.inr (16, [.ref q, va_rf ru, va_rf rs, .null, .null, .int 0, .int er]))) : uX M er E q M' := by
  obtain ⟨h1, ru, rs, h2, h3⟩ := h
  rw [h3]
  exact ⟨h1, h2, ⟨ru, rs, mm_U_eq⟩, (mm_Ext.U h2).uK⟩
theorem uX.after {M N M' : mm_M} {er : Int32} {E : String} {q : Nat} (h : uX N er E q M') (hL : uL M N) : uX M er E q M' := ⟨h.1, hL.none h.2.1, h.2.2.1, hL.K.trans h.2.2.2⟩
theorem w_op {Z : mm_G} {M : mm_M} {L : List Nat} {vr : Nat → Nat} {S : ts} (hC : uCI Z M L vr S) {u v : Nat} (hu : u < S.1) (hv : v < S.1) {ro : Bool} (hk : uVK M ro (vr v)) {bd : Option Nat} {lv : Int32} {lk : Bool} (h : M (vr u) = some (co_E bd lv lk)) : some (vr u) = wop ro (vr v) ↔ u = v := by
  cases ro with
  | false => exact ⟨fun h9 => hC.1.2.2.1 u v hu hv (Option.some.inj h9), fun h9 => by rw [h9]; rfl⟩
  | true =>
    refine ⟨fun h9 => (by cases h9), fun h9 => ?_⟩
    subst h9
    obtain ⟨_, _, _, _, h2⟩ := hk.2 rfl
    rw [h] at h2; simp at h2
theorem w_rw {Z : mm_G} {M : mm_M} {L : List Nat} {vr : Nat → Nat} {S : ts} (hC : uCI Z M L vr S) {u v : Nat} (hu : u < S.1) (hv : v < S.1) {ro : Bool} (hk : uVK M ro (vr v)) {bd : Option Nat} {lv lc : Int32} {lk : Bool} (h : M (vr u) = some (cr_E bd lv lk lc)) : some (vr u) = wrw ro (vr v) ↔ u = v := by
  cases ro with
  | true => exact ⟨fun h9 => hC.1.2.2.1 u v hu hv (Option.some.inj h9), fun h9 => by rw [h9]; rfl⟩
  | false =>
    refine ⟨fun h9 => (by cases h9), fun h9 => ?_⟩
    subst h9
    obtain ⟨_, _, _, h2⟩ := hk.1 rfl
    rw [h] at h2; simp at h2
/-- what a row that ends its chain is -/
def uRow (Z : mm_G) (M : mm_M) (L : List Nat) (vr : Nat → Nat) (S : ts) (R : ev) (b : Nat) : Prop := (R = .natCast 0 ∧ b = Z.2.2.1 1 ∧ M b = some cz_E) ∨
     (∃ v, v < S.1 ∧ R = .var v ∧ S.2.1 v = .var v ∧ b = vr v ∧ b ∈ L ∧ M b = some (cr_E none (S.2.2.2.2 v) (S.2.2.1 v) (S.2.2.2.1 v))) ∨
     ∃ x k r ty rs, R = uins k (uap S.2.1 x) (uap S.2.1 r) ∧ k < 10 ∧ M b = some (ce_E (nI k) (some ty) (some rs)) ∧ tp Z M L vr S.1 x false ty ∧ tp Z M L vr S.1 r true rs
theorem uCI.nowR' {Z : mm_G} {M : mm_M} {L : List Nat} {vr : Nat → Nat} {S : ts} (hC : uCI Z M L vr S) {t : ev} {a : Nat} (h : tp Z M L vr S.1 t true a) : ∃ (d b : Nat), d ≤ L.length + 1 ∧ cr_now M d a b ∧ uRow Z M L vr S (uap S.2.1 t) b := by
  obtain ⟨d, b, t', hd, hn, -, -, hr⟩ := hC.nowR h
  exact ⟨d, b, hd, hn, hr⟩
theorem tp.light {Z : mm_G} {M M' : mm_M} {L : List Nat} {vr : Nat → Nat} {n : Nat} {t : ev} {m : Bool} {a : Nat} (h : tp Z M L vr n t m a) (hL : uL M M') : tp Z M' L vr n t m a := tp.mono hL.K (fun _ h => h) (fun _ _ => rfl) (Nat.le_refl _) t m a h
abbrev tw_r (h n : Nat) : Room := { frames := h + n + 12, cells := 1, slots := 7, locals := 25 * h + 20 * n + 500 }

set_option maxHeartbeats 4000000 in
set_option maxRecDepth 100000 in
theorem d_X18_at (l : Launch) (Z : mm_G) {M : mm_M} (htr : l.stackTraces = false) {a u : Nat} {op rw9 bd : Option Nat} {lv lu : Int32} {lk : Bool} (ha9 : M a = some (.inr (15, [va_rf op, va_rf rw9, .int lv]))) (hu9 : M u = some (co_E bd lu lk)) : mm_D l Z yX18_at (ws_ yX18_at cX18_at 2 none) { frames := 6, cells := 1, slots := 7, locals := 200 } [.ref a, .ref u] M (fun v M' n9 k9 => ¬ some u = op ∧ v = none ∧ n9 = 0 ∧ k9 = 0 ∧ M' = mm_U M u (co_E bd (if lv < lu then lv else lu) lk)) (fun E q M' => some u = op ∧ E = "RowenTongue$Clash" ∧ ∃ ru rs : Option Nat, M q = none ∧ M' = mm_U M q (.inr (16, [.ref q, va_rf ru, va_rf rs, .null, .null, .int 0, .int 3]))) := by
  refine mm_ofWD (cc := cX18_at) (maxL := 2) (ret := none) (by decide) rfl (Nat.le_of_ble_eq_true rfl) ?_
  intro p e s m below meth c A ls hx hb hr hlk hml hown hmn hts htab hE hST hA hM hS hl
  replace hl : lv_has ls 2 [(0, .ref a), (1, .ref u)] := hl
  refine lv_aload_n hx hb dX18_at_0 rfl (lv_at hl 1 rfl) ?_
  refine lv_aload_n hx hb dX18_at_1 rfl (lv_at hl 0 rfl) ?_
  refine va_get (D := Z.1) (ci := 15) (v := va_rf op) (C := RX18) (T := TX18) (N := 3) hx hb hts in_X18 hown hE.1 (hM.at ha9) 0 rfl mm_cX18 0 (by decide) (hts _ q1069) (fun _ h9 => h9) rfl dX18_at_2 ?_
  refine lv_acmp_ne (rx := (some u)) (ry := op) (tgt := 17) hx hb dX18_at_5 (by decide) (fun c_1 => ?_) (fun c_1 => ?_)
  · skip
    refine lv_aload_n hx hb dX18_at_17 rfl (lv_at hl 1 rfl) ?_
    refine lv_aload_n hx hb dX18_at_18 rfl (lv_at hl 1 rfl) ?_
    refine va_getN (D := Z.1) (ci := 9) (v := .int lu) (C := RX11) (T := TX11) (N := 3) hx hb hts in_X11 hown hE.1 (hM.at hu9) 0 rfl mm_cX11 1 (by decide) (va_Nw.use rfl (hE.2.1 _ q811 rfl)) (fun _ h9 => h9) rfl dX18_at_19 ?_
    refine lv_aload_n hx hb dX18_at_22 rfl (lv_at hl 0 rfl) ?_
    refine va_get (D := Z.1) (ci := 15) (v := .int lv) (C := RX18) (T := TX18) (N := 3) hx hb hts in_X18 hown hE.1 (hM.at ha9) 0 rfl mm_cX18 2 (by decide) (hts _ q1071) (fun _ h9 => h9) rfl dX18_at_23 ?_
    refine va_mmin hx hb (hml.trans hl.1.symm) hown (hts _ q1126) (hts _ q427) (hts _ q62) (hts _ q428) (Nat.le_of_ble_eq_true rfl) (Nat.le_of_ble_eq_true rfl) (Nat.le_of_ble_eq_true rfl) (Nat.le_of_ble_eq_true rfl) dX18_at_26 ?_
    refine mm_putN (D := Z.1) (ci := 9) (v := .int (if lv < lu then lv else lu)) (ty := .int) (C := RX11) (T := TX11) (N := 3) hx hb hts in_X11 tyX11 tyX11_ok nmX11 hown hE.1 hM hS hu9 mm_cX11 1 (by decide) (va_Nw.use rfl (hE.2.1 _ q811 rfl)) (fun _ h9 => h9) rfl (by decide +kernel) rfl rfl (Nat.le_of_ble_eq_true rfl) dX18_at_29 (fun H locs hM hS => ?_)
    have hM : mm_P Z.1 mm_cl A (mm_U M u (.inr (9, [va_rf bd, .int (if lv < lu then lv else lu), .int (mm_b lk)]))) H := hM
    have hc_2 : (mm_U M u (.inr (9, [va_rf bd, .int (if lv < lu then lv else lu), .int (mm_b lk)]))) u = some (.inr (9, [va_rf bd, .int (if lv < lu then lv else lu), .int (mm_b lk)])) := mm_U_eq
    have hc_3 : (mm_U M u (.inr (9, [va_rf bd, .int (if lv < lu then lv else lu), .int (mm_b lk)]))) a = some (.inr (15, [va_rf op, va_rf rw9, .int lv])) := (mm_U_ne (mm_neC ha9 hu9 (by decide))).trans ha9
    obtain ⟨M_4, eM_4⟩ : ∃ z, z = mm_U M u (.inr (9, [va_rf bd, .int (if lv < lu then lv else lu), .int (mm_b lk)])) := ⟨_, rfl⟩
    rw [← eM_4] at hM hc_3 hc_2
    exact mm_retvD hx hb hr hlk hM hS ⟨c_1, rfl, rfl, rfl, eM_4⟩ dX18_at_32 (Nat.le_of_ble_eq_true rfl) (Nat.le_of_ble_eq_true rfl)
  · skip
    refine mm_newX (D := Z.1) (ci := 16) (fs := mm_f0X20) (C := RX20) (T := TX20) (N := 7) hx hb hts in_X20 tyX20 tyX20_ok hown (hts _ q1107) (hts _ q1108) (hts _ q88) hE.1 hM hS hA mm_cX20 mm_dfX20 (Nat.le_of_ble_eq_true rfl) (Nat.le_of_ble_eq_true rfl) dX18_at_8 (fun q_3 H nq_2 hM hS hFr => ?_)
    have hM : mm_P Z.1 mm_cl A (mm_U M q_3 (.inr (16, [.null, .null, .null, .null, .null, .int 0, .int 0]))) H := hM
    have ne_4 : a ≠ q_3 := (mm_neN ha9 nq_2)
    have ne_5 : u ≠ q_3 := (mm_neN hu9 nq_2)
    have hc_6 : (mm_U M q_3 (.inr (16, [.null, .null, .null, .null, .null, .int 0, .int 0]))) q_3 = some (.inr (16, [.null, .null, .null, .null, .null, .int 0, .int 0])) := mm_U_eq
    have hc_7 : (mm_U M q_3 (.inr (16, [.null, .null, .null, .null, .null, .int 0, .int 0]))) a = some (.inr (15, [va_rf op, va_rf rw9, .int lv])) := (mm_U_ne ne_4).trans ha9
    have hc_8 : (mm_U M q_3 (.inr (16, [.null, .null, .null, .null, .null, .int 0, .int 0]))) u = some (.inr (9, [va_rf bd, .int lu, .int (mm_b lk)])) := (mm_U_ne ne_5).trans hu9
    obtain ⟨M_9, eM_9⟩ : ∃ z, z = mm_U M q_3 (.inr (16, [.null, .null, .null, .null, .null, .int 0, .int 0])) := ⟨_, rfl⟩
    rw [← eM_9] at hM hc_7 hc_8 hc_6
    refine lv_dup hx hb dX18_at_11 rfl ?_
    refine lv_iconst (v := 3) hx hb dX18_at_12 (by decide) ?_
    refine mm_callIK (As := [.int 3]) (rest := [.ref q_3]) ⟨hx, hb, hml, hown, hts⟩ hE hST hA hFr (c_X20_init l Z htr (er := 3) hc_6) (cwI (maxL := 2) 1 hts (lw_meth q1118) rfl rfl rfl (hts _ q88) (hts _ q1116) (hts _ q1117) rfl (by decide +kernel) ⟨(Nat.le_of_ble_eq_true rfl), (Nat.le_of_ble_eq_true rfl)⟩) hM hS rfl hl.1 (Nat.le_of_ble_eq_true rfl) dX18_at_13 rfl ⟨(Nat.le_of_ble_eq_true rfl), (Nat.le_of_ble_eq_true rfl)⟩ (fun _ _ _ _ _ _ h9 => h9.elim) (fun v_10 M_11 H locs hp_12 hM hS => ?_)
    obtain ⟨rfl, ru, rs, eM_11⟩ := hp_12
    rw [eM_11] at hM
    have hc_13 : (mm_U M_9 q_3 (.inr (16, [.ref q_3, va_rf ru, va_rf rs, .null, .null, .int 0, .int 3]))) q_3 = some (.inr (16, [.ref q_3, va_rf ru, va_rf rs, .null, .null, .int 0, .int 3])) := mm_U_eq
    have hc_14 : (mm_U M_9 q_3 (.inr (16, [.ref q_3, va_rf ru, va_rf rs, .null, .null, .int 0, .int 3]))) a = some (.inr (15, [va_rf op, va_rf rw9, .int lv])) := (mm_U_ne ne_4).trans hc_7
    have hc_15 : (mm_U M_9 q_3 (.inr (16, [.ref q_3, va_rf ru, va_rf rs, .null, .null, .int 0, .int 3]))) u = some (.inr (9, [va_rf bd, .int lu, .int (mm_b lk)])) := (mm_U_ne ne_5).trans hc_8
    obtain ⟨M_16, eM_16⟩ : ∃ z, z = mm_U M_9 q_3 (.inr (16, [.ref q_3, va_rf ru, va_rf rs, .null, .null, .int 0, .int 3])) := ⟨_, rfl⟩
    rw [← eM_16] at hM hc_14 hc_15 hc_13
    exact mm_athrowD hx hb htab hlk hE hM hS hc_13 mm_cX20 ⟨c_1, rfl, ru, rs, nq_2, by subst eM_16 eM_9; simp only [mm_U_U]⟩ dX18_at_16 (Nat.le_of_ble_eq_true rfl) (Nat.le_of_ble_eq_true rfl)
set_option maxHeartbeats 4000000 in
set_option maxRecDepth 100000 in
theorem d_X18_at_2 (l : Launch) (Z : mm_G) {M : mm_M} (htr : l.stackTraces = false) {a u : Nat} {op rw9 bd : Option Nat} {lv lu : Int32} {lk : Bool} {lc : Int32} (ha9 : M a = some (.inr (15, [va_rf op, va_rf rw9, .int lv]))) (hu9 : M u = some (cr_E bd lu lk lc)) : mm_D l Z yX18_at_2 (ws_ yX18_at_2 cX18_at_2 2 none) { frames := 6, cells := 1, slots := 7, locals := 200 } [.ref a, .ref u] M (fun v M' n9 k9 => ¬ some u = rw9 ∧ v = none ∧ n9 = 0 ∧ k9 = 0 ∧ M' = mm_U M u (cr_E bd (if lv < lu then lv else lu) lk lc)) (fun E q M' => some u = rw9 ∧ E = "RowenTongue$Clash" ∧ ∃ ru rs : Option Nat, M q = none ∧ M' = mm_U M q (.inr (16, [.ref q, va_rf ru, va_rf rs, .null, .null, .int 0, .int 3]))) := by
  refine mm_ofWD (cc := cX18_at_2) (maxL := 2) (ret := none) (by decide) rfl (Nat.le_of_ble_eq_true rfl) ?_
  intro p e s m below meth c A ls hx hb hr hlk hml hown hmn hts htab hE hST hA hM hS hl
  replace hl : lv_has ls 2 [(0, .ref a), (1, .ref u)] := hl
  refine lv_aload_n hx hb dX18_at_2_0 rfl (lv_at hl 1 rfl) ?_
  refine lv_aload_n hx hb dX18_at_2_1 rfl (lv_at hl 0 rfl) ?_
  refine va_get (D := Z.1) (ci := 15) (v := va_rf rw9) (C := RX18) (T := TX18) (N := 3) hx hb hts in_X18 hown hE.1 (hM.at ha9) 0 rfl mm_cX18 1 (by decide) (hts _ q1070) (fun _ h9 => h9) rfl dX18_at_2_2 ?_
  refine lv_acmp_ne (rx := (some u)) (ry := rw9) (tgt := 17) hx hb dX18_at_2_5 (by decide) (fun c_1 => ?_) (fun c_1 => ?_)
  · skip
    refine lv_aload_n hx hb dX18_at_2_17 rfl (lv_at hl 1 rfl) ?_
    refine lv_aload_n hx hb dX18_at_2_18 rfl (lv_at hl 1 rfl) ?_
    refine va_getN (D := Z.1) (ci := 12) (v := .int lu) (C := RX15) (T := TX15) (N := 4) hx hb hts in_X15 hown hE.1 (hM.at hu9) 0 rfl mm_cX15 1 (by decide) (va_Nw.use rfl (hE.2.1 _ q924 rfl)) (fun _ h9 => h9) rfl dX18_at_2_19 ?_
    refine lv_aload_n hx hb dX18_at_2_22 rfl (lv_at hl 0 rfl) ?_
    refine va_get (D := Z.1) (ci := 15) (v := .int lv) (C := RX18) (T := TX18) (N := 3) hx hb hts in_X18 hown hE.1 (hM.at ha9) 0 rfl mm_cX18 2 (by decide) (hts _ q1071) (fun _ h9 => h9) rfl dX18_at_2_23 ?_
    refine va_mmin hx hb (hml.trans hl.1.symm) hown (hts _ q1126) (hts _ q427) (hts _ q62) (hts _ q428) (Nat.le_of_ble_eq_true rfl) (Nat.le_of_ble_eq_true rfl) (Nat.le_of_ble_eq_true rfl) (Nat.le_of_ble_eq_true rfl) dX18_at_2_26 ?_
    refine mm_putN (D := Z.1) (ci := 12) (v := .int (if lv < lu then lv else lu)) (ty := .int) (C := RX15) (T := TX15) (N := 4) hx hb hts in_X15 tyX15 tyX15_ok nmX15 hown hE.1 hM hS hu9 mm_cX15 1 (by decide) (va_Nw.use rfl (hE.2.1 _ q924 rfl)) (fun _ h9 => h9) rfl (by decide +kernel) rfl rfl (Nat.le_of_ble_eq_true rfl) dX18_at_2_29 (fun H locs hM hS => ?_)
    have hM : mm_P Z.1 mm_cl A (mm_U M u (.inr (12, [va_rf bd, .int (if lv < lu then lv else lu), .int (mm_b lk), .int lc]))) H := hM
    have hc_2 : (mm_U M u (.inr (12, [va_rf bd, .int (if lv < lu then lv else lu), .int (mm_b lk), .int lc]))) u = some (.inr (12, [va_rf bd, .int (if lv < lu then lv else lu), .int (mm_b lk), .int lc])) := mm_U_eq
    have hc_3 : (mm_U M u (.inr (12, [va_rf bd, .int (if lv < lu then lv else lu), .int (mm_b lk), .int lc]))) a = some (.inr (15, [va_rf op, va_rf rw9, .int lv])) := (mm_U_ne (mm_neC ha9 hu9 (by decide))).trans ha9
    obtain ⟨M_4, eM_4⟩ : ∃ z, z = mm_U M u (.inr (12, [va_rf bd, .int (if lv < lu then lv else lu), .int (mm_b lk), .int lc])) := ⟨_, rfl⟩
    rw [← eM_4] at hM hc_3 hc_2
    exact mm_retvD hx hb hr hlk hM hS ⟨c_1, rfl, rfl, rfl, eM_4⟩ dX18_at_2_32 (Nat.le_of_ble_eq_true rfl) (Nat.le_of_ble_eq_true rfl)
  · skip
    refine mm_newX (D := Z.1) (ci := 16) (fs := mm_f0X20) (C := RX20) (T := TX20) (N := 7) hx hb hts in_X20 tyX20 tyX20_ok hown (hts _ q1107) (hts _ q1108) (hts _ q88) hE.1 hM hS hA mm_cX20 mm_dfX20 (Nat.le_of_ble_eq_true rfl) (Nat.le_of_ble_eq_true rfl) dX18_at_2_8 (fun q_3 H nq_2 hM hS hFr => ?_)
    have hM : mm_P Z.1 mm_cl A (mm_U M q_3 (.inr (16, [.null, .null, .null, .null, .null, .int 0, .int 0]))) H := hM
    have ne_4 : a ≠ q_3 := (mm_neN ha9 nq_2)
    have ne_5 : u ≠ q_3 := (mm_neN hu9 nq_2)
    have hc_6 : (mm_U M q_3 (.inr (16, [.null, .null, .null, .null, .null, .int 0, .int 0]))) q_3 = some (.inr (16, [.null, .null, .null, .null, .null, .int 0, .int 0])) := mm_U_eq
    have hc_7 : (mm_U M q_3 (.inr (16, [.null, .null, .null, .null, .null, .int 0, .int 0]))) a = some (.inr (15, [va_rf op, va_rf rw9, .int lv])) := (mm_U_ne ne_4).trans ha9
    have hc_8 : (mm_U M q_3 (.inr (16, [.null, .null, .null, .null, .null, .int 0, .int 0]))) u = some (.inr (12, [va_rf bd, .int lu, .int (mm_b lk), .int lc])) := (mm_U_ne ne_5).trans hu9
    obtain ⟨M_9, eM_9⟩ : ∃ z, z = mm_U M q_3 (.inr (16, [.null, .null, .null, .null, .null, .int 0, .int 0])) := ⟨_, rfl⟩
    rw [← eM_9] at hM hc_7 hc_8 hc_6
    refine lv_dup hx hb dX18_at_2_11 rfl ?_
    refine lv_iconst (v := 3) hx hb dX18_at_2_12 (by decide) ?_
    refine mm_callIK (As := [.int 3]) (rest := [.ref q_3]) ⟨hx, hb, hml, hown, hts⟩ hE hST hA hFr (c_X20_init l Z htr (er := 3) hc_6) (cwI (maxL := 2) 1 hts (lw_meth q1118) rfl rfl rfl (hts _ q88) (hts _ q1116) (hts _ q1117) rfl (by decide +kernel) ⟨(Nat.le_of_ble_eq_true rfl), (Nat.le_of_ble_eq_true rfl)⟩) hM hS rfl hl.1 (Nat.le_of_ble_eq_true rfl) dX18_at_2_13 rfl ⟨(Nat.le_of_ble_eq_true rfl), (Nat.le_of_ble_eq_true rfl)⟩ (fun _ _ _ _ _ _ h9 => h9.elim) (fun v_10 M_11 H locs hp_12 hM hS => ?_)
    obtain ⟨rfl, ru, rs, eM_11⟩ := hp_12
    rw [eM_11] at hM
    have hc_13 : (mm_U M_9 q_3 (.inr (16, [.ref q_3, va_rf ru, va_rf rs, .null, .null, .int 0, .int 3]))) q_3 = some (.inr (16, [.ref q_3, va_rf ru, va_rf rs, .null, .null, .int 0, .int 3])) := mm_U_eq
    have hc_14 : (mm_U M_9 q_3 (.inr (16, [.ref q_3, va_rf ru, va_rf rs, .null, .null, .int 0, .int 3]))) a = some (.inr (15, [va_rf op, va_rf rw9, .int lv])) := (mm_U_ne ne_4).trans hc_7
    have hc_15 : (mm_U M_9 q_3 (.inr (16, [.ref q_3, va_rf ru, va_rf rs, .null, .null, .int 0, .int 3]))) u = some (.inr (12, [va_rf bd, .int lu, .int (mm_b lk), .int lc])) := (mm_U_ne ne_5).trans hc_8
    obtain ⟨M_16, eM_16⟩ : ∃ z, z = mm_U M_9 q_3 (.inr (16, [.ref q_3, va_rf ru, va_rf rs, .null, .null, .int 0, .int 3])) := ⟨_, rfl⟩
    rw [← eM_16] at hM hc_14 hc_15 hc_13
    exact mm_athrowD hx hb htab hlk hE hM hS hc_13 mm_cX20 ⟨c_1, rfl, ru, rs, nq_2, by subst eM_16 eM_9; simp only [mm_U_U]⟩ dX18_at_2_16 (Nat.le_of_ble_eq_true rfl) (Nat.le_of_ble_eq_true rfl)
set_option maxHeartbeats 4000000 in
set_option maxRecDepth 100000 in
theorem c_through_W (l : Launch) (Z : mm_G) (htr : l.stackTraces = false) (L : List Nat) (vr : Nat → Nat) (v : Nat) (ro : Bool) (wk : Nat) (lw : Int32) (N : Nat) : (∀ (T : ev) (t : ev) (a : Nat) (M : mm_M) (S : ts), SizeOf.sizeOf T < N → uap S.2.1 t = T → v < S.1 → uVK M ro (vr v) → M wk = some (wi_E (wop ro (vr v)) (wrw ro (vr v)) lw) → uCI Z M L vr S → tp Z M L vr S.1 t false a → mm_D l Z yX19_through (ws_ yX19_through cX19_through 6 none) (tw_r (uh T) L.length) [.ref a, .ref wk] M (fun v9 M' n9 k9 => v9 = none ∧ n9 = 0 ∧ k9 = 0 ∧ uoc v T = false ∧ uL M M' ∧ uCI Z M' L vr (ts_lev S lw T)) (fun E q M' => uoc v T = true ∧ uX M 3 E q M')) ∧
    (∀ (T : ev) (t : ev) (a : Nat) (M : mm_M) (S : ts), SizeOf.sizeOf T < N → uap S.2.1 t = T → v < S.1 → uVK M ro (vr v) → M wk = some (wi_E (wop ro (vr v)) (wrw ro (vr v)) lw) → uCI Z M L vr S → tp Z M L vr S.1 t true a → mm_D l Z yX19_through_2 (ws_ yX19_through_2 cX19_through_2 4 none) (tw_r (uh T) L.length) [.ref a, .ref wk] M (fun v9 M' n9 k9 => v9 = none ∧ n9 = 0 ∧ k9 = 0 ∧ uoc v T = false ∧ uL M M' ∧ uCI Z M' L vr (ts_lev S lw T)) (fun E q M' => uoc v T = true ∧ uX M 3 E q M')) := by
  induction N with
  | zero => exact ⟨fun _ _ _ _ _ h => absurd h (Nat.not_lt_zero _), fun _ _ _ _ _ h => absurd h (Nat.not_lt_zero _)⟩
  | succ N ih =>
  obtain ⟨ihT, ihR⟩ := ih
  refine ⟨fun T t a M S hz hT hv hvk hwk hC htp => ?_, fun T t a M S hz hT hv hvk hwk hC htp => ?_⟩
  · skip
    refine mm_ofWD (cc := cX19_through) (maxL := 6) (ret := none) (by decide) rfl (Nat.le_of_ble_eq_true rfl) ?_
    intro p e s m below meth c A ls hx hb hr hlk hml hown hmn hts htab hE hST hA hM hS hl
    replace hl : lv_has ls 6 [(0, .ref a), (1, .ref wk)] := hl
    obtain ⟨d1, b1, t1, hd1, hn1, htb, he1, hcs⟩ := hC.nowT htp
    refine lv_aload_n hx hb dX19_through_0 rfl (lv_at hl 0 rfl) ?_
    refine mm_cutR (b := b1) (pc2 := 4) (ls := ls) (rest := []) (M := M) (fun kk9 => ?_) (fun H locs hM hS => ?_) hM hS
    · skip
      have hw9 := c_now l Z hn1
      obtain ⟨sm9, hq9⟩ := hn1.at
      rcases hq9 with ⟨lv9, lk9, hq9⟩ | ⟨f9, t9, b9, r9, hq9⟩ | ⟨i9, w9, b9, r9, hq9⟩ | ⟨rfl, hq9⟩
      · skip
        refine mm_callU (As := []) (rest := []) ⟨hx, hb, hml, hown, hts⟩ hE hST hA (hw9.1 _ _ _ hq9) (va_cwO (x := ⟨"RowenTongue$Type", "now", "()LRowenTongue$Type;"⟩) (C := RX11) (owner := "RowenTongue$Type") 0 hts (lw_app (lw_in _ [1082, 707, 706, 720, 715, 78] (by decide +kernel) (by decide +kernel)) (lw_meth q716)) rfl rfl rfl q721 (by decide +kernel) ⟨(by (try dsimp only); omega), (by (try dsimp only); omega)⟩) hM hS mm_cX11 hq9 rfl hl.1 (Nat.le_of_ble_eq_true rfl) dX19_through_1 rfl ⟨(Nat.le_of_ble_eq_true rfl), (Nat.le_of_ble_eq_true rfl)⟩ (fun _ _ _ _ _ _ h9 => h9.elim) (fun v_1 M_2 H locs hp_3 hM hS => ?_)
        obtain ⟨rfl, eM_2⟩ := hp_3
        rw [eM_2] at hM
        exact kk9 _ _ hM hS
      · skip
        refine mm_callU (As := []) (rest := []) ⟨hx, hb, hml, hown, hts⟩ hE hST hA (hw9.2.1 _ _ _ _ _ hq9) (va_cwO (x := ⟨"RowenTongue$Type", "now", "()LRowenTongue$Type;"⟩) (C := RX12) (owner := "RowenTongue$Type") 0 hts (lw_app (lw_in _ [1082, 707, 706, 718, 712, 79] (by decide +kernel) (by decide +kernel)) (lw_meth q713)) rfl rfl rfl q721 (by decide +kernel) ⟨(by (try dsimp only); omega), (by (try dsimp only); omega)⟩) hM hS mm_cX12 hq9 rfl hl.1 (Nat.le_of_ble_eq_true rfl) dX19_through_1 rfl ⟨(Nat.le_of_ble_eq_true rfl), (Nat.le_of_ble_eq_true rfl)⟩ (fun _ _ _ _ _ _ h9 => h9.elim) (fun v_1 M_2 H locs hp_3 hM hS => ?_)
        obtain ⟨rfl, eM_2⟩ := hp_3
        rw [eM_2] at hM
        exact kk9 _ _ hM hS
      · skip
        refine mm_callU (As := []) (rest := []) ⟨hx, hb, hml, hown, hts⟩ hE hST hA (hw9.2.2.1 _ _ _ _ _ hq9) (va_cwO (x := ⟨"RowenTongue$Type", "now", "()LRowenTongue$Type;"⟩) (C := RX8) (owner := "RowenTongue$Type") 0 hts (lw_app (lw_in _ [1082, 707, 706, 708, 709, 74] (by decide +kernel) (by decide +kernel)) (lw_meth q710)) rfl rfl rfl q721 (by decide +kernel) ⟨(by (try dsimp only); omega), (by (try dsimp only); omega)⟩) hM hS mm_cX8 hq9 rfl hl.1 (Nat.le_of_ble_eq_true rfl) dX19_through_1 rfl ⟨(Nat.le_of_ble_eq_true rfl), (Nat.le_of_ble_eq_true rfl)⟩ (fun _ _ _ _ _ _ h9 => h9.elim) (fun v_1 M_2 H locs hp_3 hM hS => ?_)
        obtain ⟨rfl, eM_2⟩ := hp_3
        rw [eM_2] at hM
        exact kk9 _ _ hM hS
      · skip
        refine mm_callU (As := []) (rest := []) ⟨hx, hb, hml, hown, hts⟩ hE hST hA (hw9.2.2.2 hq9) (va_cwU (x := ⟨"RowenTongue$Type", "now", "()LRowenTongue$Type;"⟩) (C := "RowenTongue$Numbers") (owner := "RowenTongue$Type") 0 hts (lw_app (lw_in _ [1082, 707, 719, 706, 73] (by decide +kernel) (by decide +kernel)) (lw_meth q721)) rfl rfl rfl rfl (by decide +kernel) ⟨(by (try dsimp only); omega), (by (try dsimp only); omega)⟩) hM hS mm_cE1 hq9 rfl hl.1 (Nat.le_of_ble_eq_true rfl) dX19_through_1 rfl ⟨(Nat.le_of_ble_eq_true rfl), (Nat.le_of_ble_eq_true rfl)⟩ (fun _ _ _ _ _ _ h9 => h9.elim) (fun v_1 M_2 H locs hp_3 hM hS => ?_)
        obtain ⟨rfl, eM_2⟩ := hp_3
        rw [eM_2] at hM
        exact kk9 _ _ hM hS
    refine lv_astore_n hx hb dX19_through_4 rfl hl (by decide) rfl (fun ls hl => ?_)
    replace hl : lv_has ls 6 [(2, .ref b1), (0, .ref a), (1, .ref wk)] := hl
    refine lv_aload_n hx hb dX19_through_5 rfl (lv_at hl 0 rfl) ?_
    rcases hcs with ⟨eT, hb0, hbN⟩ | ⟨u, hu, eT, -, hbu, hbL, hbO⟩ | ⟨x1, y1, f1, g1, bq1, rn1, eT, hbL, hbF, hf1, hg1⟩ | ⟨r1, iv1, w1, bq1, rn1, eT, hbL, hbB, hw1⟩
    · skip
      rw [hT] at eT
      refine va_instNo (C := "RowenTongue$Numbers") hx hb hown (hts _ q1083) (hE.2.2.2.1 _ _ (by decide +kernel)) (mm_recv hE hM mm_cE1 hbN) dX19_through_6 ?_
      refine lv_if_eq (tgt := 27) hx hb dX19_through_9 (by decide) (fun _ => ?_) (fun h9 => absurd (by decide) h9)
      refine lv_aload_n hx hb dX19_through_27 rfl (lv_at hl 0 rfl) ?_
      refine va_instNo (C := "RowenTongue$Numbers") hx hb hown (hts _ q1127) (hE.2.2.2.1 _ _ (by decide +kernel)) (mm_recv hE hM mm_cE1 hbN) dX19_through_28 ?_
      refine lv_if_eq (tgt := 69) hx hb dX19_through_31 (by decide) (fun _ => ?_) (fun h9 => absurd (by decide) h9)
      refine lv_aload_n hx hb dX19_through_69 rfl (lv_at hl 0 rfl) ?_
      refine va_instNo (C := "RowenTongue$Numbers") hx hb hown (hts _ q1145) (hE.2.2.2.1 _ _ (by decide +kernel)) (mm_recv hE hM mm_cE1 hbN) dX19_through_70 ?_
      refine lv_if_eq (tgt := 91) hx hb dX19_through_73 (by decide) (fun _ => ?_) (fun h9 => absurd (by decide) h9)
      exact mm_retvD hx hb hr hlk hM hS ⟨rfl, rfl, rfl, by rw [eT]; rfl, uL.rf _, by rw [eT, ts_lev_none (fun _ => rfl)]; exact hC⟩ dX19_through_91 (by (try dsimp only); omega) (by (try dsimp only); omega)
    · skip
      rw [hT] at eT
      subst hbu
      refine va_instS hx hb hown (hts _ q1083) (hE.1.1 9 _ mm_cX11).2 (mm_recv hE hM mm_cX11 hbO) dX19_through_6 ?_
      refine lv_if_eq (tgt := 27) hx hb dX19_through_9 (by decide) (fun h9 => absurd h9 (by decide)) (fun _ => ?_)
      refine lv_aload_n hx hb dX19_through_12 rfl (lv_at hl 0 rfl) ?_
      refine va_castS hx hb hown (hts _ q1083) (hE.1.1 9 _ mm_cX11).2 (mm_recv hE hM mm_cX11 hbO) dX19_through_13 ?_
      refine lv_astore_n hx hb dX19_through_16 rfl hl (by decide) rfl (fun ls hl => ?_)
      replace hl : lv_has ls 6 [(3, .ref (vr u)), (2, .ref (vr u)), (0, .ref a), (1, .ref wk)] := hl
      refine lv_aload_n hx hb dX19_through_17 rfl (lv_at hl 3 rfl) ?_
      refine lv_aload_n hx hb dX19_through_18 rfl (lv_at hl 0 rfl) ?_
      refine mm_callFD (As := [.ref (vr u)]) (rest := []) ⟨hx, hb, hml, hown, hts⟩ hE hST hA (d_X18_at l Z htr hwk hbO) (va_cwF (C := RX18) (x := ⟨"RowenTongue$Walk", "at", "(LRowenTongue$Open;)V"⟩) 1 hts (lw_app (lw_in _ [1085, 1102, 1104, 86] (by decide +kernel) (by decide +kernel)) (lw_meth q1106)) rfl rfl rfl (hE.2.2.1 _ (List.mem_of_getElem? (i := 0) rfl)) (by decide +kernel) ⟨(by (try dsimp only); omega), (by (try dsimp only); omega)⟩) hM hS mm_cX18 hwk rfl hl.1 (Nat.le_of_ble_eq_true rfl) dX19_through_19 rfl ⟨(by (try dsimp only); omega), (by (try dsimp only); omega)⟩ (fun E ce q M9 H1 locs1 hp9 hM9 hS9 hce hcv hcl => by exact mm_outxD htab hlk hM9 hS9 hce hcv hcl ⟨by rw [eT, (w_op hC hu hv hvk hbO).1 hp9.1]; simp [uoc], uX.of hp9.2⟩ (by (try dsimp only); omega) (by (try dsimp only); omega)) (fun v_1 M_2 n_4 k_5 H locs hp_3 hM hS => ?_)
      obtain ⟨hne, rfl, rfl, rfl, eM9⟩ := hp_3
      have huv : u ≠ v := fun h9 => hne ((w_op hC hu hv hvk hbO).2 h9)
      refine lv_goto (tgt := 91) hx hb dX19_through_24 (by decide) ?_
      exact mm_retvD hx hb hr hlk hM hS ⟨rfl, rfl, rfl, by rw [eT]; simp [uoc, huv], by rw [eM9]; exact uL.O hbO, by rw [eM9, eT]; exact hC.setO hu hbO rfl rfl rfl (fun w hw => ⟨if_neg (by simp [uoc, Ne.symm hw]), rfl⟩) (if_pos (by simp [uoc])) rfl⟩ dX19_through_91 (by (try dsimp only); omega) (by (try dsimp only); omega)
    · skip
      rw [hT] at eT
      have hsz : SizeOf.sizeOf T = 1 + SizeOf.sizeOf (uap S.2.1 x1) + SizeOf.sizeOf (uap S.2.1 y1) := by rw [eT]; rfl
      have huh : uh T = max (uh (uap S.2.1 x1)) (uh (uap S.2.1 y1)) + 1 := by rw [eT]; rfl
      refine va_instNo (C := RX12) hx hb hown (hts _ q1083) (hE.2.2.2.1 _ _ (by decide +kernel)) (mm_recv hE hM mm_cX12 hbF) dX19_through_6 ?_
      refine lv_if_eq (tgt := 27) hx hb dX19_through_9 (by decide) (fun _ => ?_) (fun h9 => absurd (by decide) h9)
      refine lv_aload_n hx hb dX19_through_27 rfl (lv_at hl 0 rfl) ?_
      refine va_instS hx hb hown (hts _ q1127) (hE.1.1 10 _ mm_cX12).2 (mm_recv hE hM mm_cX12 hbF) dX19_through_28 ?_
      refine lv_if_eq (tgt := 69) hx hb dX19_through_31 (by decide) (fun h9 => absurd h9 (by decide)) (fun _ => ?_)
      refine lv_aload_n hx hb dX19_through_34 rfl (lv_at hl 0 rfl) ?_
      refine va_castS hx hb hown (hts _ q1127) (hE.1.1 10 _ mm_cX12).2 (mm_recv hE hM mm_cX12 hbF) dX19_through_35 ?_
      refine lv_astore hx hb dX19_through_38 hl (by decide) rfl (fun ls hl => ?_)
      replace hl : lv_has ls 6 [(4, .ref b1), (2, .ref b1), (0, .ref a), (1, .ref wk)] := hl
      refine lv_aload_n hx hb dX19_through_40 rfl (lv_at hl 3 rfl) ?_
      refine lv_aload hx hb dX19_through_41 (lv_at hl 0 rfl) ?_
      refine mm_callFL (As := [.ref b1]) (rest := []) ⟨hx, hb, hml, hown, hts⟩ hE hST hA (c_X19_at l Z (h0 := wk) (x1 := some b1)) (hts _ q1129) hST.2.2.2.2.2.1 (va_Nw.use rfl (hE.2.1 _ q1101 rfl)) ⟨(by (try dsimp only); omega), (by (try dsimp only); omega)⟩ hM hS mm_cX18 hwk rfl hl.1 (Nat.le_of_ble_eq_true rfl) dX19_through_43 rfl ⟨(Nat.le_of_ble_eq_true rfl), (Nat.le_of_ble_eq_true rfl)⟩ (fun _ _ _ _ _ _ h9 => h9.elim) (fun v_1 M_2 H locs hp_3 hM hS => ?_)
      obtain ⟨rfl, eM_2⟩ := hp_3
      rw [eM_2] at hM
      refine lv_aload hx hb dX19_through_48 (lv_at hl 0 rfl) ?_
      refine va_getN (D := Z.1) (ci := 10) (v := .ref f1) (C := RX12) (T := TX12) (N := 5) hx hb hts in_X12 hown hE.1 (hM.at hbF) 0 rfl mm_cX12 0 (by decide) (va_Nw.use rfl (hE.2.1 _ q840 rfl)) (fun _ h9 => h9) rfl dX19_through_50 ?_
      refine lv_aload_n hx hb dX19_through_53 rfl (lv_at hl 3 rfl) ?_
      refine mm_callSD (As := [.ref f1, .ref wk]) (rest := []) ⟨hx, hb, hml, hown, hts⟩ hE hST hA (ihT _ _ _ _ _ (by omega) rfl hv hvk hwk hC hf1) (va_cwS 2 hts (lw_S q1144 q1080 q87 q1081) rfl rfl rfl (by decide +kernel) ⟨(by (try dsimp only); omega), (by (try dsimp only); omega)⟩) hM hS rfl hl.1 (Nat.le_of_ble_eq_true rfl) dX19_through_54 rfl ⟨(by (try dsimp only); omega), (by (try dsimp only); omega)⟩ (fun E ce q M9 H1 locs1 hp9 hM9 hS9 hce hcv hcl => by exact mm_outxD htab hlk hM9 hS9 hce hcv hcl ⟨by rw [eT]; simp [uoc, hp9.1], hp9.2.after (uL.rf M)⟩ (by (try dsimp only); omega) (by (try dsimp only); omega)) (fun v_4 M_5 n_7 k_8 H locs hp_6 hM hS => ?_)
      obtain ⟨rfl, rfl, rfl, ho1, hL1, hC1⟩ := hp_6
      have hc_9 := hL1.atC hwk (by decide)
      have hc_10 := hL1.atC hbF (by decide)
      have hv_11 := (uL.rf M).trans hL1
      refine lv_aload hx hb dX19_through_57 (lv_at hl 0 rfl) ?_
      refine va_getN (D := Z.1) (ci := 10) (v := .ref g1) (C := RX12) (T := TX12) (N := 5) hx hb hts in_X12 hown hE.1 (hM.at hc_10) 0 rfl mm_cX12 1 (by decide) (va_Nw.use rfl (hE.2.1 _ q844 rfl)) (fun _ h9 => h9) rfl dX19_through_59 ?_
      refine lv_aload_n hx hb dX19_through_62 rfl (lv_at hl 3 rfl) ?_
      refine mm_callSD (As := [.ref g1, .ref wk]) (rest := []) ⟨hx, hb, hml, hown, hts⟩ hE hST hA (ihT (uap S.2.1 y1) y1 g1 _ (ts_lev S lw (uap S.2.1 x1)) (by omega) rfl hv (hL1.VK hvk) hc_9 hC1 (hg1.light hL1)) (va_cwS 2 hts (lw_S q1144 q1080 q87 q1081) rfl rfl rfl (by decide +kernel) ⟨(by (try dsimp only); omega), (by (try dsimp only); omega)⟩) hM hS rfl hl.1 (Nat.le_of_ble_eq_true rfl) dX19_through_63 rfl ⟨(by (try dsimp only); omega), (by (try dsimp only); omega)⟩ (fun E ce q M9 H1 locs1 hp9 hM9 hS9 hce hcv hcl => by exact mm_outxD htab hlk hM9 hS9 hce hcv hcl ⟨by rw [eT]; simp [uoc, hp9.1], hp9.2.after hv_11⟩ (by (try dsimp only); omega) (by (try dsimp only); omega)) (fun v_12 M_13 n_15 k_16 H locs hp_14 hM hS => ?_)
      obtain ⟨rfl, rfl, rfl, ho2, hL2, hC2⟩ := hp_14
      have hc_17 := hL2.atC hc_9 (by decide)
      have hc_18 := hL2.atC hc_10 (by decide)
      have hv_19 := hv_11.trans hL2
      refine lv_goto (tgt := 91) hx hb dX19_through_66 (by decide) ?_
      exact mm_retvD hx hb hr hlk hM hS ⟨rfl, rfl, rfl, by rw [eT]; simp [uoc, ho1, ho2], hL1.trans hL2, by rw [eT, ← ts_lev_or (X := uap S.2.1 x1) (Y := uap S.2.1 y1) (fun _ => rfl)]; exact hC2⟩ dX19_through_91 (by (try dsimp only); omega) (by (try dsimp only); omega)
    · skip
      rw [hT] at eT
      have hsz : SizeOf.sizeOf T = 1 + SizeOf.sizeOf (uap S.2.1 r1) + SizeOf.sizeOf iv1.toNat := by rw [eT]; rfl
      have huh : uh T = uh (uap S.2.1 r1) + 1 := by rw [eT]; rfl
      refine va_instNo (C := RX8) hx hb hown (hts _ q1083) (hE.2.2.2.1 _ _ (by decide +kernel)) (mm_recv hE hM mm_cX8 hbB) dX19_through_6 ?_
      refine lv_if_eq (tgt := 27) hx hb dX19_through_9 (by decide) (fun _ => ?_) (fun h9 => absurd (by decide) h9)
      refine lv_aload_n hx hb dX19_through_27 rfl (lv_at hl 0 rfl) ?_
      refine va_instNo (C := RX8) hx hb hown (hts _ q1127) (hE.2.2.2.1 _ _ (by decide +kernel)) (mm_recv hE hM mm_cX8 hbB) dX19_through_28 ?_
      refine lv_if_eq (tgt := 69) hx hb dX19_through_31 (by decide) (fun _ => ?_) (fun h9 => absurd (by decide) h9)
      refine lv_aload_n hx hb dX19_through_69 rfl (lv_at hl 0 rfl) ?_
      refine va_instS hx hb hown (hts _ q1145) (hE.1.1 6 _ mm_cX8).2 (mm_recv hE hM mm_cX8 hbB) dX19_through_70 ?_
      refine lv_if_eq (tgt := 91) hx hb dX19_through_73 (by decide) (fun h9 => absurd h9 (by decide)) (fun _ => ?_)
      refine lv_aload_n hx hb dX19_through_76 rfl (lv_at hl 0 rfl) ?_
      refine va_castS hx hb hown (hts _ q1145) (hE.1.1 6 _ mm_cX8).2 (mm_recv hE hM mm_cX8 hbB) dX19_through_77 ?_
      refine lv_astore hx hb dX19_through_80 hl (by decide) rfl (fun ls hl => ?_)
      replace hl : lv_has ls 6 [(5, .ref b1), (2, .ref b1), (0, .ref a), (1, .ref wk)] := hl
      refine lv_aload hx hb dX19_through_82 (lv_at hl 0 rfl) ?_
      refine va_getN (D := Z.1) (ci := 6) (v := .ref w1) (C := RX8) (T := TX8) (N := 5) hx hb hts in_X8 hown hE.1 (hM.at hbB) 0 rfl mm_cX8 1 (by decide) (va_Nw.use rfl (hE.2.1 _ q625 rfl)) (fun _ h9 => h9) rfl dX19_through_84 ?_
      refine lv_aload_n hx hb dX19_through_87 rfl (lv_at hl 3 rfl) ?_
      refine mm_callSD (As := [.ref w1, .ref wk]) (rest := []) ⟨hx, hb, hml, hown, hts⟩ hE hST hA (ihR _ _ _ _ _ (by omega) rfl hv hvk hwk hC hw1) (va_cwS 2 hts (lw_S q1146 q1147 q87 q1148) rfl rfl rfl (by decide +kernel) ⟨(by (try dsimp only); omega), (by (try dsimp only); omega)⟩) hM hS rfl hl.1 (Nat.le_of_ble_eq_true rfl) dX19_through_88 rfl ⟨(by (try dsimp only); omega), (by (try dsimp only); omega)⟩ (fun E ce q M9 H1 locs1 hp9 hM9 hS9 hce hcv hcl => by exact mm_outxD htab hlk hM9 hS9 hce hcv hcl ⟨by rw [eT]; simp [uoc, hp9.1], hp9.2.after (uL.rf M)⟩ (by (try dsimp only); omega) (by (try dsimp only); omega)) (fun v_1 M_2 n_4 k_5 H locs hp_3 hM hS => ?_)
      obtain ⟨rfl, rfl, rfl, ho1, hL1, hC1⟩ := hp_3
      have hc_6 := hL1.atC hwk (by decide)
      have hc_7 := hL1.atC hbB (by decide)
      have hv_8 := (uL.rf M).trans hL1
      exact mm_retvD hx hb hr hlk hM hS ⟨rfl, rfl, rfl, by rw [eT]; simp [uoc, ho1], hL1, by rw [eT, ts_lev_cg (T := .pow (uap S.2.1 r1) iv1.toNat) (T' := uap S.2.1 r1) (fun _ => rfl)]; exact hC1⟩ dX19_through_91 (by (try dsimp only); omega) (by (try dsimp only); omega)
  · skip
    refine mm_ofWD (cc := cX19_through_2) (maxL := 4) (ret := none) (by decide) rfl (Nat.le_of_ble_eq_true rfl) ?_
    intro p e s m below meth c A ls hx hb hr hlk hml hown hmn hts htab hE hST hA hM hS hl
    replace hl : lv_has ls 4 [(0, .ref a), (1, .ref wk)] := hl
    obtain ⟨d1, b1, hd1, hn1, hcs⟩ := hC.nowR' htp
    rw [hT] at hcs
    refine lv_aload_n hx hb dX19_through_2_0 rfl (lv_at hl 0 rfl) ?_
    refine mm_cutR (b := b1) (pc2 := 4) (ls := ls) (rest := []) (M := M) (fun kk9 => ?_) (fun H locs hM hS => ?_) hM hS
    · skip
      have hw9 := c_nowR l Z hn1
      obtain ⟨sm9, hq9⟩ := hn1.at
      rcases hq9 with ⟨lv9, lk9, lc9, hq9⟩ | ⟨rfl, lb9, ty9, rs9, hq9⟩ | ⟨rfl, hq9⟩
      · skip
        refine mm_callU (As := []) (rest := []) ⟨hx, hb, hml, hown, hts⟩ hE hST hA (hw9.1 _ _ _ _ hq9) (va_cwO (x := ⟨"RowenTongue$Row", "now", "()LRowenTongue$Row;"⟩) (C := RX15) (owner := "RowenTongue$Row") 0 hts (lw_app (lw_in _ [1149, 873, 872, 876, 877, 82] (by decide +kernel) (by decide +kernel)) (lw_meth q878)) rfl rfl rfl q880 (by decide +kernel) ⟨(by (try dsimp only); omega), (by (try dsimp only); omega)⟩) hM hS mm_cX15 hq9 rfl hl.1 (Nat.le_of_ble_eq_true rfl) dX19_through_2_1 rfl ⟨(Nat.le_of_ble_eq_true rfl), (Nat.le_of_ble_eq_true rfl)⟩ (fun _ _ _ _ _ _ h9 => h9.elim) (fun v_1 M_2 H locs hp_3 hM hS => ?_)
        obtain ⟨rfl, eM_2⟩ := hp_3
        rw [eM_2] at hM
        exact kk9 _ _ hM hS
      · skip
        refine mm_callU (As := []) (rest := []) ⟨hx, hb, hml, hown, hts⟩ hE hST hA (hw9.2 (Or.inl ⟨_, _, _, hq9⟩)) (va_cwU (x := ⟨"RowenTongue$Row", "now", "()LRowenTongue$Row;"⟩) (C := RX14) (owner := "RowenTongue$Row") 0 hts (lw_app (lw_in _ [1149, 873, 874, 872, 80] (by decide +kernel) (by decide +kernel)) (lw_meth q880)) rfl rfl rfl rfl (by decide +kernel) ⟨(by (try dsimp only); omega), (by (try dsimp only); omega)⟩) hM hS mm_cX14 hq9 rfl hl.1 (Nat.le_of_ble_eq_true rfl) dX19_through_2_1 rfl ⟨(Nat.le_of_ble_eq_true rfl), (Nat.le_of_ble_eq_true rfl)⟩ (fun _ _ _ _ _ _ h9 => h9.elim) (fun v_1 M_2 H locs hp_3 hM hS => ?_)
        obtain ⟨rfl, eM_2⟩ := hp_3
        rw [eM_2] at hM
        exact kk9 _ _ hM hS
      · skip
        refine mm_callU (As := []) (rest := []) ⟨hx, hb, hml, hown, hts⟩ hE hST hA (hw9.2 (Or.inr hq9)) (va_cwU (x := ⟨"RowenTongue$Row", "now", "()LRowenTongue$Row;"⟩) (C := "RowenTongue$Nothing") (owner := "RowenTongue$Row") 0 hts (lw_app (lw_in _ [1149, 873, 875, 872, 80] (by decide +kernel) (by decide +kernel)) (lw_meth q880)) rfl rfl rfl rfl (by decide +kernel) ⟨(by (try dsimp only); omega), (by (try dsimp only); omega)⟩) hM hS mm_cE2 hq9 rfl hl.1 (Nat.le_of_ble_eq_true rfl) dX19_through_2_1 rfl ⟨(Nat.le_of_ble_eq_true rfl), (Nat.le_of_ble_eq_true rfl)⟩ (fun _ _ _ _ _ _ h9 => h9.elim) (fun v_1 M_2 H locs hp_3 hM hS => ?_)
        obtain ⟨rfl, eM_2⟩ := hp_3
        rw [eM_2] at hM
        exact kk9 _ _ hM hS
    refine lv_astore_n hx hb dX19_through_2_4 rfl hl (by decide) rfl (fun ls hl => ?_)
    replace hl : lv_has ls 4 [(2, .ref b1), (0, .ref a), (1, .ref wk)] := hl
    refine mm_loopW (fun k M' ls cells slots => ∃ (T2 : ev) (b : Nat) (S2 : ts), k = SizeOf.sizeOf T2 ∧ SizeOf.sizeOf T2 ≤ SizeOf.sizeOf T ∧ uh T2 ≤ uh T ∧ lv_has ls 4 [(2, .ref b), (0, .ref a), (1, .ref wk)] ∧ (S2.1 = S.1 ∧ S2.2.1 = S.2.1) ∧ uL M M' ∧ uCI Z M' L vr S2 ∧ uRow Z M' L vr S2 T2 b ∧ ts_lev S2 lw T2 = ts_lev S lw T ∧ uoc v T2 = uoc v T ∧ cells = 0 ∧ slots = 0) (fun k M3 ls H locs cells slots ih hI hM hS => ?_) ⟨T, b1, S, rfl, Nat.le_refl _, Nat.le_refl _, lv_sub hl [0, 1, 2] rfl, ⟨rfl, rfl⟩, uL.rf _, hC, hcs, rfl, rfl, rfl, rfl⟩ hM hS
    obtain ⟨T2, b, S2, rfl, hz2, hh2, hl, ⟨hS1, hS2⟩, hL0, hC0, hrow, hlev, hocc, rfl, rfl⟩ := hI
    have hwk3 := hL0.atC hwk (by decide)
    have hvk3 := hL0.VK hvk
    have hv3 : v < S2.1 := by rw [hS1]; exact hv
    refine lv_aload_n hx hb dX19_through_2_5 rfl (lv_at hl 0 rfl) ?_
    rcases hrow with ⟨eT, hb0, hbZ⟩ | ⟨u, hu, eT, -, hbu, hbL, hbR⟩ | ⟨x1, k1, r1, ty1, rs1, eT, hk1, hbC, hx1, hr1⟩
    · skip
      refine va_instNo (C := "RowenTongue$Nothing") hx hb hown (hts _ q1150) (hE.2.2.2.1 _ _ (by decide +kernel)) (mm_recv hE hM mm_cE2 hbZ) dX19_through_2_6 ?_
      refine lv_if_eq (tgt := 36) hx hb dX19_through_2_9 (by decide) (fun _ => ?_) (fun h9 => absurd (by decide) h9)
      refine lv_aload_n hx hb dX19_through_2_36 rfl (lv_at hl 0 rfl) ?_
      refine va_instNo (C := "RowenTongue$Nothing") hx hb hown (hts _ q1151) (hE.2.2.2.1 _ _ (by decide +kernel)) (mm_recv hE hM mm_cE2 hbZ) dX19_through_2_37 ?_
      refine lv_if_eq (tgt := 55) hx hb dX19_through_2_40 (by decide) (fun _ => ?_) (fun h9 => absurd (by decide) h9)
      exact mm_retvD hx hb hr hlk hM hS ⟨rfl, rfl, rfl, by rw [← hocc, eT]; rfl, hL0, by rw [← hlev, eT, ts_lev_none (fun _ => rfl)]; exact hC0⟩ dX19_through_2_55 (by (try dsimp only); omega) (by (try dsimp only); omega)
    · skip
      subst hbu
      refine va_instNo (C := RX15) hx hb hown (hts _ q1150) (hE.2.2.2.1 _ _ (by decide +kernel)) (mm_recv hE hM mm_cX15 hbR) dX19_through_2_6 ?_
      refine lv_if_eq (tgt := 36) hx hb dX19_through_2_9 (by decide) (fun _ => ?_) (fun h9 => absurd (by decide) h9)
      refine lv_aload_n hx hb dX19_through_2_36 rfl (lv_at hl 0 rfl) ?_
      refine va_instS hx hb hown (hts _ q1151) (hE.1.1 12 _ mm_cX15).2 (mm_recv hE hM mm_cX15 hbR) dX19_through_2_37 ?_
      refine lv_if_eq (tgt := 55) hx hb dX19_through_2_40 (by decide) (fun h9 => absurd h9 (by decide)) (fun _ => ?_)
      refine lv_aload_n hx hb dX19_through_2_43 rfl (lv_at hl 0 rfl) ?_
      refine va_castS hx hb hown (hts _ q1151) (hE.1.1 12 _ mm_cX15).2 (mm_recv hE hM mm_cX15 hbR) dX19_through_2_44 ?_
      refine lv_astore_n hx hb dX19_through_2_47 rfl hl (by decide) rfl (fun ls hl => ?_)
      replace hl : lv_has ls 4 [(3, .ref (vr u)), (2, .ref (vr u)), (0, .ref a), (1, .ref wk)] := hl
      refine lv_aload_n hx hb dX19_through_2_48 rfl (lv_at hl 3 rfl) ?_
      refine lv_aload_n hx hb dX19_through_2_49 rfl (lv_at hl 0 rfl) ?_
      refine mm_callFD (As := [.ref (vr u)]) (rest := []) ⟨hx, hb, hml, hown, hts⟩ hE hST hA (d_X18_at_2 l Z htr hwk3 hbR) (va_cwF (C := RX18) (x := ⟨"RowenTongue$Walk", "at", "(LRowenTongue$OpenRow;)V"⟩) 1 hts (lw_app (lw_in _ [1153, 1172, 1174, 86] (by decide +kernel) (by decide +kernel)) (lw_meth q1176)) rfl rfl rfl (hE.2.2.1 _ (List.mem_of_getElem? (i := 1) rfl)) (by decide +kernel) ⟨(by (try dsimp only); omega), (by (try dsimp only); omega)⟩) hM hS mm_cX18 hwk3 rfl hl.1 (Nat.le_of_ble_eq_true rfl) dX19_through_2_50 rfl ⟨(by (try dsimp only); omega), (by (try dsimp only); omega)⟩ (fun E ce q M9 H1 locs1 hp9 hM9 hS9 hce hcv hcl => by exact mm_outxD htab hlk hM9 hS9 hce hcv hcl ⟨by rw [← hocc, eT, (w_rw hC0 hu hv3 hvk3 hbR).1 hp9.1]; simp [uoc], (uX.of hp9.2).after hL0⟩ (by (try dsimp only); omega) (by (try dsimp only); omega)) (fun v_1 M_2 n_4 k_5 H locs hp_3 hM hS => ?_)
      obtain ⟨hne, rfl, rfl, rfl, eM9⟩ := hp_3
      have huv : u ≠ v := fun h9 => hne ((w_rw hC0 hu hv3 hvk3 hbR).2 h9)
      exact mm_retvD hx hb hr hlk hM hS ⟨rfl, rfl, rfl, by rw [← hocc, eT]; simp [uoc, huv], by rw [eM9]; exact hL0.trans (uL.R hbR), by rw [eM9, ← hlev, eT]; exact hC0.setR hu hbR rfl rfl rfl (fun w hw => ⟨if_neg (by simp [uoc, Ne.symm hw]), rfl⟩) (if_pos (by simp [uoc])) rfl⟩ dX19_through_2_55 (by (try dsimp only); omega) (by (try dsimp only); omega)
    · skip
      have hsz : SizeOf.sizeOf T2 = 1 + (1 + SizeOf.sizeOf (uap S2.2.1 x1) + SizeOf.sizeOf k1) + SizeOf.sizeOf (uap S2.2.1 r1) := by rw [eT, uins_size]
      have huh : uh T2 = max (uh (uap S2.2.1 x1) + 1) (uh (uap S2.2.1 r1)) := by rw [eT, uins_h]
      refine va_instS hx hb hown (hts _ q1150) (hE.1.1 11 _ mm_cX14).2 (mm_recv hE hM mm_cX14 hbC) dX19_through_2_6 ?_
      refine lv_if_eq (tgt := 36) hx hb dX19_through_2_9 (by decide) (fun h9 => absurd h9 (by decide)) (fun _ => ?_)
      refine lv_aload_n hx hb dX19_through_2_12 rfl (lv_at hl 0 rfl) ?_
      refine va_castS hx hb hown (hts _ q1150) (hE.1.1 11 _ mm_cX14).2 (mm_recv hE hM mm_cX14 hbC) dX19_through_2_13 ?_
      refine lv_astore_n hx hb dX19_through_2_16 rfl hl (by decide) rfl (fun ls hl => ?_)
      replace hl : lv_has ls 4 [(3, .ref b), (2, .ref b), (0, .ref a), (1, .ref wk)] := hl
      refine lv_aload_n hx hb dX19_through_2_17 rfl (lv_at hl 0 rfl) ?_
      refine va_getN (D := Z.1) (ci := 11) (v := .ref ty1) (C := RX14) (T := TX14) (N := 3) hx hb hts in_X14 hown hE.1 (hM.at hbC) 0 rfl mm_cX14 1 (by decide) (va_Nw.use rfl (hE.2.1 _ q896 rfl)) (fun _ h9 => h9) rfl dX19_through_2_18 ?_
      refine lv_aload_n hx hb dX19_through_2_21 rfl (lv_at hl 3 rfl) ?_
      refine mm_callSD (As := [.ref ty1, .ref wk]) (rest := []) ⟨hx, hb, hml, hown, hts⟩ hE hST hA (ihT _ _ _ _ _ (by omega) rfl hv3 hvk3 hwk3 hC0 hx1) (va_cwS 2 hts (lw_S q1144 q1080 q87 q1081) rfl rfl rfl (by decide +kernel) ⟨(by (try dsimp only); omega), (by (try dsimp only); omega)⟩) hM hS rfl hl.1 (Nat.le_of_ble_eq_true rfl) dX19_through_2_22 rfl ⟨(by (try dsimp only); omega), (by (try dsimp only); omega)⟩ (fun E ce q M9 H1 locs1 hp9 hM9 hS9 hce hcv hcl => by exact mm_outxD htab hlk hM9 hS9 hce hcv hcl ⟨by rw [← hocc, eT]; simp [uins_oc, hp9.1], hp9.2.after hL0⟩ (by (try dsimp only); omega) (by (try dsimp only); omega)) (fun v_1 M_2 n_4 k_5 H locs hp_3 hM hS => ?_)
      obtain ⟨rfl, rfl, rfl, ho1, hL1, hC1⟩ := hp_3
      have hc_6 := hL1.atC hwk3 (by decide)
      have hc_7 := hL1.atC hbC (by decide)
      refine lv_aload_n hx hb dX19_through_2_25 rfl (lv_at hl 0 rfl) ?_
      refine va_getN (D := Z.1) (ci := 11) (v := .ref rs1) (C := RX14) (T := TX14) (N := 3) hx hb hts in_X14 hown hE.1 (hM.at hc_7) 0 rfl mm_cX14 2 (by decide) (va_Nw.use rfl (hE.2.1 _ q900 rfl)) (fun _ h9 => h9) rfl dX19_through_2_26 ?_
      have hr2 := hr1.light hL1
      obtain ⟨d2, b2, hd2, hn2, hcs2⟩ := hC1.nowR' hr2
      refine mm_cutR (b := b2) (pc2 := 32) (ls := ls) (rest := []) (M := M_2) (fun kk9 => ?_) (fun H locs hM hS => ?_) hM hS
      · skip
        have hw9 := c_nowR l Z hn2
        obtain ⟨sm9, hq9⟩ := hn2.at
        rcases hq9 with ⟨lv9, lk9, lc9, hq9⟩ | ⟨rfl, lb9, ty9, rs9, hq9⟩ | ⟨rfl, hq9⟩
        · skip
          refine mm_callU (As := []) (rest := []) ⟨hx, hb, hml, hown, hts⟩ hE hST hA (hw9.1 _ _ _ _ hq9) (va_cwO (x := ⟨"RowenTongue$Row", "now", "()LRowenTongue$Row;"⟩) (C := RX15) (owner := "RowenTongue$Row") 0 hts (lw_app (lw_in _ [1149, 873, 872, 876, 877, 82] (by decide +kernel) (by decide +kernel)) (lw_meth q878)) rfl rfl rfl q880 (by decide +kernel) ⟨(by (try dsimp only); omega), (by (try dsimp only); omega)⟩) hM hS mm_cX15 hq9 rfl hl.1 (Nat.le_of_ble_eq_true rfl) dX19_through_2_29 rfl ⟨(Nat.le_of_ble_eq_true rfl), (Nat.le_of_ble_eq_true rfl)⟩ (fun _ _ _ _ _ _ h9 => h9.elim) (fun v_8 M_9 H locs hp_10 hM hS => ?_)
          obtain ⟨rfl, eM_9⟩ := hp_10
          rw [eM_9] at hM
          exact kk9 _ _ hM hS
        · skip
          refine mm_callU (As := []) (rest := []) ⟨hx, hb, hml, hown, hts⟩ hE hST hA (hw9.2 (Or.inl ⟨_, _, _, hq9⟩)) (va_cwU (x := ⟨"RowenTongue$Row", "now", "()LRowenTongue$Row;"⟩) (C := RX14) (owner := "RowenTongue$Row") 0 hts (lw_app (lw_in _ [1149, 873, 874, 872, 80] (by decide +kernel) (by decide +kernel)) (lw_meth q880)) rfl rfl rfl rfl (by decide +kernel) ⟨(by (try dsimp only); omega), (by (try dsimp only); omega)⟩) hM hS mm_cX14 hq9 rfl hl.1 (Nat.le_of_ble_eq_true rfl) dX19_through_2_29 rfl ⟨(Nat.le_of_ble_eq_true rfl), (Nat.le_of_ble_eq_true rfl)⟩ (fun _ _ _ _ _ _ h9 => h9.elim) (fun v_8 M_9 H locs hp_10 hM hS => ?_)
          obtain ⟨rfl, eM_9⟩ := hp_10
          rw [eM_9] at hM
          exact kk9 _ _ hM hS
        · skip
          refine mm_callU (As := []) (rest := []) ⟨hx, hb, hml, hown, hts⟩ hE hST hA (hw9.2 (Or.inr hq9)) (va_cwU (x := ⟨"RowenTongue$Row", "now", "()LRowenTongue$Row;"⟩) (C := "RowenTongue$Nothing") (owner := "RowenTongue$Row") 0 hts (lw_app (lw_in _ [1149, 873, 875, 872, 80] (by decide +kernel) (by decide +kernel)) (lw_meth q880)) rfl rfl rfl rfl (by decide +kernel) ⟨(by (try dsimp only); omega), (by (try dsimp only); omega)⟩) hM hS mm_cE2 hq9 rfl hl.1 (Nat.le_of_ble_eq_true rfl) dX19_through_2_29 rfl ⟨(Nat.le_of_ble_eq_true rfl), (Nat.le_of_ble_eq_true rfl)⟩ (fun _ _ _ _ _ _ h9 => h9.elim) (fun v_8 M_9 H locs hp_10 hM hS => ?_)
          obtain ⟨rfl, eM_9⟩ := hp_10
          rw [eM_9] at hM
          exact kk9 _ _ hM hS
      refine lv_astore_n hx hb dX19_through_2_32 rfl hl (by decide) rfl (fun ls hl => ?_)
      replace hl : lv_has ls 4 [(2, .ref b2), (3, .ref b), (0, .ref a), (1, .ref wk)] := hl
      refine lv_goto (tgt := 5) hx hb dX19_through_2_33 (by decide) ?_
      refine ih (SizeOf.sizeOf (uap S2.2.1 r1)) (by omega) _ _ _ _ _ _ ⟨uap S2.2.1 r1, b2, ts_lev S2 lw (uap S2.2.1 x1), rfl, by omega, by omega, lv_sub hl [0, 2, 3] rfl, ⟨hS1, hS2⟩, hL0.trans hL1, hC1, hcs2, ?_, ?_, rfl, rfl⟩ hM hS
      · rw [← hlev, eT]; exact ts_lev_or (fun _ => uins_oc _)
      · rw [← hocc, eT]; simp [uins_oc, ho1]
