/-! ===== how the model's types lie in memory ===== -/
set_option maxRecDepth 100000
/-- the type (m = false) or row (m = true) at a; D: the variables that are there -/
def mtp (M : mm_M) (L : List Nat) (vr : Nat → Nat) (D : Nat → Bool) : ev → Bool → Nat → Prop
  | .natCast k, false, a => k = 0 ∧ a ∈ L ∧ ∃ is cm sn cp, M a = some (mt_E 1 is none none none cm sn cp)
  | .var v, false, a => D v = true ∧ a = vr v ∧ a ∈ L ∧ ∃ is cm sn cp, M a = some (mt_E 0 is none none none cm sn cp)
  | .sub x y, false, a => ∃ (f g : Nat), a ∈ L ∧ (∃ is cm sn cp, M a = some (mt_E 2 is (some f) (some g) none cm sn cp)) ∧ mtp M L vr D x false f ∧ mtp M L vr D y false g
  | .pow r k, false, a => ∃ (iv : Bool) (w : Nat), a ∈ L ∧ k = iv.toNat ∧ (∃ is cm sn cp, M a = some (mt_E (if iv then 4 else 3) is none none (some w) cm sn cp)) ∧ mtp M L vr D r true w
  | .natCast k, true, a => k = 0 ∧ M a = some (mr_E 1 none 0 none none 0 false)
  | .var v, true, a => D v = true ∧ a = vr v ∧ a ∈ L ∧ ∃ is lk cm, M a = some (mr_E 0 is 0 none none lk cm)
  | .add (.pow t k) r, true, a => ∃ ty rs : Nat, k < 10 ∧ M a = some (mr_E 2 none (nI k) (some ty) (some rs) 0 false) ∧ mtp M L vr D t false ty ∧ mtp M L vr D r true rs
  | _, _, _ => False
theorem mt_inj {k k' : Int32} {is fr to rw is' fr' to' rw' cp cp' : Option Nat} {cm cm' : Bool} {sn sn' : Int64} (h : mt_E k is fr to rw cm sn cp = mt_E k' is' fr' to' rw' cm' sn' cp') : k = k' ∧ is = is' ∧ fr = fr' ∧ to = to' ∧ rw = rw' ∧ cm = cm' ∧ sn = sn' ∧ cp = cp' := by
  simp only [Sum.inr.injEq, Prod.mk.injEq, List.cons.injEq, and_true, true_and] at h
  exact ⟨Value.int.inj h.1, va_rf_inj h.2.1, va_rf_inj h.2.2.1, va_rf_inj h.2.2.2.1, va_rf_inj h.2.2.2.2.1, mm_b_inj (Value.int.inj h.2.2.2.2.2.1), Value.long.inj h.2.2.2.2.2.2.1, va_rf_inj h.2.2.2.2.2.2.2⟩
theorem mr_inj {k k' lb lb' lk lk' : Int32} {is ty rs is' ty' rs' : Option Nat} {cm cm' : Bool} (h : mr_E k is lb ty rs lk cm = mr_E k' is' lb' ty' rs' lk' cm') : k = k' ∧ is = is' ∧ lb = lb' ∧ ty = ty' ∧ rs = rs' ∧ lk = lk' ∧ cm = cm' := by
  simp only [Sum.inr.injEq, Prod.mk.injEq, List.cons.injEq, and_true, true_and] at h
  exact ⟨Value.int.inj h.1, va_rf_inj h.2.1, Value.int.inj h.2.2.1, va_rf_inj h.2.2.2.1, va_rf_inj h.2.2.2.2.1, Value.int.inj h.2.2.2.2.2.1, mm_b_inj (Value.int.inj h.2.2.2.2.2.2)⟩
theorem mt_ne_mr {k k' lb' lk' : Int32} {is fr to rw is' ty' rs' cp : Option Nat} {cm cm' : Bool} {sn : Int64} : mt_E k is fr to rw cm sn cp ≠ mr_E k' is' lb' ty' rs' lk' cm' := fun h => by
  have h1 := (Prod.mk.inj (Sum.inr.inj h)).1
  cases h1
theorem md_inj {kd wh f1 f2 f3 wg pl kd' wh' f1' f2' f3' wg' pl' : Nat} {tm ea sp th ak wr tk tm' ea' sp' th' ak' wr' tk' : Int32} {rt rt' : Option Nat} {fa fa' : Bool} {st st' : Int64} (h : md_E tm kd wh f1 f2 f3 wg ea sp rt th ak wr pl tk fa st = md_E tm' kd' wh' f1' f2' f3' wg' ea' sp' rt' th' ak' wr' pl' tk' fa' st') : tm = tm' ∧ kd = kd' ∧ wh = wh' ∧ f1 = f1' ∧ f2 = f2' ∧ f3 = f3' ∧ wg = wg' ∧ ea = ea' ∧ sp = sp' ∧ rt = rt' ∧ th = th' ∧ ak = ak' ∧ wr = wr' ∧ pl = pl' ∧ tk = tk' ∧ fa = fa' ∧ st = st' := by
  simp only [Sum.inr.injEq, Prod.mk.injEq, List.cons.injEq, and_true, true_and] at h
  exact ⟨Value.int.inj h.1, Value.ref.inj h.2.1, Value.ref.inj h.2.2.1, Value.ref.inj h.2.2.2.1, Value.ref.inj h.2.2.2.2.1, Value.ref.inj h.2.2.2.2.2.1, Value.ref.inj h.2.2.2.2.2.2.1, Value.int.inj h.2.2.2.2.2.2.2.1, Value.int.inj h.2.2.2.2.2.2.2.2.1, va_rf_inj h.2.2.2.2.2.2.2.2.2.1, Value.int.inj h.2.2.2.2.2.2.2.2.2.2.1, Value.int.inj h.2.2.2.2.2.2.2.2.2.2.2.1, Value.int.inj h.2.2.2.2.2.2.2.2.2.2.2.2.1, Value.ref.inj h.2.2.2.2.2.2.2.2.2.2.2.2.2.1, Value.int.inj h.2.2.2.2.2.2.2.2.2.2.2.2.2.2.1, mm_b_inj (Value.int.inj h.2.2.2.2.2.2.2.2.2.2.2.2.2.2.2.1), Value.long.inj h.2.2.2.2.2.2.2.2.2.2.2.2.2.2.2.2⟩
/-- what never changes of a cell stays -/
def mK (M M' : mm_M) : Prop := ∀ (a : Nat) (e : va_E), M a = some e → M' a = some e ∨ (∃ k is fr to rw cm sn cp is' cm' sn' cp', e = mt_E k is fr to rw cm sn cp ∧ M' a = some (mt_E k is' fr to rw cm' sn' cp')) ∨ (∃ is lk cm is' cm', e = mr_E 0 is 0 none none lk cm ∧ M' a = some (mr_E 0 is' 0 none none lk cm')) ∨ ∃ tm kd wh f1 f2 f3 wg ea sp rt th ak wr pl tk fa st ak' st', e = md_E tm kd wh f1 f2 f3 wg ea sp rt th ak wr pl tk fa st ∧ M' a = some (md_E tm kd wh f1 f2 f3 wg ea sp rt th ak' wr pl tk fa st')
theorem mK.rf (M : mm_M) : mK M M := fun _ _ h => Or.inl h
theorem mm_Ext.mK {M M' : mm_M} (h : mm_Ext M M') : mK M M' := fun _ _ ha => Or.inl (h.at ha)
theorem mK.T {M M' : mm_M} (h : mK M M') {a : Nat} {k : Int32} {is fr to rw cp : Option Nat} {cm : Bool} {sn : Int64} (ha : M a = some (mt_E k is fr to rw cm sn cp)) : ∃ is' cm' sn' cp', M' a = some (mt_E k is' fr to rw cm' sn' cp') := by
  rcases h a _ ha with k1 | ⟨k2, is2, fr2, to2, rw2, cm2, sn2, cp2, is3, cm3, sn3, cp3, e, k1⟩ | ⟨is2, lk2, cm2, is3, cm3, e, -⟩ | ⟨_, _, _, _, _, _, _, _, _, _, _, _, _, _, _, _, _, _, _, e, -⟩
  · exact ⟨_, _, _, _, k1⟩
  · obtain ⟨rfl, -, rfl, rfl, rfl, -⟩ := mt_inj e; exact ⟨_, _, _, _, k1⟩
  · exact absurd e mt_ne_mr
  · exact absurd (Prod.mk.inj (Sum.inr.inj e)).1 (by decide)
theorem mK.R {M M' : mm_M} (h : mK M M') {a : Nat} {is : Option Nat} {lk : Int32} {cm : Bool} (ha : M a = some (mr_E 0 is 0 none none lk cm)) : ∃ is' cm', M' a = some (mr_E 0 is' 0 none none lk cm') := by
  rcases h a _ ha with k1 | ⟨k2, is2, fr2, to2, rw2, cm2, sn2, cp2, is3, cm3, sn3, cp3, e, k1⟩ | ⟨is2, lk2, cm2, is3, cm3, e, k1⟩ | ⟨_, _, _, _, _, _, _, _, _, _, _, _, _, _, _, _, _, _, _, e, -⟩
  · exact ⟨_, _, k1⟩
  · exact absurd e.symm mt_ne_mr
  · obtain ⟨-, -, -, -, -, rfl, -⟩ := mr_inj e; exact ⟨_, _, k1⟩
  · exact absurd (Prod.mk.inj (Sum.inr.inj e)).1 (by decide)
theorem mK.S {M M' : mm_M} (h : mK M M') {a : Nat} {k lb lk : Int32} {is ty rs : Option Nat} {cm : Bool} (hk : k ≠ 0) (ha : M a = some (mr_E k is lb ty rs lk cm)) : M' a = some (mr_E k is lb ty rs lk cm) := by
  rcases h a _ ha with k1 | ⟨k2, is2, fr2, to2, rw2, cm2, sn2, cp2, is3, cm3, sn3, cp3, e, k1⟩ | ⟨is2, lk2, cm2, is3, cm3, e, k1⟩ | ⟨_, _, _, _, _, _, _, _, _, _, _, _, _, _, _, _, _, _, _, e, -⟩
  · exact k1
  · exact absurd e.symm mt_ne_mr
  · exact absurd (mr_inj e).1 hk
  · exact absurd (Prod.mk.inj (Sum.inr.inj e)).1 (by decide)
theorem mK.at {M M' : mm_M} (h : mK M M') {a : Nat} {e : va_E} (ha : M a = some e) (h1 : ∀ ci fs, e = .inr (ci, fs) → ci ≠ 20 ∧ ci ≠ 22 ∧ ci ≠ 1) : M' a = some e := by
  rcases h a e ha with k1 | ⟨k2, is2, fr2, to2, rw2, cm2, sn2, cp2, is3, cm3, sn3, cp3, e9, -⟩ | ⟨is2, lk2, cm2, is3, cm3, e9, -⟩ | ⟨_, _, _, _, _, _, _, _, _, _, _, _, _, _, _, _, _, _, _, e9, -⟩
  · exact k1
  · exact absurd rfl (h1 _ _ e9).1
  · exact absurd rfl (h1 _ _ e9).2.1
  · exact absurd rfl (h1 _ _ e9).2.2
theorem mK.atC {M M' : mm_M} {a ci : Nat} {fs : List Value} (h : mK M M') (ha : M a = some (.inr (ci, fs))) (hc : ci ≠ 20 ∧ ci ≠ 22 ∧ ci ≠ 1) : M' a = some (.inr (ci, fs)) := h.at ha (fun _ _ e => by cases e; exact hc)
theorem mK.atA {M M' : mm_M} {a : Nat} {x : ClassId × vp_A} (h : mK M M') (ha : M a = some (.inl x)) : M' a = some (.inl x) := h.at ha (fun _ _ e => by cases e)
theorem mK.M {M M' : mm_M} (h : mK M M') {a kd wh f1 f2 f3 wg pl : Nat} {tm ea sp th ak wr tk : Int32} {rt : Option Nat} {fa : Bool} {st : Int64} (ha : M a = some (md_E tm kd wh f1 f2 f3 wg ea sp rt th ak wr pl tk fa st)) : ∃ ak' st', M' a = some (md_E tm kd wh f1 f2 f3 wg ea sp rt th ak' wr pl tk fa st') := by
  rcases h a _ ha with k1 | ⟨k2, is2, fr2, to2, rw2, cm2, sn2, cp2, is3, cm3, sn3, cp3, e, -⟩ | ⟨is2, lk2, cm2, is3, cm3, e, -⟩ | ⟨tm2, kd2, wh2, f12, f22, f32, wg2, ea2, sp2, rt2, th2, ak2, wr2, pl2, tk2, fa2, st2, ak3, st3, e, k1⟩
  · exact ⟨_, _, k1⟩
  · exact absurd (Prod.mk.inj (Sum.inr.inj e)).1 (by decide)
  · exact absurd (Prod.mk.inj (Sum.inr.inj e)).1 (by decide)
  · obtain ⟨rfl, rfl, rfl, rfl, rfl, rfl, rfl, rfl, rfl, rfl, rfl, -, rfl, rfl, rfl, rfl, -⟩ := md_inj e; exact ⟨_, _, k1⟩
theorem mK.trans {M N O : mm_M} (h1 : mK M N) (h2 : mK N O) : mK M O := fun a e he => by
  rcases h1 a e he with k1 | ⟨k2, is2, fr2, to2, rw2, cm2, sn2, cp2, is3, cm3, sn3, cp3, rfl, k1⟩ | ⟨is2, lk2, cm2, is3, cm3, rfl, k1⟩ | ⟨_, _, _, _, _, _, _, _, _, _, _, _, _, _, _, _, _, _, _, rfl, k1⟩
  · exact h2 a e k1
  · obtain ⟨is4, cm4, sn4, cp4, k3⟩ := h2.T k1; exact Or.inr (Or.inl ⟨_, _, _, _, _, _, _, _, _, _, _, _, rfl, k3⟩)
  · obtain ⟨is4, cm4, k3⟩ := h2.R k1; exact Or.inr (Or.inr (Or.inl ⟨_, _, _, _, _, rfl, k3⟩))
  · obtain ⟨ak4, st4, k3⟩ := h2.M k1; exact Or.inr (Or.inr (Or.inr ⟨_, _, _, _, _, _, _, _, _, _, _, _, _, _, _, _, _, _, _, rfl, k3⟩))
theorem mK.hasN {M M' : mm_M} (h : mK M M') {a : Nat} (ha : M a ≠ none) : M' a ≠ none := by
  cases he : M a with
  | none => exact absurd he ha
  | some e => rcases h a e he with k | ⟨_, _, _, _, _, _, _, _, _, _, _, _, _, k⟩ | ⟨_, _, _, _, _, _, k⟩ | ⟨_, _, _, _, _, _, _, _, _, _, _, _, _, _, _, _, _, _, _, _, k⟩ <;> (rw [k]; exact fun h9 => by cases h9)
theorem mtp.mono {M M' : mm_M} {L L' : List Nat} {vr vr' : Nat → Nat} {D D' : Nat → Bool} (hK : mK M M') (hL : ∀ a ∈ L, a ∈ L') (hv : ∀ v, D v = true → D' v = true ∧ vr' v = vr v) (t : ev) (m : Bool) (a : Nat) (h : mtp M L vr D t m a) : mtp M' L' vr' D' t m a := by
  unfold mtp at h
  split at h
  · obtain ⟨h1, h2, is, cm, sn, cp, h3⟩ := h; simp only [mtp]; exact ⟨h1, hL _ h2, hK.T h3⟩
  · obtain ⟨h1, h2, h3, is, cm, sn, cp, h4⟩ := h
    simp only [mtp]
    exact ⟨(hv _ h1).1, by rw [(hv _ h1).2]; exact h2, hL _ h3, hK.T h4⟩
  · rename_i x y
    obtain ⟨f, g, h1, ⟨is, cm, sn, cp, h2⟩, h3, h4⟩ := h
    simp only [mtp]
    exact ⟨f, g, hL _ h1, hK.T h2, mtp.mono hK hL hv x _ _ h3, mtp.mono hK hL hv y _ _ h4⟩
  · rename_i r j
    obtain ⟨iv, w, h1, h0, ⟨is, cm, sn, cp, h2⟩, h3⟩ := h
    simp only [mtp]
    exact ⟨iv, w, hL _ h1, h0, hK.T h2, mtp.mono hK hL hv r _ _ h3⟩
  · obtain ⟨h1, h2⟩ := h; simp only [mtp]; exact ⟨h1, hK.S (by decide) h2⟩
  · obtain ⟨h1, h2, h3, is, lk, cm, h4⟩ := h
    simp only [mtp]
    obtain ⟨is', cm', k⟩ := hK.R h4
    exact ⟨(hv _ h1).1, by rw [(hv _ h1).2]; exact h2, hL _ h3, _, _, _, k⟩
  · rename_i x k r
    obtain ⟨ty, rs, h0, h1, h2, h3⟩ := h
    simp only [mtp]
    exact ⟨ty, rs, h0, hK.S (by decide) h1, mtp.mono hK hL hv x _ _ h2, mtp.mono hK hL hv r _ _ h3⟩
  · exact h.elim
termination_by SizeOf.sizeOf t
decreasing_by all_goals (subst_vars; simp_all; try omega)
/-- what a cell of the model has become -/
def mnext (M : mm_M) (a : Nat) : Option Nat := match M a with
  | some (.inr (20, [_, .ref o, _, _, _, _, _, _])) => some o
  | some (.inr (22, [_, .ref o, _, _, _, _, _])) => some o
  | _ => none
theorem mnext_t {M : mm_M} {a : Nat} {k : Int32} {is fr to rw cp : Option Nat} {cm : Bool} {sn : Int64} (h : M a = some (mt_E k is fr to rw cm sn cp)) : mnext M a = is := by unfold mnext; rw [h]; cases is <;> rfl
theorem mnext_r {M : mm_M} {a : Nat} {k lb lk : Int32} {is ty rs : Option Nat} {cm : Bool} (h : M a = some (mr_E k is lb ty rs lk cm)) : mnext M a = is := by unfold mnext; rw [h]; cases is <;> rfl
def mPhi (M : mm_M) (L : List Nat) : Nat := L.countP fun a => (mnext M a).isNone
theorem mPhi_le (M : mm_M) (L : List Nat) : mPhi M L ≤ L.length := List.countP_le_length
/-- the cell of a type (row) -/
theorem mtp.cellT {M : mm_M} {L : List Nat} {vr : Nat → Nat} {D : Nat → Bool} {t : ev} {a : Nat} (h : mtp M L vr D t false a) : a ∈ L ∧ ∃ k is fr to rw cm sn cp, M a = some (mt_E k is fr to rw cm sn cp) := by
  unfold mtp at h
  split at h
  · obtain ⟨h1, h2, is, cm, sn, cp, h3⟩ := h; exact ⟨h2, _, _, _, _, _, _, _, _, h3⟩
  · obtain ⟨h1, h2, h3, is, cm, sn, cp, h4⟩ := h; exact ⟨h3, _, _, _, _, _, _, _, _, h4⟩
  · obtain ⟨f, g, h1, ⟨is, cm, sn, cp, h2⟩, -⟩ := h; exact ⟨h1, _, _, _, _, _, _, _, _, h2⟩
  · obtain ⟨iv, w, h1, h0, ⟨is, cm, sn, cp, h2⟩, -⟩ := h; exact ⟨h1, _, _, _, _, _, _, _, _, h2⟩
  all_goals (first | (rename_i h9; cases h9; done) | (exact h.elim) | (simp at *; done))
theorem mtp.cellR {M : mm_M} {L : List Nat} {vr : Nat → Nat} {D : Nat → Bool} {t : ev} {a : Nat} (h : mtp M L vr D t true a) : ∃ k is lb ty rs lk cm, M a = some (mr_E k is lb ty rs lk cm) ∧ (is ≠ none → a ∈ L) := by
  unfold mtp at h
  split at h
  case h_5 => obtain ⟨-, h2⟩ := h; exact ⟨_, _, _, _, _, _, _, h2, fun h9 => absurd rfl h9⟩
  case h_6 => obtain ⟨-, -, h3, is, lk, cm, h4⟩ := h; exact ⟨_, _, _, _, _, _, _, h4, fun _ => h3⟩
  case h_7 => obtain ⟨ty, rs, hk, h2, -⟩ := h; exact ⟨_, _, _, _, _, _, _, h2, fun h9 => absurd rfl h9⟩
  all_goals (first | (rename_i h9; cases h9; done) | (exact h.elim) | (simp at *; done))
theorem mtp.some {M : mm_M} {L : List Nat} {vr : Nat → Nat} {D : Nat → Bool} {t : ev} {m : Bool} {a : Nat} (h : mtp M L vr D t m a) : ∃ e, M a = Option.some e := by
  cases m with
  | false => obtain ⟨-, k, is, fr, to, rw, cm, sn, cp, h1⟩ := h.cellT; exact ⟨_, h1⟩
  | true => obtain ⟨k, is, lb, ty, rs, lk, cm, h1, -⟩ := h.cellR; exact ⟨_, h1⟩
/-- what a type (row) can be -/
theorem mtp.shT {M : mm_M} {L : List Nat} {vr : Nat → Nat} {D : Nat → Bool} {t : ev} {a : Nat} (h : mtp M L vr D t false a) : (t = .natCast 0 ∧ a ∈ L ∧ ∃ is cm sn cp, M a = Option.some (mt_E 1 is none none none cm sn cp)) ∨ (∃ v, t = .var v ∧ D v = true ∧ a = vr v ∧ a ∈ L ∧ ∃ is cm sn cp, M a = Option.some (mt_E 0 is none none none cm sn cp)) ∨
    (∃ x y f g, t = .sub x y ∧ a ∈ L ∧ (∃ is cm sn cp, M a = Option.some (mt_E 2 is (Option.some f) (Option.some g) none cm sn cp)) ∧ mtp M L vr D x false f ∧ mtp M L vr D y false g) ∨ ∃ (r : ev) (iv : Bool) (w : Nat), t = .pow r iv.toNat ∧ a ∈ L ∧ (∃ is cm sn cp, M a = Option.some (mt_E (if iv then 4 else 3) is none none (Option.some w) cm sn cp)) ∧ mtp M L vr D r true w := by
  unfold mtp at h
  split at h
  · obtain ⟨rfl, h2, h3⟩ := h; exact Or.inl ⟨rfl, h2, h3⟩
  · obtain ⟨h1, h2, h3, h4⟩ := h; exact Or.inr (Or.inl ⟨_, rfl, h1, h2, h3, h4⟩)
  · obtain ⟨f, g, h1, h2, h3, h4⟩ := h; exact Or.inr (Or.inr (Or.inl ⟨_, _, f, g, rfl, h1, h2, h3, h4⟩))
  · obtain ⟨iv, w, h1, rfl, h2, h3⟩ := h; exact Or.inr (Or.inr (Or.inr ⟨_, iv, w, rfl, h1, h2, h3⟩))
  all_goals (first | (rename_i h9; cases h9; done) | (exact h.elim) | (simp at *; done))
theorem mtp.shR {M : mm_M} {L : List Nat} {vr : Nat → Nat} {D : Nat → Bool} {t : ev} {a : Nat} (h : mtp M L vr D t true a) : (t = .natCast 0 ∧ M a = Option.some (mr_E 1 none 0 none none 0 false)) ∨ (∃ v, t = .var v ∧ D v = true ∧ a = vr v ∧ a ∈ L ∧ ∃ is lk cm, M a = Option.some (mr_E 0 is 0 none none lk cm)) ∨
    ∃ x k r ty rs, t = .add (.pow x k) r ∧ k < 10 ∧ M a = Option.some (mr_E 2 none (nI k) (Option.some ty) (Option.some rs) 0 false) ∧ mtp M L vr D x false ty ∧ mtp M L vr D r true rs := by
  unfold mtp at h
  split at h
  case h_5 => obtain ⟨rfl, h2⟩ := h; exact Or.inl ⟨rfl, h2⟩
  case h_6 => obtain ⟨h1, h2, h3, h4⟩ := h; exact Or.inr (Or.inl ⟨_, rfl, h1, h2, h3, h4⟩)
  case h_7 => obtain ⟨ty, rs, hk, h2, h3, h4⟩ := h; exact Or.inr (Or.inr ⟨_, _, _, ty, rs, rfl, hk, h2, h3, h4⟩)
  all_goals (first | (rename_i h9; cases h9; done) | (exact h.elim) | (simp at *; done))
/-- a cell is one type alone -/
theorem mtp.uniq {M : mm_M} {L : List Nat} {vr : Nat → Nat} {D : Nat → Bool} (hI : ∀ u v, D u = true → D v = true → vr u = vr v → u = v) : ∀ (t t' : ev) (m m' : Bool) (a : Nat), mtp M L vr D t m a → mtp M L vr D t' m' a → t = t' ∧ m = m' := by
  have key : ∀ (N : Nat) (t t' : ev) (m m' : Bool) (a : Nat), SizeOf.sizeOf t < N → mtp M L vr D t m a → mtp M L vr D t' m' a → t = t' ∧ m = m' := by
    intro N
    induction N with
    | zero => intro t t' m m' a h; omega
    | succ N ih =>
      intro t t' m m' a hz h h'
      have hm : m = m' := by
        cases m <;> cases m' <;> first | rfl | skip
        · obtain ⟨-, k, is, fr, to, rw, cm, sn, cp, h1⟩ := h.cellT
          obtain ⟨k2, is2, lb2, ty2, rs2, lk2, cm2, h2, -⟩ := h'.cellR
          rw [h1] at h2; exact absurd (Option.some.inj h2) mt_ne_mr
        · obtain ⟨-, k, is, fr, to, rw, cm, sn, cp, h1⟩ := h'.cellT
          obtain ⟨k2, is2, lb2, ty2, rs2, lk2, cm2, h2, -⟩ := h.cellR
          rw [h1] at h2; exact absurd (Option.some.inj h2) mt_ne_mr
      subst hm
      refine ⟨?_, rfl⟩
      cases m with
      | false =>
        rcases h.shT with ⟨rfl, -, is, cm, sn, cp, h1⟩ | ⟨v, rfl, hD, hv, -, is, cm, sn, cp, h1⟩ | ⟨x, y, f, g, rfl, -, ⟨is, cm, sn, cp, h1⟩, hx, hy⟩ | ⟨r, iv, w, rfl, -, ⟨is, cm, sn, cp, h1⟩, hw⟩ <;>
        rcases h'.shT with ⟨rfl, -, is', cm', sn', cp', h1'⟩ | ⟨v', rfl, hD', hv', -, is', cm', sn', cp', h1'⟩ | ⟨x', y', f', g', rfl, -, ⟨is', cm', sn', cp', h1'⟩, hx', hy'⟩ | ⟨r', iv', w', rfl, -, ⟨is', cm', sn', cp', h1'⟩, hw'⟩ <;>
        (rewrite [h1] at h1'; obtain ⟨e0, -, e1, e2, e3, -⟩ := mt_inj (Option.some.inj h1')) <;>
        first
        | rfl
        | (cases e3
           have e4 : iv = iv' := by cases iv <;> cases iv' <;> first | rfl | (exact absurd e0 (by decide))
           have z1 : SizeOf.sizeOf (Lean.Grind.CommRing.Expr.pow r iv.toNat) = 1 + SizeOf.sizeOf r + SizeOf.sizeOf iv.toNat := rfl
           rw [(ih r r' _ _ _ (by omega) hw hw').1, e4])
        | (exact absurd e0 (by decide))
        | (exact absurd e0 (by cases iv <;> decide))
        | (exact absurd e0 (by cases iv' <;> decide))
        | (rw [hI v v' hD hD' (hv.symm.trans hv')])
        | (cases e1; cases e2
           have z1 : SizeOf.sizeOf (Lean.Grind.CommRing.Expr.sub x y) = 1 + SizeOf.sizeOf x + SizeOf.sizeOf y := rfl
           rw [(ih x x' _ _ _ (by omega) hx hx').1, (ih y y' _ _ _ (by omega) hy hy').1])
      | true =>
        rcases h.shR with ⟨rfl, h1⟩ | ⟨v, rfl, hD, hv, -, is, lk, cm, h1⟩ | ⟨x, k, r, ty, rs, rfl, hk, h1, hx, hr⟩ <;>
        rcases h'.shR with ⟨rfl, h1'⟩ | ⟨v', rfl, hD', hv', -, is', lk', cm', h1'⟩ | ⟨x', k', r', ty', rs', rfl, hk', h1', hx', hr'⟩ <;>
        (rewrite [h1] at h1'; obtain ⟨e0, -, e1, e2, e3, -⟩ := mr_inj (Option.some.inj h1')) <;>
        first
        | rfl
        | (exact absurd e0 (by decide))
        | (rw [hI v v' hD hD' (hv.symm.trans hv')])
        | (cases e2; cases e3
           have e4 := (nI_eq (by omega) (by omega)).1 e1
           have z1 : SizeOf.sizeOf (Lean.Grind.CommRing.Expr.add (.pow x k) r) = 1 + (1 + SizeOf.sizeOf x + SizeOf.sizeOf k) + SizeOf.sizeOf r := rfl
           rw [(ih x x' _ _ _ (by omega) hx hx').1, (ih r r' _ _ _ (by omega) hr hr').1, e4])
  exact fun t t' m m' a => key _ t t' m m' a (Nat.lt_succ_self _)
/-- while the model finds types: S is what the types at L are; D the variables that are there -/
def mCI (M : mm_M) (L : List Nat) (vr : Nat → Nat) (D : Nat → Bool) (S : ts) : Prop :=
  (ts_ok S ∧ L.Nodup ∧ (∀ u v, D u = true → D v = true → vr u = vr v → u = v) ∧ (∀ v, S.1 ≤ v → S.2.1 v = .var v) ∧ (∀ v, D v = true → v < S.1) ∧ ∀ v, D v = true → ∀ u, uoc u (S.2.1 v) = true → D u = true) ∧
  (∀ v, D v = true → vr v ∈ L ∧ ((∃ is sn cp, M (vr v) = some (mt_E 0 is none none none (S.2.2.1 v) sn cp) ∧ (is = none ↔ S.2.1 v = .var v)) ∨ ∃ is, M (vr v) = some (mr_E 0 is 0 none none (S.2.2.2.1 v) (S.2.2.1 v)) ∧ (is = none ↔ S.2.1 v = .var v))) ∧
  (∀ a ∈ L, ∃ m t, mtp M L vr D t m a) ∧
  ∃ rk : Nat → Nat, ∀ a ∈ L, rk a + mPhi M L ≤ L.length ∧ ∀ o, mnext M a = some o → (o ∈ L → rk o < rk a) ∧ ∃ m t t', mtp M L vr D t m a ∧ mtp M L vr D t' m o ∧ uap S.2.1 t = uap S.2.1 t'
theorem mtp.inL {M : mm_M} {L : List Nat} {vr : Nat → Nat} {D : Nat → Bool} {t : ev} {m : Bool} {a o : Nat} (h : mtp M L vr D t m a) (ho : mnext M a = Option.some o) : a ∈ L := by
  cases m with
  | false => exact h.cellT.1
  | true =>
    obtain ⟨k, is, lb, ty, rs, lk, cm, h1, h2⟩ := h.cellR
    rw [mnext_r h1] at ho
    exact h2 (by rw [ho]; exact fun h9 => by cases h9)
/-- now(): where it ends -/
theorem mCI.now {M : mm_M} {L : List Nat} {vr : Nat → Nat} {D : Nat → Bool} {S : ts} (hC : mCI M L vr D S) {t : ev} {m : Bool} {a : Nat} (h : mtp M L vr D t m a) : ∃ (d b : Nat) (t' : ev), (m = false → mt_now M d a b) ∧ (m = true → mr_now M d a b) ∧ mtp M L vr D t' m b ∧ uap S.2.1 t' = uap S.2.1 t ∧ mnext M b = none := by
  obtain ⟨⟨-, -, hI, -⟩, -, -, ⟨rk, hrk⟩⟩ := hC
  have zero : ∀ {t : ev} {m : Bool} {a : Nat}, mtp M L vr D t m a → mnext M a = none → (m = false → mt_now M 0 a a) ∧ (m = true → mr_now M 0 a a) := fun {t m a} h ho => by
    cases m with
    | false =>
      obtain ⟨-, k, is, fr, to, rw, cm, sn, cp, h1⟩ := h.cellT
      rw [mnext_t h1] at ho; subst ho
      exact ⟨fun _ => ⟨rfl, _, _, _, _, _, _, _, h1⟩, fun e => (by cases e)⟩
    | true =>
      obtain ⟨k, is, lb, ty, rs, lk, cm, h1, -⟩ := h.cellR
      rw [mnext_r h1] at ho; subst ho
      exact ⟨fun e => (by cases e), fun _ => ⟨rfl, _, _, _, _, _, _, h1⟩⟩
  have step : ∀ {t : ev} {m : Bool} {a o d b : Nat}, mtp M L vr D t m a → mnext M a = some o → (m = false → mt_now M d o b) ∧ (m = true → mr_now M d o b) → (m = false → mt_now M (d + 1) a b) ∧ (m = true → mr_now M (d + 1) a b) := fun {t m a o d b} h ho hd => by
    cases m with
    | false =>
      obtain ⟨-, k, is, fr, to, rw, cm, sn, cp, h1⟩ := h.cellT
      rw [mnext_t h1] at ho; subst ho
      exact ⟨fun _ => ⟨o, _, _, _, _, _, _, _, h1, hd.1 rfl⟩, fun e => (by cases e)⟩
    | true =>
      obtain ⟨k, is, lb, ty, rs, lk, cm, h1, -⟩ := h.cellR
      rw [mnext_r h1] at ho; subst ho
      exact ⟨fun e => (by cases e), fun _ => ⟨o, _, _, _, _, _, _, h1, hd.2 rfl⟩⟩
  have key : ∀ (N : Nat) {t : ev} {m : Bool} {a : Nat}, mtp M L vr D t m a → (a ∈ L → rk a < N) → (a ∉ L → 0 < N) → ∃ (d b : Nat) (t' : ev), (m = false → mt_now M d a b) ∧ (m = true → mr_now M d a b) ∧ mtp M L vr D t' m b ∧ uap S.2.1 t' = uap S.2.1 t ∧ mnext M b = none := by
    intro N
    induction N with
    | zero =>
      intro t m a h h1 h2
      by_cases hL : a ∈ L
      · exact absurd (h1 hL) (Nat.not_lt_zero _)
      · exact absurd (h2 hL) (Nat.not_lt_zero _)
    | succ N ih =>
      intro t m a h hr hr0
      cases ho : mnext M a with
      | none =>
        obtain ⟨h1, h2⟩ := zero h ho
        exact ⟨0, a, t, h1, h2, h, rfl, ho⟩
      | some o =>
        have hL := h.inL ho
        obtain ⟨hlt, m2, t2, t3, h2, h3, e3⟩ := (hrk a hL).2 o ho
        obtain ⟨e1, e2⟩ := mtp.uniq hI _ _ _ _ _ h h2
        subst e1; subst e2
        by_cases hoL : o ∈ L
        · obtain ⟨d, b, t', k1, k2, k3, k4, k5⟩ := ih h3 (fun hoL => by have := hlt hoL; have := hr hL; omega) (fun h9 => absurd hoL h9)
          obtain ⟨j1, j2⟩ := step h ho ⟨k1, k2⟩
          exact ⟨d + 1, b, t', j1, j2, k3, k4.trans e3.symm, k5⟩
        · have hno : mnext M o = none := by
            cases h9 : mnext M o with
            | none => rfl
            | some o2 => exact absurd (h3.inL h9) hoL
          obtain ⟨j1, j2⟩ := step h ho (zero h3 hno)
          exact ⟨1, o, t3, j1, j2, h3, e3.symm, hno⟩
  exact key (rk a + 1) h (fun _ => Nat.lt_succ_self _) (fun _ => Nat.succ_pos _)
/-- a type, seen -/
theorem mCI.nowT {M : mm_M} {L : List Nat} {vr : Nat → Nat} {D : Nat → Bool} {S : ts} (hC : mCI M L vr D S) {t : ev} {a : Nat} (h : mtp M L vr D t false a) : ∃ (d b : Nat) (t' : ev), mt_now M d a b ∧ mtp M L vr D t' false b ∧ uap S.2.1 t' = uap S.2.1 t ∧ b ∈ L ∧
    ((uap S.2.1 t = .natCast 0 ∧ ∃ cm sn cp, M b = some (mt_E 1 none none none none cm sn cp)) ∨
     (∃ v, D v = true ∧ uap S.2.1 t = .var v ∧ S.2.1 v = .var v ∧ b = vr v ∧ ∃ sn cp, M b = some (mt_E 0 none none none none (S.2.2.1 v) sn cp)) ∨
     (∃ x y f g cm sn cp, uap S.2.1 t = .sub (uap S.2.1 x) (uap S.2.1 y) ∧ M b = some (mt_E 2 none (some f) (some g) none cm sn cp) ∧ mtp M L vr D x false f ∧ mtp M L vr D y false g) ∨
     ∃ r iv w cm sn cp, uap S.2.1 t = .pow (uap S.2.1 r) (Bool.toNat iv) ∧ M b = some (mt_E (if iv then 4 else 3) none none none (some w) cm sn cp) ∧ mtp M L vr D r true w) := by
  obtain ⟨d, b, t', hn, -, ht, he, hu⟩ := hC.now h
  refine ⟨d, b, t', hn rfl, ht, he, ht.cellT.1, ?_⟩
  rcases ht.shT with ⟨rfl, -, is, cm, sn, cp, h1⟩ | ⟨v, rfl, hD, hv, -, is, cm, sn, cp, h1⟩ | ⟨x, y, f, g, rfl, -, ⟨is, cm, sn, cp, h1⟩, hx, hy⟩ | ⟨r, iv, w, rfl, -, ⟨is, cm, sn, cp, h1⟩, hw⟩ <;> (rw [mnext_t h1] at hu; subst hu)
  · exact Or.inl ⟨he.symm, _, _, _, h1⟩
  · obtain ⟨-, h2⟩ := hC.2.1 v hD
    rw [← hv] at h2
    rcases h2 with ⟨is, sn', cp', h2, h3⟩ | ⟨is, h2, -⟩
    · rw [h1] at h2
      obtain ⟨-, rfl, -, -, -, rfl, rfl, rfl⟩ := mt_inj (Option.some.inj h2)
      have h5 := h3.1 rfl
      exact Or.inr (Or.inl ⟨v, hD, by rw [← he]; exact h5, h5, hv, _, _, h1⟩)
    · rw [h1] at h2; exact absurd (Option.some.inj h2) mt_ne_mr
  · exact Or.inr (Or.inr (Or.inl ⟨x, y, f, g, _, _, _, he.symm, h1, hx, hy⟩))
  · exact Or.inr (Or.inr (Or.inr ⟨r, iv, w, _, _, _, he.symm, h1, hw⟩))
/-- a row, seen -/
theorem mCI.nowR {M : mm_M} {L : List Nat} {vr : Nat → Nat} {D : Nat → Bool} {S : ts} (hC : mCI M L vr D S) {t : ev} {a : Nat} (h : mtp M L vr D t true a) : ∃ (d b : Nat) (t' : ev), mr_now M d a b ∧ mtp M L vr D t' true b ∧ uap S.2.1 t' = uap S.2.1 t ∧
    ((uap S.2.1 t = .natCast 0 ∧ M b = some (mr_E 1 none 0 none none 0 false)) ∨
     (∃ v, D v = true ∧ uap S.2.1 t = .var v ∧ S.2.1 v = .var v ∧ b = vr v ∧ b ∈ L ∧ M b = some (mr_E 0 none 0 none none (S.2.2.2.1 v) (S.2.2.1 v))) ∨
     ∃ x k r ty rs, uap S.2.1 t = uins k (uap S.2.1 x) (uap S.2.1 r) ∧ k < 10 ∧ M b = some (mr_E 2 none (nI k) (some ty) (some rs) 0 false) ∧ mtp M L vr D x false ty ∧ mtp M L vr D r true rs) := by
  obtain ⟨d, b, t', -, hn, ht, he, hu⟩ := hC.now h
  refine ⟨d, b, t', hn rfl, ht, he, ?_⟩
  rcases ht.shR with ⟨rfl, h1⟩ | ⟨v, rfl, hD, hv, hL, is, lk, cm, h1⟩ | ⟨x, k, r, ty, rs, rfl, hk, h1, hx, hr⟩
  · exact Or.inl ⟨he.symm, h1⟩
  · rw [mnext_r h1] at hu; subst hu
    obtain ⟨-, h2⟩ := hC.2.1 v hD
    rw [← hv] at h2
    rcases h2 with ⟨is, sn', cp', h2, h3⟩ | ⟨is, h2, h3⟩
    · rw [h1] at h2; exact absurd (Option.some.inj h2).symm mt_ne_mr
    · rw [h1] at h2
      obtain ⟨-, rfl, -, -, -, rfl, rfl⟩ := mr_inj (Option.some.inj h2)
      have h5 := h3.1 rfl
      exact Or.inr (Or.inl ⟨v, hD, by rw [← he]; exact h5, h5, hv, hL, h1⟩)
  · exact Or.inr (Or.inr ⟨x, k, r, ty, rs, he.symm, hk, h1, hx, hr⟩)
