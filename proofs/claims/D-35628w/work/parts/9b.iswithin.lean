/-! ===== the model: whether a variable is within a type ===== -/
set_option maxRecDepth 100000
theorem lg_cmp_0 {x y : Int64} : lg_cmp x y = 0 ↔ x = y := by
  unfold lg_cmp
  by_cases h1 : y < x
  · rw [if_pos h1]; exact ⟨fun h => absurd h (by decide), fun h => by subst h; exact absurd h1 (Int64.lt_irrefl)⟩
  · rw [if_neg h1]
    by_cases h2 : x = y
    · rw [if_pos h2]; exact ⟨fun _ => h2, fun _ => rfl⟩
    · rw [if_neg h2]; exact ⟨fun h => absurd h (by decide), fun h => absurd h h2⟩
/-- marks, copies and what is comparable may change -/
def mL (mark : Int64) (M M' : mm_M) : Prop := ∀ (a : Nat) (e : va_E), M a = some e → M' a = some e ∨ (∃ k is fr to rw cm sn cp cm' sn' cp', e = mt_E k is fr to rw cm sn cp ∧ M' a = some (mt_E k is fr to rw cm' sn' cp') ∧ (sn' = sn ∨ sn' = mark)) ∨ ∃ is lk cm cm', e = mr_E 0 is 0 none none lk cm ∧ M' a = some (mr_E 0 is 0 none none lk cm')
theorem mL.rf {mark : Int64} (M : mm_M) : mL mark M M := fun _ _ h => Or.inl h
theorem mm_Ext.mL {mark : Int64} {M M' : mm_M} (h : mm_Ext M M') : mL mark M M' := fun _ _ ha => Or.inl (h.at ha)
theorem mL.K {mark : Int64} {M M' : mm_M} (h : mL mark M M') : mK M M' := fun a e he => by
  rcases h a e he with k | ⟨k, is, fr, to, rw, cm, sn, cp, cm', sn', cp', e9, k1, -⟩ | ⟨is, lk, cm, cm', e9, k1⟩
  · exact Or.inl k
  · exact Or.inr (Or.inl ⟨_, _, _, _, _, _, _, _, _, _, _, _, e9, k1⟩)
  · exact Or.inr (Or.inr (Or.inl ⟨_, _, _, _, _, e9, k1⟩))
theorem mL.t {mark : Int64} {M M' : mm_M} (h : mL mark M M') {a : Nat} {k : Int32} {is fr to rw cp : Option Nat} {cm : Bool} {sn : Int64} (ha : M a = some (mt_E k is fr to rw cm sn cp)) : ∃ cm' sn' cp', M' a = some (mt_E k is fr to rw cm' sn' cp') ∧ (sn' = sn ∨ sn' = mark) := by
  rcases h a _ ha with k1 | ⟨k2, is2, fr2, to2, rw2, cm2, sn2, cp2, cm3, sn3, cp3, e, k1, k3⟩ | ⟨is2, lk2, cm2, cm3, e, -⟩
  · exact ⟨_, _, _, k1, Or.inl rfl⟩
  · obtain ⟨rfl, rfl, rfl, rfl, rfl, -, rfl, -⟩ := mt_inj e; exact ⟨_, _, _, k1, k3⟩
  · exact absurd e mt_ne_mr
theorem mL.r {mark : Int64} {M M' : mm_M} (h : mL mark M M') {a : Nat} {k lb lk : Int32} {is ty rs : Option Nat} {cm : Bool} (ha : M a = some (mr_E k is lb ty rs lk cm)) : ∃ cm', M' a = some (mr_E k is lb ty rs lk cm') := by
  rcases h a _ ha with k1 | ⟨k2, is2, fr2, to2, rw2, cm2, sn2, cp2, cm3, sn3, cp3, e, k1, -⟩ | ⟨is2, lk2, cm2, cm3, e, k1⟩
  · exact ⟨_, k1⟩
  · exact absurd e.symm mt_ne_mr
  · obtain ⟨rfl, rfl, rfl, rfl, rfl, rfl, -⟩ := mr_inj e; exact ⟨_, k1⟩
theorem mL.trans {mark : Int64} {M N O : mm_M} (h1 : mL mark M N) (h2 : mL mark N O) : mL mark M O := fun a e he => by
  rcases h1 a e he with k | ⟨k, is, fr, to, rw, cm, sn, cp, cm', sn', cp', rfl, k1, k2⟩ | ⟨is, lk, cm, cm', rfl, k1⟩
  · exact h2 a e k
  · obtain ⟨cm4, sn4, cp4, k3, k4⟩ := h2.t k1; exact Or.inr (Or.inl ⟨_, _, _, _, _, _, _, _, _, _, _, rfl, k3, k4.elim (fun e => e ▸ k2) Or.inr⟩)
  · obtain ⟨cm4, k3⟩ := h2.r k1; exact Or.inr (Or.inr ⟨_, _, _, _, rfl, k3⟩)
theorem mtp.light {mark : Int64} {M M' : mm_M} {L : List Nat} {vr : Nat → Nat} {D : Nat → Bool} {t : ev} {m : Bool} {a : Nat} (h : mtp M L vr D t m a) (hL : mL mark M M') : mtp M' L vr D t m a := mtp.mono hL.K (fun _ h => h) (fun _ h => ⟨h, rfl⟩) t m a h
theorem mL.next {mark : Int64} {M M' : mm_M} (h : mL mark M M') {L : List Nat} {vr : Nat → Nat} {D : Nat → Bool} {t : ev} {m : Bool} {a : Nat} (ha : mtp M L vr D t m a) : mnext M' a = mnext M a := by
  cases m with
  | false =>
    obtain ⟨-, k, is, fr, to, rw, cm, sn, cp, h1⟩ := ha.cellT
    obtain ⟨cm', sn', cp', h2, -⟩ := h.t h1
    rw [mnext_t h1, mnext_t h2]
  | true =>
    obtain ⟨k, is, lb, ty, rs, lk, cm, h1, -⟩ := ha.cellR
    obtain ⟨cm', h2⟩ := h.r h1
    rw [mnext_r h1, mnext_r h2]
theorem mL.phi {mark : Int64} {M M' : mm_M} {L : List Nat} {vr : Nat → Nat} {D : Nat → Bool} (h : mL mark M M') (hL : ∀ a ∈ L, ∃ m t, mtp M L vr D t m a) : mPhi M' L = mPhi M L := by
  unfold mPhi
  exact List.countP_congr fun a ha => by obtain ⟨m, t, h1⟩ := hL a ha; rw [h.next h1]
theorem mCI.light {mark : Int64} {M M' : mm_M} {L : List Nat} {vr : Nat → Nat} {D : Nat → Bool} {S S' : ts} (hC : mCI M L vr D S) (hL : mL mark M M') (h1 : S'.1 = S.1) (h2 : S'.2.1 = S.2.1)
    (hv : ∀ v, D v = true → (∃ is sn cp, M' (vr v) = some (mt_E 0 is none none none (S'.2.2.1 v) sn cp) ∧ (is = none ↔ S.2.1 v = .var v)) ∨ ∃ is, M' (vr v) = some (mr_E 0 is 0 none none (S'.2.2.2.1 v) (S'.2.2.1 v)) ∧ (is = none ↔ S.2.1 v = .var v)) : mCI M' L vr D S' := by
  obtain ⟨⟨c1, c2, c3, c4, c5, c6⟩, d1, d2, ⟨rk, d3⟩⟩ := hC
  refine ⟨⟨by unfold ts_ok; rw [h2]; exact c1, c2, c3, by rw [h1, h2]; exact c4, by rw [h1]; exact c5, by rw [h2]; exact c6⟩, fun v hD => ⟨(d1 v hD).1, by rw [h2]; exact hv v hD⟩, fun a ha => ?_, ⟨rk, fun a ha => ?_⟩⟩
  · obtain ⟨m, t, h⟩ := d2 a ha
    exact ⟨m, t, h.light hL⟩
  · rw [hL.phi d2]
    refine ⟨(d3 a ha).1, fun o ho => ?_⟩
    obtain ⟨m, t, h⟩ := d2 a ha
    rw [hL.next h] at ho
    obtain ⟨e1, m2, t2, t3, e2, e3, e4⟩ := (d3 a ha).2 o ho
    rw [h2]
    exact ⟨e1, m2, t2, t3, e2.light hL, e3.light hL, e4⟩
/-- marks alone have changed -/
def mS (mark : Int64) (M M' : mm_M) : Prop := ∀ (a : Nat) (e : va_E), M a = some e → M' a = some e ∨ ∃ k is fr to rw cm sn cp sn', e = mt_E k is fr to rw cm sn cp ∧ M' a = some (mt_E k is fr to rw cm sn' cp) ∧ (sn' = sn ∨ sn' = mark)
theorem mS.rf {mark : Int64} (M : mm_M) : mS mark M M := fun _ _ h => Or.inl h
theorem mS.L {mark : Int64} {M M' : mm_M} (h : mS mark M M') : mL mark M M' := fun a e he => by
  rcases h a e he with k | ⟨k, is, fr, to, rw, cm, sn, cp, sn', e9, k1, k2⟩
  · exact Or.inl k
  · exact Or.inr (Or.inl ⟨_, _, _, _, _, _, _, _, _, _, _, e9, k1, k2⟩)
theorem mS.t {mark : Int64} {M M' : mm_M} (h : mS mark M M') {a : Nat} {k : Int32} {is fr to rw cp : Option Nat} {cm : Bool} {sn : Int64} (ha : M a = some (mt_E k is fr to rw cm sn cp)) : ∃ sn', M' a = some (mt_E k is fr to rw cm sn' cp) ∧ (sn' = sn ∨ sn' = mark) := by
  rcases h a _ ha with k1 | ⟨k2, is2, fr2, to2, rw2, cm2, sn2, cp2, sn3, e, k1, k3⟩
  · exact ⟨_, k1, Or.inl rfl⟩
  · obtain ⟨rfl, rfl, rfl, rfl, rfl, rfl, rfl, rfl⟩ := mt_inj e; exact ⟨_, k1, k3⟩
theorem mS.r {mark : Int64} {M M' : mm_M} (h : mS mark M M') {a : Nat} {k lb lk : Int32} {is ty rs : Option Nat} {cm : Bool} (ha : M a = some (mr_E k is lb ty rs lk cm)) : M' a = some (mr_E k is lb ty rs lk cm) := by
  rcases h a _ ha with k1 | ⟨k2, is2, fr2, to2, rw2, cm2, sn2, cp2, sn3, e, k1, -⟩
  · exact k1
  · exact absurd e.symm mt_ne_mr
theorem mS.trans {mark : Int64} {M N O : mm_M} (h1 : mS mark M N) (h2 : mS mark N O) : mS mark M O := fun a e he => by
  rcases h1 a e he with k | ⟨k, is, fr, to, rw, cm, sn, cp, sn', rfl, k1, k2⟩
  · exact h2 a e k
  · obtain ⟨sn4, k3, k4⟩ := h2.t k1; exact Or.inr ⟨_, _, _, _, _, _, _, _, _, rfl, k3, k4.elim (fun e => e ▸ k2) Or.inr⟩
theorem mS.put {mark : Int64} {M : mm_M} {a : Nat} {k : Int32} {is fr to rw cp : Option Nat} {cm : Bool} {sn : Int64} (h : M a = some (mt_E k is fr to rw cm sn cp)) : mS mark M (mm_U M a (mt_E k is fr to rw cm mark cp)) := fun q e he => by
  by_cases hq : q = a
  · subst hq; rw [h] at he; cases he; exact Or.inr ⟨_, _, _, _, _, _, _, _, _, rfl, mm_U_eq, Or.inr rfl⟩
  · exact Or.inl ((mm_U_ne hq).trans he)
theorem mS.atC {mark : Int64} {M M' : mm_M} {a ci : Nat} {fs : List Value} (h : mS mark M M') (ha : M a = some (.inr (ci, fs))) (hc : ci ≠ 20) : M' a = some (.inr (ci, fs)) := by
  rcases h a _ ha with k1 | ⟨k2, is2, fr2, to2, rw2, cm2, sn2, cp2, sn3, e, k1, -⟩
  · exact k1
  · exact absurd (Prod.mk.inj (Sum.inr.inj e)).1 hc
theorem mCI.seen {mark : Int64} {M M' : mm_M} {L : List Nat} {vr : Nat → Nat} {D : Nat → Bool} {S : ts} (hC : mCI M L vr D S) (h : mS mark M M') : mCI M' L vr D S :=
  hC.light h.L rfl rfl (fun v hD => by
    rcases (hC.2.1 v hD).2 with ⟨is, sn, cp, h1, h2⟩ | ⟨is, h1, h2⟩
    · obtain ⟨sn', k, -⟩ := h.t h1; exact Or.inl ⟨is, sn', cp, k, h2⟩
    · exact Or.inr ⟨is, h.r h1, h2⟩)
/-- bears the mark -/
def mk (M : mm_M) (mark : Int64) (b : Nat) : Prop := ∃ k is fr to rw cm cp, M b = some (mt_E k is fr to rw cm mark cp)
theorem mk_put {M : mm_M} {mark : Int64} {a b : Nat} {e : va_E} (h : mk (mm_U M a e) mark b) : b = a ∨ mk M mark b := by
  by_cases hb : b = a
  · exact Or.inl hb
  · obtain ⟨k, is, fr, to, rw, cm, cp, h1⟩ := h
    rw [mm_U_ne hb] at h1
    exact Or.inr ⟨_, _, _, _, _, _, _, h1⟩
/-- the variable v0 is within nothing that bears the mark and is no larger than s -/
def mW (M : mm_M) (L : List Nat) (vr : Nat → Nat) (D : Nat → Bool) (S : ts) (mark : Int64) (v0 s : Nat) : Prop := ∀ b ∈ L, mk M mark b → ∀ tb, mtp M L vr D tb false b → SizeOf.sizeOf (uap S.2.1 tb) ≤ s → uoc v0 (uap S.2.1 tb) = false
/-- new marks stand where v0 is not -/
def mW2 (M M' : mm_M) (L : List Nat) (vr : Nat → Nat) (D : Nat → Bool) (S : ts) (mark : Int64) (v0 : Nat) : Prop := ∀ b ∈ L, mk M' mark b → mk M mark b ∨ ∀ tb, mtp M' L vr D tb false b → uoc v0 (uap S.2.1 tb) = false
theorem mW.next {M M' : mm_M} {L : List Nat} {vr : Nat → Nat} {D : Nat → Bool} {S : ts} {mark : Int64} {v0 s : Nat} (hC : mCI M L vr D S) (h : mW M L vr D S mark v0 s) (h2 : mW2 M M' L vr D S mark v0) (hL : mL mark M M') : mW M' L vr D S mark v0 s := fun b hb hm tb htb hz => by
  rcases h2 b hb hm with h3 | h3
  · obtain ⟨m, t0, h4⟩ := hC.2.2.1 b hb
    obtain ⟨rfl, rfl⟩ := mtp.uniq hC.1.2.2.1 _ _ _ _ _ htb (h4.light hL)
    exact h b hb h3 tb h4 hz
  · exact h3 tb htb
theorem mW2.trans {M N O : mm_M} {L : List Nat} {vr : Nat → Nat} {D : Nat → Bool} {S : ts} {mark : Int64} {v0 : Nat} (hC : mCI N L vr D S) (h1 : mW2 M N L vr D S mark v0) (h2 : mW2 N O L vr D S mark v0) (hL : mL mark N O) : mW2 M O L vr D S mark v0 := fun b hb hm => by
  rcases h2 b hb hm with h3 | h3
  · rcases h1 b hb h3 with h4 | h4
    · exact Or.inl h4
    · refine Or.inr fun tb htb => ?_
      obtain ⟨m, t0, h5⟩ := hC.2.2.1 b hb
      obtain ⟨rfl, rfl⟩ := mtp.uniq hC.1.2.2.1 _ _ _ _ _ htb (h5.light hL)
      exact h4 tb h5
  · exact Or.inr h3
/-- the variable's own cell -/
def mVK (M : mm_M) (ro : Bool) (x : Nat) : Prop := (ro = false → ∃ is cm sn cp, M x = some (mt_E 0 is none none none cm sn cp)) ∧ (ro = true → ∃ is lk cm, M x = some (mr_E 0 is 0 none none lk cm))
theorem mS.VK {mark : Int64} {M M' : mm_M} (h : mS mark M M') {ro : Bool} {x : Nat} (h1 : mVK M ro x) : mVK M' ro x := ⟨fun e => by obtain ⟨is, cm, sn, cp, k⟩ := h1.1 e; obtain ⟨sn', k2, -⟩ := h.t k; exact ⟨_, _, _, _, k2⟩, fun e => by obtain ⟨is, lk, cm, k⟩ := h1.2 e; exact ⟨_, _, _, h.r k⟩⟩
theorem mtp_varT {M : mm_M} {L : List Nat} {vr : Nat → Nat} {D : Nat → Bool} {v : Nat} (hD : D v = true) (hL : vr v ∈ L) {is cp : Option Nat} {cm : Bool} {sn : Int64} (h : M (vr v) = some (mt_E 0 is none none none cm sn cp)) : mtp M L vr D (.var v) false (vr v) := by unfold mtp; exact ⟨hD, rfl, hL, _, _, _, _, h⟩
theorem mtp_varR {M : mm_M} {L : List Nat} {vr : Nat → Nat} {D : Nat → Bool} {v : Nat} (hD : D v = true) (hL : vr v ∈ L) {is : Option Nat} {lk : Int32} {cm : Bool} (h : M (vr v) = some (mr_E 0 is 0 none none lk cm)) : mtp M L vr D (.var v) true (vr v) := by unfold mtp; exact ⟨hD, rfl, hL, _, _, _, h⟩
/-- a row, seen -/
def mRow (M : mm_M) (L : List Nat) (vr : Nat → Nat) (D : Nat → Bool) (S : ts) (R : ev) (b : Nat) : Prop := (R = .natCast 0 ∧ M b = some (mr_E 1 none 0 none none 0 false)) ∨
     (∃ v, D v = true ∧ R = .var v ∧ S.2.1 v = .var v ∧ b = vr v ∧ b ∈ L ∧ M b = some (mr_E 0 none 0 none none (S.2.2.2.1 v) (S.2.2.1 v))) ∨
     ∃ x k r ty rs, R = uins k (uap S.2.1 x) (uap S.2.1 r) ∧ k < 10 ∧ M b = some (mr_E 2 none (nI k) (some ty) (some rs) 0 false) ∧ mtp M L vr D x false ty ∧ mtp M L vr D r true rs
theorem mCI.nowR' {M : mm_M} {L : List Nat} {vr : Nat → Nat} {D : Nat → Bool} {S : ts} (hC : mCI M L vr D S) {t : ev} {a : Nat} (h : mtp M L vr D t true a) : ∃ (d b : Nat), mr_now M d a b ∧ mRow M L vr D S (uap S.2.1 t) b := by
  obtain ⟨d, b, t', h1, -, -, h3⟩ := hC.nowR h
  exact ⟨d, b, h1, h3⟩
theorem mRow.light {mark : Int64} {M M' : mm_M} {L : List Nat} {vr : Nat → Nat} {D : Nat → Bool} {S : ts} {R : ev} {b : Nat} (h : mRow M L vr D S R b) (hS : mS mark M M') : mRow M' L vr D S R b := by
  rcases h with ⟨h1, h2⟩ | ⟨v, h1, h2, h3, h4, h5, h6⟩ | ⟨x, k, r, ty, rs, h1, h2, h3, h4, h5⟩
  · exact Or.inl ⟨h1, hS.r h2⟩
  · exact Or.inr (Or.inl ⟨v, h1, h2, h3, h4, h5, hS.r h6⟩)
  · exact Or.inr (Or.inr ⟨x, k, r, ty, rs, h1, h2, hS.r h3, h4.light hS.L, h5.light hS.L⟩)

set_option maxHeartbeats 4000000 in
set_option maxRecDepth 100000 in
theorem c_isWithin (l : Launch) (Z : mm_G) (L : List Nat) (vr : Nat → Nat) (D : Nat → Bool) (S : ts) (v0 : Nat) (ro : Bool) (mark : Int64) (N : Nat) : (∀ (T t : ev) (a : Nat) (M : mm_M), SizeOf.sizeOf T < N → uap S.2.1 t = T → D v0 = true → mVK M ro (vr v0) → mCI M L vr D S → mtp M L vr D t false a → mW M L vr D S mark v0 (SizeOf.sizeOf T) → mm_C l Z yX2_isWithin (ws_ yX2_isWithin cX2_isWithin 6 (some .boolean)) { frames := 2 * uh T + 4, cells := 0, slots := 0, locals := 30 * uh T + 80 } [va_rf (wop ro (vr v0)), va_rf (wrw ro (vr v0)), .ref a, .long mark] M (fun v M' => v = some (.int (mm_b (uoc v0 T))) ∧ mS mark M M' ∧ (uoc v0 T = false → mW2 M M' L vr D S mark v0)) mm_nx) ∧
    (∀ (T t : ev) (a : Nat) (M : mm_M), SizeOf.sizeOf T < N → uap S.2.1 t = T → D v0 = true → mVK M ro (vr v0) → mCI M L vr D S → mtp M L vr D t true a → mW M L vr D S mark v0 (SizeOf.sizeOf T) → mm_C l Z yX2_isWithinRow (ws_ yX2_isWithinRow cX2_isWithinRow 7 (some .boolean)) { frames := 2 * uh T + 4, cells := 0, slots := 0, locals := 30 * uh T + 80 } [va_rf (wop ro (vr v0)), va_rf (wrw ro (vr v0)), .ref a, .long mark] M (fun v M' => v = some (.int (mm_b (uoc v0 T))) ∧ mS mark M M' ∧ (uoc v0 T = false → mW2 M M' L vr D S mark v0)) mm_nx) := by
  induction N with
  | zero => exact ⟨fun _ _ _ _ h => absurd h (Nat.not_lt_zero _), fun _ _ _ _ h => absurd h (Nat.not_lt_zero _)⟩
  | succ N ih =>
  obtain ⟨ihT, ihR⟩ := ih
  refine ⟨fun T t a M hz hT hD hvk hC htp hmw => ?_, fun T t a M hz hT hD hvk hC htp hmw => ?_⟩
  · skip
    refine mm_ofW (cc := cX2_isWithin) (maxL := 6) (ret := (some .boolean)) (by decide) rfl (by simp [lg_sl, mm_cat_o, mm_cat_r, mm_cat_i, mm_cat_l, mm_cat_n]) ?_
    intro p e s m below meth c A ls hx hb hr hlk hml hown hmn hts htab hE hST hA hM hS hl
    replace hl : lv_has ls 6 [(0, va_rf (wop ro (vr v0))), (1, va_rf (wrw ro (vr v0))), (2, .ref a), (3, .long mark)] := by simpa [lv_args, mm_cat_o, mm_cat_r, mm_cat_i, mm_cat_l, mm_cat_n] using hl
    obtain ⟨d1, b1, t1, hn1, htb, he1, hbL, hcs⟩ := hC.nowT htp
    refine lv_aload_n hx hb dX2_isWithin_0 rfl (lv_at hl 2 rfl) ?_
    obtain ⟨-, k9, is9, fr9, to9, rw9, cm9, sn9, cp9, hq9⟩ := (htp).cellT
    refine mm_callV (As := []) (rest := []) ⟨hx, hb, hml, hown, hts⟩ hE hST hA (c_X25_now l Z hn1) (cwV 0 hts (lw_V q2604 q2605 q2606 q98 q2607) rfl rfl rfl (by decide +kernel) ⟨(by (try dsimp only); omega), (by (try dsimp only); omega)⟩) hM hS mm_cX25 hq9 rfl hl.1 (Nat.le_of_ble_eq_true rfl) dX2_isWithin_1 rfl ⟨(by (try dsimp only); omega), (by (try dsimp only); omega)⟩ (fun _ _ _ _ _ _ h9 => h9.elim) (fun v_1 M_2 H locs hp_3 hM hS => ?_)
    obtain ⟨rfl, eM_2⟩ := hp_3
    rw [eM_2] at hM
    refine lv_astore hx hb dX2_isWithin_4 hl (by decide) rfl (fun ls hl => ?_)
    replace hl : lv_has ls 6 [(5, .ref b1), (0, va_rf (wop ro (vr v0))), (1, va_rf (wrw ro (vr v0))), (2, .ref a), (3, .long mark)] := hl
    have hvt : ro = false → mtp M L vr D (.var v0) false (vr v0) := fun e => by obtain ⟨is, cm, sn, cp, k⟩ := hvk.1 e; exact mtp_varT hD (hC.2.1 v0 hD).1 k
    rcases hcs with ⟨eT, cm1, sn1, cp1, hb1⟩ | ⟨u, hu, eT, hsu, hbu, sn1, cp1, hb1⟩ | ⟨x1, y1, f1, g1, cm1, sn1, cp1, eT, hb1, hf1, hg1⟩ | ⟨r1, iv1, w1, cm1, sn1, cp1, eT, hb1, hw1⟩
    · skip
      rw [hT] at eT
      refine lv_aload hx hb dX2_isWithin_6 (lv_at hl 0 rfl) ?_
      refine mm_aload_n hx hb dX2_isWithin_8 rfl (lv_at hl 1 rfl) ?_
      refine lv_acmp_ne (rx := (some b1)) (ry := (wop ro (vr v0))) (tgt := 14) hx hb dX2_isWithin_9 (by decide) (fun c_4 => ?_) (fun c_4 => ?_)
      · skip
        refine lv_aload hx hb dX2_isWithin_14 (lv_at hl 0 rfl) ?_
        refine va_get (D := Z.1) (ci := 20) (v := .long sn1) (C := RX25) (T := TX25) (N := 8) hx hb hts in_X25 hown hE.1 (hM.at hb1) 0 rfl mm_cX25 6 (by decide) (hts _ q2511) (fun _ h9 => h9) rfl dX2_isWithin_16 ?_
        refine lv_lload_n hx hb dX2_isWithin_19 rfl (lv_at hl 4 rfl) ?_
        refine W.lcmp hx hb dX2_isWithin_20 ?_
        refine lv_if_ne (tgt := 26) hx hb dX2_isWithin_21 (by decide) (fun c_5 => ?_) (fun c_5 => ?_)
        · skip
          refine lv_aload hx hb dX2_isWithin_26 (lv_at hl 0 rfl) ?_
          refine lv_lload_n hx hb dX2_isWithin_28 rfl (lv_at hl 4 rfl) ?_
          refine mm_put (D := Z.1) (ci := 20) (v := .long mark) (ty := .long) (C := RX25) (T := TX25) (N := 8) hx hb hts in_X25 tyX25 tyX25_ok nmX25 hown hE.1 hM hS hb1 mm_cX25 6 (by decide) (hts _ q2511) (fun _ h9 => h9) rfl (by decide +kernel) rfl rfl (Nat.le_of_ble_eq_true rfl) dX2_isWithin_29 (fun H locs hM hS => ?_)
          have hM : mm_P Z.1 mm_cl A (mm_U M b1 (.inr (20, [.int 1, .null, .null, .null, .null, .int (mm_b cm1), .long mark, va_rf cp1]))) H := hM
          have hc_6 : (mm_U M b1 (.inr (20, [.int 1, .null, .null, .null, .null, .int (mm_b cm1), .long mark, va_rf cp1]))) b1 = some (.inr (20, [.int 1, .null, .null, .null, .null, .int (mm_b cm1), .long mark, va_rf cp1])) := mm_U_eq
          obtain ⟨M_7, eM_7⟩ : ∃ z, z = mm_U M b1 (.inr (20, [.int 1, .null, .null, .null, .null, .int (mm_b cm1), .long mark, va_rf cp1])) := ⟨_, rfl⟩
          rw [← eM_7] at hM hc_6
          have hS1 : mS mark M M_7 := by rw [eM_7]; exact mS.put hb1
          have hC1 := hC.seen hS1
          have hb2 := hc_6
          have hbig : ∀ {s : Nat}, s < SizeOf.sizeOf T → mW M_7 L vr D S mark v0 s := fun {s} hs b hb hm tb htb9 hz9 => by
            rw [eM_7] at hm
            have h0 : mtp M L vr D tb false b := by
              obtain ⟨m, t0, h4⟩ := hC.2.2.1 b hb
              obtain ⟨rfl, rfl⟩ := mtp.uniq hC.1.2.2.1 _ _ _ _ _ htb9 (h4.light hS1.L)
              exact h4
            rcases mk_put hm with h3 | h3
            · subst h3
              obtain ⟨rfl, -⟩ := mtp.uniq hC.1.2.2.1 _ _ _ _ _ h0 htb
              rw [he1, hT] at hz9
              exact absurd hz9 (by omega)
            · exact hmw b hb h3 tb h0 (by omega)
          have hm1 : uoc v0 T = false → mW2 M M_7 L vr D S mark v0 := fun h9 b hb hm => by
            rw [eM_7] at hm
            rcases mk_put hm with h3 | h3
            · subst h3
              refine Or.inr fun tb htb9 => ?_
              obtain ⟨rfl, -⟩ := mtp.uniq hC.1.2.2.1 _ _ _ _ _ htb9 (htb.light hS1.L)
              rw [he1, hT]; exact h9
            · exact Or.inl h3
          refine lv_aload hx hb dX2_isWithin_32 (lv_at hl 0 rfl) ?_
          refine va_get (D := Z.1) (ci := 20) (v := .int 1) (C := RX25) (T := TX25) (N := 8) hx hb hts in_X25 hown hE.1 (hM.at hc_6) 0 rfl mm_cX25 0 (by decide) (hts _ q2504) (fun _ h9 => h9) rfl dX2_isWithin_34 ?_
          refine lv_iconst (v := 2) hx hb dX2_isWithin_37 (by decide) ?_
          have hoc : uoc v0 T = false := by rw [eT]; rfl
          refine lv_icmp_ne (tgt := 75) hx hb dX2_isWithin_38 (by decide) (fun _ => ?_) (fun h9 => absurd h9 (by decide))
          refine lv_aload hx hb dX2_isWithin_75 (lv_at hl 0 rfl) ?_
          refine va_get (D := Z.1) (ci := 20) (v := .int 1) (C := RX25) (T := TX25) (N := 8) hx hb hts in_X25 hown hE.1 (hM.at hc_6) 0 rfl mm_cX25 0 (by decide) (hts _ q2504) (fun _ h9 => h9) rfl dX2_isWithin_77 ?_
          refine lv_iconst (v := 3) hx hb dX2_isWithin_80 (by decide) ?_
          refine lv_icmp_eq (tgt := 93) hx hb dX2_isWithin_81 (by decide) (fun h9 => absurd h9 (by decide)) (fun _ => ?_)
          refine lv_aload hx hb dX2_isWithin_84 (lv_at hl 0 rfl) ?_
          refine va_get (D := Z.1) (ci := 20) (v := .int 1) (C := RX25) (T := TX25) (N := 8) hx hb hts in_X25 hown hE.1 (hM.at hc_6) 0 rfl mm_cX25 0 (by decide) (hts _ q2504) (fun _ h9 => h9) rfl dX2_isWithin_86 ?_
          refine lv_iconst (v := 4) hx hb dX2_isWithin_89 (by decide) ?_
          refine lv_icmp_ne (tgt := 111) hx hb dX2_isWithin_90 (by decide) (fun _ => ?_) (fun h9 => absurd h9 (by decide))
          refine lv_iconst (v := 0) hx hb dX2_isWithin_111 (by decide) ?_
          refine W.eq (g2 := F0 m 112 ls [.int (mm_b (uoc v0 T))]) (by rw [hoc]; rfl) ?_
          exact mm_retz hx hb hr (mm_b_nar _) hlk hM hS ⟨rfl, hS1, hm1⟩ dX2_isWithin_112 (by (try dsimp only); omega) (by (try dsimp only); omega)
        · skip
          have hsn : sn1 = mark := lg_cmp_0.1 (by first | exact c_5 | exact Classical.not_not.1 c_5)
          subst hsn
          have hoc : uoc v0 T = false := by have h9 := hmw b1 hbL ⟨_, _, _, _, _, _, _, hb1⟩ t1 htb (by rw [he1, hT]; exact Nat.le_refl _); rw [he1, hT] at h9; exact h9
          refine lv_iconst (v := 0) hx hb dX2_isWithin_24 (by decide) ?_
          refine W.eq (g2 := F0 m 25 ls [.int (mm_b (uoc v0 T))]) (by rw [hoc]; rfl) ?_
          exact mm_retz hx hb hr (mm_b_nar _) hlk hM hS ⟨rfl, mS.rf _, fun _ b hb hm => Or.inl hm⟩ dX2_isWithin_25 (by (try dsimp only); omega) (by (try dsimp only); omega)
      · skip
        have hoc : uoc v0 T = true := by
          have h9 : some b1 = wop ro (vr v0) := by first | exact c_4 | exact Classical.not_not.1 c_4
          cases hro : ro with
          | true => rw [hro] at h9; cases h9
          | false =>
            rw [hro] at h9
            have h8 : b1 = vr v0 := Option.some.inj h9
            obtain ⟨e9, -⟩ := mtp.uniq hC.1.2.2.1 _ _ _ _ _ htb (h8 ▸ hvt hro)
            rw [e9] at he1
            obtain ⟨-, h7⟩ := hC.2.1 v0 hD
            have h6 : S.2.1 v0 = .var v0 := by
              rcases h7 with ⟨is, sn, cp, k1, k2⟩ | ⟨is, k1, k2⟩
              · rw [← h8, hb1] at k1; exact k2.1 (mt_inj (Option.some.inj k1)).2.1.symm
              · rw [← h8, hb1] at k1; exact absurd (Option.some.inj k1) mt_ne_mr
            have h5 : T = .var v0 := by rw [← hT, ← he1]; exact h6
            rw [h5]; simp [uoc]
        refine lv_iconst (v := 1) hx hb dX2_isWithin_12 (by decide) ?_
        refine W.eq (g2 := F0 m 13 ls [.int (mm_b (uoc v0 T))]) (by rw [hoc]; rfl) ?_
        exact mm_retz hx hb hr (mm_b_nar _) hlk hM hS ⟨rfl, mS.rf _, fun h9 => by rw [hoc] at h9; cases h9⟩ dX2_isWithin_13 (by (try dsimp only); omega) (by (try dsimp only); omega)
    · skip
      rw [hT] at eT
      refine lv_aload hx hb dX2_isWithin_6 (lv_at hl 0 rfl) ?_
      refine mm_aload_n hx hb dX2_isWithin_8 rfl (lv_at hl 1 rfl) ?_
      refine lv_acmp_ne (rx := (some b1)) (ry := (wop ro (vr v0))) (tgt := 14) hx hb dX2_isWithin_9 (by decide) (fun c_4 => ?_) (fun c_4 => ?_)
      · skip
        refine lv_aload hx hb dX2_isWithin_14 (lv_at hl 0 rfl) ?_
        refine va_get (D := Z.1) (ci := 20) (v := .long sn1) (C := RX25) (T := TX25) (N := 8) hx hb hts in_X25 hown hE.1 (hM.at hb1) 0 rfl mm_cX25 6 (by decide) (hts _ q2511) (fun _ h9 => h9) rfl dX2_isWithin_16 ?_
        refine lv_lload_n hx hb dX2_isWithin_19 rfl (lv_at hl 4 rfl) ?_
        refine W.lcmp hx hb dX2_isWithin_20 ?_
        refine lv_if_ne (tgt := 26) hx hb dX2_isWithin_21 (by decide) (fun c_5 => ?_) (fun c_5 => ?_)
        · skip
          refine lv_aload hx hb dX2_isWithin_26 (lv_at hl 0 rfl) ?_
          refine lv_lload_n hx hb dX2_isWithin_28 rfl (lv_at hl 4 rfl) ?_
          refine mm_put (D := Z.1) (ci := 20) (v := .long mark) (ty := .long) (C := RX25) (T := TX25) (N := 8) hx hb hts in_X25 tyX25 tyX25_ok nmX25 hown hE.1 hM hS hb1 mm_cX25 6 (by decide) (hts _ q2511) (fun _ h9 => h9) rfl (by decide +kernel) rfl rfl (Nat.le_of_ble_eq_true rfl) dX2_isWithin_29 (fun H locs hM hS => ?_)
          have hM : mm_P Z.1 mm_cl A (mm_U M b1 (.inr (20, [.int 0, .null, .null, .null, .null, .int (mm_b (S.2.2.1 u)), .long mark, va_rf cp1]))) H := hM
          have hc_6 : (mm_U M b1 (.inr (20, [.int 0, .null, .null, .null, .null, .int (mm_b (S.2.2.1 u)), .long mark, va_rf cp1]))) b1 = some (.inr (20, [.int 0, .null, .null, .null, .null, .int (mm_b (S.2.2.1 u)), .long mark, va_rf cp1])) := mm_U_eq
          obtain ⟨M_7, eM_7⟩ : ∃ z, z = mm_U M b1 (.inr (20, [.int 0, .null, .null, .null, .null, .int (mm_b (S.2.2.1 u)), .long mark, va_rf cp1])) := ⟨_, rfl⟩
          rw [← eM_7] at hM hc_6
          have hS1 : mS mark M M_7 := by rw [eM_7]; exact mS.put hb1
          have hC1 := hC.seen hS1
          have hb2 := hc_6
          have hbig : ∀ {s : Nat}, s < SizeOf.sizeOf T → mW M_7 L vr D S mark v0 s := fun {s} hs b hb hm tb htb9 hz9 => by
            rw [eM_7] at hm
            have h0 : mtp M L vr D tb false b := by
              obtain ⟨m, t0, h4⟩ := hC.2.2.1 b hb
              obtain ⟨rfl, rfl⟩ := mtp.uniq hC.1.2.2.1 _ _ _ _ _ htb9 (h4.light hS1.L)
              exact h4
            rcases mk_put hm with h3 | h3
            · subst h3
              obtain ⟨rfl, -⟩ := mtp.uniq hC.1.2.2.1 _ _ _ _ _ h0 htb
              rw [he1, hT] at hz9
              exact absurd hz9 (by omega)
            · exact hmw b hb h3 tb h0 (by omega)
          have hm1 : uoc v0 T = false → mW2 M M_7 L vr D S mark v0 := fun h9 b hb hm => by
            rw [eM_7] at hm
            rcases mk_put hm with h3 | h3
            · subst h3
              refine Or.inr fun tb htb9 => ?_
              obtain ⟨rfl, -⟩ := mtp.uniq hC.1.2.2.1 _ _ _ _ _ htb9 (htb.light hS1.L)
              rw [he1, hT]; exact h9
            · exact Or.inl h3
          refine lv_aload hx hb dX2_isWithin_32 (lv_at hl 0 rfl) ?_
          refine va_get (D := Z.1) (ci := 20) (v := .int 0) (C := RX25) (T := TX25) (N := 8) hx hb hts in_X25 hown hE.1 (hM.at hc_6) 0 rfl mm_cX25 0 (by decide) (hts _ q2504) (fun _ h9 => h9) rfl dX2_isWithin_34 ?_
          refine lv_iconst (v := 2) hx hb dX2_isWithin_37 (by decide) ?_
          have huv : u ≠ v0 := fun e => by
            subst e
            cases hro : ro with
            | false => rw [hro] at c_4; exact c_4 (by rw [hbu]; rfl)
            | true => obtain ⟨is, lk, cm, k⟩ := hvk.2 hro; rw [hbu, k] at hb1; exact mt_ne_mr (Option.some.inj hb1).symm
          have hoc : uoc v0 T = false := by rw [eT]; simp [uoc, huv]
          refine lv_icmp_ne (tgt := 75) hx hb dX2_isWithin_38 (by decide) (fun _ => ?_) (fun h9 => absurd h9 (by decide))
          refine lv_aload hx hb dX2_isWithin_75 (lv_at hl 0 rfl) ?_
          refine va_get (D := Z.1) (ci := 20) (v := .int 0) (C := RX25) (T := TX25) (N := 8) hx hb hts in_X25 hown hE.1 (hM.at hc_6) 0 rfl mm_cX25 0 (by decide) (hts _ q2504) (fun _ h9 => h9) rfl dX2_isWithin_77 ?_
          refine lv_iconst (v := 3) hx hb dX2_isWithin_80 (by decide) ?_
          refine lv_icmp_eq (tgt := 93) hx hb dX2_isWithin_81 (by decide) (fun h9 => absurd h9 (by decide)) (fun _ => ?_)
          refine lv_aload hx hb dX2_isWithin_84 (lv_at hl 0 rfl) ?_
          refine va_get (D := Z.1) (ci := 20) (v := .int 0) (C := RX25) (T := TX25) (N := 8) hx hb hts in_X25 hown hE.1 (hM.at hc_6) 0 rfl mm_cX25 0 (by decide) (hts _ q2504) (fun _ h9 => h9) rfl dX2_isWithin_86 ?_
          refine lv_iconst (v := 4) hx hb dX2_isWithin_89 (by decide) ?_
          refine lv_icmp_ne (tgt := 111) hx hb dX2_isWithin_90 (by decide) (fun _ => ?_) (fun h9 => absurd h9 (by decide))
          refine lv_iconst (v := 0) hx hb dX2_isWithin_111 (by decide) ?_
          refine W.eq (g2 := F0 m 112 ls [.int (mm_b (uoc v0 T))]) (by rw [hoc]; rfl) ?_
          exact mm_retz hx hb hr (mm_b_nar _) hlk hM hS ⟨rfl, hS1, hm1⟩ dX2_isWithin_112 (by (try dsimp only); omega) (by (try dsimp only); omega)
        · skip
          have hsn : sn1 = mark := lg_cmp_0.1 (by first | exact c_5 | exact Classical.not_not.1 c_5)
          subst hsn
          have hoc : uoc v0 T = false := by have h9 := hmw b1 hbL ⟨_, _, _, _, _, _, _, hb1⟩ t1 htb (by rw [he1, hT]; exact Nat.le_refl _); rw [he1, hT] at h9; exact h9
          refine lv_iconst (v := 0) hx hb dX2_isWithin_24 (by decide) ?_
          refine W.eq (g2 := F0 m 25 ls [.int (mm_b (uoc v0 T))]) (by rw [hoc]; rfl) ?_
          exact mm_retz hx hb hr (mm_b_nar _) hlk hM hS ⟨rfl, mS.rf _, fun _ b hb hm => Or.inl hm⟩ dX2_isWithin_25 (by (try dsimp only); omega) (by (try dsimp only); omega)
      · skip
        have hoc : uoc v0 T = true := by
          have h9 : some b1 = wop ro (vr v0) := by first | exact c_4 | exact Classical.not_not.1 c_4
          cases hro : ro with
          | true => rw [hro] at h9; cases h9
          | false =>
            rw [hro] at h9
            have h8 : b1 = vr v0 := Option.some.inj h9
            obtain ⟨e9, -⟩ := mtp.uniq hC.1.2.2.1 _ _ _ _ _ htb (h8 ▸ hvt hro)
            rw [e9] at he1
            obtain ⟨-, h7⟩ := hC.2.1 v0 hD
            have h6 : S.2.1 v0 = .var v0 := by
              rcases h7 with ⟨is, sn, cp, k1, k2⟩ | ⟨is, k1, k2⟩
              · rw [← h8, hb1] at k1; exact k2.1 (mt_inj (Option.some.inj k1)).2.1.symm
              · rw [← h8, hb1] at k1; exact absurd (Option.some.inj k1) mt_ne_mr
            have h5 : T = .var v0 := by rw [← hT, ← he1]; exact h6
            rw [h5]; simp [uoc]
        refine lv_iconst (v := 1) hx hb dX2_isWithin_12 (by decide) ?_
        refine W.eq (g2 := F0 m 13 ls [.int (mm_b (uoc v0 T))]) (by rw [hoc]; rfl) ?_
        exact mm_retz hx hb hr (mm_b_nar _) hlk hM hS ⟨rfl, mS.rf _, fun h9 => by rw [hoc] at h9; cases h9⟩ dX2_isWithin_13 (by (try dsimp only); omega) (by (try dsimp only); omega)
    · skip
      rw [hT] at eT
      refine lv_aload hx hb dX2_isWithin_6 (lv_at hl 0 rfl) ?_
      refine mm_aload_n hx hb dX2_isWithin_8 rfl (lv_at hl 1 rfl) ?_
      refine lv_acmp_ne (rx := (some b1)) (ry := (wop ro (vr v0))) (tgt := 14) hx hb dX2_isWithin_9 (by decide) (fun c_4 => ?_) (fun c_4 => ?_)
      · skip
        refine lv_aload hx hb dX2_isWithin_14 (lv_at hl 0 rfl) ?_
        refine va_get (D := Z.1) (ci := 20) (v := .long sn1) (C := RX25) (T := TX25) (N := 8) hx hb hts in_X25 hown hE.1 (hM.at hb1) 0 rfl mm_cX25 6 (by decide) (hts _ q2511) (fun _ h9 => h9) rfl dX2_isWithin_16 ?_
        refine lv_lload_n hx hb dX2_isWithin_19 rfl (lv_at hl 4 rfl) ?_
        refine W.lcmp hx hb dX2_isWithin_20 ?_
        refine lv_if_ne (tgt := 26) hx hb dX2_isWithin_21 (by decide) (fun c_5 => ?_) (fun c_5 => ?_)
        · skip
          refine lv_aload hx hb dX2_isWithin_26 (lv_at hl 0 rfl) ?_
          refine lv_lload_n hx hb dX2_isWithin_28 rfl (lv_at hl 4 rfl) ?_
          refine mm_put (D := Z.1) (ci := 20) (v := .long mark) (ty := .long) (C := RX25) (T := TX25) (N := 8) hx hb hts in_X25 tyX25 tyX25_ok nmX25 hown hE.1 hM hS hb1 mm_cX25 6 (by decide) (hts _ q2511) (fun _ h9 => h9) rfl (by decide +kernel) rfl rfl (Nat.le_of_ble_eq_true rfl) dX2_isWithin_29 (fun H locs hM hS => ?_)
          have hM : mm_P Z.1 mm_cl A (mm_U M b1 (.inr (20, [.int 2, .null, .ref f1, .ref g1, .null, .int (mm_b cm1), .long mark, va_rf cp1]))) H := hM
          have hc_6 : (mm_U M b1 (.inr (20, [.int 2, .null, .ref f1, .ref g1, .null, .int (mm_b cm1), .long mark, va_rf cp1]))) b1 = some (.inr (20, [.int 2, .null, .ref f1, .ref g1, .null, .int (mm_b cm1), .long mark, va_rf cp1])) := mm_U_eq
          obtain ⟨M_7, eM_7⟩ : ∃ z, z = mm_U M b1 (.inr (20, [.int 2, .null, .ref f1, .ref g1, .null, .int (mm_b cm1), .long mark, va_rf cp1])) := ⟨_, rfl⟩
          rw [← eM_7] at hM hc_6
          have hS1 : mS mark M M_7 := by rw [eM_7]; exact mS.put hb1
          have hC1 := hC.seen hS1
          have hb2 := hc_6
          have hbig : ∀ {s : Nat}, s < SizeOf.sizeOf T → mW M_7 L vr D S mark v0 s := fun {s} hs b hb hm tb htb9 hz9 => by
            rw [eM_7] at hm
            have h0 : mtp M L vr D tb false b := by
              obtain ⟨m, t0, h4⟩ := hC.2.2.1 b hb
              obtain ⟨rfl, rfl⟩ := mtp.uniq hC.1.2.2.1 _ _ _ _ _ htb9 (h4.light hS1.L)
              exact h4
            rcases mk_put hm with h3 | h3
            · subst h3
              obtain ⟨rfl, -⟩ := mtp.uniq hC.1.2.2.1 _ _ _ _ _ h0 htb
              rw [he1, hT] at hz9
              exact absurd hz9 (by omega)
            · exact hmw b hb h3 tb h0 (by omega)
          have hm1 : uoc v0 T = false → mW2 M M_7 L vr D S mark v0 := fun h9 b hb hm => by
            rw [eM_7] at hm
            rcases mk_put hm with h3 | h3
            · subst h3
              refine Or.inr fun tb htb9 => ?_
              obtain ⟨rfl, -⟩ := mtp.uniq hC.1.2.2.1 _ _ _ _ _ htb9 (htb.light hS1.L)
              rw [he1, hT]; exact h9
            · exact Or.inl h3
          refine lv_aload hx hb dX2_isWithin_32 (lv_at hl 0 rfl) ?_
          refine va_get (D := Z.1) (ci := 20) (v := .int 2) (C := RX25) (T := TX25) (N := 8) hx hb hts in_X25 hown hE.1 (hM.at hc_6) 0 rfl mm_cX25 0 (by decide) (hts _ q2504) (fun _ h9 => h9) rfl dX2_isWithin_34 ?_
          refine lv_iconst (v := 2) hx hb dX2_isWithin_37 (by decide) ?_
          have hsz : SizeOf.sizeOf T = 1 + SizeOf.sizeOf (uap S.2.1 x1) + SizeOf.sizeOf (uap S.2.1 y1) := by rw [eT]; rfl
          have huh : uh T = max (uh (uap S.2.1 x1)) (uh (uap S.2.1 y1)) + 1 := by rw [eT]; rfl
          have hor : uoc v0 T = (uoc v0 (uap S.2.1 x1) || uoc v0 (uap S.2.1 y1)) := by rw [eT]; rfl
          refine lv_icmp_ne (tgt := 75) hx hb dX2_isWithin_38 (by decide) (fun h9 => absurd (by decide) h9) (fun _ => ?_)
          refine mm_aload_n hx hb dX2_isWithin_41 rfl (lv_at hl 1 rfl) ?_
          refine mm_aload_n hx hb dX2_isWithin_42 rfl (lv_at hl 2 rfl) ?_
          refine lv_aload hx hb dX2_isWithin_43 (lv_at hl 0 rfl) ?_
          refine va_get (D := Z.1) (ci := 20) (v := .ref f1) (C := RX25) (T := TX25) (N := 8) hx hb hts in_X25 hown hE.1 (hM.at hc_6) 0 rfl mm_cX25 2 (by decide) (hts _ q2507) (fun _ h9 => h9) rfl dX2_isWithin_45 ?_
          refine lv_lload_n hx hb dX2_isWithin_48 rfl (lv_at hl 4 rfl) ?_
          refine mm_callS (As := [va_rf (wop ro (vr v0)), va_rf (wrw ro (vr v0)), .ref f1, .long mark]) (rest := []) ⟨hx, hb, hml, hown, hts⟩ hE hST hA (ihT (uap S.2.1 x1) x1 f1 _ (by omega) rfl hD (hS1.VK hvk) hC1 (hf1.light hS1.L) (hbig (by omega))) (va_cwS 4 hts (lw_S q2662 q2663 q54 q2664) rfl rfl rfl (by decide +kernel) ⟨(by (try dsimp only); omega), (by (try dsimp only); omega)⟩) hM hS rfl hl.1 (Nat.le_of_ble_eq_true rfl) dX2_isWithin_49 rfl ⟨(by (try dsimp only); omega), (by (try dsimp only); omega)⟩ (fun _ _ _ _ _ _ h9 => h9.elim) (fun v_8 M_9 H locs hp_10 hM hS => ?_)
          obtain ⟨rfl, hS2, hw2⟩ := hp_10
          refine lv_if_ne (tgt := 69) hx hb dX2_isWithin_52 (by decide) (fun c_11 => ?_) (fun c_11 => ?_)
          · skip
            have hx0 : uoc v0 (uap S.2.1 x1) = true := by cases h8 : uoc v0 (uap S.2.1 x1) with | true => rfl | false => exact absurd ((mm_b_0 _).2 h8) c_11
            have hoc : uoc v0 T = true := by rw [hor, hx0]; rfl
            refine lv_iconst (v := 1) hx hb dX2_isWithin_69 (by decide) ?_
            refine lv_goto (tgt := 74) hx hb dX2_isWithin_70 (by decide) ?_
            refine W.eq (g2 := F0 m 74 ls [.int (mm_b (uoc v0 T))]) (by rw [hoc]; rfl) ?_
            exact mm_retz hx hb hr (mm_b_nar _) hlk hM hS ⟨rfl, hS1.trans hS2, fun h9 => by rw [hoc] at h9; cases h9⟩ dX2_isWithin_74 (by (try dsimp only); omega) (by (try dsimp only); omega)
          · skip
            have hx0 : uoc v0 (uap S.2.1 x1) = false := (mm_b_0 _).1 (by first | exact c_11 | exact Classical.not_not.1 c_11)
            obtain ⟨sn2, hb3, -⟩ := hS2.t (k := 2) (is := none) (fr := some f1) (to := some g1) (rw := none) (cm := cm1) (sn := mark) (cp := cp1) hb2
            have hS12 := hS1.trans hS2
            have hC2 := hC1.seen hS2
            refine mm_aload_n hx hb dX2_isWithin_55 rfl (lv_at hl 1 rfl) ?_
            refine mm_aload_n hx hb dX2_isWithin_56 rfl (lv_at hl 2 rfl) ?_
            refine lv_aload hx hb dX2_isWithin_57 (lv_at hl 0 rfl) ?_
            refine va_get (D := Z.1) (ci := 20) (v := .ref g1) (C := RX25) (T := TX25) (N := 8) hx hb hts in_X25 hown hE.1 (hM.at hb3) 0 rfl mm_cX25 3 (by decide) (hts _ q2508) (fun _ h9 => h9) rfl dX2_isWithin_59 ?_
            refine lv_lload_n hx hb dX2_isWithin_62 rfl (lv_at hl 4 rfl) ?_
            refine mm_callS (As := [va_rf (wop ro (vr v0)), va_rf (wrw ro (vr v0)), .ref g1, .long mark]) (rest := []) ⟨hx, hb, hml, hown, hts⟩ hE hST hA (ihT (uap S.2.1 y1) y1 g1 _ (by omega) rfl hD (hS12.VK hvk) hC2 (hg1.light hS12.L) ((hbig (by omega)).next hC1 (hw2 hx0) hS2.L)) (va_cwS 4 hts (lw_S q2662 q2663 q54 q2664) rfl rfl rfl (by decide +kernel) ⟨(by (try dsimp only); omega), (by (try dsimp only); omega)⟩) hM hS rfl hl.1 (Nat.le_of_ble_eq_true rfl) dX2_isWithin_63 rfl ⟨(by (try dsimp only); omega), (by (try dsimp only); omega)⟩ (fun _ _ _ _ _ _ h9 => h9.elim) (fun v_12 M_13 H locs hp_14 hM hS => ?_)
            obtain ⟨rfl, hS3, hw3⟩ := hp_14
            refine lv_if_eq (tgt := 73) hx hb dX2_isWithin_66 (by decide) (fun c_15 => ?_) (fun c_15 => ?_)
            · skip
              have hy0 : uoc v0 (uap S.2.1 y1) = false := (mm_b_0 _).1 c_15
              have hoc : uoc v0 T = false := by rw [hor, hx0, hy0]; rfl
              refine lv_iconst (v := 0) hx hb dX2_isWithin_73 (by decide) ?_
              refine W.eq (g2 := F0 m 74 ls [.int (mm_b (uoc v0 T))]) (by rw [hoc]; rfl) ?_
              exact mm_retz hx hb hr (mm_b_nar _) hlk hM hS ⟨rfl, hS12.trans hS3, fun h9 => ((hm1 h9).trans hC1 (hw2 hx0) hS2.L).trans hC2 (hw3 hy0) hS3.L⟩ dX2_isWithin_74 (by (try dsimp only); omega) (by (try dsimp only); omega)
            · skip
              have hy0 : uoc v0 (uap S.2.1 y1) = true := by cases h8 : uoc v0 (uap S.2.1 y1) with | true => rfl | false => exact absurd ((mm_b_0 _).2 h8) c_15
              have hoc : uoc v0 T = true := by rw [hor, hy0, Bool.or_true]
              refine lv_iconst (v := 1) hx hb dX2_isWithin_69 (by decide) ?_
              refine lv_goto (tgt := 74) hx hb dX2_isWithin_70 (by decide) ?_
              refine W.eq (g2 := F0 m 74 ls [.int (mm_b (uoc v0 T))]) (by rw [hoc]; rfl) ?_
              exact mm_retz hx hb hr (mm_b_nar _) hlk hM hS ⟨rfl, hS12.trans hS3, fun h9 => by rw [hoc] at h9; cases h9⟩ dX2_isWithin_74 (by (try dsimp only); omega) (by (try dsimp only); omega)
        · skip
          have hsn : sn1 = mark := lg_cmp_0.1 (by first | exact c_5 | exact Classical.not_not.1 c_5)
          subst hsn
          have hoc : uoc v0 T = false := by have h9 := hmw b1 hbL ⟨_, _, _, _, _, _, _, hb1⟩ t1 htb (by rw [he1, hT]; exact Nat.le_refl _); rw [he1, hT] at h9; exact h9
          refine lv_iconst (v := 0) hx hb dX2_isWithin_24 (by decide) ?_
          refine W.eq (g2 := F0 m 25 ls [.int (mm_b (uoc v0 T))]) (by rw [hoc]; rfl) ?_
          exact mm_retz hx hb hr (mm_b_nar _) hlk hM hS ⟨rfl, mS.rf _, fun _ b hb hm => Or.inl hm⟩ dX2_isWithin_25 (by (try dsimp only); omega) (by (try dsimp only); omega)
      · skip
        have hoc : uoc v0 T = true := by
          have h9 : some b1 = wop ro (vr v0) := by first | exact c_4 | exact Classical.not_not.1 c_4
          cases hro : ro with
          | true => rw [hro] at h9; cases h9
          | false =>
            rw [hro] at h9
            have h8 : b1 = vr v0 := Option.some.inj h9
            obtain ⟨e9, -⟩ := mtp.uniq hC.1.2.2.1 _ _ _ _ _ htb (h8 ▸ hvt hro)
            rw [e9] at he1
            obtain ⟨-, h7⟩ := hC.2.1 v0 hD
            have h6 : S.2.1 v0 = .var v0 := by
              rcases h7 with ⟨is, sn, cp, k1, k2⟩ | ⟨is, k1, k2⟩
              · rw [← h8, hb1] at k1; exact k2.1 (mt_inj (Option.some.inj k1)).2.1.symm
              · rw [← h8, hb1] at k1; exact absurd (Option.some.inj k1) mt_ne_mr
            have h5 : T = .var v0 := by rw [← hT, ← he1]; exact h6
            rw [h5]; simp [uoc]
        refine lv_iconst (v := 1) hx hb dX2_isWithin_12 (by decide) ?_
        refine W.eq (g2 := F0 m 13 ls [.int (mm_b (uoc v0 T))]) (by rw [hoc]; rfl) ?_
        exact mm_retz hx hb hr (mm_b_nar _) hlk hM hS ⟨rfl, mS.rf _, fun h9 => by rw [hoc] at h9; cases h9⟩ dX2_isWithin_13 (by (try dsimp only); omega) (by (try dsimp only); omega)
    · skip
      rw [hT] at eT
      cases iv1
      · skip
        replace hb1 : M b1 = some (mt_E 3 none none none (some w1) cm1 sn1 cp1) := hb1
        refine lv_aload hx hb dX2_isWithin_6 (lv_at hl 0 rfl) ?_
        refine mm_aload_n hx hb dX2_isWithin_8 rfl (lv_at hl 1 rfl) ?_
        refine lv_acmp_ne (rx := (some b1)) (ry := (wop ro (vr v0))) (tgt := 14) hx hb dX2_isWithin_9 (by decide) (fun c_4 => ?_) (fun c_4 => ?_)
        · skip
          refine lv_aload hx hb dX2_isWithin_14 (lv_at hl 0 rfl) ?_
          refine va_get (D := Z.1) (ci := 20) (v := .long sn1) (C := RX25) (T := TX25) (N := 8) hx hb hts in_X25 hown hE.1 (hM.at hb1) 0 rfl mm_cX25 6 (by decide) (hts _ q2511) (fun _ h9 => h9) rfl dX2_isWithin_16 ?_
          refine lv_lload_n hx hb dX2_isWithin_19 rfl (lv_at hl 4 rfl) ?_
          refine W.lcmp hx hb dX2_isWithin_20 ?_
          refine lv_if_ne (tgt := 26) hx hb dX2_isWithin_21 (by decide) (fun c_5 => ?_) (fun c_5 => ?_)
          · skip
            refine lv_aload hx hb dX2_isWithin_26 (lv_at hl 0 rfl) ?_
            refine lv_lload_n hx hb dX2_isWithin_28 rfl (lv_at hl 4 rfl) ?_
            refine mm_put (D := Z.1) (ci := 20) (v := .long mark) (ty := .long) (C := RX25) (T := TX25) (N := 8) hx hb hts in_X25 tyX25 tyX25_ok nmX25 hown hE.1 hM hS hb1 mm_cX25 6 (by decide) (hts _ q2511) (fun _ h9 => h9) rfl (by decide +kernel) rfl rfl (Nat.le_of_ble_eq_true rfl) dX2_isWithin_29 (fun H locs hM hS => ?_)
            have hM : mm_P Z.1 mm_cl A (mm_U M b1 (.inr (20, [.int 3, .null, .null, .null, .ref w1, .int (mm_b cm1), .long mark, va_rf cp1]))) H := hM
            have hc_6 : (mm_U M b1 (.inr (20, [.int 3, .null, .null, .null, .ref w1, .int (mm_b cm1), .long mark, va_rf cp1]))) b1 = some (.inr (20, [.int 3, .null, .null, .null, .ref w1, .int (mm_b cm1), .long mark, va_rf cp1])) := mm_U_eq
            obtain ⟨M_7, eM_7⟩ : ∃ z, z = mm_U M b1 (.inr (20, [.int 3, .null, .null, .null, .ref w1, .int (mm_b cm1), .long mark, va_rf cp1])) := ⟨_, rfl⟩
            rw [← eM_7] at hM hc_6
            have hS1 : mS mark M M_7 := by rw [eM_7]; exact mS.put hb1
            have hC1 := hC.seen hS1
            have hb2 := hc_6
            have hbig : ∀ {s : Nat}, s < SizeOf.sizeOf T → mW M_7 L vr D S mark v0 s := fun {s} hs b hb hm tb htb9 hz9 => by
              rw [eM_7] at hm
              have h0 : mtp M L vr D tb false b := by
                obtain ⟨m, t0, h4⟩ := hC.2.2.1 b hb
                obtain ⟨rfl, rfl⟩ := mtp.uniq hC.1.2.2.1 _ _ _ _ _ htb9 (h4.light hS1.L)
                exact h4
              rcases mk_put hm with h3 | h3
              · subst h3
                obtain ⟨rfl, -⟩ := mtp.uniq hC.1.2.2.1 _ _ _ _ _ h0 htb
                rw [he1, hT] at hz9
                exact absurd hz9 (by omega)
              · exact hmw b hb h3 tb h0 (by omega)
            have hm1 : uoc v0 T = false → mW2 M M_7 L vr D S mark v0 := fun h9 b hb hm => by
              rw [eM_7] at hm
              rcases mk_put hm with h3 | h3
              · subst h3
                refine Or.inr fun tb htb9 => ?_
                obtain ⟨rfl, -⟩ := mtp.uniq hC.1.2.2.1 _ _ _ _ _ htb9 (htb.light hS1.L)
                rw [he1, hT]; exact h9
              · exact Or.inl h3
            refine lv_aload hx hb dX2_isWithin_32 (lv_at hl 0 rfl) ?_
            refine va_get (D := Z.1) (ci := 20) (v := .int 3) (C := RX25) (T := TX25) (N := 8) hx hb hts in_X25 hown hE.1 (hM.at hc_6) 0 rfl mm_cX25 0 (by decide) (hts _ q2504) (fun _ h9 => h9) rfl dX2_isWithin_34 ?_
            refine lv_iconst (v := 2) hx hb dX2_isWithin_37 (by decide) ?_
            have hsz : SizeOf.sizeOf (uap S.2.1 r1) < SizeOf.sizeOf T := by rw [eT]; simp <;> omega
            have huh : uh T = uh (uap S.2.1 r1) + 1 := by rw [eT]; rfl
            have hor : uoc v0 T = uoc v0 (uap S.2.1 r1) := by rw [eT]; rfl
            refine lv_icmp_ne (tgt := 75) hx hb dX2_isWithin_38 (by decide) (fun _ => ?_) (fun h9 => absurd h9 (by decide))
            refine lv_aload hx hb dX2_isWithin_75 (lv_at hl 0 rfl) ?_
            refine va_get (D := Z.1) (ci := 20) (v := .int 3) (C := RX25) (T := TX25) (N := 8) hx hb hts in_X25 hown hE.1 (hM.at hc_6) 0 rfl mm_cX25 0 (by decide) (hts _ q2504) (fun _ h9 => h9) rfl dX2_isWithin_77 ?_
            refine lv_iconst (v := 3) hx hb dX2_isWithin_80 (by decide) ?_
            refine lv_icmp_eq (tgt := 93) hx hb dX2_isWithin_81 (by decide) (fun _ => ?_) (fun h9 => absurd (by decide) h9)
            refine mm_aload_n hx hb dX2_isWithin_93 rfl (lv_at hl 1 rfl) ?_
            refine mm_aload_n hx hb dX2_isWithin_94 rfl (lv_at hl 2 rfl) ?_
            refine lv_aload hx hb dX2_isWithin_95 (lv_at hl 0 rfl) ?_
            refine va_get (D := Z.1) (ci := 20) (v := .ref w1) (C := RX25) (T := TX25) (N := 8) hx hb hts in_X25 hown hE.1 (hM.at hc_6) 0 rfl mm_cX25 4 (by decide) (hts _ q2509) (fun _ h9 => h9) rfl dX2_isWithin_97 ?_
            refine lv_lload_n hx hb dX2_isWithin_100 rfl (lv_at hl 4 rfl) ?_
            refine mm_callS (As := [va_rf (wop ro (vr v0)), va_rf (wrw ro (vr v0)), .ref w1, .long mark]) (rest := []) ⟨hx, hb, hml, hown, hts⟩ hE hST hA (ihR (uap S.2.1 r1) r1 w1 _ (by omega) rfl hD (hS1.VK hvk) hC1 (hw1.light hS1.L) (hbig (by omega))) (va_cwS 4 hts (lw_S q2665 q2666 q54 q2667) rfl rfl rfl (by decide +kernel) ⟨(by (try dsimp only); omega), (by (try dsimp only); omega)⟩) hM hS rfl hl.1 (Nat.le_of_ble_eq_true rfl) dX2_isWithin_101 rfl ⟨(by (try dsimp only); omega), (by (try dsimp only); omega)⟩ (fun _ _ _ _ _ _ h9 => h9.elim) (fun v_8 M_9 H locs hp_10 hM hS => ?_)
            obtain ⟨rfl, hS2, hw2⟩ := hp_10
            refine lv_if_eq (tgt := 111) hx hb dX2_isWithin_104 (by decide) (fun c_11 => ?_) (fun c_11 => ?_)
            · skip
              have hoc : uoc v0 T = false := by rw [hor]; exact (mm_b_0 _).1 c_11
              refine lv_iconst (v := 0) hx hb dX2_isWithin_111 (by decide) ?_
              refine W.eq (g2 := F0 m 112 ls [.int (mm_b (uoc v0 T))]) (by rw [hoc]; rfl) ?_
              exact mm_retz hx hb hr (mm_b_nar _) hlk hM hS ⟨rfl, hS1.trans hS2, fun h9 => (hm1 h9).trans hC1 (hw2 (hor.symm.trans h9)) hS2.L⟩ dX2_isWithin_112 (by (try dsimp only); omega) (by (try dsimp only); omega)
            · skip
              have hoc : uoc v0 T = true := by rw [hor]; cases h8 : uoc v0 (uap S.2.1 r1) with | true => rfl | false => exact absurd ((mm_b_0 _).2 h8) c_11
              refine lv_iconst (v := 1) hx hb dX2_isWithin_107 (by decide) ?_
              refine lv_goto (tgt := 112) hx hb dX2_isWithin_108 (by decide) ?_
              refine W.eq (g2 := F0 m 112 ls [.int (mm_b (uoc v0 T))]) (by rw [hoc]; rfl) ?_
              exact mm_retz hx hb hr (mm_b_nar _) hlk hM hS ⟨rfl, hS1.trans hS2, fun h9 => by rw [hoc] at h9; cases h9⟩ dX2_isWithin_112 (by (try dsimp only); omega) (by (try dsimp only); omega)
          · skip
            have hsn : sn1 = mark := lg_cmp_0.1 (by first | exact c_5 | exact Classical.not_not.1 c_5)
            subst hsn
            have hoc : uoc v0 T = false := by have h9 := hmw b1 hbL ⟨_, _, _, _, _, _, _, hb1⟩ t1 htb (by rw [he1, hT]; exact Nat.le_refl _); rw [he1, hT] at h9; exact h9
            refine lv_iconst (v := 0) hx hb dX2_isWithin_24 (by decide) ?_
            refine W.eq (g2 := F0 m 25 ls [.int (mm_b (uoc v0 T))]) (by rw [hoc]; rfl) ?_
            exact mm_retz hx hb hr (mm_b_nar _) hlk hM hS ⟨rfl, mS.rf _, fun _ b hb hm => Or.inl hm⟩ dX2_isWithin_25 (by (try dsimp only); omega) (by (try dsimp only); omega)
        · skip
          have hoc : uoc v0 T = true := by
            have h9 : some b1 = wop ro (vr v0) := by first | exact c_4 | exact Classical.not_not.1 c_4
            cases hro : ro with
            | true => rw [hro] at h9; cases h9
            | false =>
              rw [hro] at h9
              have h8 : b1 = vr v0 := Option.some.inj h9
              obtain ⟨e9, -⟩ := mtp.uniq hC.1.2.2.1 _ _ _ _ _ htb (h8 ▸ hvt hro)
              rw [e9] at he1
              obtain ⟨-, h7⟩ := hC.2.1 v0 hD
              have h6 : S.2.1 v0 = .var v0 := by
                rcases h7 with ⟨is, sn, cp, k1, k2⟩ | ⟨is, k1, k2⟩
                · rw [← h8, hb1] at k1; exact k2.1 (mt_inj (Option.some.inj k1)).2.1.symm
                · rw [← h8, hb1] at k1; exact absurd (Option.some.inj k1) mt_ne_mr
              have h5 : T = .var v0 := by rw [← hT, ← he1]; exact h6
              rw [h5]; simp [uoc]
          refine lv_iconst (v := 1) hx hb dX2_isWithin_12 (by decide) ?_
          refine W.eq (g2 := F0 m 13 ls [.int (mm_b (uoc v0 T))]) (by rw [hoc]; rfl) ?_
          exact mm_retz hx hb hr (mm_b_nar _) hlk hM hS ⟨rfl, mS.rf _, fun h9 => by rw [hoc] at h9; cases h9⟩ dX2_isWithin_13 (by (try dsimp only); omega) (by (try dsimp only); omega)
      · skip
        replace hb1 : M b1 = some (mt_E 4 none none none (some w1) cm1 sn1 cp1) := hb1
        refine lv_aload hx hb dX2_isWithin_6 (lv_at hl 0 rfl) ?_
        refine mm_aload_n hx hb dX2_isWithin_8 rfl (lv_at hl 1 rfl) ?_
        refine lv_acmp_ne (rx := (some b1)) (ry := (wop ro (vr v0))) (tgt := 14) hx hb dX2_isWithin_9 (by decide) (fun c_4 => ?_) (fun c_4 => ?_)
        · skip
          refine lv_aload hx hb dX2_isWithin_14 (lv_at hl 0 rfl) ?_
          refine va_get (D := Z.1) (ci := 20) (v := .long sn1) (C := RX25) (T := TX25) (N := 8) hx hb hts in_X25 hown hE.1 (hM.at hb1) 0 rfl mm_cX25 6 (by decide) (hts _ q2511) (fun _ h9 => h9) rfl dX2_isWithin_16 ?_
          refine lv_lload_n hx hb dX2_isWithin_19 rfl (lv_at hl 4 rfl) ?_
          refine W.lcmp hx hb dX2_isWithin_20 ?_
          refine lv_if_ne (tgt := 26) hx hb dX2_isWithin_21 (by decide) (fun c_5 => ?_) (fun c_5 => ?_)
          · skip
            refine lv_aload hx hb dX2_isWithin_26 (lv_at hl 0 rfl) ?_
            refine lv_lload_n hx hb dX2_isWithin_28 rfl (lv_at hl 4 rfl) ?_
            refine mm_put (D := Z.1) (ci := 20) (v := .long mark) (ty := .long) (C := RX25) (T := TX25) (N := 8) hx hb hts in_X25 tyX25 tyX25_ok nmX25 hown hE.1 hM hS hb1 mm_cX25 6 (by decide) (hts _ q2511) (fun _ h9 => h9) rfl (by decide +kernel) rfl rfl (Nat.le_of_ble_eq_true rfl) dX2_isWithin_29 (fun H locs hM hS => ?_)
            have hM : mm_P Z.1 mm_cl A (mm_U M b1 (.inr (20, [.int 4, .null, .null, .null, .ref w1, .int (mm_b cm1), .long mark, va_rf cp1]))) H := hM
            have hc_6 : (mm_U M b1 (.inr (20, [.int 4, .null, .null, .null, .ref w1, .int (mm_b cm1), .long mark, va_rf cp1]))) b1 = some (.inr (20, [.int 4, .null, .null, .null, .ref w1, .int (mm_b cm1), .long mark, va_rf cp1])) := mm_U_eq
            obtain ⟨M_7, eM_7⟩ : ∃ z, z = mm_U M b1 (.inr (20, [.int 4, .null, .null, .null, .ref w1, .int (mm_b cm1), .long mark, va_rf cp1])) := ⟨_, rfl⟩
            rw [← eM_7] at hM hc_6
            have hS1 : mS mark M M_7 := by rw [eM_7]; exact mS.put hb1
            have hC1 := hC.seen hS1
            have hb2 := hc_6
            have hbig : ∀ {s : Nat}, s < SizeOf.sizeOf T → mW M_7 L vr D S mark v0 s := fun {s} hs b hb hm tb htb9 hz9 => by
              rw [eM_7] at hm
              have h0 : mtp M L vr D tb false b := by
                obtain ⟨m, t0, h4⟩ := hC.2.2.1 b hb
                obtain ⟨rfl, rfl⟩ := mtp.uniq hC.1.2.2.1 _ _ _ _ _ htb9 (h4.light hS1.L)
                exact h4
              rcases mk_put hm with h3 | h3
              · subst h3
                obtain ⟨rfl, -⟩ := mtp.uniq hC.1.2.2.1 _ _ _ _ _ h0 htb
                rw [he1, hT] at hz9
                exact absurd hz9 (by omega)
              · exact hmw b hb h3 tb h0 (by omega)
            have hm1 : uoc v0 T = false → mW2 M M_7 L vr D S mark v0 := fun h9 b hb hm => by
              rw [eM_7] at hm
              rcases mk_put hm with h3 | h3
              · subst h3
                refine Or.inr fun tb htb9 => ?_
                obtain ⟨rfl, -⟩ := mtp.uniq hC.1.2.2.1 _ _ _ _ _ htb9 (htb.light hS1.L)
                rw [he1, hT]; exact h9
              · exact Or.inl h3
            refine lv_aload hx hb dX2_isWithin_32 (lv_at hl 0 rfl) ?_
            refine va_get (D := Z.1) (ci := 20) (v := .int 4) (C := RX25) (T := TX25) (N := 8) hx hb hts in_X25 hown hE.1 (hM.at hc_6) 0 rfl mm_cX25 0 (by decide) (hts _ q2504) (fun _ h9 => h9) rfl dX2_isWithin_34 ?_
            refine lv_iconst (v := 2) hx hb dX2_isWithin_37 (by decide) ?_
            have hsz : SizeOf.sizeOf (uap S.2.1 r1) < SizeOf.sizeOf T := by rw [eT]; simp <;> omega
            have huh : uh T = uh (uap S.2.1 r1) + 1 := by rw [eT]; rfl
            have hor : uoc v0 T = uoc v0 (uap S.2.1 r1) := by rw [eT]; rfl
            refine lv_icmp_ne (tgt := 75) hx hb dX2_isWithin_38 (by decide) (fun _ => ?_) (fun h9 => absurd h9 (by decide))
            refine lv_aload hx hb dX2_isWithin_75 (lv_at hl 0 rfl) ?_
            refine va_get (D := Z.1) (ci := 20) (v := .int 4) (C := RX25) (T := TX25) (N := 8) hx hb hts in_X25 hown hE.1 (hM.at hc_6) 0 rfl mm_cX25 0 (by decide) (hts _ q2504) (fun _ h9 => h9) rfl dX2_isWithin_77 ?_
            refine lv_iconst (v := 3) hx hb dX2_isWithin_80 (by decide) ?_
            refine lv_icmp_eq (tgt := 93) hx hb dX2_isWithin_81 (by decide) (fun h9 => absurd h9 (by decide)) (fun _ => ?_)
            refine lv_aload hx hb dX2_isWithin_84 (lv_at hl 0 rfl) ?_
            refine va_get (D := Z.1) (ci := 20) (v := .int 4) (C := RX25) (T := TX25) (N := 8) hx hb hts in_X25 hown hE.1 (hM.at hc_6) 0 rfl mm_cX25 0 (by decide) (hts _ q2504) (fun _ h9 => h9) rfl dX2_isWithin_86 ?_
            refine lv_iconst (v := 4) hx hb dX2_isWithin_89 (by decide) ?_
            refine lv_icmp_ne (tgt := 111) hx hb dX2_isWithin_90 (by decide) (fun h9 => absurd (by decide) h9) (fun _ => ?_)
            refine mm_aload_n hx hb dX2_isWithin_93 rfl (lv_at hl 1 rfl) ?_
            refine mm_aload_n hx hb dX2_isWithin_94 rfl (lv_at hl 2 rfl) ?_
            refine lv_aload hx hb dX2_isWithin_95 (lv_at hl 0 rfl) ?_
            refine va_get (D := Z.1) (ci := 20) (v := .ref w1) (C := RX25) (T := TX25) (N := 8) hx hb hts in_X25 hown hE.1 (hM.at hc_6) 0 rfl mm_cX25 4 (by decide) (hts _ q2509) (fun _ h9 => h9) rfl dX2_isWithin_97 ?_
            refine lv_lload_n hx hb dX2_isWithin_100 rfl (lv_at hl 4 rfl) ?_
            refine mm_callS (As := [va_rf (wop ro (vr v0)), va_rf (wrw ro (vr v0)), .ref w1, .long mark]) (rest := []) ⟨hx, hb, hml, hown, hts⟩ hE hST hA (ihR (uap S.2.1 r1) r1 w1 _ (by omega) rfl hD (hS1.VK hvk) hC1 (hw1.light hS1.L) (hbig (by omega))) (va_cwS 4 hts (lw_S q2665 q2666 q54 q2667) rfl rfl rfl (by decide +kernel) ⟨(by (try dsimp only); omega), (by (try dsimp only); omega)⟩) hM hS rfl hl.1 (Nat.le_of_ble_eq_true rfl) dX2_isWithin_101 rfl ⟨(by (try dsimp only); omega), (by (try dsimp only); omega)⟩ (fun _ _ _ _ _ _ h9 => h9.elim) (fun v_8 M_9 H locs hp_10 hM hS => ?_)
            obtain ⟨rfl, hS2, hw2⟩ := hp_10
            refine lv_if_eq (tgt := 111) hx hb dX2_isWithin_104 (by decide) (fun c_11 => ?_) (fun c_11 => ?_)
            · skip
              have hoc : uoc v0 T = false := by rw [hor]; exact (mm_b_0 _).1 c_11
              refine lv_iconst (v := 0) hx hb dX2_isWithin_111 (by decide) ?_
              refine W.eq (g2 := F0 m 112 ls [.int (mm_b (uoc v0 T))]) (by rw [hoc]; rfl) ?_
              exact mm_retz hx hb hr (mm_b_nar _) hlk hM hS ⟨rfl, hS1.trans hS2, fun h9 => (hm1 h9).trans hC1 (hw2 (hor.symm.trans h9)) hS2.L⟩ dX2_isWithin_112 (by (try dsimp only); omega) (by (try dsimp only); omega)
            · skip
              have hoc : uoc v0 T = true := by rw [hor]; cases h8 : uoc v0 (uap S.2.1 r1) with | true => rfl | false => exact absurd ((mm_b_0 _).2 h8) c_11
              refine lv_iconst (v := 1) hx hb dX2_isWithin_107 (by decide) ?_
              refine lv_goto (tgt := 112) hx hb dX2_isWithin_108 (by decide) ?_
              refine W.eq (g2 := F0 m 112 ls [.int (mm_b (uoc v0 T))]) (by rw [hoc]; rfl) ?_
              exact mm_retz hx hb hr (mm_b_nar _) hlk hM hS ⟨rfl, hS1.trans hS2, fun h9 => by rw [hoc] at h9; cases h9⟩ dX2_isWithin_112 (by (try dsimp only); omega) (by (try dsimp only); omega)
          · skip
            have hsn : sn1 = mark := lg_cmp_0.1 (by first | exact c_5 | exact Classical.not_not.1 c_5)
            subst hsn
            have hoc : uoc v0 T = false := by have h9 := hmw b1 hbL ⟨_, _, _, _, _, _, _, hb1⟩ t1 htb (by rw [he1, hT]; exact Nat.le_refl _); rw [he1, hT] at h9; exact h9
            refine lv_iconst (v := 0) hx hb dX2_isWithin_24 (by decide) ?_
            refine W.eq (g2 := F0 m 25 ls [.int (mm_b (uoc v0 T))]) (by rw [hoc]; rfl) ?_
            exact mm_retz hx hb hr (mm_b_nar _) hlk hM hS ⟨rfl, mS.rf _, fun _ b hb hm => Or.inl hm⟩ dX2_isWithin_25 (by (try dsimp only); omega) (by (try dsimp only); omega)
        · skip
          have hoc : uoc v0 T = true := by
            have h9 : some b1 = wop ro (vr v0) := by first | exact c_4 | exact Classical.not_not.1 c_4
            cases hro : ro with
            | true => rw [hro] at h9; cases h9
            | false =>
              rw [hro] at h9
              have h8 : b1 = vr v0 := Option.some.inj h9
              obtain ⟨e9, -⟩ := mtp.uniq hC.1.2.2.1 _ _ _ _ _ htb (h8 ▸ hvt hro)
              rw [e9] at he1
              obtain ⟨-, h7⟩ := hC.2.1 v0 hD
              have h6 : S.2.1 v0 = .var v0 := by
                rcases h7 with ⟨is, sn, cp, k1, k2⟩ | ⟨is, k1, k2⟩
                · rw [← h8, hb1] at k1; exact k2.1 (mt_inj (Option.some.inj k1)).2.1.symm
                · rw [← h8, hb1] at k1; exact absurd (Option.some.inj k1) mt_ne_mr
              have h5 : T = .var v0 := by rw [← hT, ← he1]; exact h6
              rw [h5]; simp [uoc]
          refine lv_iconst (v := 1) hx hb dX2_isWithin_12 (by decide) ?_
          refine W.eq (g2 := F0 m 13 ls [.int (mm_b (uoc v0 T))]) (by rw [hoc]; rfl) ?_
          exact mm_retz hx hb hr (mm_b_nar _) hlk hM hS ⟨rfl, mS.rf _, fun h9 => by rw [hoc] at h9; cases h9⟩ dX2_isWithin_13 (by (try dsimp only); omega) (by (try dsimp only); omega)
  · skip
    refine mm_ofW (cc := cX2_isWithinRow) (maxL := 7) (ret := (some .boolean)) (by decide) rfl (by simp [lg_sl, mm_cat_o, mm_cat_r, mm_cat_i, mm_cat_l, mm_cat_n]) ?_
    intro p e s m below meth c A ls hx hb hr hlk hml hown hmn hts htab hE hST hA hM hS hl
    replace hl : lv_has ls 7 [(0, va_rf (wop ro (vr v0))), (1, va_rf (wrw ro (vr v0))), (2, .ref a), (3, .long mark)] := by simpa [lv_args, mm_cat_o, mm_cat_r, mm_cat_i, mm_cat_l, mm_cat_n] using hl
    obtain ⟨d1, b1, hn1, hcs⟩ := hC.nowR' htp
    rw [hT] at hcs
    refine lv_aload_n hx hb dX2_isWithinRow_0 rfl (lv_at hl 2 rfl) ?_
    obtain ⟨k9, is9, lb9, ty9, rs9, lk9, cm9, hq9, -⟩ := (htp).cellR
    refine mm_callV (As := []) (rest := []) ⟨hx, hb, hml, hown, hts⟩ hE hST hA (c_X27_now l Z hn1) (cwV 0 hts (lw_V q2614 q2615 q2616 q100 q2617) rfl rfl rfl (by decide +kernel) ⟨(by (try dsimp only); omega), (by (try dsimp only); omega)⟩) hM hS mm_cX27 hq9 rfl hl.1 (Nat.le_of_ble_eq_true rfl) dX2_isWithinRow_1 rfl ⟨(by (try dsimp only); omega), (by (try dsimp only); omega)⟩ (fun _ _ _ _ _ _ h9 => h9.elim) (fun v_1 M_2 H locs hp_3 hM hS => ?_)
    obtain ⟨rfl, eM_2⟩ := hp_3
    rw [eM_2] at hM
    refine lv_astore hx hb dX2_isWithinRow_4 hl (by decide) rfl (fun ls hl => ?_)
    replace hl : lv_has ls 7 [(5, .ref b1), (0, va_rf (wop ro (vr v0))), (1, va_rf (wrw ro (vr v0))), (2, .ref a), (3, .long mark)] := hl
    refine lv_iconst (v := 0) hx hb dX2_isWithinRow_6 (by decide) ?_
    refine lv_istore hx hb dX2_isWithinRow_7 hl (by decide) rfl (fun ls hl => ?_)
    replace hl : lv_has ls 7 [(6, .int 0), (5, .ref b1), (0, va_rf (wop ro (vr v0))), (1, va_rf (wrw ro (vr v0))), (2, .ref a), (3, .long mark)] := hl
    refine mm_loopW (fun k M' ls cells slots => ∃ (T2 : ev) (b : Nat) (isf : Bool), k = SizeOf.sizeOf T2 ∧ SizeOf.sizeOf T2 ≤ SizeOf.sizeOf T ∧ uh T2 ≤ uh T ∧ lv_has ls 7 [(6, .int (mm_b isf)), (5, .ref b), (0, va_rf (wop ro (vr v0))), (1, va_rf (wrw ro (vr v0))), (2, .ref a), (3, .long mark)] ∧ mS mark M M' ∧ mRow M' L vr D S T2 b ∧ (isf = true → uoc v0 T = true) ∧ (isf = false → uoc v0 T = uoc v0 T2) ∧ (isf = false → mW2 M M' L vr D S mark v0) ∧ cells = 0 ∧ slots = 0) (fun k M3 ls H locs cells slots ih hI hM hS => ?_) ⟨T, b1, false, rfl, Nat.le_refl _, Nat.le_refl _, lv_sub hl [0, 1, 2, 3, 4, 5] rfl, mS.rf _, hcs, (fun h => by cases h), (fun _ => rfl), (fun _ b hb hm => Or.inl hm), rfl, rfl⟩ hM hS
    obtain ⟨T2, b, isf, rfl, hz2, hh2, hl, hS3, hrow, hi1, hi0, hw0, rfl, rfl⟩ := hI
    have hC3 := hC.seen hS3
    rcases hrow with ⟨eT, hb1⟩ | ⟨u, hu, eT, hsu, hbu, hbL, hb1⟩ | ⟨x1, k1, r1, ty1, rs1, eT, hk1, hb1, hx1, hr1⟩
    · skip
      refine lv_aload hx hb dX2_isWithinRow_9 (lv_at hl 1 rfl) ?_
      refine va_get (D := Z.1) (ci := 22) (v := .int 1) (C := RX27) (T := TX27) (N := 7) hx hb hts in_X27 hown hE.1 (hM.at hb1) 0 rfl mm_cX27 0 (by decide) (hts _ q2577) (fun _ h9 => h9) rfl dX2_isWithinRow_11 ?_
      refine lv_iconst (v := 2) hx hb dX2_isWithinRow_14 (by decide) ?_
      refine lv_icmp_ne (tgt := 49) hx hb dX2_isWithinRow_15 (by decide) (fun _ => ?_) (fun h9 => absurd h9 (by decide))
      cases isf
      · skip
        refine lv_iload hx hb dX2_isWithinRow_49 (lv_at hl 0 rfl) ?_
        refine lv_if_ne (tgt := 60) hx hb dX2_isWithinRow_51 (by decide) (fun h9 => absurd (rfl : mm_b false = 0) h9) (fun _ => ?_)
        refine lv_aload hx hb dX2_isWithinRow_54 (lv_at hl 1 rfl) ?_
        refine mm_aload_n hx hb dX2_isWithinRow_56 rfl (lv_at hl 3 rfl) ?_
        refine lv_acmp_ne (rx := (some b)) (ry := (wrw ro (vr v0))) (tgt := 64) hx hb dX2_isWithinRow_57 (by decide) (fun c_4 => ?_) (fun c_4 => ?_)
        · skip
          have hoc : uoc v0 T = false := by
            rw [hi0 rfl]
            rw [eT]; rfl
          refine lv_iconst (v := 0) hx hb dX2_isWithinRow_64 (by decide) ?_
          refine W.eq (g2 := F0 m 65 ls [.int (mm_b (uoc v0 T))]) (by rw [hoc]; rfl) ?_
          exact mm_retz hx hb hr (mm_b_nar _) hlk hM hS ⟨rfl, hS3, fun _ => hw0 rfl⟩ dX2_isWithinRow_65 (by (try dsimp only); omega) (by (try dsimp only); omega)
        · skip
          have hc9 : some b = wrw ro (vr v0) := by first | exact c_4 | exact Classical.not_not.1 c_4
          have hoc : uoc v0 T = true := by
            rw [hi0 rfl]
            cases hro : ro with
            | false => rw [hro] at hc9; cases hc9
            | true =>
              rw [hro] at hc9
              obtain ⟨is, lk, cm, k⟩ := (hS3.VK hvk).2 hro
              rw [← Option.some.inj hc9, hb1] at k
              exact absurd (mr_inj (Option.some.inj k)).1 (by decide)
          refine lv_iconst (v := 1) hx hb dX2_isWithinRow_60 (by decide) ?_
          refine lv_goto (tgt := 65) hx hb dX2_isWithinRow_61 (by decide) ?_
          refine W.eq (g2 := F0 m 65 ls [.int (mm_b (uoc v0 T))]) (by rw [hoc]; rfl) ?_
          exact mm_retz hx hb hr (mm_b_nar _) hlk hM hS ⟨rfl, hS3, fun h9 => by rw [hoc] at h9; cases h9⟩ dX2_isWithinRow_65 (by (try dsimp only); omega) (by (try dsimp only); omega)
      · skip
        have hoc := hi1 rfl
        refine lv_iload hx hb dX2_isWithinRow_49 (lv_at hl 0 rfl) ?_
        refine lv_if_ne (tgt := 60) hx hb dX2_isWithinRow_51 (by decide) (fun _ => ?_) (fun h9 => absurd h9 (fun h9 => absurd h9 (by decide)))
        refine lv_iconst (v := 1) hx hb dX2_isWithinRow_60 (by decide) ?_
        refine lv_goto (tgt := 65) hx hb dX2_isWithinRow_61 (by decide) ?_
        refine W.eq (g2 := F0 m 65 ls [.int (mm_b (uoc v0 T))]) (by rw [hoc]; rfl) ?_
        exact mm_retz hx hb hr (mm_b_nar _) hlk hM hS ⟨rfl, hS3, fun h9 => by rw [hoc] at h9; cases h9⟩ dX2_isWithinRow_65 (by (try dsimp only); omega) (by (try dsimp only); omega)
    · skip
      subst eT
      refine lv_aload hx hb dX2_isWithinRow_9 (lv_at hl 1 rfl) ?_
      refine va_get (D := Z.1) (ci := 22) (v := .int 0) (C := RX27) (T := TX27) (N := 7) hx hb hts in_X27 hown hE.1 (hM.at hb1) 0 rfl mm_cX27 0 (by decide) (hts _ q2577) (fun _ h9 => h9) rfl dX2_isWithinRow_11 ?_
      refine lv_iconst (v := 2) hx hb dX2_isWithinRow_14 (by decide) ?_
      refine lv_icmp_ne (tgt := 49) hx hb dX2_isWithinRow_15 (by decide) (fun _ => ?_) (fun h9 => absurd h9 (by decide))
      cases isf
      · skip
        refine lv_iload hx hb dX2_isWithinRow_49 (lv_at hl 0 rfl) ?_
        refine lv_if_ne (tgt := 60) hx hb dX2_isWithinRow_51 (by decide) (fun h9 => absurd (rfl : mm_b false = 0) h9) (fun _ => ?_)
        refine lv_aload hx hb dX2_isWithinRow_54 (lv_at hl 1 rfl) ?_
        refine mm_aload_n hx hb dX2_isWithinRow_56 rfl (lv_at hl 3 rfl) ?_
        refine lv_acmp_ne (rx := (some b)) (ry := (wrw ro (vr v0))) (tgt := 64) hx hb dX2_isWithinRow_57 (by decide) (fun c_4 => ?_) (fun c_4 => ?_)
        · skip
          have hoc : uoc v0 T = false := by
            rw [hi0 rfl]
            have huv : u ≠ v0 := fun e => by
              subst e
              cases hro : ro with
              | true => rw [hro] at c_4; exact c_4 (by rw [hbu]; rfl)
              | false => obtain ⟨is, cm, sn, cp, k⟩ := (hS3.VK hvk).1 hro; rw [hbu, k] at hb1; exact mt_ne_mr (Option.some.inj hb1)
            simp [uoc, huv]
          refine lv_iconst (v := 0) hx hb dX2_isWithinRow_64 (by decide) ?_
          refine W.eq (g2 := F0 m 65 ls [.int (mm_b (uoc v0 T))]) (by rw [hoc]; rfl) ?_
          exact mm_retz hx hb hr (mm_b_nar _) hlk hM hS ⟨rfl, hS3, fun _ => hw0 rfl⟩ dX2_isWithinRow_65 (by (try dsimp only); omega) (by (try dsimp only); omega)
        · skip
          have hc9 : some b = wrw ro (vr v0) := by first | exact c_4 | exact Classical.not_not.1 c_4
          have hoc : uoc v0 T = true := by
            rw [hi0 rfl]
            cases hro : ro with
            | false => rw [hro] at hc9; cases hc9
            | true =>
              rw [hro] at hc9
              have h8 : vr u = vr v0 := hbu.symm.trans (Option.some.inj hc9)
              rw [hC.1.2.2.1 u v0 hu hD h8]; simp [uoc]
          refine lv_iconst (v := 1) hx hb dX2_isWithinRow_60 (by decide) ?_
          refine lv_goto (tgt := 65) hx hb dX2_isWithinRow_61 (by decide) ?_
          refine W.eq (g2 := F0 m 65 ls [.int (mm_b (uoc v0 T))]) (by rw [hoc]; rfl) ?_
          exact mm_retz hx hb hr (mm_b_nar _) hlk hM hS ⟨rfl, hS3, fun h9 => by rw [hoc] at h9; cases h9⟩ dX2_isWithinRow_65 (by (try dsimp only); omega) (by (try dsimp only); omega)
      · skip
        have hoc := hi1 rfl
        refine lv_iload hx hb dX2_isWithinRow_49 (lv_at hl 0 rfl) ?_
        refine lv_if_ne (tgt := 60) hx hb dX2_isWithinRow_51 (by decide) (fun _ => ?_) (fun h9 => absurd h9 (fun h9 => absurd h9 (by decide)))
        refine lv_iconst (v := 1) hx hb dX2_isWithinRow_60 (by decide) ?_
        refine lv_goto (tgt := 65) hx hb dX2_isWithinRow_61 (by decide) ?_
        refine W.eq (g2 := F0 m 65 ls [.int (mm_b (uoc v0 T))]) (by rw [hoc]; rfl) ?_
        exact mm_retz hx hb hr (mm_b_nar _) hlk hM hS ⟨rfl, hS3, fun h9 => by rw [hoc] at h9; cases h9⟩ dX2_isWithinRow_65 (by (try dsimp only); omega) (by (try dsimp only); omega)
    · skip
      have hsz : SizeOf.sizeOf T2 = 1 + (1 + SizeOf.sizeOf (uap S.2.1 x1) + SizeOf.sizeOf k1) + SizeOf.sizeOf (uap S.2.1 r1) := by rw [eT, uins_size]
      have huh : uh T2 = max (uh (uap S.2.1 x1) + 1) (uh (uap S.2.1 r1)) := by rw [eT, uins_h]
      have hor : uoc v0 T2 = (uoc v0 (uap S.2.1 x1) || uoc v0 (uap S.2.1 r1)) := by rw [eT]; exact uins_oc _
      refine lv_aload hx hb dX2_isWithinRow_9 (lv_at hl 1 rfl) ?_
      refine va_get (D := Z.1) (ci := 22) (v := .int 2) (C := RX27) (T := TX27) (N := 7) hx hb hts in_X27 hown hE.1 (hM.at hb1) 0 rfl mm_cX27 0 (by decide) (hts _ q2577) (fun _ h9 => h9) rfl dX2_isWithinRow_11 ?_
      refine lv_iconst (v := 2) hx hb dX2_isWithinRow_14 (by decide) ?_
      refine lv_icmp_ne (tgt := 49) hx hb dX2_isWithinRow_15 (by decide) (fun h9 => absurd (by decide) h9) (fun _ => ?_)
      refine lv_iload hx hb dX2_isWithinRow_18 (lv_at hl 0 rfl) ?_
      cases isf
      · skip
        refine lv_if_ne (tgt := 49) hx hb dX2_isWithinRow_20 (by decide) (fun h9 => absurd (rfl : mm_b false = 0) h9) (fun _ => ?_)
        refine mm_aload_n hx hb dX2_isWithinRow_23 rfl (lv_at hl 2 rfl) ?_
        refine mm_aload_n hx hb dX2_isWithinRow_24 rfl (lv_at hl 3 rfl) ?_
        refine lv_aload hx hb dX2_isWithinRow_25 (lv_at hl 1 rfl) ?_
        refine va_get (D := Z.1) (ci := 22) (v := .ref ty1) (C := RX27) (T := TX27) (N := 7) hx hb hts in_X27 hown hE.1 (hM.at hb1) 0 rfl mm_cX27 3 (by decide) (hts _ q2581) (fun _ h9 => h9) rfl dX2_isWithinRow_27 ?_
        refine lv_lload_n hx hb dX2_isWithinRow_30 rfl (lv_at hl 5 rfl) ?_
        refine mm_callS (As := [va_rf (wop ro (vr v0)), va_rf (wrw ro (vr v0)), .ref ty1, .long mark]) (rest := []) ⟨hx, hb, hml, hown, hts⟩ hE hST hA (ihT (uap S.2.1 x1) x1 ty1 _ (by omega) rfl hD (hS3.VK hvk) hC3 hx1 (fun b hb hm tb htb hz9 => (hmw.next hC (hw0 rfl) hS3.L) b hb hm tb htb (by omega))) (va_cwS 4 hts (lw_S q2662 q2663 q54 q2664) rfl rfl rfl (by decide +kernel) ⟨(by (try dsimp only); omega), (by (try dsimp only); omega)⟩) hM hS rfl hl.1 (Nat.le_of_ble_eq_true rfl) dX2_isWithinRow_31 rfl ⟨(by (try dsimp only); omega), (by (try dsimp only); omega)⟩ (fun _ _ _ _ _ _ h9 => h9.elim) (fun v_4 M_5 H locs hp_6 hM hS => ?_)
        obtain ⟨rfl, hS4, hw4⟩ := hp_6
        have hb4 := hS4.r hb1
        have hr4 := hr1.light hS4.L
        have hC4 := hC3.seen hS4
        obtain ⟨d2, b2, hn2, hcs2⟩ := hC4.nowR' hr4
        refine lv_istore hx hb dX2_isWithinRow_34 hl (by decide) rfl (fun ls hl => ?_)
        replace hl : lv_has ls 7 [(6, .int (mm_b (uoc v0 (uap S.2.1 x1)))), (5, .ref b), (0, va_rf (wop ro (vr v0))), (1, va_rf (wrw ro (vr v0))), (2, .ref a), (3, .long mark)] := hl
        refine lv_aload hx hb dX2_isWithinRow_36 (lv_at hl 1 rfl) ?_
        refine va_get (D := Z.1) (ci := 22) (v := .ref rs1) (C := RX27) (T := TX27) (N := 7) hx hb hts in_X27 hown hE.1 (hM.at hb4) 0 rfl mm_cX27 4 (by decide) (hts _ q2582) (fun _ h9 => h9) rfl dX2_isWithinRow_38 ?_
        obtain ⟨k9, is9, lb9, ty9, rs9, lk9, cm9, hq9, -⟩ := (hr4).cellR
        refine mm_callV (As := []) (rest := []) ⟨hx, hb, hml, hown, hts⟩ hE hST hA (c_X27_now l Z hn2) (cwV 0 hts (lw_V q2614 q2615 q2616 q100 q2617) rfl rfl rfl (by decide +kernel) ⟨(by (try dsimp only); omega), (by (try dsimp only); omega)⟩) hM hS mm_cX27 hq9 rfl hl.1 (Nat.le_of_ble_eq_true rfl) dX2_isWithinRow_41 rfl ⟨(by (try dsimp only); omega), (by (try dsimp only); omega)⟩ (fun _ _ _ _ _ _ h9 => h9.elim) (fun v_7 M_8 H locs hp_9 hM hS => ?_)
        obtain ⟨rfl, eM_8⟩ := hp_9
        rw [eM_8] at hM
        refine lv_astore hx hb dX2_isWithinRow_44 hl (by decide) rfl (fun ls hl => ?_)
        replace hl : lv_has ls 7 [(5, .ref b2), (6, .int (mm_b (uoc v0 (uap S.2.1 x1)))), (0, va_rf (wop ro (vr v0))), (1, va_rf (wrw ro (vr v0))), (2, .ref a), (3, .long mark)] := hl
        refine lv_goto (tgt := 9) hx hb dX2_isWithinRow_46 (by decide) ?_
        refine ih (SizeOf.sizeOf (uap S.2.1 r1)) (by omega) _ _ _ _ _ _ ⟨uap S.2.1 r1, b2, uoc v0 (uap S.2.1 x1), rfl, by omega, by omega, lv_sub hl [1, 0, 2, 3, 4, 5] rfl, hS3.trans hS4, hcs2, (fun h9 => by rw [hi0 rfl, hor, h9]; rfl), (fun h9 => by rw [hi0 rfl, hor, h9]; rfl), (fun h9 => (hw0 rfl).trans hC3 (hw4 h9) hS4.L), rfl, rfl⟩ hM hS
      · skip
        have hoc := hi1 rfl
        refine lv_if_ne (tgt := 49) hx hb dX2_isWithinRow_20 (by decide) (fun _ => ?_) (fun h9 => absurd h9 (fun h9 => absurd h9 (by decide)))
        refine lv_iload hx hb dX2_isWithinRow_49 (lv_at hl 0 rfl) ?_
        refine lv_if_ne (tgt := 60) hx hb dX2_isWithinRow_51 (by decide) (fun _ => ?_) (fun h9 => absurd h9 (fun h9 => absurd h9 (by decide)))
        refine lv_iconst (v := 1) hx hb dX2_isWithinRow_60 (by decide) ?_
        refine lv_goto (tgt := 65) hx hb dX2_isWithinRow_61 (by decide) ?_
        refine W.eq (g2 := F0 m 65 ls [.int (mm_b (uoc v0 T))]) (by rw [hoc]; rfl) ?_
        exact mm_retz hx hb hr (mm_b_nar _) hlk hM hS ⟨rfl, hS3, fun h9 => by rw [hoc] at h9; cases h9⟩ dX2_isWithinRow_65 (by (try dsimp only); omega) (by (try dsimp only); omega)
