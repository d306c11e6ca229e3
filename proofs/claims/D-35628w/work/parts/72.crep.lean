/-! ===== how the component's types lie in memory ===== -/
set_option maxRecDepth 100000
/-- the type (m = false) or row (m = true) at a; variables lie at vr; L: the cells that are told off for this finding of types -/
def tp (Z : mm_G) (M : mm_M) (L : List Nat) (vr : Nat → Nat) (n : Nat) : ev → Bool → Nat → Prop
  | .natCast k, false, a => k = 0 ∧ a = Z.2.2.1 0 ∧ M a = some cn_E
  | .var v, false, a => v < n ∧ a = vr v ∧ a ∈ L ∧ ∃ bd lv lk, M a = some (co_E bd lv lk)
  | .sub x y, false, a => ∃ (f g : Nat) (sm bq rn : Option Nat), a ∈ L ∧ M a = some (cf_E (some f) (some g) sm bq rn) ∧ tp Z M L vr n x false f ∧ tp Z M L vr n y false g
  | .pow r k, false, a => ∃ (iv : Bool) (w : Nat) (sm bq rn : Option Nat), a ∈ L ∧ k = iv.toNat ∧ M a = some (cb_E iv (some w) sm bq rn) ∧ tp Z M L vr n r true w
  | .natCast k, true, a => k = 0 ∧ a = Z.2.2.1 1 ∧ M a = some cz_E
  | .var v, true, a => v < n ∧ a = vr v ∧ a ∈ L ∧ ∃ bd lv lk lc, M a = some (cr_E bd lv lk lc)
  | .add (.pow t k) r, true, a => ∃ ty rs : Nat, k < 10 ∧ M a = some (ce_E (nI k) (some ty) (some rs)) ∧ tp Z M L vr n t false ty ∧ tp Z M L vr n r true rs
  | _, _, _ => False
/-- by whom it was renewed: as before, or by what is there -/
def uby (M' : mm_M) (bq bq' : Option Nat) : Prop := ∀ q, bq' = some q → bq = some q ∨ M' q ≠ none
theorem uby.rf (M' : mm_M) (bq : Option Nat) : uby M' bq bq := fun _ h => Or.inl h
/-- what never changes of a cell stays -/
def uK (M M' : mm_M) : Prop := ∀ (a : Nat) (e : va_E), M a = some e → M' a = some e ∨ (∃ bd lv lk bd' lv' lk', e = co_E bd lv lk ∧ M' a = some (co_E bd' lv' lk')) ∨ (∃ bd lv lk bd' lv' lk' lc, e = cr_E bd lv lk lc ∧ M' a = some (cr_E bd' lv' lk' lc)) ∨
  (∃ f g sm bq rn sm' bq' rn', e = cf_E f g sm bq rn ∧ M' a = some (cf_E f g sm' bq' rn') ∧ uby M' bq bq') ∨ ∃ iv w sm bq rn sm' bq' rn', e = cb_E iv w sm bq rn ∧ M' a = some (cb_E iv w sm' bq' rn') ∧ uby M' bq bq'
theorem uK.rf (M : mm_M) : uK M M := fun _ _ h => Or.inl h
theorem va_rf_inj {a b : Option Nat} (h : va_rf a = va_rf b) : a = b := by
  cases a <;> cases b <;> simp [va_rf] at h ⊢
  exact h
theorem mm_b_inj {a b : Bool} (h : mm_b a = mm_b b) : a = b := by cases a <;> cases b <;> first | rfl | (exact absurd h (by decide))
theorem co_inj {bd bd' : Option Nat} {lv lv' : Int32} {lk lk' : Bool} (h : co_E bd lv lk = co_E bd' lv' lk') : bd = bd' ∧ lv = lv' ∧ lk = lk' := by
  simp only [Sum.inr.injEq, Prod.mk.injEq, List.cons.injEq, and_true, true_and] at h
  exact ⟨va_rf_inj h.1, Value.int.inj h.2.1, mm_b_inj (Value.int.inj h.2.2)⟩
theorem cr_inj {bd bd' : Option Nat} {lv lv' lc lc' : Int32} {lk lk' : Bool} (h : cr_E bd lv lk lc = cr_E bd' lv' lk' lc') : bd = bd' ∧ lv = lv' ∧ lk = lk' ∧ lc = lc' := by
  simp only [Sum.inr.injEq, Prod.mk.injEq, List.cons.injEq, and_true, true_and] at h
  exact ⟨va_rf_inj h.1, Value.int.inj h.2.1, mm_b_inj (Value.int.inj h.2.2.1), Value.int.inj h.2.2.2⟩
theorem cf_inj {f g sm bq rn f' g' sm' bq' rn' : Option Nat} (h : cf_E f g sm bq rn = cf_E f' g' sm' bq' rn') : f = f' ∧ g = g' ∧ sm = sm' ∧ bq = bq' ∧ rn = rn' := by
  simp only [Sum.inr.injEq, Prod.mk.injEq, List.cons.injEq, and_true, true_and] at h
  exact ⟨va_rf_inj h.1, va_rf_inj h.2.1, va_rf_inj h.2.2.1, va_rf_inj h.2.2.2.1, va_rf_inj h.2.2.2.2⟩
theorem cb_inj {iv iv' : Bool} {g sm bq rn g' sm' bq' rn' : Option Nat} (h : cb_E iv g sm bq rn = cb_E iv' g' sm' bq' rn') : iv = iv' ∧ g = g' ∧ sm = sm' ∧ bq = bq' ∧ rn = rn' := by
  simp only [Sum.inr.injEq, Prod.mk.injEq, List.cons.injEq, and_true, true_and] at h
  exact ⟨mm_b_inj (Value.int.inj h.1), va_rf_inj h.2.1, va_rf_inj h.2.2.1, va_rf_inj h.2.2.2.1, va_rf_inj h.2.2.2.2⟩
theorem ce_inj {lb lb' : Int32} {g sm g' sm' : Option Nat} (h : ce_E lb g sm = ce_E lb' g' sm') : lb = lb' ∧ g = g' ∧ sm = sm' := by
  simp only [Sum.inr.injEq, Prod.mk.injEq, List.cons.injEq, and_true, true_and] at h
  exact ⟨Value.int.inj h.1, va_rf_inj h.2.1, va_rf_inj h.2.2⟩
theorem uK.hasN {M M' : mm_M} (h : uK M M') {a : Nat} (ha : M a ≠ none) : M' a ≠ none := by
  cases he : M a with
  | none => exact absurd he ha
  | some e =>
    rcases h a e he with k | ⟨_, _, _, _, _, _, _, k⟩ | ⟨_, _, _, _, _, _, _, _, k⟩ | ⟨_, _, _, _, _, _, _, _, _, k, _⟩ | ⟨_, _, _, _, _, _, _, _, _, k, _⟩ <;> (rw [k]; exact fun h9 => by cases h9)
theorem uby.trans {N O : mm_M} {a b c : Option Nat} (h : uK N O) (h1 : uby N a b) (h2 : uby O b c) : uby O a c := fun q hq => by
  rcases h2 q hq with h3 | h3
  · rcases h1 q h3 with h4 | h4
    · exact Or.inl h4
    · exact Or.inr (h.hasN h4)
  · exact Or.inr h3
theorem uby.mono {N O : mm_M} {a b : Option Nat} (h : uK N O) (h1 : uby N a b) : uby O a b := fun q hq => (h1 q hq).imp (fun h => h) h.hasN
theorem uK.trans {M N O : mm_M} (h1 : uK M N) (h2 : uK N O) : uK M O := by
  intro a e he
  rcases h1 a e he with h | ⟨bd, lv, lk, bd', lv', lk', rfl, h⟩ | ⟨bd, lv, lk, bd', lv', lk', lc, rfl, h⟩ | ⟨f, g, sm, bq, rn, sm', bq', rn', rfl, h, hby⟩ | ⟨iv, w, sm, bq, rn, sm', bq', rn', rfl, h, hby⟩
  · exact h2 a e h
  · rcases h2 a _ h with k | ⟨bd2, lv2, lk2, bd3, lv3, lk3, e2, k⟩ | ⟨bd2, lv2, lk2, bd3, lv3, lk3, lc3, e2, k⟩ | ⟨f2, g2, sm2, bq2, rn2, sm3, bq3, rn3, e2, k, kby⟩ | ⟨iv2, w2, sm2, bq2, rn2, sm3, bq3, rn3, e2, k, kby⟩
    · exact Or.inr (Or.inl ⟨_, _, _, _, _, _, rfl, k⟩)
    · exact Or.inr (Or.inl ⟨_, _, _, _, _, _, rfl, k⟩)
    all_goals (exfalso; simp at e2)
  · rcases h2 a _ h with k | ⟨bd2, lv2, lk2, bd3, lv3, lk3, e2, k⟩ | ⟨bd2, lv2, lk2, bd3, lv3, lk3, lc3, e2, k⟩ | ⟨f2, g2, sm2, bq2, rn2, sm3, bq3, rn3, e2, k, kby⟩ | ⟨iv2, w2, sm2, bq2, rn2, sm3, bq3, rn3, e2, k, kby⟩
    · exact Or.inr (Or.inr (Or.inl ⟨_, _, _, _, _, _, _, rfl, k⟩))
    · exfalso; simp at e2
    · obtain ⟨-, -, -, rfl⟩ := cr_inj e2; exact Or.inr (Or.inr (Or.inl ⟨_, _, _, _, _, _, _, rfl, k⟩))
    all_goals (exfalso; simp at e2)
  · rcases h2 a _ h with k | ⟨bd2, lv2, lk2, bd3, lv3, lk3, e2, k⟩ | ⟨bd2, lv2, lk2, bd3, lv3, lk3, lc3, e2, k⟩ | ⟨f2, g2, sm2, bq2, rn2, sm3, bq3, rn3, e2, k, kby⟩ | ⟨iv2, w2, sm2, bq2, rn2, sm3, bq3, rn3, e2, k, kby⟩
    · exact Or.inr (Or.inr (Or.inr (Or.inl ⟨_, _, _, _, _, _, _, _, rfl, k, hby.mono h2⟩)))
    · exfalso; simp at e2
    · exfalso; simp at e2
    · obtain ⟨rfl, rfl, -, rfl, -⟩ := cf_inj e2; exact Or.inr (Or.inr (Or.inr (Or.inl ⟨_, _, _, _, _, _, _, _, rfl, k, hby.trans h2 kby⟩)))
    · exfalso; simp at e2
  · rcases h2 a _ h with k | ⟨bd2, lv2, lk2, bd3, lv3, lk3, e2, k⟩ | ⟨bd2, lv2, lk2, bd3, lv3, lk3, lc3, e2, k⟩ | ⟨f2, g2, sm2, bq2, rn2, sm3, bq3, rn3, e2, k, kby⟩ | ⟨iv2, w2, sm2, bq2, rn2, sm3, bq3, rn3, e2, k, kby⟩
    · exact Or.inr (Or.inr (Or.inr (Or.inr ⟨_, _, _, _, _, _, _, _, rfl, k, hby.mono h2⟩)))
    · exfalso; simp at e2
    · exfalso; simp at e2
    · exfalso; simp at e2
    · obtain ⟨rfl, rfl, -, rfl, -⟩ := cb_inj e2; exact Or.inr (Or.inr (Or.inr (Or.inr ⟨_, _, _, _, _, _, _, _, rfl, k, hby.trans h2 kby⟩)))
/-- a cell of another class stays -/
theorem uK.at {M M' : mm_M} {a : Nat} {e : va_E} (h : uK M M') (ha : M a = some e) (h1 : ∀ bd lv lk, e ≠ co_E bd lv lk) (h2 : ∀ bd lv lk lc, e ≠ cr_E bd lv lk lc) (h3 : ∀ f g sm bq rn, e ≠ cf_E f g sm bq rn) (h4 : ∀ iv w sm bq rn, e ≠ cb_E iv w sm bq rn) : M' a = some e := by
  rcases h a e ha with k | ⟨bd2, lv2, lk2, bd3, lv3, lk3, e2, k⟩ | ⟨bd2, lv2, lk2, bd3, lv3, lk3, lc3, e2, k⟩ | ⟨f2, g2, sm2, bq2, rn2, sm3, bq3, rn3, e2, k, kby⟩ | ⟨iv2, w2, sm2, bq2, rn2, sm3, bq3, rn3, e2, k, kby⟩
  · exact k
  · exact absurd e2 (h1 _ _ _)
  · exact absurd e2 (h2 _ _ _ _)
  · exact absurd e2 (h3 _ _ _ _ _)
  · exact absurd e2 (h4 _ _ _ _ _)
theorem uK.atC {M M' : mm_M} {a ci : Nat} {fs : List Value} (h : uK M M') (ha : M a = some (.inr (ci, fs))) (hc : ci ≠ 6 ∧ ci ≠ 9 ∧ ci ≠ 10 ∧ ci ≠ 12) : M' a = some (.inr (ci, fs)) :=
  h.at ha (fun _ _ _ h9 => hc.2.1 (Prod.mk.inj (Sum.inr.inj h9)).1) (fun _ _ _ _ h9 => hc.2.2.2 (Prod.mk.inj (Sum.inr.inj h9)).1) (fun _ _ _ _ _ h9 => hc.2.2.1 (Prod.mk.inj (Sum.inr.inj h9)).1) (fun _ _ _ _ _ h9 => hc.1 (Prod.mk.inj (Sum.inr.inj h9)).1)
theorem uK.atA {M M' : mm_M} {a : Nat} {x : ClassId × vp_A} (h : uK M M') (ha : M a = some (.inl x)) : M' a = some (.inl x) :=
  h.at ha (fun _ _ _ h9 => by cases h9) (fun _ _ _ _ h9 => by cases h9) (fun _ _ _ _ _ h9 => by cases h9) (fun _ _ _ _ _ h9 => by cases h9)
theorem mm_Ext.uK {M M' : mm_M} (h : mm_Ext M M') : uK M M' := fun _ _ ha => Or.inl (h.at ha)
theorem tp.mono {Z : mm_G} {M M' : mm_M} {L L' : List Nat} {vr vr' : Nat → Nat} {n n' : Nat} (hK : uK M M') (hL : ∀ a ∈ L, a ∈ L') (hv : ∀ v, v < n → vr' v = vr v) (hn : n ≤ n') (t : ev) (m : Bool) (a : Nat) (h : tp Z M L vr n t m a) : tp Z M' L' vr' n' t m a := by
  unfold tp at h
  split at h
  · obtain ⟨h1, h2, h3⟩ := h; simp only [tp]; exact ⟨h1, h2, hK.atC h3 (by decide)⟩
  · obtain ⟨h1, h2, h3, bd, lv, lk, h4⟩ := h
    simp only [tp]
    refine ⟨Nat.lt_of_lt_of_le h1 hn, by rw [hv _ h1]; exact h2, hL _ h3, ?_⟩
    rcases hK _ _ h4 with k | ⟨bd2, lv2, lk2, bd3, lv3, lk3, e2, k⟩ | ⟨bd2, lv2, lk2, bd3, lv3, lk3, lc3, e2, k⟩ | ⟨f2, g2, sm2, bq2, rn2, sm3, bq3, rn3, e2, k, kby⟩ | ⟨iv2, w2, sm2, bq2, rn2, sm3, bq3, rn3, e2, k, kby⟩
    · exact ⟨_, _, _, k⟩
    · exact ⟨_, _, _, k⟩
    all_goals (exfalso; simp at e2)
  · rename_i x y
    obtain ⟨f, g, sm, bq, rn, h1, h2, h3, h4⟩ := h
    simp only [tp]
    rcases hK _ _ h2 with k | ⟨bd2, lv2, lk2, bd3, lv3, lk3, e2, k⟩ | ⟨bd2, lv2, lk2, bd3, lv3, lk3, lc3, e2, k⟩ | ⟨f2, g2, sm2, bq2, rn2, sm3, bq3, rn3, e2, k, kby⟩ | ⟨iv2, w2, sm2, bq2, rn2, sm3, bq3, rn3, e2, k, kby⟩
    · exact ⟨f, g, _, _, _, hL _ h1, k, tp.mono hK hL hv hn x _ _ h3, tp.mono hK hL hv hn y _ _ h4⟩
    · exfalso; simp at e2
    · exfalso; simp at e2
    · obtain ⟨rfl, rfl, -⟩ := cf_inj e2; exact ⟨f, g, _, _, _, hL _ h1, k, tp.mono hK hL hv hn x _ _ h3, tp.mono hK hL hv hn y _ _ h4⟩
    · exfalso; simp at e2
  · rename_i r j
    obtain ⟨iv, w, sm, bq, rn, h1, h0, h2, h3⟩ := h
    simp only [tp]
    rcases hK _ _ h2 with k | ⟨bd2, lv2, lk2, bd3, lv3, lk3, e2, k⟩ | ⟨bd2, lv2, lk2, bd3, lv3, lk3, lc3, e2, k⟩ | ⟨f2, g2, sm2, bq2, rn2, sm3, bq3, rn3, e2, k, kby⟩ | ⟨iv2, w2, sm2, bq2, rn2, sm3, bq3, rn3, e2, k, kby⟩
    · exact ⟨iv, w, _, _, _, hL _ h1, h0, k, tp.mono hK hL hv hn r _ _ h3⟩
    · exfalso; simp at e2
    · exfalso; simp at e2
    · exfalso; simp at e2
    · obtain ⟨rfl, rfl, -⟩ := cb_inj e2; exact ⟨_, w, _, _, _, hL _ h1, h0, k, tp.mono hK hL hv hn r _ _ h3⟩
  · obtain ⟨h1, h2, h3⟩ := h; simp only [tp]; exact ⟨h1, h2, hK.atC h3 (by decide)⟩
  · obtain ⟨h1, h2, h3, bd, lv, lk, lc, h4⟩ := h
    simp only [tp]
    refine ⟨Nat.lt_of_lt_of_le h1 hn, by rw [hv _ h1]; exact h2, hL _ h3, ?_⟩
    rcases hK _ _ h4 with k | ⟨bd2, lv2, lk2, bd3, lv3, lk3, e2, k⟩ | ⟨bd2, lv2, lk2, bd3, lv3, lk3, lc3, e2, k⟩ | ⟨f2, g2, sm2, bq2, rn2, sm3, bq3, rn3, e2, k, kby⟩ | ⟨iv2, w2, sm2, bq2, rn2, sm3, bq3, rn3, e2, k, kby⟩
    · exact ⟨_, _, _, _, k⟩
    · exfalso; simp at e2
    · exact ⟨_, _, _, _, k⟩
    all_goals (exfalso; simp at e2)
  · rename_i x k r
    obtain ⟨ty, rs, h0, h1, h2, h3⟩ := h
    simp only [tp]
    exact ⟨ty, rs, h0, hK.atC h1 (by decide), tp.mono hK hL hv hn x _ _ h2, tp.mono hK hL hv hn r _ _ h3⟩
  · exact h.elim
termination_by SizeOf.sizeOf t
decreasing_by all_goals (subst_vars; simp_all; try omega)
