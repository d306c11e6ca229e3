/-! ===== what is seen is as it should be ===== -/
set_option maxRecDepth 100000
/-- the variables: how many, which are rows' ends, what these lack -/
abbrev ug : Type := Nat × (Nat → Bool) × (Nat → Int32)
/-- a type (false) or row (true): its variables are of the right kind, a row's labels differ and its end lacks them -/
def uwf (g : ug) : Bool → ev → Prop
  | false, .natCast k => k = 0
  | false, .var v => v < g.1 ∧ g.2.1 v = false
  | false, .sub x y => uwf g false x ∧ uwf g false y
  | false, .pow r _ => uwf g true r
  | true, .natCast k => k = 0
  | true, .var v => v < g.1 ∧ g.2.1 v = true
  | true, .add (.pow t k) r => k < 10 ∧ uwf g false t ∧ uwf g true r ∧ uget r k = none ∧ ∀ v, uend r = some v → uhs (g.2.2 v) k = true
  | _, _ => False
theorem uwf.row {g : ug} : ∀ {r : ev}, uwf g true r → urow r ∧ udis r ∧ (∀ l t, uget r l = some t → l < 10 ∧ uwf g false t ∧ ∀ v, uend r = some v → uhs (g.2.2 v) l = true) ∧ ∀ v, uend r = some v → v < g.1 ∧ g.2.1 v = true := by
  intro r h
  match r, h with
  | .natCast k, h => simp only [uwf] at h; exact ⟨h, trivial, fun l t h9 => by simp [uget] at h9, fun v h9 => by simp [uend] at h9⟩
  | .var v, h => simp only [uwf] at h; exact ⟨trivial, trivial, fun l t h9 => by simp [uget] at h9, fun w h9 => by simp only [uend, Option.some.injEq] at h9; subst h9; exact h⟩
  | .add (.pow t k) r, h =>
    simp only [uwf] at h
    obtain ⟨h1, h2, h3, h4⟩ := uwf.row h.2.2.1
    refine ⟨h1, ⟨h.2.2.2.1, h2⟩, fun l t' h9 => ?_, h4⟩
    simp only [uget] at h9
    by_cases e : l = k
    · rw [if_pos e] at h9; cases h9; subst e; exact ⟨h.1, h.2.1, h.2.2.2.2⟩
    · rw [if_neg e] at h9; exact h3 l t' h9
theorem uwf_ins {g : ug} {k : Nat} {t : ev} (hk : k < 10) (ht : uwf g false t) : ∀ r : ev, uwf g true r → uget r k = none → (∀ v, uend r = some v → uhs (g.2.2 v) k = true) → uwf g true (uins k t r) := by
  intro r h h1 h2
  unfold uins
  split
  · rename_i u j r
    split
    · simp only [uwf] at h ⊢
      exact ⟨hk, ht, h, h1, h2⟩
    · rename_i hj
      simp only [uwf] at h ⊢
      simp only [uget] at h1
      rw [if_neg (by omega)] at h1
      refine ⟨h.1, h.2.1, uwf_ins hk ht r h.2.2.1 h1 h2, ?_, ?_⟩
      · rw [uget_ins, if_neg (by omega)]; exact h.2.2.2.1
      · rw [uend_ins]; exact h.2.2.2.2
  · simp only [uwf]; exact ⟨hk, ht, h, h1, h2⟩
/-- later variables -/
def ug_le (g g' : ug) : Prop := g.1 ≤ g'.1 ∧ ∀ v, v < g.1 → g'.2.1 v = g.2.1 v ∧ g'.2.2 v = g.2.2 v
theorem ug_le.rf (g : ug) : ug_le g g := ⟨Nat.le_refl _, fun _ _ => ⟨rfl, rfl⟩⟩
theorem ug_le.trans {g h k : ug} (h1 : ug_le g h) (h2 : ug_le h k) : ug_le g k := ⟨Nat.le_trans h1.1 h2.1, fun v hv => ⟨((h2.2 v (Nat.lt_of_lt_of_le hv h1.1)).1).trans (h1.2 v hv).1, ((h2.2 v (Nat.lt_of_lt_of_le hv h1.1)).2).trans (h1.2 v hv).2⟩⟩
theorem uwf.mono {g g' : ug} (hg : ug_le g g') : ∀ {m : Bool} {t : ev}, uwf g m t → uwf g' m t := by
  intro m t h
  match m, t, h with
  | false, .natCast k, h => exact h
  | false, .var v, h => exact ⟨Nat.lt_of_lt_of_le h.1 hg.1, (hg.2 v h.1).1.trans h.2⟩
  | false, .sub x y, h => exact ⟨uwf.mono hg h.1, uwf.mono hg h.2⟩
  | false, .pow r k, h => simp only [uwf] at h ⊢; exact uwf.mono hg h
  | true, .natCast k, h => exact h
  | true, .var v, h => exact ⟨Nat.lt_of_lt_of_le h.1 hg.1, (hg.2 v h.1).1.trans h.2⟩
  | true, .add (.pow t k) r, h =>
    simp only [uwf] at h ⊢
    refine ⟨h.1, uwf.mono hg h.2.1, uwf.mono hg h.2.2.1, h.2.2.2.1, fun v hv => ?_⟩
    rw [(hg.2 v (h.2.2.1.row.2.2.2 v hv).1).2]; exact h.2.2.2.2 v hv
/-- a good substitution: what a row's end lacks, is not in what is put for it, and its end lacks it -/
def ugs (g g' : ug) (s : Nat → ev) : Prop := ∀ v, v < g.1 → uwf g' (g.2.1 v) (s v) ∧ (g.2.1 v = true → ∀ k, k < 10 → uhs (g.2.2 v) k = true → uget (s v) k = none ∧ ∀ u, uend (s v) = some u → uhs (g'.2.2 u) k = true)
theorem uwf.ap {g g' : ug} {s : Nat → ev} (hs : ugs g g' s) : ∀ {m : Bool} {t : ev}, uwf g m t → uwf g' m (uap s t) := by
  intro m t h
  match m, t, h with
  | false, .natCast k, h => exact h
  | false, .var v, h => have h1 := (hs v h.1).1; rw [h.2] at h1; exact h1
  | false, .sub x y, h => exact ⟨uwf.ap hs h.1, uwf.ap hs h.2⟩
  | false, .pow r k, h => simp only [uwf, uap] at h ⊢; exact uwf.ap hs h
  | true, .natCast k, h => exact h
  | true, .var v, h => have h1 := (hs v h.1).1; rw [h.2] at h1; exact h1
  | true, .add (.pow t k) r, h =>
    simp only [uwf] at h
    simp only [uap]
    obtain ⟨h1, h2, h3, h4⟩ := h.2.2.1.row
    refine uwf_ins h.1 (uwf.ap hs h.2.1) _ (uwf.ap hs h.2.2.1) ?_ ?_
    · rw [uget_ap _ h1, h.2.2.2.1]
      cases e : uend r with
      | none => rfl
      | some v => have h5 := h4 v e; exact ((hs v h5.1).2 h5.2 k h.1 (h.2.2.2.2 v e)).1
    · rw [uend_ap _ h1]
      intro u hu
      cases e : uend r with
      | none => rw [e] at hu; cases hu
      | some v => rw [e] at hu; have h5 := h4 v e; exact ((hs v h5.1).2 h5.2 k h.1 (h.2.2.2.2 v e)).2 u hu
theorem ugs.comp {g g' g'' : ug} {s r : Nat → ev} (h1 : ugs g g' s) (h2 : ugs g' g'' r) : ugs g g'' (fun v => uap r (s v)) := by
  intro v hv
  refine ⟨uwf.ap h2 (h1 v hv).1, fun hk k hk1 hk2 => ?_⟩
  have h3 := (h1 v hv).1
  rw [hk] at h3
  obtain ⟨a1, a2, a3, a4⟩ := h3.row
  obtain ⟨b1, b2⟩ := (h1 v hv).2 hk k hk1 hk2
  dsimp only
  rw [uget_ap _ a1, uend_ap _ a1, b1]
  cases e : uend (s v) with
  | none => exact ⟨rfl, fun u hu => by cases hu⟩
  | some w => have h5 := a4 w e; exact (h2 w h5.1).2 h5.2 k hk1 (b2 w e)
theorem uwf.lt {g : ug} : ∀ {m : Bool} {t : ev}, uwf g m t → ∀ v, uoc v t = true → v < g.1 := by
  intro m t h v hv
  match m, t, h with
  | false, .natCast k, h => simp [uoc] at hv
  | false, .var w, h => simp only [uoc, beq_iff_eq] at hv; subst hv; exact h.1
  | false, .sub x y, h => simp only [uoc, Bool.or_eq_true] at hv; exact hv.elim (uwf.lt h.1 v) (uwf.lt h.2 v)
  | false, .pow r k, h => simp only [uoc] at hv; simp only [uwf] at h; exact uwf.lt h v hv
  | true, .natCast k, h => simp [uoc] at hv
  | true, .var w, h => simp only [uoc, beq_iff_eq] at hv; subst hv; exact h.1
  | true, .add (.pow t k) r, h => simp only [uoc, Bool.or_eq_true] at hv; simp only [uwf] at h; exact hv.elim (uwf.lt h.2.1 v) (uwf.lt h.2.2.1 v)
/-- the Flat of a row -/
theorem ufl_spec {g : ug} : ∀ {r : ev}, uwf g true r → ∀ (f : Nat → Option ev) (b : Int32), (∀ l, (ufl r f b).1 l = (uget r l).or (f l)) ∧ (∀ l, l < 10 → uhs (ufl r f b).2.1 l = ((uget r l).isSome || uhs b l)) ∧ (ufl r f b).2.2 = uend r := by
  intro r h f b
  match r, h with
  | .natCast k, h => simp [ufl, uget, uend]
  | .var v, h => simp [ufl, uget, uend]
  | .add (.pow t k) r, h =>
    simp only [uwf] at h
    simp only [ufl]
    obtain ⟨h1, h2, h3⟩ := ufl_spec h.2.2.1 (fun j => if j = k then some t else f j) (b ||| (1 <<< (nI k &&& 31)))
    refine ⟨fun l => ?_, fun l hl => ?_, h3⟩
    · rw [h1]
      simp only [uget]
      by_cases e : l = k
      · rw [if_pos e, if_pos e, e, h.2.2.2.1]; rfl
      · rw [if_neg e, if_neg e]
    · rw [h2 l hl, uhs_or hl, uhs_one h.1 hl]
      simp only [uget]
      by_cases e : l = k
      · rw [if_pos e]; simp [e]
      · rw [if_neg e]; simp [e]
theorem uget_some {f : Nat → Option ev} {x : Int32} {l : Nat} : ∀ (k : Nat) (e : ev), uget (usome f x e k) l = (if l < k ∧ uhs x l = true then f l else none).or (uget e l)
  | 0, e => by simp [usome]
  | k + 1, e => by
    unfold usome
    split
    · rename_i t h1 h2
      rw [uget_some k]
      simp only [uget]
      by_cases h : l = k
      · subst h; simp [h1, h2]
      · have : (l < k ∧ uhs x l = true) ↔ (l < k + 1 ∧ uhs x l = true) := by constructor <;> rintro ⟨a, b⟩ <;> exact ⟨by omega, b⟩
        simp only [this, if_neg h]
    · rename_i hn
      rw [uget_some k]
      by_cases h : l = k
      · subst h
        rw [if_neg (by omega)]
        by_cases hx : uhs x l = true
        · cases hf : f l with
          | none => simp
          | some t => exact absurd hf (hn t hx)
        · simp [hx]
      · have : (l < k ∧ uhs x l = true) ↔ (l < k + 1 ∧ uhs x l = true) := by constructor <;> rintro ⟨a, b⟩ <;> exact ⟨by omega, b⟩
        simp only [this]
theorem uend_some {f : Nat → Option ev} {x : Int32} : ∀ (k : Nat) (e : ev), uend (usome f x e k) = uend e
  | 0, e => rfl
  | k + 1, e => by
    unfold usome
    split
    · rw [uend_some k]; simp only [uend]
    · exact uend_some k e
theorem urow_some {f : Nat → Option ev} {x : Int32} : ∀ (k : Nat) (e : ev), urow e → urow (usome f x e k)
  | 0, e, h => h
  | k + 1, e, h => by
    unfold usome
    split
    · exact urow_some k _ h
    · exact urow_some k e h
theorem uwf_some {g : ug} {f : Nat → Option ev} {x : Int32} : ∀ (k : Nat) (e : ev), k ≤ 10 → uwf g true e → (∀ l t, l < k → uhs x l = true → f l = some t → uwf g false t ∧ uget e l = none ∧ ∀ v, uend e = some v → uhs (g.2.2 v) l = true) → uwf g true (usome f x e k)
  | 0, e, _, h, _ => h
  | k + 1, e, hk, h, hf => by
    unfold usome
    split
    · rename_i t h1 h2
      obtain ⟨a1, a2, a3⟩ := hf k t (Nat.lt_succ_self _) h1 h2
      refine uwf_some k _ (by omega) (by simp only [uwf]; exact ⟨by omega, a1, h, a2, a3⟩) (fun l t' hl hx ht => ?_)
      obtain ⟨b1, b2, b3⟩ := hf l t' (by omega) hx ht
      exact ⟨b1, by simp only [uget]; rw [if_neg (by omega)]; exact b2, b3⟩
    · exact uwf_some k e (by omega) h (fun l t' hl => hf l t' (by omega))
