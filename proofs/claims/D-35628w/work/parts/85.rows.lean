/-! ===== rows, purely ===== -/
set_option maxRecDepth 100000
theorem uhs_bit {x : Int32} {l : Nat} (hl : l < 10) : uhs x l = x.toBitVec.getLsbD l := by
  have key : ∀ k : Nat, k < 32 → ∀ y : Int32, (y.toBitVec.smod 32) = BitVec.ofNat 32 k → decide ((x >>> y) &&& 1 ≠ 0) = x.toBitVec.getLsbD k := by
    intro k hk y hy
    have h1 : ((x >>> y) &&& 1).toBitVec = BitVec.setWidth 32 (BitVec.ofBool ((x >>> y).toBitVec.getLsbD 0)) := by
      rw [Int32.toBitVec_and]
      exact BitVec.and_one_eq_setWidth_ofBool_getLsbD
    have h2 : (x >>> y).toBitVec.getLsbD 0 = x.toBitVec.getLsbD k := by
      rw [Int32.toBitVec_shiftRight, hy]
      show (x.toBitVec.sshiftRight (BitVec.ofNat 32 k).toNat).getLsbD 0 = _
      rw [BitVec.getLsbD_sshiftRight, BitVec.toNat_ofNat, Nat.mod_eq_of_lt (by omega)]
      simp [hk]
    rw [h2] at h1
    cases hb : x.toBitVec.getLsbD k with
    | false => rw [hb] at h1; have : (x >>> y) &&& 1 = 0 := Int32.toBitVec_inj.1 (h1.trans (by decide)); simp [this]
    | true =>
      rw [hb] at h1
      have : (x >>> y) &&& 1 ≠ 0 := fun h => by rw [h] at h1; exact absurd h1 (by decide)
      simp [this]
  unfold uhs
  match l, hl with
  | 0, _ => exact key 0 (by omega) _ (by decide)
  | 1, _ => exact key 1 (by omega) _ (by decide)
  | 2, _ => exact key 2 (by omega) _ (by decide)
  | 3, _ => exact key 3 (by omega) _ (by decide)
  | 4, _ => exact key 4 (by omega) _ (by decide)
  | 5, _ => exact key 5 (by omega) _ (by decide)
  | 6, _ => exact key 6 (by omega) _ (by decide)
  | 7, _ => exact key 7 (by omega) _ (by decide)
  | 8, _ => exact key 8 (by omega) _ (by decide)
  | 9, _ => exact key 9 (by omega) _ (by decide)
theorem uhs_and {x y : Int32} {l : Nat} (hl : l < 10) : uhs (x &&& y) l = (uhs x l && uhs y l) := by
  rw [uhs_bit hl, uhs_bit hl, uhs_bit hl, Int32.toBitVec_and, BitVec.getLsbD_and]
theorem uhs_or {x y : Int32} {l : Nat} (hl : l < 10) : uhs (x ||| y) l = (uhs x l || uhs y l) := by
  rw [uhs_bit hl, uhs_bit hl, uhs_bit hl, Int32.toBitVec_or, BitVec.getLsbD_or]
theorem uhs_not {x : Int32} {l : Nat} (hl : l < 10) : uhs (x ^^^ (-1)) l = !uhs x l := by
  have h : (-1 : Int32).toBitVec.getLsbD l = true := by
    match l, hl with
    | 0, _ | 1, _ | 2, _ | 3, _ | 4, _ | 5, _ | 6, _ | 7, _ | 8, _ | 9, _ => decide
  rw [uhs_bit hl, uhs_bit hl, Int32.toBitVec_xor, BitVec.getLsbD_xor, h, Bool.xor_true]
theorem uhs_0 {l : Nat} (hl : l < 10) : uhs 0 l = false := by
  match l, hl with
  | 0, _ | 1, _ | 2, _ | 3, _ | 4, _ | 5, _ | 6, _ | 7, _ | 8, _ | 9, _ => decide
theorem uhs_one {k l : Nat} (hk : k < 10) (hl : l < 10) : uhs (1 <<< (nI k &&& 31)) l = decide (l = k) := by
  have key : ∀ k : Fin 10, ∀ l : Fin 10, uhs (1 <<< (nI k.1 &&& 31)) l.1 = decide (l.1 = k.1) := by decide
  exact key ⟨k, hk⟩ ⟨l, hl⟩
/-- the type of a label in a row -/
def uget : ev → Nat → Option ev
  | .add (.pow t k) r, l => if l = k then some t else uget r l
  | _, _ => none
/-- a row's end -/
def uend : ev → Option Nat
  | .add (.pow _ _) r => uend r
  | .var v => some v
  | _ => none
theorem uget_ins {k : Nat} {t : ev} {l : Nat} : ∀ r : ev, uget (uins k t r) l = if l = k then some t else uget r l := by
  intro r
  unfold uins
  split
  · rename_i u j r
    split
    · simp only [uget]
    · rename_i h
      simp only [uget]
      rw [uget_ins r]
      by_cases h1 : l = j
      · rw [if_pos h1, if_pos h1, if_neg (by omega)]
      · rw [if_neg h1, if_neg h1]
  · rename_i h; simp only [uget]
theorem uend_ins {k : Nat} {t : ev} : ∀ r : ev, uend (uins k t r) = uend r := by
  intro r
  unfold uins
  split
  · rename_i u j r
    split
    · simp only [uend]
    · simp only [uend]; exact uend_ins r
  · simp only [uend]
/-- a row's shape -/
def urow : ev → Prop
  | .add (.pow _ _) r => urow r
  | .var _ => True
  | .natCast k => k = 0
  | _ => False
theorem urow_ins {k : Nat} {t : ev} : ∀ r : ev, urow r → urow (uins k t r) := by
  intro r h
  unfold uins
  split
  · rename_i u j r
    split
    · exact h
    · simp only [urow]; exact urow_ins r h
  · simp only [urow]; exact h
theorem uget_ap {s : Nat → ev} {l : Nat} : ∀ r : ev, urow r → uget (uap s r) l = ((uget r l).map (uap s)).or ((uend r).bind fun v => uget (s v) l) := by
  intro r h
  match r, h with
  | .add (.pow t k) r, h =>
    simp only [uap, uget_ins, uget, uend]
    have h1 := uget_ap (s := s) (l := l) r h
    by_cases e : l = k
    · rw [if_pos e, if_pos e]; rfl
    · rw [if_neg e, if_neg e]; exact h1
  | .var v, _ => simp [uap, uget, uend]
  | .natCast k, _ => simp [uap, uget, uend]
theorem uend_ap {s : Nat → ev} : ∀ r : ev, urow r → uend (uap s r) = (uend r).bind fun v => uend (s v) := by
  intro r h
  match r, h with
  | .add (.pow t k) r, h => simp only [uap, uend_ins, uend]; exact uend_ap r h
  | .var v, _ => simp [uap, uend]
  | .natCast k, _ => simp [uap, uend]
theorem urow_ap {s : Nat → ev} : ∀ r : ev, urow r → (∀ v, uend r = some v → urow (s v)) → urow (uap s r) := by
  intro r h hs
  match r, h with
  | .add (.pow t k) r, h => simp only [uap]; exact urow_ins _ (urow_ap r h hs)
  | .var v, _ => exact hs v rfl
  | .natCast k, h => exact h
/-- its labels are in order -/
def usrt : ev → Prop
  | .add (.pow _ k) r => (∀ l, uget r l ≠ none → k ≤ l) ∧ usrt r
  | _ => True
theorem usrt_ins {k : Nat} {t : ev} : ∀ r : ev, usrt r → usrt (uins k t r) := by
  intro r h
  unfold uins
  split
  · rename_i u j r
    split
    · rename_i hk
      simp only [usrt] at h ⊢
      refine ⟨fun l hl => ?_, h⟩
      simp only [uget] at hl
      by_cases e : l = j
      · omega
      · rw [if_neg e] at hl; exact Nat.le_trans hk (h.1 l hl)
    · rename_i hk
      simp only [usrt] at h ⊢
      refine ⟨fun l hl => ?_, usrt_ins r h.2⟩
      rw [uget_ins] at hl
      by_cases e : l = k
      · omega
      · rw [if_neg e] at hl; exact h.1 l hl
  · rename_i hn
    simp only [usrt]
    refine ⟨fun l hl => absurd ?_ hl, ?_⟩
    · unfold uget; split
      · exact absurd rfl (hn _ _ _)
      · rfl
    · trivial
theorem usrt_ap {s : Nat → ev} (hs : ∀ v, usrt (s v)) : ∀ r : ev, urow r → usrt (uap s r) := by
  intro r h
  match r, h with
  | .add (.pow t k) r, h => simp only [uap]; exact usrt_ins _ (usrt_ap hs r h)
  | .var v, _ => exact hs v
  | .natCast k, h => simp [uap, usrt]
/-- its labels differ -/
def udis : ev → Prop
  | .add (.pow _ k) r => uget r k = none ∧ udis r
  | _ => True
/-- rows that are in order are the same if they say the same -/
theorem urow_ext : ∀ (X Y : ev), urow X → urow Y → usrt X → usrt Y → udis X → udis Y → (∀ l, uget X l = uget Y l) → uend X = uend Y → X = Y := by
  intro X Y hX hY sX sY dX dY hg he
  match X, Y, hX, hY with
  | .add (.pow t k) r, .add (.pow t' k') r', hX, hY =>
    simp only [usrt, udis, uend] at sX sY dX dY he
    have e1 : k = k' := by
      have h1 := hg k; have h2 := hg k'
      simp only [uget, ↓reduceIte] at h1 h2
      by_cases e : k = k'
      · exact e
      · rw [if_neg e] at h1; rw [if_neg (Ne.symm e)] at h2
        have := sX.1 k' (by rw [h2]; simp); have := sY.1 k (by rw [← h1]; simp); omega
    subst e1
    have e2 : t = t' := by have h1 := hg k; simp only [uget, ↓reduceIte] at h1; exact Option.some.inj h1
    subst e2
    have e3 : r = r' := urow_ext r r' hX hY sX.2 sY.2 dX.2 dY.2 (fun l => by
      by_cases e : l = k
      · subst e; rw [dX.1, dY.1]
      · have h1 := hg l; simp only [uget] at h1; rw [if_neg e, if_neg e] at h1; exact h1) he
    rw [e3]
  | .add (.pow t k) r, .var w, hX, hY => have h1 := hg k; simp [uget] at h1
  | .add (.pow t k) r, .natCast w, hX, hY => have h1 := hg k; simp [uget] at h1
  | .var w, .add (.pow t k) r, hX, hY => have h1 := hg k; simp [uget] at h1
  | .natCast w, .add (.pow t k) r, hX, hY => have h1 := hg k; simp [uget] at h1
  | .var v, .var w, hX, hY => simp only [uend, Option.some.injEq] at he; rw [he]
  | .var v, .natCast w, hX, hY => simp [uend] at he
  | .natCast v, .var w, hX, hY => simp [uend] at he
  | .natCast v, .natCast w, hX, hY => simp only [urow] at hX hY; rw [hX, hY]
