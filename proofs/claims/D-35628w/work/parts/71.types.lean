/-! ===== types, purely ===== -/
set_option maxRecDepth 100000
/-- TYPES: natCast 0 numbers, var v a variable, sub x y a function, pow r k a record (k = 0) or a variant (k = 1) of the row r.
ROWS: natCast 0 nothing, var v a variable, add (pow t l) r a cell. A type is SEEN with its cells in the order of their labels. A cell's place: -/
def uins (l : Nat) (t : ev) : ev → ev
  | .add (.pow u k) r => if l ≤ k then .add (.pow t l) (.add (.pow u k) r) else .add (.pow u k) (uins l t r)
  | e => .add (.pow t l) e
/-- what is put for variables; cells in order -/
def uap (s : Nat → ev) : ev → ev
  | .var v => s v
  | .sub x y => .sub (uap s x) (uap s y)
  | .add (.pow x k) y => uins k (uap s x) (uap s y)
  | .pow x k => .pow (uap s x) k
  | e => e
/-- one variable is put -/
def uon (v : Nat) (T : ev) : Nat → ev := fun u => if u = v then T else .var u
/-- v occurs -/
def uoc (v : Nat) : ev → Bool
  | .var u => u == v
  | .sub x y => uoc v x || uoc v y
  | .add (.pow x _) y => uoc v x || uoc v y
  | .pow x _ => uoc v x
  | _ => false
/-- a function occurs -/
def uhf : ev → Bool
  | .sub _ _ => true
  | .add (.pow x _) y => uhf x || uhf y
  | .pow x _ => uhf x
  | _ => false
theorem uins_oc {v l : Nat} {t : ev} : ∀ r : ev, uoc v (uins l t r) = (uoc v t || uoc v r) := by
  intro r
  unfold uins
  split
  · rename_i u k r
    split
    · simp only [uoc]
    · simp only [uoc]
      rw [uins_oc r, ← Bool.or_assoc, ← Bool.or_assoc, Bool.or_comm (uoc v u)]
  · simp only [uoc]
theorem uins_hf {l : Nat} {t : ev} : ∀ r : ev, uhf (uins l t r) = (uhf t || uhf r) := by
  intro r
  unfold uins
  split
  · rename_i u k r
    split
    · simp only [uhf]
    · simp only [uhf]
      rw [uins_hf r, ← Bool.or_assoc, ← Bool.or_assoc, Bool.or_comm (uhf u)]
  · simp only [uhf]
theorem uins_size {l : Nat} {t : ev} : ∀ r : ev, SizeOf.sizeOf (uins l t r) = 1 + (1 + SizeOf.sizeOf t + SizeOf.sizeOf l) + SizeOf.sizeOf r := by
  intro r
  unfold uins
  split
  · rename_i u k r
    split
    · rfl
    · have h := uins_size (l := l) (t := t) r
      show 1 + (1 + SizeOf.sizeOf u + SizeOf.sizeOf k) + SizeOf.sizeOf (uins l t r) = 1 + (1 + SizeOf.sizeOf t + SizeOf.sizeOf l) + (1 + (1 + SizeOf.sizeOf u + SizeOf.sizeOf k) + SizeOf.sizeOf r)
      omega
  · rfl
theorem uins_comm {l k : Nat} {t u : ev} (h : l ≠ k) (r : ev) : uins l t (uins k u r) = uins k u (uins l t r) := by
  have key : ∀ (N : Nat) (r : ev), SizeOf.sizeOf r < N → uins l t (uins k u r) = uins k u (uins l t r) := by
    intro N
    induction N with
    | zero => intro r h; omega
    | succ N ih =>
      intro r hz
      match r with
      | .add (.pow x j) r =>
        have z1 : SizeOf.sizeOf (Lean.Grind.CommRing.Expr.add (.pow x j) r) = 1 + (1 + SizeOf.sizeOf x + SizeOf.sizeOf j) + SizeOf.sizeOf r := rfl
        by_cases h1 : k ≤ j
        · by_cases h2 : l ≤ j
          · simp only [uins, if_pos h1, if_pos h2]
            by_cases h3 : l ≤ k
            · rw [if_pos h3, if_neg (by omega)]
            · rw [if_neg h3, if_pos (by omega)]
          · simp only [uins, if_pos h1, if_neg h2, if_neg (show ¬ l ≤ k by omega)]
        · by_cases h2 : l ≤ j
          · simp only [uins, if_neg h1, if_pos h2, if_neg (show ¬ k ≤ l by omega)]
          · simp only [uins, if_neg h1, if_neg h2]
            rw [ih r (by omega)]
      | .add (.num _) _ | .add (.natCast _) _ | .add (.intCast _) _ | .add (.var _) _ | .add (.neg _) _ | .add (.add _ _) _ | .add (.sub _ _) _ | .add (.mul _ _) _
      | .num _ | .natCast _ | .intCast _ | .var _ | .neg _ | .sub _ _ | .mul _ _ | .pow _ _ =>
        simp only [uins]
        by_cases h3 : l ≤ k
        · rw [if_pos h3, if_neg (by omega)]
        · rw [if_neg h3, if_pos (by omega)]
  exact key _ r (Nat.lt_succ_self _)
theorem uap_ins {s : Nat → ev} {l : Nat} {t : ev} (r : ev) : uap s (uins l t r) = uins l (uap s t) (uap s r) := by
  have key : ∀ (N : Nat) (r : ev), SizeOf.sizeOf r < N → uap s (uins l t r) = uins l (uap s t) (uap s r) := by
    intro N
    induction N with
    | zero => intro r h; omega
    | succ N ih =>
      intro r hz
      match r with
      | .add (.pow u k) r =>
        have z1 : SizeOf.sizeOf (Lean.Grind.CommRing.Expr.add (.pow u k) r) = 1 + (1 + SizeOf.sizeOf u + SizeOf.sizeOf k) + SizeOf.sizeOf r := rfl
        by_cases h1 : l ≤ k
        · show uap s (if l ≤ k then _ else _) = _
          rw [if_pos h1]; rfl
        · show uap s (if l ≤ k then _ else _) = _
          rw [if_neg h1]
          show uins k (uap s u) (uap s (uins l t r)) = uins l (uap s t) (uins k (uap s u) (uap s r))
          rw [ih r (by omega), uins_comm (by omega)]
      | .add (.num _) _ | .add (.natCast _) _ | .add (.intCast _) _ | .add (.var _) _ | .add (.neg _) _ | .add (.add _ _) _ | .add (.sub _ _) _ | .add (.mul _ _) _
      | .num _ | .natCast _ | .intCast _ | .var _ | .neg _ | .sub _ _ | .mul _ _ | .pow _ _ => rfl
  exact key _ r (Nat.lt_succ_self _)
theorem uap_ap (s r : Nat → ev) (t : ev) : uap s (uap r t) = uap (fun v => uap s (r v)) t := by
  have key : ∀ (N : Nat) (t : ev), SizeOf.sizeOf t < N → uap s (uap r t) = uap (fun v => uap s (r v)) t := by
    intro N
    induction N with
    | zero => intro t h; omega
    | succ N ih =>
      intro t hz
      match t with
      | .var v => rfl
      | .sub x y =>
        have z1 : SizeOf.sizeOf (Lean.Grind.CommRing.Expr.sub x y) = 1 + SizeOf.sizeOf x + SizeOf.sizeOf y := rfl
        simp only [uap]; rw [ih x (by omega), ih y (by omega)]
      | .add (.pow x k) y =>
        have z1 : SizeOf.sizeOf (Lean.Grind.CommRing.Expr.add (.pow x k) y) = 1 + (1 + SizeOf.sizeOf x + SizeOf.sizeOf k) + SizeOf.sizeOf y := rfl
        simp only [uap]; rw [uap_ins, ih x (by omega), ih y (by omega)]
      | .pow x k =>
        have z1 : SizeOf.sizeOf (Lean.Grind.CommRing.Expr.pow x k) = 1 + SizeOf.sizeOf x + SizeOf.sizeOf k := rfl
        simp only [uap]; rw [ih x (by omega)]
      | .add (.num _) _ | .add (.natCast _) _ | .add (.intCast _) _ | .add (.var _) _ | .add (.neg _) _ | .add (.add _ _) _ | .add (.sub _ _) _ | .add (.mul _ _) _
      | .num _ | .natCast _ | .intCast _ | .neg _ | .mul _ _ => rfl
  exact key _ t (Nat.lt_succ_self _)
theorem uap_ext {s r : Nat → ev} {t : ev} (h : ∀ v, uoc v t = true → s v = r v) : uap s t = uap r t := by
  have key : ∀ (N : Nat) (t : ev), SizeOf.sizeOf t < N → (∀ v, uoc v t = true → s v = r v) → uap s t = uap r t := by
    intro N
    induction N with
    | zero => intro t h; omega
    | succ N ih =>
      intro t hz h
      match t with
      | .var v => exact h v (by simp [uoc])
      | .sub x y =>
        have z1 : SizeOf.sizeOf (Lean.Grind.CommRing.Expr.sub x y) = 1 + SizeOf.sizeOf x + SizeOf.sizeOf y := rfl
        simp only [uap]; rw [ih x (by omega) (fun v hv => h v (by simp [uoc, hv])), ih y (by omega) (fun v hv => h v (by simp [uoc, hv]))]
      | .add (.pow x k) y =>
        have z1 : SizeOf.sizeOf (Lean.Grind.CommRing.Expr.add (.pow x k) y) = 1 + (1 + SizeOf.sizeOf x + SizeOf.sizeOf k) + SizeOf.sizeOf y := rfl
        simp only [uap]; rw [ih x (by omega) (fun v hv => h v (by simp [uoc, hv])), ih y (by omega) (fun v hv => h v (by simp [uoc, hv]))]
      | .pow x k =>
        have z1 : SizeOf.sizeOf (Lean.Grind.CommRing.Expr.pow x k) = 1 + SizeOf.sizeOf x + SizeOf.sizeOf k := rfl
        simp only [uap]; rw [ih x (by omega) (fun v hv => h v (by simp [uoc, hv]))]
      | .add (.num _) _ | .add (.natCast _) _ | .add (.intCast _) _ | .add (.var _) _ | .add (.neg _) _ | .add (.add _ _) _ | .add (.sub _ _) _ | .add (.mul _ _) _
      | .num _ | .natCast _ | .intCast _ | .neg _ | .mul _ _ => rfl
  exact key _ t (Nat.lt_succ_self _) h
/-- its cells are in order -/
def ucan (t : ev) : Prop := uap .var t = t
theorem uap_id {s : Nat → ev} {t : ev} (hc : ucan t) (h : ∀ v, uoc v t = true → s v = .var v) : uap s t = t := (uap_ext h).trans hc
theorem ucan_ap {s : Nat → ev} (h : ∀ v, ucan (s v)) (t : ev) : ucan (uap s t) := by
  unfold ucan
  rw [uap_ap]
  exact uap_ext (fun v _ => h v)
theorem uoc_ap {s : Nat → ev} {t : ev} {v : Nat} : uoc v (uap s t) = true ↔ ∃ u, uoc u t = true ∧ uoc v (s u) = true := by
  have two : ∀ {a b : Nat → Prop} {q : Nat → Prop}, ((∃ u, a u ∧ q u) ∨ ∃ u, b u ∧ q u) ↔ ∃ u, (a u ∨ b u) ∧ q u := by
    intro a b q
    constructor
    · rintro (⟨u, h1, h2⟩ | ⟨u, h1, h2⟩)
      · exact ⟨u, Or.inl h1, h2⟩
      · exact ⟨u, Or.inr h1, h2⟩
    · rintro ⟨u, h1 | h1, h2⟩
      · exact Or.inl ⟨u, h1, h2⟩
      · exact Or.inr ⟨u, h1, h2⟩
  have key : ∀ (N : Nat) (t : ev), SizeOf.sizeOf t < N → (uoc v (uap s t) = true ↔ ∃ u, uoc u t = true ∧ uoc v (s u) = true) := by
    intro N
    induction N with
    | zero => intro t h; omega
    | succ N ih =>
      intro t hz
      match t with
      | .var w =>
        simp only [uap, uoc, beq_iff_eq]
        constructor
        · intro h; exact ⟨w, rfl, h⟩
        · rintro ⟨u, rfl, h⟩; exact h
      | .sub x y =>
        have z1 : SizeOf.sizeOf (Lean.Grind.CommRing.Expr.sub x y) = 1 + SizeOf.sizeOf x + SizeOf.sizeOf y := rfl
        simp only [uap, uoc, Bool.or_eq_true]; rw [ih x (by omega), ih y (by omega)]; exact two
      | .add (.pow x k) y =>
        have z1 : SizeOf.sizeOf (Lean.Grind.CommRing.Expr.add (.pow x k) y) = 1 + (1 + SizeOf.sizeOf x + SizeOf.sizeOf k) + SizeOf.sizeOf y := rfl
        simp only [uap, uoc, uins_oc, Bool.or_eq_true]; rw [ih x (by omega), ih y (by omega)]; exact two
      | .pow x k =>
        have z1 : SizeOf.sizeOf (Lean.Grind.CommRing.Expr.pow x k) = 1 + SizeOf.sizeOf x + SizeOf.sizeOf k := rfl
        simp only [uap, uoc]; exact ih x (by omega)
      | .add (.num _) _ | .add (.natCast _) _ | .add (.intCast _) _ | .add (.var _) _ | .add (.neg _) _ | .add (.add _ _) _ | .add (.sub _ _) _ | .add (.mul _ _) _
      | .num _ | .natCast _ | .intCast _ | .neg _ | .mul _ _ => simp [uap, uoc]
  exact key _ t (Nat.lt_succ_self _)
theorem uoc_on {v w u : Nat} {T : ev} : uoc w (uon v T u) = true ↔ (u = v ∧ uoc w T = true) ∨ (u ≠ v ∧ u = w) := by
  unfold uon
  by_cases h : u = v <;> simp [h, uoc]
/-- the state of finding types: how many variables, what is put for them, comparable, the labels a row lacks, the level -/
abbrev ts : Type := Nat × (Nat → ev) × (Nat → Bool) × (Nat → Int32) × (Nat → Int32)
/-- the lesser -/
def umi (x y : Int32) : Int32 := if x < y then x else y
/-- v becomes T, which has no v: T is seen by s -/
def ts_put (S : ts) (v : Nat) (T : ev) : ts := (S.1, (fun u => uap (uon v T) (S.2.1 u)), S.2.2.1, S.2.2.2.1, S.2.2.2.2)
/-- all in T is comparable -/
def ts_like (S : ts) (T : ev) : ts := (S.1, S.2.1, (fun u => S.2.2.1 u || uoc u T), S.2.2.2.1, S.2.2.2.2)
/-- all in T is no deeper than the level x -/
def ts_lev (S : ts) (x : Int32) (T : ev) : ts := (S.1, S.2.1, S.2.2.1, S.2.2.2.1, fun u => if uoc u T then umi x (S.2.2.2.2 u) else S.2.2.2.2 u)
/-- a new variable -/
def ts_new (S : ts) (x : Int32) (k : Bool) (c : Int32) : ts := (S.1 + 1, S.2.1, (fun u => if u = S.1 then k else S.2.2.1 u), (fun u => if u = S.1 then c else S.2.2.2.1 u), fun u => if u = S.1 then x else S.2.2.2.2 u)
/-- an error, or the state -/
abbrev te : Type := Int32 ⊕ ts
def te_b (x : te) (f : ts → te) : te := match x with | .inl e => .inl e | .inr S => f S
/-- all in T (seen) is made comparable -/
def tLike (S : ts) (T : ev) : te := if uhf T then .inl 5 else .inr (ts_like S T)
/-- the variable v becomes T (seen, not v) -/
def tBind (S : ts) (v : Nat) (T : ev) : te := if uoc v T then .inl 3 else (if S.2.2.1 v then tLike (ts_put (ts_lev S (S.2.2.2.2 v) T) v T) T else .inr (ts_put (ts_lev S (S.2.2.2.2 v) T) v T))
/-- a row's types by labels, its set of labels, its end (seen) -/
def ufl : ev → (Nat → Option ev) → Int32 → (Nat → Option ev) × Int32 × Option Nat
  | .add (.pow t l) r, f, b => ufl r (fun k => if k = l then some t else f k) (b ||| (1 <<< (nI l &&& 31)))
  | .var v, f, b => (f, b, some v)
  | _, f, b => (f, b, none)
/-- has(set, label) -/
def uhs (x : Int32) (l : Nat) : Bool := decide ((x >>> (nI l &&& 31)) &&& 1 ≠ 0)
/-- the cells of some labels below k, and a row behind them -/
def usome (f : Nat → Option ev) (x : Int32) (e : ev) : Nat → ev
  | 0 => e
  | k + 1 => match uhs x k, f k with
    | true, some t => usome f x (.add (.pow t k) e) k
    | _, _ => usome f x e k
/-- a row's variable ends: close -/
def tClose (S : ts) (v : Nat) (r : ev) : te := if uoc v (uap S.2.1 r) then .inl 3 else .inr (ts_put (ts_lev S (S.2.2.2.2 v) (uap S.2.1 r)) v (uap S.2.1 r))
/-- join: the ends e1, e2 (not the same variable), the own labels of each -/
def tJoin (S : ts) (f1 f2 : Nat → Option ev) (e1 e2 : Option Nat) (own its : Int32) : te :=
  let S0 := match e1, e2 with | some v, some w => ts_new S (umi (S.2.2.2.2 v) (S.2.2.2.2 w)) (S.2.2.1 v || S.2.2.1 w) (S.2.2.2.1 v ||| S.2.2.2.1 w) | _, _ => S
  let en := match e1, e2 with | some _, some _ => .var S.1 | _, _ => .natCast 0
  te_b (match e2 with | some w => tClose S0 w (usome f1 own en 10) | none => .inr S0) fun S1 =>
  te_b (match e1 with | some v => tClose S1 v (usome f2 its en 10) | none => .inr S1) fun S2 =>
  te_b (match e2 with | some w => if S2.2.2.1 w then tLike S2 (S2.2.1 w) else .inr S2 | none => .inr S2) fun S3 =>
  match e1 with | some v => if S3.2.2.1 v then tLike S3 (S3.2.1 v) else .inr S3 | none => .inr S3
/-- Option of te: none: too little fuel -/
def to_b (x : Option te) (f : ts → Option te) : Option te := match x with | some (.inr S) => f S | y => y
/-- the labels from 10 - k on, that both have -/
def tLabs (U : ts → ev → ev → Option te) (f1 f2 : Nat → Option ev) (b : Int32) : Nat → ts → Option te
  | 0, S => some (.inr S)
  | k + 1, S => if uhs b (9 - k) then (match f1 (9 - k), f2 (9 - k) with
    | some x, some y => to_b (U S x y) (tLabs U f1 f2 b k)
    | _, _ => none) else tLabs U f1 f2 b k S
/-- rows (seen) are made the same -/
def tRows (U : ts → ev → ev → Option te) (S : ts) (r1 r2 : ev) : Option te :=
  let F1 := ufl r1 (fun _ => none) 0
  let F2 := ufl r2 (fun _ => none) 0
  let own := F1.2.1 &&& (F2.2.1 ^^^ (-1))
  let its := F2.2.1 &&& (F1.2.1 ^^^ (-1))
  if ¬ ((own = 0 ∨ F2.2.2 ≠ none) ∧ (its = 0 ∨ F1.2.2 ≠ none)) then some (.inl 6)
  else if ¬ ((own = 0 ∨ ∀ w, F2.2.2 = some w → S.2.2.2.1 w &&& own = 0) ∧ (its = 0 ∨ ∀ v, F1.2.2 = some v → S.2.2.2.1 v &&& its = 0)) then some (.inl 4)
  else to_b (if F1.2.2 ≠ none ∧ F1.2.2 = F2.2.2 then (if (own ||| its) = 0 then some (.inr S) else some (.inl 3))
    else if F1.2.2 ≠ none ∨ F2.2.2 ≠ none then some (tJoin S F1.1 F2.1 F1.2.2 F2.2.2 own its) else some (.inr S))
    (tLabs U F1.1 F2.1 (F1.2.1 &&& F2.2.1) 10)
/-- types are made the same -/
def tU : Nat → ts → ev → ev → Option te
  | 0, _, _, _ => none
  | n + 1, S, x, y => match uap S.2.1 x, uap S.2.1 y with
    | .var v, .var w => if v = w then some (.inr S) else some (tBind S v (.var w))
    | .var v, T => some (tBind S v T)
    | T, .var w => some (tBind S w T)
    | .sub a b, .sub c d => to_b (tU n S a c) fun S1 => tU n S1 b d
    | .pow r k, .pow q j => if k = j then tRows (tU n) S r q else some (.inl 2)
    | .natCast _, .natCast _ => some (.inr S)
    | _, _ => some (.inl 2)
theorem tU_cg {n : Nat} {S : ts} {x x' y y' : ev} (h1 : uap S.2.1 x = uap S.2.1 x') (h2 : uap S.2.1 y = uap S.2.1 y') : tU n S x y = tU n S x' y' := by
  cases n with
  | zero => rfl
  | succ n => unfold tU; rw [h1, h2]
/-- later states see through earlier ones -/
def ts_le (S S' : ts) : Prop := ∀ t, uap S'.2.1 (uap S.2.1 t) = uap S'.2.1 t
theorem ts_le.trans {S1 S2 S3 : ts} (h1 : ts_le S1 S2) (h2 : ts_le S2 S3) : ts_le S1 S3 := fun t => by
  rw [← h2 (uap S1.2.1 t), h1 t, h2 t]
/-- what is put has been seen through, its cells are in order -/
def ts_ok (S : ts) : Prop := (∀ v, ucan (S.2.1 v)) ∧ ∀ v u, uoc u (S.2.1 v) = true → S.2.1 u = .var u
theorem ts_ok.le {S : ts} (h : ts_ok S) : ts_le S S := fun t => by
  rw [uap_ap]
  exact uap_ext (fun v _ => uap_id (h.1 v) (h.2 v))
theorem ts_ok.can {S : ts} (h : ts_ok S) (t : ev) : ucan (uap S.2.1 t) := ucan_ap h.1 t
theorem ts_put_le {S : ts} {v : Nat} {T : ev} (h : ts_ok S) : ts_le S (ts_put S v T) := fun t => by
  show uap (fun u => uap (uon v T) (S.2.1 u)) (uap S.2.1 t) = uap (fun u => uap (uon v T) (S.2.1 u)) t
  rw [← uap_ap, h.le t, uap_ap]
