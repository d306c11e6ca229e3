/-! ===== plain evaluation, purely; how values and names lie in memory (component) ===== -/
set_option maxRecDepth 100000
/-- a universal tree. VALUES: natCast n an amount, sub k e the function of term k with the names e, pow v l a choice, a record: add x0 (.. (add x9 (var 0))), x = var 1 where nothing is.
NAMES: var 0 none; add (pow v n) e a value, add (sub t n) e a term that is done again -/
abbrev ev : Type := Lean.Grind.CommRing.Expr
/-- nothing here -/
def ev_abs : ev → Bool
  | .var _ => true
  | _ => false
def nN (x : Int32) : Nat := x.toUInt32.toNat
theorem nI_nN (x : Int32) : nI (nN x) = x := by
  apply Int32.toBitVec_inj.1
  simp [nI, nN, Int32.ofNat]
/-- Option of Option: none stuck, some none too many steps -/
abbrev pr (α : Type) : Type := Option (Option (α × Nat))
def pb {α β : Type} (x : pr α) (f : α → Nat → pr β) : pr β := match x with
  | some (some (v, c)) => f v c
  | some none => some none
  | none => none
def ev_look (nm : Int32) : ev → Option ev
  | .add (.pow v n) e => if nI n = nm then some (.add (.pow v n) e) else ev_look nm e
  | .add (.sub (.natCast t) (.natCast n)) e => if nI n = nm then some (.add (.sub (.natCast t) (.natCast n)) e) else ev_look nm e
  | _ => none
def rc_get : ev → Nat → Option ev
  | .add x _, 0 => some x
  | .add _ r, i + 1 => rc_get r i
  | _, _ => none
def rc_set : ev → Nat → ev → Option ev
  | .add _ r, 0, y => some (.add y r)
  | .add x r, i + 1, y => (rc_set r i y).map (.add x)
  | _, _, _ => none
def rc_nil : ev := .add (.var 1) (.add (.var 1) (.add (.var 1) (.add (.var 1) (.add (.var 1) (.add (.var 1) (.add (.var 1) (.add (.var 1) (.add (.var 1) (.add (.var 1) (.var 0))))))))))
def ev_case (T : List pt_R) (l : Nat) : Nat → Nat → Option Nat
  | 0, _ => none
  | f + 1, t => match T[t]? with
    | none => none
    | some r => if r.1 = 17 ∧ r.2.1 ≠ nI l then (match r.2.2.2.1[1]? with | some j => ev_case T l f j | none => none) else some t
/-- equality, by steps; the second mode goes through records -/
def pe_same : ev → Bool → ev → Nat → pr Bool
  | x, false, y, c => if c = 1000 then some none else (match x, y with
    | .natCast a, .natCast b => some (some (decide (nI b = nI a), c + 1))
    | .pow u l, .pow u' l' => if nI l' = nI l then pe_same u false u' (c + 1) else some (some (false, c + 1))
    | .add x0 r, .add y0 s => if ev_abs x0 then pe_same r true s (c + 1) else if ev_abs y0 then none else pb (pe_same x0 false y0 (c + 1)) fun b c' => if b then pe_same r true s c' else some (some (false, c'))
    | _, _ => none)
  | .add x r, true, .add y s, c => if ev_abs x then pe_same r true s c else if ev_abs y then none else pb (pe_same x false y c) fun b c' => if b then pe_same r true s c' else some (some (false, c'))
  | .var _, true, .var _, c => some (some (true, c))
  | _, true, _, _ => none
/-- part i -/
def at_s (ps : List Nat) (i : Nat) (f : Nat → pr ev) : pr ev := match ps[i]? with | some j => f j | none => none
/-- what follows a function's application: its body within its names and the argument -/
def pe_app (T : List pt_R) (rec : Nat → ev → Nat → pr ev) (f : ev) (g : Nat → pr ev) : Nat → pr ev := fun c2 => match f with
  | .sub (.natCast t') e' => (match T[t']? with
    | some r' => at_s r'.2.2.2.1 0 fun j' => pb (g c2) fun v c3 => rec j' (.add (.pow v (nN r'.2.1)) e') c3
    | none => none)
  | _ => none
/-- the case of a choice, within its names -/
def pe_cas (T : List pt_R) (rec : Nat → ev → Nat → pr ev) (w e : ev) (j : Nat) : Nat → pr ev := fun c2 => match w with
  | .pow u l => (match ev_case T l 121 j with
    | some t' => (match T[t']? with
      | some r' => at_s r'.2.2.2.1 0 fun j' => if r'.1 = 16 then rec j' (.add (.pow (.pow u l) (nN r'.2.1)) e) c2 else rec j' (.add (.pow u (nN r'.2.2.1)) e) c2
      | none => none)
    | none => none)
  | _ => none
/-- one step of plain evaluation: term t is r; c: the steps done, this one too -/
def pe_step (T : List pt_R) (rec : Nat → ev → Nat → pr ev) (t : Nat) (r : pt_R) (e : ev) (c : Nat) : pr ev :=
  if r.1 = 0 then some (some (.natCast (nN r.2.1), c))
  else if r.1 = 1 then (match ev_look r.2.1 e with
    | some (.add (.pow v _) _) => some (some (v, c))
    | some (.add (.sub (.natCast t') (.natCast n)) e') => rec t' (.add (.sub (.natCast t') (.natCast n)) e') c
    | _ => none)
  else if r.1 = 2 then at_s r.2.2.2.1 0 fun _ => some (some (.sub (.natCast t) e, c))
  else if r.1 = 3 then pb (at_s r.2.2.2.1 0 fun j => rec j e c) fun f c2 => pe_app T rec f (fun c2 => at_s r.2.2.2.1 1 fun j => rec j e c2) c2
  else if r.1 = 4 then pb (at_s r.2.2.2.1 0 fun j => rec j e c) fun v c2 => at_s r.2.2.2.1 1 fun j => rec j (.add (.pow v (nN r.2.1)) e) c2
  else if r.1 = 5 then pb (at_s r.2.2.2.1 0 fun j => rec j (.add (.sub (.natCast j) (.natCast (nN r.2.1))) e) c) fun v c2 => at_s r.2.2.2.1 1 fun j => rec j (.add (.pow v (nN r.2.1)) e) c2
  else if r.1 = 6 then some (some (rc_nil, c))
  else if r.1 = 7 then pb (at_s r.2.2.2.1 0 fun j => rec j e c) fun v c2 => pb (at_s r.2.2.2.1 1 fun j => rec j e c2) fun w c3 => match rc_set w (nN r.2.1) v with
    | some w' => some (some (w', c3))
    | none => none
  else if r.1 = 8 then pb (at_s r.2.2.2.1 0 fun j => rec j e c) fun w c2 => match rc_get w (nN r.2.1) with
    | some v => if ev_abs v then none else some (some (v, c2))
    | none => none
  else if r.1 = 9 then pb (at_s r.2.2.2.1 0 fun j => rec j e c) fun w c2 => match rc_set w (nN r.2.1) (.var 1) with
    | some w' => some (some (w', c2))
    | none => none
  else if r.1 = 10 then pb (at_s r.2.2.2.1 0 fun j => rec j e c) fun v c2 => some (some (.pow v (nN r.2.1), c2))
  else if r.1 = 11 then pb (at_s r.2.2.2.1 0 fun j => rec j e c) fun w c2 => at_s r.2.2.2.1 1 fun j => pe_cas T rec w e j c2
  else if r.1 = 12 then pb (at_s r.2.2.2.1 0 fun j => rec j e c) fun w c2 => match w with
    | .natCast n => if nI n = 0 then at_s r.2.2.2.1 2 fun j => rec j e c2 else at_s r.2.2.2.1 1 fun j => rec j e c2
    | _ => none
  else if r.1 = 13 then pb (at_s r.2.2.2.1 0 fun j => rec j e c) fun v c2 => match v with
    | .natCast a => pb (at_s r.2.2.2.1 1 fun j => rec j e c2) fun w c3 => (match w with
      | .natCast b => some (some (.natCast (a + b), c3))
      | _ => none)
    | _ => none
  else if r.1 = 14 then pb (at_s r.2.2.2.1 0 fun j => rec j e c) fun v c2 => pb (at_s r.2.2.2.1 1 fun j => rec j e c2) fun w c3 => pb (pe_same v false w c3) fun b c4 => some (some (.natCast (if b then 1 else 0), c4))
  else none
/-- plain evaluation of term t within e, c steps done -/
def pe (T : List pt_R) : Nat → Nat → ev → Nat → pr ev
  | 0, _, _, _ => none
  | k + 1, t, e, c => if c = 1000 then some none else match T[t]? with
    | none => none
    | some r => pe_step T (pe T k) t r e (c + 1)
abbrev cp_E (n : Nat) : va_E := .inr (25, [.int (nI n)])
abbrev cv_A (Z : mm_G) (f : Nat → Option Nat) : va_E := .inl (Z.2.1 6, 10, .inr (.inr (.inr (.inr f))))
/-- the component's values (mode 0, at o), names (mode 1, at o), a record's cells from place i on (mode i + 2, in f) -/
def cr (Z : mm_G) (M : mm_M) (ad : List Nat) (T : List pt_R) : ev → Nat → (Nat → Option Nat) → Option Nat → Prop
  | .natCast n, 0, _, o => ∃ a : Nat, o = some a ∧ M a = some (.inr (27, [.int (nI n)]))
  | .sub (.natCast k) e, 0, _, o => ∃ (a : Nat) (r : pt_R) (j b : Nat) (sc : Option Nat), o = some a ∧ T[k]? = some r ∧ r.2.2.2.1[0]? = some j ∧ ad[j]? = some b ∧ M a = some (.inr (28, [.int r.2.1, .ref b, va_rf sc])) ∧ cr Z M ad T e 1 (fun _ => none) sc
  | .pow v l, 0, _, o => ∃ a b : Nat, o = some a ∧ M a = some (.inr (31, [.int (nI l), .ref b])) ∧ cr Z M ad T v 0 (fun _ => none) (some b)
  | .add x r, 0, _, o => ∃ (a q : Nat) (f : Nat → Option Nat), o = some a ∧ M a = some (.inr (30, [.ref q])) ∧ M q = some (cv_A Z f) ∧ ((ev_abs x = true ∧ f 0 = none) ∨ (ev_abs x = false ∧ cr Z M ad T x 0 (fun _ => none) (f 0))) ∧ cr Z M ad T r 3 f none
  | .var _, 1, _, o => o = none
  | .add (.pow v n) e, 1, _, o => ∃ (a b : Nat) (nx : Option Nat), o = some a ∧ M a = some (.inr (29, [.int (nI n), .ref b, .null, va_rf nx])) ∧ cr Z M ad T v 0 (fun _ => none) (some b) ∧ cr Z M ad T e 1 (fun _ => none) nx
  | .add (.sub (.natCast t) (.natCast n)) e, 1, _, o => ∃ (a b : Nat) (nx : Option Nat), o = some a ∧ ad[t]? = some b ∧ M a = some (.inr (29, [.int (nI n), .null, .ref b, va_rf nx])) ∧ cr Z M ad T e 1 (fun _ => none) nx
  | .add x r, i + 2, f, _ => ((ev_abs x = true ∧ f i = none) ∨ (ev_abs x = false ∧ cr Z M ad T x 0 (fun _ => none) (f i))) ∧ cr Z M ad T r (i + 3) f none
  | .var _, i + 2, _, _ => i = 10
  | _, _, _, _ => False
/-- all stays but the cell p -/
def mm_Exp (p : Nat) (M M' : mm_M) : Prop := ∀ q : Nat, M q ≠ none → q ≠ p → M' q = M q
theorem mm_Exp.at {p : Nat} {M M' : mm_M} {a ci : Nat} {fs : List Value} {n : Nat} (h : mm_Exp p M M') (hp : M p = some (cp_E n)) (ha : M a = some (.inr (ci, fs))) (hc : ci ≠ 25) : M' a = some (.inr (ci, fs)) := by
  rw [h a (by rw [ha]; exact fun h9 => by cases h9) (mm_neC ha hp hc)]; exact ha
theorem mm_Exp.atA {p : Nat} {M M' : mm_M} {a : Nat} {x : ClassId × vp_A} {n : Nat} (h : mm_Exp p M M') (hp : M p = some (cp_E n)) (ha : M a = some (.inl x)) : M' a = some (.inl x) := by
  rw [h a (by rw [ha]; exact fun h9 => by cases h9) (mm_neA ha hp)]; exact ha
/-- all objects but Plains, and all arrays, stay -/
def mm_zs : List Value := [.int 0, .null, .null, .null]
def mm_Kp (M M' : mm_M) : Prop := (∀ (a ci : Nat) (fs : List Value), M a = some (.inr (ci, fs)) → ci ≠ 25 ∧ fs ≠ mm_zs → M' a = some (.inr (ci, fs))) ∧ ∀ (a : Nat) (x : ClassId × vp_A), M a = some (.inl x) → M' a = some (.inl x)
theorem mm_Exp.K {M M' : mm_M} {p n0 : Nat} (h : mm_Exp p M M') (hp : M p = some (cp_E n0)) : mm_Kp M M' := ⟨fun _ _ _ h1 h2 => h.at hp h1 h2.1, fun _ _ h1 => h.atA hp h1⟩
theorem mm_Ext.K {M M' : mm_M} (h : mm_Ext M M') : mm_Kp M M' := ⟨fun _ _ _ h1 _ => h.at h1, fun _ _ h1 => h.at h1⟩
theorem mm_Kp.trans {M N O : mm_M} (h1 : mm_Kp M N) (h2 : mm_Kp N O) : mm_Kp M O := ⟨fun a ci fs h hc => h2.1 a ci fs (h1.1 a ci fs h hc) hc, fun a x h => h2.2 a x (h1.2 a x h)⟩
theorem mm_Kp.ct {Z : mm_G} {M M' : mm_M} {ad : List Nat} {F : Nat → Option Nat} {T : List pt_R} (h : mm_Kp M M') (hT : ct_T Z M ad F T) : ct_T Z M' ad F T := hT.ext (fun q hq => by rcases hq with ⟨_, _, _, _, hq⟩ | ⟨_, _, hq⟩; rw [hq]; exact h.1 _ _ _ hq ⟨by decide, by simp [mm_zs]⟩; rw [hq]; exact h.2 _ _ hq)
theorem cr.mono {Z : mm_G} {M M' : mm_M} {ad : List Nat} {T : List pt_R} (h : mm_Kp M M') (v : ev) (i : Nat) (f : Nat → Option Nat) (o : Option Nat) (h9 : cr Z M ad T v i f o) : cr Z M' ad T v i f o := by
  unfold cr at h9
  split at h9
  · obtain ⟨a, h1, h2⟩ := h9; simp only [cr]; exact ⟨a, h1, h.1 _ _ _ h2 ⟨by decide, by simp [mm_zs]⟩⟩
  · rename_i k e
    obtain ⟨a, r, j, b, sc, h1, h2, h3, h4, h5, h6⟩ := h9; simp only [cr]; exact ⟨a, r, j, b, sc, h1, h2, h3, h4, h.1 _ _ _ h5 ⟨by decide, by simp [mm_zs]⟩, cr.mono h e 1 _ _ h6⟩
  · rename_i v l
    obtain ⟨a, b, h1, h2, h3⟩ := h9; simp only [cr]; exact ⟨a, b, h1, h.1 _ _ _ h2 ⟨by decide, by simp [mm_zs]⟩, cr.mono h v 0 _ _ h3⟩
  · rename_i x r
    obtain ⟨a, q, f, h1, h2, h3, h4, h5⟩ := h9; simp only [cr]; exact ⟨a, q, f, h1, h.1 _ _ _ h2 ⟨by decide, by simp [mm_zs]⟩, h.2 _ _ h3, h4.imp id (fun h6 => ⟨h6.1, cr.mono h x 0 _ _ h6.2⟩), cr.mono h r 3 _ _ h5⟩
  · simp only [cr]; exact h9
  · rename_i v n e
    obtain ⟨a, b, nx, h1, h2, h3, h4⟩ := h9; simp only [cr]; exact ⟨a, b, nx, h1, h.1 _ _ _ h2 ⟨by decide, by simp [mm_zs]⟩, cr.mono h v 0 _ _ h3, cr.mono h e 1 _ _ h4⟩
  · rename_i t n e
    obtain ⟨a, b, nx, h1, h2, h3, h4⟩ := h9; simp only [cr]; exact ⟨a, b, nx, h1, h2, h.1 _ _ _ h3 ⟨by decide, by simp [mm_zs]⟩, cr.mono h e 1 _ _ h4⟩
  · rename_i x r i
    obtain ⟨h4, h5⟩ := h9; simp only [cr]; exact ⟨h4.imp id (fun h6 => ⟨h6.1, cr.mono h x 0 _ _ h6.2⟩), cr.mono h r (i + 3) _ _ h5⟩
  · simp only [cr]; exact h9
  · exact h9.elim
termination_by SizeOf.sizeOf v
decreasing_by all_goals (subst_vars; simp_all; try omega)

