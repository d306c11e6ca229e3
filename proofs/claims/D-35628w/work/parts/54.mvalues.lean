/-! ===== the model's values; record, areSame ===== -/
set_option maxRecDepth 100000
abbrev mw_E (k v : Int32) (ps pt ar : Option Nat) : va_E := .inr (32, [.int k, .int v, va_rf ps, va_rf pt, va_rf ar])
abbrev mv_A (Z : mm_G) (f : Nat → Option Nat) : va_E := .inl (Z.2.1 9, 10, .inr (.inr (.inr (.inr f))))
/-- the model's values (mode 0, at o), names (mode 1, at o), a record's cells from place i on (mode i + 2, in f) -/
def mr (Z : mm_G) (M : mm_M) (T : List pt_R) : ev → Nat → (Nat → Option Nat) → Option Nat → Prop
  | .natCast n, 0, _, o => ∃ a : Nat, o = some a ∧ M a = some (mw_E 1 (nI n) none none none)
  | .sub (.natCast k) e, 0, _, o => ∃ (a : Nat) (r : pt_R) (sc : Option Nat), o = some a ∧ T[k]? = some r ∧ r.1 = 2 ∧ M a = some (mw_E 2 (nI k) none none sc) ∧ mr Z M T e 1 (fun _ => none) sc
  | .pow v l, 0, _, o => ∃ a b : Nat, o = some a ∧ M a = some (mw_E 4 (nI l) none (some b) none) ∧ mr Z M T v 0 (fun _ => none) (some b) ∧ l ≤ 9
  | .add x r, 0, _, o => ∃ (a q : Nat) (f : Nat → Option Nat), o = some a ∧ M a = some (mw_E 3 0 (some q) none none) ∧ M q = some (mv_A Z f) ∧ ((ev_abs x = true ∧ f 0 = none) ∨ (ev_abs x = false ∧ mr Z M T x 0 (fun _ => none) (f 0))) ∧ mr Z M T r 3 f none
  | .var _, 1, _, o => o = none
  | .add (.pow v n) e, 1, _, o => ∃ (a b : Nat) (nx : Option Nat), o = some a ∧ M a = some (.inr (33, [.int (nI n), .ref b, .int (-1), va_rf nx])) ∧ mr Z M T v 0 (fun _ => none) (some b) ∧ mr Z M T e 1 (fun _ => none) nx
  | .add (.sub (.natCast t) (.natCast n)) e, 1, _, o => ∃ (a : Nat) (nx : Option Nat), o = some a ∧ M a = some (.inr (33, [.int (nI n), .null, .int (nI t), va_rf nx])) ∧ mr Z M T e 1 (fun _ => none) nx
  | .add x r, i + 2, f, _ => ((ev_abs x = true ∧ f i = none) ∨ (ev_abs x = false ∧ mr Z M T x 0 (fun _ => none) (f i))) ∧ mr Z M T r (i + 3) f none
  | .var _, i + 2, _, _ => i = 10
  | _, _, _, _ => False
/-- all stays but what p is -/
theorem mm_Exp.atM {p : Nat} {M M' : mm_M} {a ci : Nat} {fs gs : List Value} (h : mm_Exp p M M') (hp : M p = some (.inr (1, gs))) (ha : M a = some (.inr (ci, fs))) (hc : ci ≠ 1) : M' a = some (.inr (ci, fs)) := by
  rw [h a (by rw [ha]; exact fun h9 => by cases h9) (mm_neC ha hp hc)]; exact ha
theorem mm_Exp.atMA {p : Nat} {M M' : mm_M} {a : Nat} {x : ClassId × vp_A} {gs : List Value} (h : mm_Exp p M M') (hp : M p = some (.inr (1, gs))) (ha : M a = some (.inl x)) : M' a = some (.inl x) := by
  rw [h a (by rw [ha]; exact fun h9 => by cases h9) (mm_neA ha hp)]; exact ha
/-- all objects but the model's, and all arrays, stay -/
def mm_Km (M M' : mm_M) : Prop := (∀ (a ci : Nat) (fs : List Value), M a = some (.inr (ci, fs)) → ci ≠ 1 → M' a = some (.inr (ci, fs))) ∧ ∀ (a : Nat) (x : ClassId × vp_A), M a = some (.inl x) → M' a = some (.inl x)
theorem mm_Exp.Km {M M' : mm_M} {p : Nat} {gs : List Value} (h : mm_Exp p M M') (hp : M p = some (.inr (1, gs))) : mm_Km M M' := ⟨fun _ _ _ h1 h2 => h.atM hp h1 h2, fun _ _ h1 => h.atMA hp h1⟩
theorem mm_Ext.Km {M M' : mm_M} (h : mm_Ext M M') : mm_Km M M' := ⟨fun _ _ _ h1 _ => h.at h1, fun _ _ h1 => h.at h1⟩
theorem mm_Km.rf (M : mm_M) : mm_Km M M := ⟨fun _ _ _ h _ => h, fun _ _ h => h⟩
theorem mm_Km.trans {M N O : mm_M} (h1 : mm_Km M N) (h2 : mm_Km N O) : mm_Km M O := ⟨fun a ci fs h hc => h2.1 a ci fs (h1.1 a ci fs h hc) hc, fun a x h => h2.2 a x (h1.2 a x h)⟩
theorem mm_Km.mdA {Z : mm_G} {M M' : mm_M} {kd wh f1 f2 f3 wg pl : Nat} {T : List pt_R} (h : mm_Km M M') (hA : md_A Z M kd wh f1 f2 f3 wg pl T) : md_A Z M' kd wh f1 f2 f3 wg pl T := by
  obtain ⟨nd, hl, ⟨gp, hp⟩, g0, g1, g2, g3, g4, g5, e0, e1, e2, e3, e4, e5, hg⟩ := hA
  exact ⟨nd, hl, ⟨gp, h.2 _ _ hp⟩, g0, g1, g2, g3, g4, g5, h.2 _ _ e0, h.2 _ _ e1, h.2 _ _ e2, h.2 _ _ e3, h.2 _ _ e4, h.2 _ _ e5, hg⟩
theorem mr.mono {Z : mm_G} {M M' : mm_M} {T : List pt_R} (h : mm_Km M M') (v : ev) (i : Nat) (f : Nat → Option Nat) (o : Option Nat) (h9 : mr Z M T v i f o) : mr Z M' T v i f o := by
  unfold mr at h9
  split at h9
  · obtain ⟨a, h1, h2⟩ := h9; simp only [mr]; exact ⟨a, h1, h.1 _ _ _ h2 (by decide)⟩
  · rename_i k e
    obtain ⟨a, r, sc, h1, h2, h3, h5, h6⟩ := h9; simp only [mr]; exact ⟨a, r, sc, h1, h2, h3, h.1 _ _ _ h5 (by decide), mr.mono h e 1 _ _ h6⟩
  · rename_i v l
    obtain ⟨a, b, h1, h2, h3, h4⟩ := h9; simp only [mr]; exact ⟨a, b, h1, h.1 _ _ _ h2 (by decide), mr.mono h v 0 _ _ h3, h4⟩
  · rename_i x r
    obtain ⟨a, q, f, h1, h2, h3, h4, h5⟩ := h9; simp only [mr]; exact ⟨a, q, f, h1, h.1 _ _ _ h2 (by decide), h.2 _ _ h3, h4.imp id (fun h6 => ⟨h6.1, mr.mono h x 0 _ _ h6.2⟩), mr.mono h r 3 _ _ h5⟩
  · simp only [mr]; exact h9
  · rename_i v n e
    obtain ⟨a, b, nx, h1, h2, h3, h4⟩ := h9; simp only [mr]; exact ⟨a, b, nx, h1, h.1 _ _ _ h2 (by decide), mr.mono h v 0 _ _ h3, mr.mono h e 1 _ _ h4⟩
  · rename_i t n e
    obtain ⟨a, nx, h1, h3, h4⟩ := h9; simp only [mr]; exact ⟨a, nx, h1, h.1 _ _ _ h3 (by decide), mr.mono h e 1 _ _ h4⟩
  · rename_i x r i
    obtain ⟨h4, h5⟩ := h9; simp only [mr]; exact ⟨h4.imp id (fun h6 => ⟨h6.1, mr.mono h x 0 _ _ h6.2⟩), mr.mono h r (i + 3) _ _ h5⟩
  · simp only [mr]; exact h9
  · exact h9.elim
termination_by SizeOf.sizeOf v
decreasing_by all_goals (subst_vars; simp_all; try omega)
/-- a value of the model's -/
def mm_isW (M : mm_M) (y : Nat) : Prop := ∃ (fs : List Value), M y = some (.inr (32, fs))
theorem mr.isW {Z : mm_G} {M : mm_M} {T : List pt_R} {v : ev} {f : Nat → Option Nat} {o : Option Nat} (h : mr Z M T v 0 f o) : ∃ a, o = some a ∧ mm_isW M a := by
  unfold mr at h
  split at h
  · obtain ⟨a, h1, h2⟩ := h; exact ⟨a, h1, _, h2⟩
  · obtain ⟨a, r, sc, h1, h2, h3, h5, h6⟩ := h; exact ⟨a, h1, _, h5⟩
  · obtain ⟨a, b, h1, h2, h3⟩ := h; exact ⟨a, h1, _, h2⟩
  · obtain ⟨a, q, f, h1, h2, h3, h4, h5⟩ := h; exact ⟨a, h1, _, h2⟩
  all_goals (first | exact h.elim | (rename_i h9; exact absurd h9 (by decide)) | simp_all)
def mr_x (Z : mm_G) (M : mm_M) (T : List pt_R) (x : ev) (o : Option Nat) : Prop := (ev_abs x = true ∧ o = none) ∨ (ev_abs x = false ∧ mr Z M T x 0 (fun _ => none) o)
theorem mr_rec {Z : mm_G} {M : mm_M} {T : List pt_R} {x r : ev} {f0 : Nat → Option Nat} {o : Option Nat} : mr Z M T (.add x r) 0 f0 o ↔ ∃ (a q : Nat) (f : Nat → Option Nat), o = some a ∧ M a = some (mw_E 3 0 (some q) none none) ∧ M q = some (mv_A Z f) ∧ mr Z M T (.add x r) 2 f none := by simp only [mr]
theorem mr_add {Z : mm_G} {M : mm_M} {T : List pt_R} {x r : ev} {i : Nat} {f : Nat → Option Nat} : mr Z M T (.add x r) (i + 2) f none ↔ mr_x Z M T x (f i) ∧ mr Z M T r (i + 3) f none := by simp only [mr, mr_x]
theorem mr_key {Z : mm_G} {M : mm_M} {T : List pt_R} {f : Nat → Option Nat} : ∀ (r : ev) (i : Nat), mr Z M T r (i + 2) f none → i ≤ 10 ∧ (∀ x s, r = .add x s → i < 10) ∧ (i < 10 → ∃ x s, r = .add x s) := by
  intro r
  induction r with
  | add x s _ ih =>
    intro i h
    obtain ⟨-, h2⟩ := mr_add.1 h
    have h3 := (ih (i + 1) h2).1
    exact ⟨by omega, fun _ _ _ => by omega, fun _ => ⟨_, _, rfl⟩⟩
  | var k => intro i h; simp only [mr] at h; exact ⟨by omega, (fun _ _ h9 => by cases h9), fun h9 => by omega⟩
  | _ => intro i h; simp [mr] at h
theorem mr_get {Z : mm_G} {M : mm_M} {T : List pt_R} {f : Nat → Option Nat} (r : ev) (i j : Nat) (x : ev) : mr Z M T r (i + 2) f none → rc_get r j = some x → mr_x Z M T x (f (i + j)) ∧ i + j < 10 := by
  induction j generalizing r i with
  | zero =>
    intro h hg
    cases r with
    | add y s => simp only [rc_get, Option.some.injEq] at hg; subst hg; exact ⟨(mr_add.1 h).1, (mr_key _ _ h).2.1 _ _ rfl⟩
    | _ => simp [rc_get] at hg
  | succ j ih =>
    intro h hg
    cases r with
    | add y s =>
      simp only [rc_get] at hg
      have h3 := ih s (i + 1) (mr_add.1 h).2 hg
      rw [show i + 1 + j = i + (j + 1) by omega] at h3
      exact h3
    | _ => simp [rc_get] at hg
theorem mr_congr {Z : mm_G} {M : mm_M} {T : List pt_R} {f g : Nat → Option Nat} : ∀ (r : ev) (i : Nat), (∀ k, i ≤ k → k < 10 → g k = f k) → mr Z M T r (i + 2) f none → mr Z M T r (i + 2) g none := by
  intro r
  induction r with
  | add x s _ ih =>
    intro i hk h
    have h0 := (mr_key _ _ h).2.1 _ _ rfl
    obtain ⟨h1, h2⟩ := mr_add.1 h
    exact mr_add.2 ⟨by rw [hk i (Nat.le_refl _) h0]; exact h1, ih (i + 1) (fun k h3 h4 => hk k (by omega) h4) h2⟩
  | var k => intro i _ h; simp only [mr] at h ⊢; exact h
  | _ => intro i _ h; simp [mr] at h
theorem mr_set {Z : mm_G} {M : mm_M} {T : List pt_R} {f : Nat → Option Nat} {y : ev} {o : Option Nat} (hy : mr_x Z M T y o) (r : ev) (i j : Nat) (r' : ev) : mr Z M T r (i + 2) f none → rc_set r j y = some r' → mr Z M T r' (i + 2) (fun k => if k = i + j then o else f k) none ∧ i + j < 10 := by
  induction j generalizing r r' i with
  | zero =>
    intro h hg
    cases r with
    | add x s =>
      simp only [rc_set, Option.some.injEq] at hg; subst hg
      have h0 := (mr_key _ _ h).2.1 _ _ rfl
      exact ⟨mr_add.2 ⟨by simp; exact hy, mr_congr s (i + 1) (fun k h3 h4 => by have h9 : k ≠ i := (by omega); simp [h9]) (mr_add.1 h).2⟩, h0⟩
    | _ => simp [rc_set] at hg
  | succ j ih =>
    intro h hg
    cases r with
    | add x s =>
      simp only [rc_set, Option.map_eq_some_iff] at hg
      obtain ⟨s', hs, rfl⟩ := hg
      obtain ⟨h3, h4⟩ := ih s (i + 1) s' (mr_add.1 h).2 hs
      have h5 : i ≠ i + (j + 1) := by omega
      rw [show i + 1 + j = i + (j + 1) by omega] at h3
      exact ⟨mr_add.2 ⟨by simp only [h5, if_false]; exact (mr_add.1 h).1, h3⟩, by omega⟩
    | _ => simp [rc_set] at hg
theorem mr_isW {Z : mm_G} {M : mm_M} {T : List pt_R} {r : ev} {f : Nat → Option Nat} (h : mr Z M T r 2 f none) : ∀ i y : Nat, i < 10 → f i = some y → mm_isW M y := by
  have key : ∀ (r : ev) (k : Nat), mr Z M T r (k + 2) f none → ∀ i y : Nat, k ≤ i → i < 10 → f i = some y → mm_isW M y := by
    intro r
    induction r with
    | add x s _ ih =>
      intro k h i y h1 h2 h3
      obtain ⟨h4, h5⟩ := mr_add.1 h
      by_cases hk : i = k
      · subst hk
        rcases h4 with ⟨-, h6⟩ | ⟨-, h6⟩
        · rw [h6] at h3; cases h3
        · obtain ⟨a, h7, h8⟩ := h6.isW
          rw [h3] at h7; cases h7; exact h8
      · exact ih (k + 1) h5 i y (by omega) h2 h3
    | var n => intro k h i y h1 h2; simp only [mr] at h; omega
    | _ => intro k h; simp [mr] at h
  exact fun i y => key r 0 h i y (Nat.zero_le _)
section MVW
variable {p : Program} {l : Launch} {e : Env} {R : Room} {s : State} {m : MethodId} {args : Array Value} {below : List Frame} {meth : Method} {c : Code} {H : Heap} {locs : List Loc} {cells slots : Nat} {Q : State → Prop}
variable {cc : ByteArray} {pc : Nat} {ls : Array Slot} {rest : List Value} {A : Nat → Prop} {a : Nat} {M : mm_M} {H0 : Heap} {Z : mm_G}
theorem mm_aastW (hexec : p.tables.exec = Jvm.exec) (hb : c.code = cc) (hE : mm_E Z s) (hM : mm_P Z.1 mm_cl A M H) (hS : va_S A H0 H locs) {n : Nat} {r : Option Nat} {f : Nat → Option Nat} (ha : M a = some (.inl (Z.2.1 9, n, .inr (.inr (.inr (.inr f)))))) (hr : ∀ v, r = some v → mm_isW M v) {i : Int32} {k : Nat} (hi : i = nI k) (hk : k < n) (hn : n < 2 ^ 31) (hdg : decode cc pc = .ok (.aastore, 1))
    (kk : ∀ (H1 : Heap) (locs1 : List Loc), mm_P Z.1 mm_cl A (mm_U M a (.inl (Z.2.1 9, n, .inr (.inr (.inr (.inr (va_up f k r))))))) H1 → va_S A H0 H1 locs1 → W p l e R s m args below meth c H1 locs1 cells slots Q (F0 m (pc + 1) ls rest)) : W p l e R s m args below meth c H locs cells slots Q (F0 m pc ls (va_rf r :: .int i :: .ref a :: rest)) := by
  cases r with
  | none =>
    obtain ⟨h1, h2⟩ := mm_ix hi hk hn
    rw [← h2] at kk
    exact mm_astqN hexec hb hE.1 hM hS 9 ha rfl h1 hdg kk
  | some v =>
    obtain ⟨fs, hv⟩ := hr v rfl
    exact mm_aastT hexec hb hE hM hS 9 32 ha rfl hv mm_cX38 hi hk hn hdg kk
/-- several ways come together, a thing on top -/
theorem mm_cutO {g : JFrame} {o0 : Option Nat} {pc2 : Nat} (k : (∀ (H : Heap) (locs : List Loc) (o : Option Nat), mm_P Z.1 mm_cl A M H → va_S A H0 H locs → o = o0 → W p l e R s m args below meth c H locs cells slots Q (F0 m pc2 ls (va_rf o :: rest))) → W p l e R s m args below meth c H locs cells slots Q g)
    (main : ∀ (H : Heap) (locs : List Loc), mm_P Z.1 mm_cl A M H → va_S A H0 H locs → W p l e R s m args below meth c H locs cells slots Q (F0 m pc2 ls (va_rf o0 :: rest))) (_hM : mm_P Z.1 mm_cl A M H) (_hS : va_S A H0 H locs) : W p l e R s m args below meth c H locs cells slots Q g :=
  k (fun H locs o hM hS ho => by rw [ho]; exact main H locs hM hS)
end MVW

