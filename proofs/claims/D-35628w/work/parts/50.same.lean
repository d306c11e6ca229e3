/-! ===== equality of values, purely ===== -/
set_option maxRecDepth 100000
def pe_seq : List (ev × ev) → Nat → pr Bool
  | [], c => some (some (true, c))
  | (x, y) :: ps, c => if ev_abs y then none else pb (pe_same x false y c) fun b c' => if b then pe_seq ps c' else some (some (false, c'))
def rc_ps : ev → ev → List (ev × ev)
  | .add x r, .add y s => if ev_abs x then rc_ps r s else (x, y) :: rc_ps r s
  | _, _ => []
theorem pb_some {α β : Type} {x : pr α} {f : α → Nat → pr β} {res : Option (β × Nat)} (h : pb x f = some res) : (x = some none ∧ res = none) ∨ ∃ v c, x = some (some (v, c)) ∧ f v c = some res := by
  unfold pb at h
  split at h
  · exact Or.inr ⟨_, _, rfl, h⟩
  · exact Or.inl ⟨rfl, (Option.some.inj h).symm⟩
  · cases h
theorem pe_same_seq : ∀ (r s : ev) (c : Nat) (res : Option (Bool × Nat)), pe_same r true s c = some res → pe_seq (rc_ps r s) c = some res := by
  intro r
  induction r with
  | add x r _ ih =>
    intro s c res h
    cases s with
    | add y s =>
      simp only [pe_same] at h
      simp only [rc_ps]
      by_cases hx : ev_abs x = true
      · rw [if_pos hx] at h ⊢; exact ih s c res h
      · rw [if_neg hx] at h ⊢
        simp only [pe_seq]
        by_cases hy : ev_abs y = true
        · rw [if_pos hy] at h; cases h
        · rw [if_neg hy] at h ⊢
          rcases pb_some h with ⟨h1, rfl⟩ | ⟨b, c', h1, h2⟩
          · rw [h1]; rfl
          · rw [h1]
            show (if b = true then pe_seq (rc_ps r s) c' else some (some (false, c'))) = some res
            cases b with
            | true => exact ih s c' res h2
            | false => exact h2
    | _ => simp [pe_same] at h
  | var k =>
    intro s c res h
    cases s with
    | var k' => simp only [pe_same] at h; simp only [rc_ps, pe_seq]; exact h
    | _ => simp [pe_same] at h
  | _ => intro s c res h; cases s <;> simp [pe_same] at h
theorem pe_same_add {x r y s : ev} {c : Nat} {res : Option (Bool × Nat)} (h : pe_same (.add x r) false (.add y s) c = some res) (hc : c ≠ 1000) : pe_seq (rc_ps (.add x r) (.add y s)) (c + 1) = some res := by
  refine pe_same_seq (.add x r) (.add y s) (c + 1) res ?_
  simp only [pe_same] at h ⊢
  rw [if_neg hc] at h
  exact h
theorem pe_same_1000 (v w : ev) : pe_same v false w 1000 = some none := by cases v <;> (unfold pe_same; simp)
theorem pe_same_mono : ∀ (v : ev) (m : Bool) (w : ev) (c : Nat) (b : Bool) (c' : Nat), c ≤ 1000 → pe_same v m w c = some (some (b, c')) → c ≤ c' ∧ c' ≤ 1000 := by
  intro v
  induction v with
  | natCast n =>
    intro m w c b c' hc h
    cases m with
    | true => simp [pe_same] at h
    | false =>
      unfold pe_same at h
      split at h
      · cases h
      · cases w <;> simp at h; omega
  | pow u l ih =>
    intro m w c b c' hc h
    cases m with
    | true => simp [pe_same] at h
    | false =>
      unfold pe_same at h
      split at h
      · cases h
      · cases w with
        | pow u' l' =>
          simp only at h
          split at h
          · have := ih false u' (c + 1) b c' (by omega) h; omega
          · simp at h; omega
        | _ => simp at h
  | add x r ihx ihr =>
    have key : ∀ (w : ev) (c : Nat) (b : Bool) (c' : Nat), c ≤ 1000 → pe_same (.add x r) true w c = some (some (b, c')) → c ≤ c' ∧ c' ≤ 1000 := by
      intro w c b c' hc h
      cases w with
      | add y s =>
        simp only [pe_same] at h
        split at h
        · exact ihr true s c b c' hc h
        · split at h
          · cases h
          · rcases pb_some h with ⟨-, h1⟩ | ⟨b1, c1, h1, h2⟩
            · cases h1
            · have h3 := ihx false y c b1 c1 hc h1
              cases b1 with
              | true => have h4 := ihr true s c1 b c' h3.2 h2; omega
              | false => simp at h2; omega
      | _ => simp [pe_same] at h
    intro m w c b c' hc h
    cases m with
    | true => exact key w c b c' hc h
    | false =>
      by_cases h0 : c = 1000
      · subst h0; rw [pe_same_1000] at h; cases h
      · cases w with
        | add y s =>
          have h1 : pe_same (.add x r) true (.add y s) (c + 1) = some (some (b, c')) := by
            simp only [pe_same] at h ⊢
            rw [if_neg h0] at h
            exact h
          have := key _ _ _ _ (by omega) h1
          omega
        | _ => simp [pe_same, h0] at h
  | var k =>
    intro m w c b c' hc h
    cases m with
    | true => cases w <;> simp [pe_same] at h; omega
    | false => cases w <;> simp [pe_same] at h
  | _ => intro m w c b c' hc h; cases m <;> cases w <;> simp [pe_same] at h
theorem pe_seq_mono : ∀ (ps : List (ev × ev)) (c : Nat) (b : Bool) (c' : Nat), c ≤ 1000 → pe_seq ps c = some (some (b, c')) → c ≤ c' ∧ c' ≤ 1000 := by
  intro ps
  induction ps with
  | nil => intro c b c' hc h; simp [pe_seq] at h; omega
  | cons xy ps ih =>
    intro c b c' hc h
    obtain ⟨x, y⟩ := xy
    simp only [pe_seq] at h
    split at h
    · cases h
    · rcases pb_some h with ⟨-, h1⟩ | ⟨b1, c1, h1, h2⟩
      · cases h1
      · have h3 := pe_same_mono x false y c b1 c1 hc h1
        cases b1 with
        | true => have h4 := ih c1 b c' h3.2 h2; omega
        | false => simp at h2; omega
theorem pe_same_lt {v w : ev} {n0 : Nat} {b : Bool} {c' : Nat} (hn : n0 ≤ 1000) (h9 : ¬ n0 + 1 ≤ c') (h : pe_same v false w n0 = some (some (b, c'))) : False := by
  by_cases h0 : n0 = 1000
  · subst h0; rw [pe_same_1000] at h; cases h
  · cases v with
    | natCast n => unfold pe_same at h; rw [if_neg h0] at h; cases w <;> simp at h; omega
    | pow u l =>
      unfold pe_same at h
      rw [if_neg h0] at h
      cases w with
      | pow u' l' =>
        simp only at h
        split at h
        · have := pe_same_mono u false u' (n0 + 1) b c' (by omega) h; omega
        · simp at h; omega
      | _ => simp at h
    | add x r =>
      cases w with
      | add y s => have := pe_seq_mono _ _ _ _ (by omega) (pe_same_add h h0); omega
      | _ => unfold pe_same at h; simp [h0] at h
    | _ => unfold pe_same at h; cases w <;> simp [h0] at h
theorem cr.nabs {Z : mm_G} {M : mm_M} {ad : List Nat} {T : List pt_R} {v : ev} {f : Nat → Option Nat} {o : Option Nat} (h : cr Z M ad T v 0 f o) : ev_abs v = false := by
  cases v with
  | var k => simp [cr] at h
  | _ => rfl
/-- steps taken -/
def us {α : Type} (c : Nat) : Option (α × Nat) → Nat
  | some (_, c') => c' - c
  | none => 1001 - c
theorem us_pos {v w : ev} {n0 : Nat} {res : Option (Bool × Nat)} (hn : n0 ≤ 1000) (h : pe_same v false w n0 = some res) : 1 ≤ us n0 res := by
  cases res with
  | none => simp only [us]; omega
  | some z =>
    obtain ⟨b, c'⟩ := z
    simp only [us]
    by_cases h9 : n0 + 1 ≤ c'
    · omega
    · exact (pe_same_lt hn h9 h).elim
/-- pairs of values, and the list that holds them -/
def pq (Z : mm_G) (M : mm_M) (ad : List Nat) (T : List pt_R) : List (ev × ev) → List (Option Nat) → Prop
  | [], [] => True
  | (x, y) :: ps, oa :: ob :: L => (ev_abs x = false ∧ cr Z M ad T x 0 (fun _ => none) oa) ∧ cr_x Z M ad T y ob ∧ pq Z M ad T ps L
  | _, _ => False
theorem pq.mono {Z : mm_G} {M M' : mm_M} {ad : List Nat} {T : List pt_R} (h : mm_Kp M M') : ∀ (ps : List (ev × ev)) (L : List (Option Nat)), pq Z M ad T ps L → pq Z M' ad T ps L
  | [], [], _ => trivial
  | (_, _) :: ps, _ :: _ :: L, h1 => ⟨⟨h1.1.1, cr.mono h _ _ _ _ h1.1.2⟩, cr_xmono h h1.2.1, pq.mono h ps L h1.2.2⟩
  | [], _ :: _, h1 => h1.elim
  | _ :: _, [], h1 => by simp [pq] at h1
  | _ :: _, [_], h1 => by simp [pq] at h1
theorem pq.len {Z : mm_G} {M : mm_M} {ad : List Nat} {T : List pt_R} : ∀ (ps : List (ev × ev)) (L : List (Option Nat)), pq Z M ad T ps L → L.length = 2 * ps.length
  | [], [], _ => rfl
  | (_, _) :: ps, _ :: _ :: L, h1 => by have := pq.len ps L h1.2.2; simp; omega
  | [], _ :: _, h1 => h1.elim
  | _ :: _, [], h1 => by simp [pq] at h1
  | _ :: _, [_], h1 => by simp [pq] at h1
/-- what two records have from label i on -/
def rq (f g : Nat → Option Nat) : Nat → Nat → List (Option Nat)
  | 0, _ => []
  | n + 1, i => (match f i with | none => [] | some y => [some y, g i]) ++ rq f g n (i + 1)
theorem rp_rq (f g : Nat → Option Nat) : ∀ n i : Nat, rp f g i ++ rq f g n i = rp f g (i + n) := by
  intro n
  induction n with
  | zero => intro i; simp [rq]
  | succ n ih => intro i; rw [show i + (n + 1) = i + 1 + n by omega, ← ih (i + 1), rp_succ, rq, List.append_assoc]; cases f i <;> rfl
theorem pq_rec {Z : mm_G} {M : mm_M} {ad : List Nat} {T : List pt_R} {f g : Nat → Option Nat} : ∀ (r s : ev) (i : Nat), cr Z M ad T r (i + 2) f none → cr Z M ad T s (i + 2) g none → pq Z M ad T (rc_ps r s) (rq f g (10 - i) i) := by
  intro r
  induction r with
  | add x r _ ih =>
    intro s i h1 h2
    have h3 := (cr_get (.add x r) i 0 x h1 rfl).2
    cases s with
    | add y s =>
      obtain ⟨a1, a2⟩ := cr_add.1 h1
      obtain ⟨b1, b2⟩ := cr_add.1 h2
      have h4 := ih s (i + 1) a2 b2
      rw [show 10 - i = (10 - (i + 1)) + 1 by omega, rq]
      simp only [rc_ps]
      rcases a1 with ⟨c1, c2⟩ | ⟨c1, c2⟩
      · rw [if_pos c1, c2]; exact h4
      · rw [if_neg (by rw [c1]; decide)]
        obtain ⟨a, c3, -⟩ := c2.isV
        rw [c3] at c2 ⊢
        exact ⟨⟨c1, c2⟩, b1, h4⟩
    | var k => simp only [cr] at h2; omega
    | _ => simp [cr] at h2
  | var k =>
    intro s i h1 h2
    simp only [cr] at h1
    subst h1
    cases s with
    | add y s => have := (cr_get (.add y s) 10 0 y h2 rfl).2; omega
    | _ => simp [rc_ps, rq, pq]
  | _ => intro s i h1; simp [cr] at h1
theorem rc_ps_size : ∀ (r s x y : ev), (x, y) ∈ rc_ps r s → SizeOf.sizeOf x < SizeOf.sizeOf r := by
  intro r
  induction r with
  | add x0 r _ ih =>
    intro s x y h
    cases s with
    | add y0 s =>
      simp only [rc_ps] at h
      split at h
      · have := ih s x y h; simp; omega
      · rcases List.mem_cons.1 h with h | h
        · cases h; simp; omega
        · have := ih s x y h; simp; omega
    | _ => simp [rc_ps] at h
  | _ => intro s x y h; simp [rc_ps] at h

