/-! ===== plain evaluation: steps only grow ===== -/
set_option maxRecDepth 100000
def mono {α : Type} (c : Nat) (x : pr α) : Prop := ∀ (v : α) (c' : Nat), x = some (some (v, c')) → c ≤ c' ∧ c' ≤ 1000
theorem mono_none {α : Type} (c : Nat) : mono c (none : pr α) := fun _ _ h => by cases h
theorem mono_ret {α : Type} {c : Nat} {v : α} (h : c ≤ 1000) : mono c (some (some (v, c))) := fun _ _ h9 => by cases h9; exact ⟨Nat.le_refl _, h⟩
theorem mono_pb {α β : Type} {c : Nat} {x : pr α} {f : α → Nat → pr β} (h1 : mono c x) (h2 : ∀ (v : α) (c1 : Nat), c ≤ c1 → c1 ≤ 1000 → mono c1 (f v c1)) : mono c (pb x f) := by
  intro v c' h
  rcases pb_some h with ⟨-, h3⟩ | ⟨v1, c1, h3, h4⟩
  · cases h3
  · have h5 := h1 v1 c1 h3
    have h6 := h2 v1 c1 h5.1 h5.2 v c' h4
    omega
theorem mono_at {c : Nat} {ps : List Nat} {i : Nat} {f : Nat → pr ev} (h : ∀ j, mono c (f j)) : mono c (at_s ps i f) := by
  unfold at_s
  split
  · exact h _
  · exact mono_none c
theorem mono_ite {α : Type} {c : Nat} {P : Prop} [Decidable P] {x y : pr α} (h1 : P → mono c x) (h2 : ¬ P → mono c y) : mono c (if P then x else y) := by
  by_cases h : P
  · rw [if_pos h]; exact h1 h
  · rw [if_neg h]; exact h2 h
theorem mono_same {v w : ev} {c : Nat} (hc : c ≤ 1000) : mono c (pe_same v false w c) := fun _ _ h => pe_same_mono _ _ _ _ _ _ hc h
theorem mono_app {T : List pt_R} {rec : Nat → ev → Nat → pr ev} (hrec : ∀ (j : Nat) (e : ev) (c : Nat), c ≤ 1000 → mono c (rec j e c)) {f : ev} {g : Nat → pr ev} {c : Nat} (hc : c ≤ 1000) (hg : mono c (g c)) : mono c (pe_app T rec f g c) := by
  unfold pe_app
  split
  · split
    · exact mono_at (fun j => mono_pb hg (fun v c1 _ h2 => hrec _ _ _ h2))
    · exact mono_none c
  · exact mono_none c
theorem mono_cas {T : List pt_R} {rec : Nat → ev → Nat → pr ev} (hrec : ∀ (j : Nat) (e : ev) (c : Nat), c ≤ 1000 → mono c (rec j e c)) {w e : ev} {j c : Nat} (hc : c ≤ 1000) : mono c (pe_cas T rec w e j c) := by
  unfold pe_cas
  split
  · split
    · split
      · refine mono_at (fun j => ?_)
        split <;> exact hrec _ _ _ hc
      · exact mono_none c
    · exact mono_none c
  · exact mono_none c
theorem mono_step {T : List pt_R} {rec : Nat → ev → Nat → pr ev} (hrec : ∀ (j : Nat) (e : ev) (c : Nat), c ≤ 1000 → mono c (rec j e c)) {t : Nat} {r : pt_R} {e : ev} {c : Nat} (hc : c ≤ 1000) : mono c (pe_step T rec t r e c) := by
  unfold pe_step
  refine mono_ite (fun _ => ?_) (fun _ => ?_)
  · repeat' (first | exact mono_none _ | exact mono_ret (by omega) | exact hrec _ _ _ (by omega) | exact mono_same (by omega) | exact mono_cas hrec (by omega) | (refine mono_app hrec (by omega) ?_) | (refine mono_pb ?_ (fun _ _ _ _ => ?_)) | (refine mono_at (fun _ => ?_)) | split)
  refine mono_ite (fun _ => ?_) (fun _ => ?_)
  · repeat' (first | exact mono_none _ | exact mono_ret (by omega) | exact hrec _ _ _ (by omega) | exact mono_same (by omega) | exact mono_cas hrec (by omega) | (refine mono_app hrec (by omega) ?_) | (refine mono_pb ?_ (fun _ _ _ _ => ?_)) | (refine mono_at (fun _ => ?_)) | split)
  refine mono_ite (fun _ => ?_) (fun _ => ?_)
  · repeat' (first | exact mono_none _ | exact mono_ret (by omega) | exact hrec _ _ _ (by omega) | exact mono_same (by omega) | exact mono_cas hrec (by omega) | (refine mono_app hrec (by omega) ?_) | (refine mono_pb ?_ (fun _ _ _ _ => ?_)) | (refine mono_at (fun _ => ?_)) | split)
  refine mono_ite (fun _ => ?_) (fun _ => ?_)
  · repeat' (first | exact mono_none _ | exact mono_ret (by omega) | exact hrec _ _ _ (by omega) | exact mono_same (by omega) | exact mono_cas hrec (by omega) | (refine mono_app hrec (by omega) ?_) | (refine mono_pb ?_ (fun _ _ _ _ => ?_)) | (refine mono_at (fun _ => ?_)) | split)
  refine mono_ite (fun _ => ?_) (fun _ => ?_)
  · repeat' (first | exact mono_none _ | exact mono_ret (by omega) | exact hrec _ _ _ (by omega) | exact mono_same (by omega) | exact mono_cas hrec (by omega) | (refine mono_app hrec (by omega) ?_) | (refine mono_pb ?_ (fun _ _ _ _ => ?_)) | (refine mono_at (fun _ => ?_)) | split)
  refine mono_ite (fun _ => ?_) (fun _ => ?_)
  · repeat' (first | exact mono_none _ | exact mono_ret (by omega) | exact hrec _ _ _ (by omega) | exact mono_same (by omega) | exact mono_cas hrec (by omega) | (refine mono_app hrec (by omega) ?_) | (refine mono_pb ?_ (fun _ _ _ _ => ?_)) | (refine mono_at (fun _ => ?_)) | split)
  refine mono_ite (fun _ => ?_) (fun _ => ?_)
  · repeat' (first | exact mono_none _ | exact mono_ret (by omega) | exact hrec _ _ _ (by omega) | exact mono_same (by omega) | exact mono_cas hrec (by omega) | (refine mono_app hrec (by omega) ?_) | (refine mono_pb ?_ (fun _ _ _ _ => ?_)) | (refine mono_at (fun _ => ?_)) | split)
  refine mono_ite (fun _ => ?_) (fun _ => ?_)
  · repeat' (first | exact mono_none _ | exact mono_ret (by omega) | exact hrec _ _ _ (by omega) | exact mono_same (by omega) | exact mono_cas hrec (by omega) | (refine mono_app hrec (by omega) ?_) | (refine mono_pb ?_ (fun _ _ _ _ => ?_)) | (refine mono_at (fun _ => ?_)) | split)
  refine mono_ite (fun _ => ?_) (fun _ => ?_)
  · repeat' (first | exact mono_none _ | exact mono_ret (by omega) | exact hrec _ _ _ (by omega) | exact mono_same (by omega) | exact mono_cas hrec (by omega) | (refine mono_app hrec (by omega) ?_) | (refine mono_pb ?_ (fun _ _ _ _ => ?_)) | (refine mono_at (fun _ => ?_)) | split)
  refine mono_ite (fun _ => ?_) (fun _ => ?_)
  · repeat' (first | exact mono_none _ | exact mono_ret (by omega) | exact hrec _ _ _ (by omega) | exact mono_same (by omega) | exact mono_cas hrec (by omega) | (refine mono_app hrec (by omega) ?_) | (refine mono_pb ?_ (fun _ _ _ _ => ?_)) | (refine mono_at (fun _ => ?_)) | split)
  refine mono_ite (fun _ => ?_) (fun _ => ?_)
  · repeat' (first | exact mono_none _ | exact mono_ret (by omega) | exact hrec _ _ _ (by omega) | exact mono_same (by omega) | exact mono_cas hrec (by omega) | (refine mono_app hrec (by omega) ?_) | (refine mono_pb ?_ (fun _ _ _ _ => ?_)) | (refine mono_at (fun _ => ?_)) | split)
  refine mono_ite (fun _ => ?_) (fun _ => ?_)
  · repeat' (first | exact mono_none _ | exact mono_ret (by omega) | exact hrec _ _ _ (by omega) | exact mono_same (by omega) | exact mono_cas hrec (by omega) | (refine mono_app hrec (by omega) ?_) | (refine mono_pb ?_ (fun _ _ _ _ => ?_)) | (refine mono_at (fun _ => ?_)) | split)
  refine mono_ite (fun _ => ?_) (fun _ => ?_)
  · repeat' (first | exact mono_none _ | exact mono_ret (by omega) | exact hrec _ _ _ (by omega) | exact mono_same (by omega) | exact mono_cas hrec (by omega) | (refine mono_app hrec (by omega) ?_) | (refine mono_pb ?_ (fun _ _ _ _ => ?_)) | (refine mono_at (fun _ => ?_)) | split)
  refine mono_ite (fun _ => ?_) (fun _ => ?_)
  · repeat' (first | exact mono_none _ | exact mono_ret (by omega) | exact hrec _ _ _ (by omega) | exact mono_same (by omega) | exact mono_cas hrec (by omega) | (refine mono_app hrec (by omega) ?_) | (refine mono_pb ?_ (fun _ _ _ _ => ?_)) | (refine mono_at (fun _ => ?_)) | split)
  refine mono_ite (fun _ => ?_) (fun _ => ?_)
  · repeat' (first | exact mono_none _ | exact mono_ret (by omega) | exact hrec _ _ _ (by omega) | exact mono_same (by omega) | exact mono_cas hrec (by omega) | (refine mono_app hrec (by omega) ?_) | (refine mono_pb ?_ (fun _ _ _ _ => ?_)) | (refine mono_at (fun _ => ?_)) | split)
  exact mono_none _
theorem pe_mono (T : List pt_R) : ∀ (k t : Nat) (e : ev) (c : Nat), c ≤ 1000 → mono c (pe T k t e c) := by
  intro k
  induction k with
  | zero => intro t e c _; exact mono_none c
  | succ k ih =>
    intro t e c hc
    unfold pe
    split
    · intro v c' h; cases h
    · split
      · exact mono_none c
      · rename_i h0 _ _ _
        intro v c' h
        have := mono_step (fun j e c hc => ih j e c hc) (by omega) v c' h
        omega
theorem pe_1000 {T : List pt_R} {k t : Nat} {e : ev} {res : Option (ev × Nat)} (h : pe T k t e 1000 = some res) : res = none := by
  cases k with
  | zero => cases h
  | succ k => simp [pe] at h; exact h.symm
theorem pe_succ {T : List pt_R} {k t n : Nat} {e : ev} {res : Option (ev × Nat)} {r : pt_R} (h : pe T k t e n = some res) (hn : n ≠ 1000) (hr : T[t]? = some r) : ∃ k', k = k' + 1 ∧ pe_step T (pe T k') t r e (n + 1) = some res := by
  cases k with
  | zero => cases h
  | succ k => simp only [pe, if_neg hn, hr] at h; exact ⟨k, rfl, h⟩
theorem pb_ne {α β : Type} {x : pr α} {f : α → Nat → pr β} {res : Option (β × Nat)} (h : pb x f = some res) : ∃ r1, x = some r1 := by
  rcases pb_some h with ⟨h1, -⟩ | ⟨v, c, h1, -⟩
  · exact ⟨_, h1⟩
  · exact ⟨_, h1⟩
theorem at_some {ps : List Nat} {i : Nat} {f : Nat → pr ev} {res : Option (ev × Nat)} (h : at_s ps i f = some res) : ∃ j, ps[i]? = some j ∧ f j = some res := by
  unfold at_s at h
  split at h
  · rename_i j hj; exact ⟨j, hj, h⟩
  · cases h
/-- what a part of the evaluation takes, of what the whole takes -/
theorem us_pb {α β : Type} {x : pr α} {f : α → Nat → pr β} {res : Option (β × Nat)} {r1 : Option (α × Nat)} {c n0 : Nat} (h : pb x f = some res) (h1 : x = some r1) (hx : mono c x) (hf : ∀ (v : α) (c1 : Nat), c ≤ c1 → c1 ≤ 1000 → mono c1 (f v c1)) (hn : n0 ≤ c) (hc : c ≤ 1000) : us c r1 + (c - n0) ≤ us n0 res ∧ (r1 = none → res = none) ∧ (∀ w n1, r1 = some (w, n1) → f w n1 = some res ∧ c ≤ n1 ∧ n1 ≤ 1000) := by
  cases r1 with
  | none =>
    rw [h1] at h
    obtain rfl : res = none := (Option.some.inj h).symm
    simp only [us]
    exact ⟨by omega, fun _ => trivial, fun w n1 h9 => by cases h9⟩
  | some z =>
    obtain ⟨w, n1⟩ := z
    have h2 := hx w n1 h1
    rw [h1] at h
    refine ⟨?_, fun h9 => (by cases h9), fun w' n' h9 => (by cases h9; exact ⟨h, h2⟩)⟩
    cases res with
    | none => simp only [us]; omega
    | some y =>
      obtain ⟨u, n2⟩ := y
      have h3 := hf w n1 h2.1 h2.2 u n2 h
      simp only [us]
      omega
theorem us_pos' {T : List pt_R} {k t n0 : Nat} {e : ev} {res : Option (ev × Nat)} (hn : n0 ≤ 1000) (h : pe T k t e n0 = some res) : 1 ≤ us n0 res := by
  cases res with
  | none => simp only [us]; omega
  | some z =>
    obtain ⟨v, c'⟩ := z
    simp only [us]
    by_cases h0 : n0 = 1000
    · subst h0; cases pe_1000 h
    · cases k with
      | zero => cases h
      | succ k =>
        simp only [pe, if_neg h0] at h
        split at h
        · cases h
        · have := mono_step (fun j e c hc => pe_mono T k j e c hc) (by omega) v c' h
          omega

