/-! ===== the values' texts, purely (signs and room) ===== -/
set_option maxRecDepth 100000
/-- a number's signs -/
def dgx (x : Int32) : List Nat := dgs (decide (x < 0)) x.toInt.natAbs
theorem dgx_sg {b : Bool} {n : Nat} (h : sg_ok b n) : dgx (sg b n) = dgs b n := by
  obtain ⟨h1, h2, h3⟩ := h
  cases b with
  | true =>
    have h4 := h2 rfl
    have e : (sg true n).toInt = -(n : Int) := nn_toInt h1
    unfold dgx
    rw [e, decide_eq_true (Int32.lt_iff_toInt_lt.2 (by rw [e]; show -(n : Int) < 0; omega))]
    simp
  | false =>
    have e : (sg false n).toInt = (n : Int) := nI_toInt (h3 rfl)
    unfold dgx
    rw [e, decide_eq_false (fun h9 => by have := Int32.lt_iff_toInt_lt.1 h9; rw [e] at this; have h8 : (0 : Int32).toInt = 0 := rfl; omega)]
    simp
theorem dgx_b (x : Int32) : 1 ≤ (dgx x).length ∧ (dgx x).length ≤ 11 := by
  obtain ⟨b, n, h, rfl⟩ := sg_of x
  rw [dgx_sg h]; exact dgs_b b h.1
theorem dgx_10 : ∀ k : Fin 10, dgx (nI k.val) = [48 + k.val] := by decide
/-- signs are added; the builder's room with them -/
def ap (s : List Nat × Nat) (ds : List Nat) : List Nat × Nat := (s.1 ++ ds, tb_cap (s.1.length + ds.length) s.2)
/-- the component's tell: mode false a value, mode true a record's cells from place i on (f: none told yet) -/
def tt : ev → Bool → Nat → Bool → List Nat × Nat → List Nat × Nat
  | .natCast n, false, _, _, s => ap s (dgx (nI n))
  | .sub _ _, false, _, _, s => ap s [70]
  | .pow v l, false, _, _, s => ap (if (ap (ap (ap s [91]) (dgx (nI l))) [58]).1.length ≤ 300 then tt v false 0 true (ap (ap (ap s [91]) (dgx (nI l))) [58]) else ap (ap (ap s [91]) (dgx (nI l))) [58]) [93]
  | .add x r, false, _, _, s => ap (if (ap s [123]).1.length ≤ 300 then (if ev_abs x then tt r true 1 true (ap s [123]) else tt r true 1 false (tt x false 0 true (ap (ap (ap (ap s [123]) []) (dgx (nI 0))) [58]))) else ap s [123]) [125]
  | .add x r, true, i, f, s => if s.1.length ≤ 300 then (if ev_abs x then tt r true (i + 1) f s else tt r true (i + 1) false (tt x false 0 true (ap (ap (ap s (if f then [] else [44])) (dgx (nI i))) [58]))) else s
  | _, _, _, _, s => s
theorem tt_rec {x r : ev} {i : Nat} {f : Bool} {s : List Nat × Nat} : tt (.add x r) false i f s = ap (tt (.add x r) true 0 true (ap s [123])) [125] := by simp only [tt]; rfl
/-- what is said is only added to, and the room only grows -/
def le_s (s t : List Nat × Nat) : Prop := (∃ ds, t.1 = s.1 ++ ds) ∧ s.2 ≤ t.2 ∧ t.2 ≤ max s.2 (2 * t.1.length + 2)
theorem le_s.rf (s : List Nat × Nat) : le_s s s := ⟨⟨[], by simp⟩, Nat.le_refl _, by omega⟩
theorem le_s.trans {s t u : List Nat × Nat} (h1 : le_s s t) (h2 : le_s t u) : le_s s u := by
  obtain ⟨⟨d1, e1⟩, c1, b1⟩ := h1
  obtain ⟨⟨d2, e2⟩, c2, b2⟩ := h2
  have l2 : u.1.length = t.1.length + d2.length := by rw [e2, List.length_append]
  exact ⟨⟨d1 ++ d2, by rw [e2, e1, List.append_assoc]⟩, Nat.le_trans c1 c2, by omega⟩
theorem tb_cap_le (mn cap : Nat) : cap ≤ tb_cap mn cap := by unfold tb_cap; split <;> omega
theorem le_ap (s : List Nat × Nat) (ds : List Nat) : le_s s (ap s ds) := ⟨⟨ds, rfl⟩, tb_cap_le _ _, by simp only [ap, tb_cap, List.length_append]; split <;> omega⟩
theorem le_tt : ∀ (v : ev) (m : Bool) (i : Nat) (f : Bool) (s : List Nat × Nat), le_s s (tt v m i f s) := by
  intro v
  induction v with
  | natCast n => intro m i f s; cases m <;> simp only [tt]; exact le_ap _ _; exact le_s.rf _
  | sub a b _ _ => intro m i f s; cases m <;> simp only [tt]; exact le_ap _ _; exact le_s.rf _
  | pow v l ih =>
    intro m i f s
    cases m with
    | true => simp only [tt]; exact le_s.rf _
    | false =>
      simp only [tt]
      refine le_s.trans ?_ (le_ap _ _)
      refine le_s.trans ((le_ap s [91]).trans ((le_ap _ (dgx (nI l))).trans (le_ap _ [58]))) ?_
      split
      · exact ih _ _ _ _
      · exact le_s.rf _
  | add x r ihx ihr =>
    have key : ∀ (i : Nat) (f : Bool) (s : List Nat × Nat), le_s s (tt (.add x r) true i f s) := by
      intro i f s
      simp only [tt]
      split
      · split
        · exact ihr _ _ _ _
        · exact ((le_ap s _).trans ((le_ap _ _).trans (le_ap _ [58]))).trans ((ihx _ _ _ _).trans (ihr _ _ _ _))
      · exact le_s.rf _
    intro m i f s
    cases m with
    | true => exact key i f s
    | false => rw [tt_rec]; exact (le_ap s [123]).trans ((key _ _ _).trans (le_ap _ [125]))
  | _ => intro m i f s; cases m <;> simp only [tt] <;> exact le_s.rf _
theorem ap_len (s : List Nat × Nat) (ds : List Nat) : (ap s ds).1.length = s.1.length + ds.length := by simp [ap]
/-- lengths stay small: entered with n signs (n at most 320) a value's text ends with at most 670 - n signs -/
theorem tt_len (v : ev) (i : Nat) (f : Bool) (s : List Nat × Nat) (h : s.1.length ≤ 320) : (tt v false i f s).1.length ≤ 670 - s.1.length := by
  have main : ∀ (v : ev) (m : Bool) (i : Nat) (f : Bool) (s : List Nat × Nat) (n : Nat), (m = false → n = s.1.length ∧ n ≤ 320) → (m = true → n + 1 ≤ s.1.length ∧ s.1.length ≤ 669 - n ∧ n ≤ 320) → (tt v m i f s).1.length ≤ (if m then 669 - n else 670 - n) := by
    intro v
    induction v with
    | natCast k =>
      intro m i f s n h1 h2
      cases m with
      | true => simp only [tt]; have := h2 rfl; simp; omega
      | false => simp only [tt, ap_len]; have := h1 rfl; have := dgx_b (nI k); simp; omega
    | sub a b _ _ =>
      intro m i f s n h1 h2
      cases m with
      | true => simp only [tt]; have := h2 rfl; simp; omega
      | false => simp only [tt, ap_len]; have := h1 rfl; simp; omega
    | pow v l ih =>
      intro m i f s n h1 h2
      cases m with
      | true => simp only [tt]; have := h2 rfl; simp; omega
      | false =>
        have h3 := h1 rfl
        have h4 := dgx_b (nI l)
        have h5 : (ap (ap (ap s [91]) (dgx (nI l))) [58]).1.length = s.1.length + 2 + (dgx (nI l)).length := by simp only [ap_len, List.length_singleton]; omega
        simp only [tt]
        rw [ap_len, List.length_singleton]
        split
        · rename_i h6
          rw [h5] at h6
          have h7 := ih false 0 true (ap (ap (ap s [91]) (dgx (nI l))) [58]) _ (fun _ => ⟨rfl, by omega⟩) (fun h => by cases h)
          rw [h5] at h7
          simp at h7 ⊢; omega
        · rw [h5]; simp; omega
    | add x r ihx ihr =>
      have key : ∀ (i : Nat) (f : Bool) (s : List Nat × Nat) (n : Nat), n + 1 ≤ s.1.length → s.1.length ≤ 669 - n → n ≤ 320 → (tt (.add x r) true i f s).1.length ≤ 669 - n := by
        intro i f s n h1 h2 h3
        simp only [tt]
        split
        · rename_i h6
          split
          · have := ihr true (i + 1) f s n (fun h => by cases h) (fun _ => ⟨h1, h2, h3⟩); simpa using this
          · have h4 := dgx_b (nI i)
            have h5 : ∀ b : Bool, (ap (ap (ap s (if b then [] else [44])) (dgx (nI i))) [58]).1.length = s.1.length + 1 + (dgx (nI i)).length + (if b then 0 else 1) := by intro b; cases b <;> simp [ap_len] <;> omega
            have h7 := ihx false 0 true (ap (ap (ap s (if f then [] else [44])) (dgx (nI i))) [58]) _ (fun _ => ⟨rfl, by rw [h5]; split <;> omega⟩) (fun h => by cases h)
            have h8 := (le_tt x false 0 true (ap (ap (ap s (if f then [] else [44])) (dgx (nI i))) [58])).1
            obtain ⟨ds, h8⟩ := h8
            have h9 := congrArg List.length h8
            rw [List.length_append, h5] at h9
            rw [h5] at h7
            have h10 := ihr true (i + 1) false (tt x false 0 true (ap (ap (ap s (if f then [] else [44])) (dgx (nI i))) [58])) n (fun h => by cases h) (fun _ => ⟨by omega, by simp at h7; omega, h3⟩)
            simpa using h10
        · exact h2
      intro m i f s n h1 h2
      cases m with
      | true => have := h2 rfl; simpa using key i f s n this.1 this.2.1 this.2.2
      | false =>
        have h3 := h1 rfl
        rw [tt_rec, ap_len]
        have := key 0 true (ap s [123]) n (by rw [ap_len, List.length_singleton]; omega) (by rw [ap_len, List.length_singleton]; omega) h3.2
        simp; omega
    | _ =>
      intro m i f s n h1 h2
      cases m with
      | true => simp only [tt]; have := h2 rfl; simp; omega
      | false => simp only [tt]; have := h1 rfl; simp; omega
  have := main v false i f s _ (fun _ => ⟨rfl, h⟩) (fun h => by cases h)
  simpa using this
theorem le_s.len {s t : List Nat × Nat} (h : le_s s t) : s.1.length ≤ t.1.length := by
  obtain ⟨⟨d, e⟩, -⟩ := h
  rw [e, List.length_append]; omega
/-- the room stays small -/
theorem tt_cap {v : ev} {i : Nat} {f : Bool} {s : List Nat × Nat} (h : s.1.length ≤ 320) (hc : s.2 ≤ 1500) : (tt v false i f s).2 ≤ 1500 := by
  have h1 := tt_len v i f s h
  have h2 := (le_tt v false i f s).2.2
  omega
theorem ap_cap {s : List Nat × Nat} {ds : List Nat} (h : s.2 ≤ 1500) (hl : s.1.length + ds.length ≤ 700) : (ap s ds).2 ≤ 1500 := by
  simp only [ap, tb_cap]; split <;> omega

