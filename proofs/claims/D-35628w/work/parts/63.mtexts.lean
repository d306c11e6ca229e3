/-! ===== the model's texts of values, purely; both texts are alike ===== -/
set_option maxRecDepth 100000
/-- signs are put, up to 300 -/
def pl (a ds : List Nat) : List Nat := (a ++ ds).take 300
/-- the model's putValue: mode false a value, mode true a record's cells from place i on (f: none told yet) -/
def mt : ev → Bool → Nat → Bool → List Nat → List Nat
  | .natCast n, false, _, _, a => if 300 ≤ a.length then a else pl a (dgx (nI n))
  | .sub _ _, false, _, _, a => if 300 ≤ a.length then a else pl a [70]
  | .pow v l, false, _, _, a => if 300 ≤ a.length then a else pl (mt v false 0 true (pl (pl (pl a [91]) [48 + l]) [58])) [93]
  | .add x r, false, _, _, a => if 300 ≤ a.length then a else pl (if ev_abs x then mt r true 1 true (pl a [123]) else mt r true 1 false (mt x false 0 true (pl (pl (pl (pl a [123]) []) [48 + 0]) [58]))) [125]
  | .add x r, true, i, f, a => if ev_abs x then mt r true (i + 1) f a else mt r true (i + 1) false (mt x false 0 true (pl (pl (pl a (if f then [] else [44])) [48 + i]) [58]))
  | _, _, _, _, a => a
/-- labels are one sign (mode 0 a value, i + 1 a record's cells from i on) -/
def lb_ok : ev → Nat → Prop
  | .pow v l, 0 => l ≤ 9 ∧ lb_ok v 0
  | .add x r, 0 => lb_ok x 0 ∧ lb_ok r 2
  | .add x r, i + 1 => i ≤ 9 ∧ lb_ok x 0 ∧ lb_ok r (i + 2)
  | _, _ => True
theorem pl_take (t ds : List Nat) : pl (t.take 300) ds = (t ++ ds).take 300 := by
  unfold pl
  rw [List.take_append, List.take_append, List.take_take, Nat.min_self, List.length_take]
  by_cases h : 300 ≤ t.length
  · rw [Nat.min_eq_left h, Nat.sub_self, Nat.sub_eq_zero_of_le h]
  · rw [Nat.min_eq_right (by omega)]
theorem le_take {s t : List Nat × Nat} (h : le_s s t) (h3 : 300 ≤ s.1.length) : t.1.take 300 = s.1.take 300 := by
  obtain ⟨⟨d, e⟩, -⟩ := h
  rw [e, List.take_append_of_le_length h3]
theorem dgx_lb {k : Nat} (h : k ≤ 9) : dgx (nI k) = [48 + k] := dgx_10 ⟨k, by omega⟩
theorem mt_full : ∀ (v : ev) (m : Bool) (i : Nat) (f : Bool) (a : List Nat), a.length = 300 → mt v m i f a = a := by
  have hp : ∀ (a ds : List Nat), a.length = 300 → pl a ds = a := fun a ds h => by unfold pl; rw [List.take_append_of_le_length (by omega), List.take_of_length_le (by omega)]
  intro v
  induction v with
  | add x r ihx ihr =>
    intro m i f a h
    cases m with
    | true =>
      simp only [mt, hp a _ h]
      rw [ihx _ _ _ _ h, ihr _ _ _ _ h, ihr _ _ _ _ h, ite_self]
    | false => simp only [mt]; rw [if_pos (by omega)]
  | pow v l ih => intro m i f a h; cases m <;> simp only [mt]; rw [if_pos (by omega)]
  | natCast n => intro m i f a h; cases m <;> simp only [mt]; rw [if_pos (by omega)]
  | sub a b _ _ => intro m i f a h; cases m <;> simp only [mt]; rw [if_pos (by omega)]
  | _ => intro m i f a h; cases m <;> simp only [mt]
theorem mt_rec {x r : ev} {i : Nat} {f : Bool} {a : List Nat} : mt (.add x r) false i f a = if 300 ≤ a.length then a else pl (mt (.add x r) true 0 true (pl a [123])) [125] := by simp only [mt]; rfl
/-- the model's text is the first 300 signs of the component's -/
theorem mt_tt : ∀ (v : ev) (m : Bool) (i : Nat) (f : Bool) (s : List Nat × Nat), lb_ok v (if m then i + 1 else 0) → mt v m i f (s.1.take 300) = (tt v m i f s).1.take 300 := by
  have hfull : ∀ (v : ev) (m : Bool) (i : Nat) (f : Bool) (s : List Nat × Nat), 300 ≤ s.1.length → mt v m i f (s.1.take 300) = (tt v m i f s).1.take 300 := fun v m i f s h => by
    rw [mt_full v m i f _ (by rw [List.length_take]; omega), le_take (le_tt v m i f s) h]
  intro v
  induction v with
  | natCast n =>
    intro m i f s hk
    by_cases h : 300 ≤ s.1.length
    · exact hfull _ _ _ _ _ h
    cases m with
    | true => simp only [mt, tt]
    | false => simp only [mt, tt]; rw [if_neg (by rw [List.length_take]; omega), pl_take]; rfl
  | sub a b _ _ =>
    intro m i f s hk
    by_cases h : 300 ≤ s.1.length
    · exact hfull _ _ _ _ _ h
    cases m with
    | true => simp only [mt, tt]
    | false => simp only [mt, tt]; rw [if_neg (by rw [List.length_take]; omega), pl_take]; rfl
  | pow v l ih =>
    intro m i f s hk
    by_cases h : 300 ≤ s.1.length
    · exact hfull _ _ _ _ _ h
    cases m with
    | true => simp only [mt, tt]
    | false =>
      obtain ⟨h1, h2⟩ : l ≤ 9 ∧ lb_ok v 0 := hk
      simp only [mt, tt]
      rw [if_neg (by rw [List.length_take]; omega), pl_take, pl_take, pl_take, dgx_lb h1]
      have e : mt v false 0 true ((s.1 ++ [91] ++ [48 + l] ++ [58]).take 300) = ((if (ap (ap (ap s [91]) [48 + l]) [58]).1.length ≤ 300 then tt v false 0 true (ap (ap (ap s [91]) [48 + l]) [58]) else ap (ap (ap s [91]) [48 + l]) [58]).1).take 300 := by
        split
        · exact ih false 0 true (ap (ap (ap s [91]) [48 + l]) [58]) h2
        · rename_i h3
          exact mt_full v false 0 true _ (by rw [List.length_take]; have h4 : (s.1 ++ [91] ++ [48 + l] ++ [58]) = (ap (ap (ap s [91]) [48 + l]) [58]).1 := rfl; rw [h4]; omega)
      rw [e, pl_take]
      rfl
  | add x r ihx ihr =>
    have key : ∀ (i : Nat) (f : Bool) (s : List Nat × Nat), i ≤ 9 → lb_ok x 0 → lb_ok r (i + 2) → mt (.add x r) true i f (s.1.take 300) = (tt (.add x r) true i f s).1.take 300 := by
      intro i f s h1 h2 h3
      by_cases h : 300 ≤ s.1.length
      · exact hfull _ _ _ _ _ h
      simp only [mt, tt]
      rw [if_pos (show s.1.length ≤ 300 by omega)]
      by_cases hx : ev_abs x = true
      · rw [if_pos hx, if_pos hx]; exact ihr true (i + 1) f s h3
      · rw [if_neg hx, if_neg hx, pl_take, pl_take, pl_take, dgx_lb h1]
        have e := ihx false 0 true (ap (ap (ap s (if f then [] else [44])) [48 + i]) [58]) h2
        rw [show (s.1 ++ (if f = true then [] else [44]) ++ [48 + i] ++ [58]) = (ap (ap (ap s (if f then [] else [44])) [48 + i]) [58]).1 from rfl, e]
        exact ihr true (i + 1) false _ h3
    intro m i f s hk
    by_cases h : 300 ≤ s.1.length
    · exact hfull _ _ _ _ _ h
    cases m with
    | true => exact key i f s hk.1 hk.2.1 hk.2.2
    | false =>
      rw [mt_rec, tt_rec, if_neg (by rw [List.length_take]; omega), pl_take]
      rw [show s.1 ++ [123] = (ap s [123]).1 from rfl, key 0 true (ap s [123]) (by omega) hk.1 hk.2, pl_take]
      rfl
  | _ => intro m i f s hk; cases m <;> simp only [mt, tt]

