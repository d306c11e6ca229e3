/-! ===== the unifier is sound ===== -/
set_option maxRecDepth 100000
abbrev uG (S : ts) (kd : Nat → Bool) : ug := (S.1, kd, S.2.2.2.1)
/-- a good state -/
def usg (S : ts) (kd : Nat → Bool) : Prop := ts_ok S ∧ ugs (uG S kd) (uG S kd) S.2.1 ∧ ∀ v, S.1 ≤ v → S.2.1 v = .var v
/-- from a state to a good one -/
def uGo (S : ts) (kd : Nat → Bool) (S' : ts) (kd' : Nat → Bool) : Prop := ug_le (uG S kd) (uG S' kd') ∧ usg S' kd' ∧ ts_le S S'
theorem uGo.rf {S : ts} {kd : Nat → Bool} (h : usg S kd) : uGo S kd S kd := ⟨ug_le.rf _, h, h.1.le⟩
theorem uGo.trans {S S' S'' : ts} {kd kd' kd'' : Nat → Bool} (h1 : uGo S kd S' kd') (h2 : uGo S' kd' S'' kd'') : uGo S kd S'' kd'' := ⟨h1.1.trans h2.1, h2.2.1, h1.2.2.trans h2.2.2⟩
theorem uGo.wf {S S' : ts} {kd kd' : Nat → Bool} (h : uGo S kd S' kd') {m : Bool} {t : ev} (hw : uwf (uG S kd) m (uap S.2.1 t)) : uwf (uG S' kd') m (uap S'.2.1 t) := by
  rw [← h.2.2 t]; exact uwf.ap h.2.1.2.1 (hw.mono h.1)
theorem uwf_var {g : ug} {u : Nat} (hu : u < g.1) : uwf g (g.2.1 u) (.var u) := by
  cases h : g.2.1 u <;> exact ⟨hu, h⟩
theorem usg.put {S : ts} {kd : Nat → Bool} (h : usg S kd) {v : Nat} {t : ev} (hv : v < S.1) (ho : uoc v (uap S.2.1 t) = false) (hw : uwf (uG S kd) (kd v) (uap S.2.1 t))
    (hl : kd v = true → ∀ k, k < 10 → uhs (S.2.2.2.1 v) k = true → uget (uap S.2.1 t) k = none ∧ ∀ u, uend (uap S.2.1 t) = some u → uhs (S.2.2.2.1 u) k = true) : uGo S kd (ts_put S v (uap S.2.1 t)) kd := by
  refine ⟨ug_le.rf _, ⟨ts_put_ok h.1 ho, ?_, ?_⟩, ts_put_le h.1⟩
  · refine ugs.comp h.2.1 (fun u hu => ?_)
    show uwf (uG S kd) (kd u) (uon v (uap S.2.1 t) u) ∧ _
    unfold uon
    by_cases e : u = v
    · subst e
      simp only [if_pos]
      exact ⟨hw, fun hk k h1 h2 => hl hk k h1 h2⟩
    · simp only [if_neg e]
      exact ⟨uwf_var (g := uG S kd) hu, fun hk k h1 h2 => ⟨rfl, fun w hw => by simp only [uend, Option.some.injEq] at hw; subst hw; exact h2⟩⟩
  · intro u hu
    have hu : S.1 ≤ u := hu
    show uap (uon v _) (S.2.1 u) = _
    rw [h.2.2 u hu]
    show uon v _ u = _
    unfold uon; rw [if_neg (by omega)]
theorem put_eq {S : ts} (h : ts_ok S) {v : Nat} {t : ev} (hvn : S.2.1 v = .var v) (ho : uoc v (uap S.2.1 t) = false) : uap (ts_put S v (uap S.2.1 t)).2.1 (.var v) = uap (ts_put S v (uap S.2.1 t)).2.1 t := by
  show uap (uon v _) (S.2.1 v) = uap (fun u => uap (uon v (uap S.2.1 t)) (S.2.1 u)) t
  rw [← uap_ap, hvn]
  show uon v _ v = _
  rw [uap_id (h.can t) (fun u hu => by unfold uon; rw [if_neg (fun e => by subst e; rw [ho] at hu; cases hu)])]
  unfold uon; rw [if_pos rfl]
theorem tBind_good {S S' : ts} {kd : Nat → Bool} (h : usg S kd) {v : Nat} {t : ev} (hv : v < S.1) (hk : kd v = false) (hvn : S.2.1 v = .var v) (hw : uwf (uG S kd) false (uap S.2.1 t)) (hb : tBind S v (uap S.2.1 t) = .inr S') : uGo S kd S' kd ∧ uap S'.2.1 (.var v) = uap S'.2.1 t := by
  unfold tBind at hb
  by_cases ho : uoc v (uap S.2.1 t) = true
  · rw [if_pos ho] at hb; cases hb
  · rw [if_neg ho] at hb
    have ho : uoc v (uap S.2.1 t) = false := by cases e : uoc v (uap S.2.1 t) with | true => exact absurd e ho | false => rfl
    have h1 : uGo S kd (ts_put S v (uap S.2.1 t)) kd := h.put hv ho (by rw [hk]; exact hw) (fun h9 => by rw [hk] at h9; cases h9)
    have h2 := put_eq h.1 hvn ho
    split at hb
    · unfold tLike at hb
      split at hb
      · cases hb
      · cases hb; exact ⟨h1, h2⟩
    · cases hb; exact ⟨h1, h2⟩
theorem tClose_good {S S' : ts} {kd : Nat → Bool} (h : usg S kd) {v : Nat} {f : Nat → Option ev} {x : Int32} {en : ev} (hv : v < S.1) (hk : kd v = true) (hvn : S.2.1 v = .var v) (hU : uwf (uG S kd) true (usome f x en 10)) (hr : urow en) (hen : uap S.2.1 en = en) (hne : ∀ k, uget en k = none)
    (hd : ∀ k, k < 10 → uhs (S.2.2.2.1 v) k = true → uhs x k = false) (hel : ∀ u, uend en = some u → ∀ k, k < 10 → uhs (S.2.2.2.1 v) k = true → uhs (S.2.2.2.1 u) k = true) (hc : tClose S v (usome f x en 10) = .inr S') :
    uGo S kd S' kd ∧ uap S'.2.1 (.var v) = uap S'.2.1 (usome f x en 10) ∧ ∀ u, u ≠ v → S.2.1 u = .var u → S'.2.1 u = .var u := by
  unfold tClose at hc
  by_cases ho : uoc v (uap S.2.1 (usome f x en 10)) = true
  · rw [if_pos ho] at hc; cases hc
  · rw [if_neg ho] at hc
    have ho : uoc v (uap S.2.1 (usome f x en 10)) = false := by cases e : uoc v (uap S.2.1 (usome f x en 10)) with | true => exact absurd e ho | false => rfl
    cases hc
    refine ⟨h.put hv ho (by rw [hk]; exact hU.ap h.2.1) (fun _ k h1 h2 => ?_), put_eq h.1 hvn ho, fun u hu h9 => ?_⟩
    · have hu := urow_some (f := f) (x := x) 10 en hr
      rw [uget_ap _ hu, uend_ap _ hu, uget_some, uend_some, hne, hd k h1 h2]
      have e1 : ((uend en).bind fun v => uget (S.2.1 v) k) = none := by
        have := uget_ap (s := S.2.1) (l := k) en hr
        rw [hen, hne] at this; exact this.symm
      have e2 : ((uend en).bind fun v => uend (S.2.1 v)) = uend en := by
        have := uend_ap (s := S.2.1) en hr
        rw [hen] at this; exact this.symm
      rw [e1, e2]
      exact ⟨by simp, fun u hu => hel u hu k h1 h2⟩
    · show uap (uon v _) (S.2.1 u) = _
      rw [h9]; show uon v _ u = _
      unfold uon; rw [if_neg hu]
/-- a new variable of the other kind or the same -/
theorem usg.new {S : ts} {kd : Nat → Bool} (h : usg S kd) (x : Int32) (k : Bool) (c : Int32) (b : Bool) : uGo S kd (ts_new S x k c) (fun u => if u = S.1 then b else kd u) := by
  have hg : ug_le (uG S kd) (uG (ts_new S x k c) (fun u => if u = S.1 then b else kd u)) := by
    refine ⟨Nat.le_succ _, fun v hv => ?_⟩
    have hv : v < S.1 := hv
    have hne : v ≠ S.1 := by omega
    exact ⟨if_neg hne, if_neg hne⟩
  refine ⟨hg, ⟨h.1, fun v hv => ?_, fun v hv => h.2.2 v (Nat.le_of_succ_le hv)⟩, h.1.le⟩
  have hv : v < S.1 + 1 := hv
  by_cases e : v = S.1
  · show uwf _ (if v = S.1 then b else kd v) (S.2.1 v) ∧ _
    have h9 : S.2.1 v = .var v := h.2.2 v (by omega)
    rw [show (ts_new S x k c).2.1 v = .var v from h9]
    refine ⟨?_, fun _ j h1 h2 => ⟨rfl, fun u hu => by simp only [uend, Option.some.injEq] at hu; subst hu; exact h2⟩⟩
    rw [h9]
    exact uwf_var (g := uG (ts_new S x k c) (fun u => if u = S.1 then b else kd u)) hv
  · have hv2 : v < S.1 := by omega
    obtain ⟨a1, a2⟩ := h.2.1 v hv2
    show uwf _ (if v = S.1 then b else kd v) (S.2.1 v) ∧ ((if v = S.1 then b else kd v) = true → ∀ j, j < 10 → uhs (if v = S.1 then c else S.2.2.2.1 v) j = true → uget (S.2.1 v) j = none ∧ ∀ u, uend (S.2.1 v) = some u → uhs (if u = S.1 then c else S.2.2.2.1 u) j = true)
    rw [if_neg e, if_neg e]
    refine ⟨a1.mono hg, fun hk j h1 h2 => ?_⟩
    obtain ⟨b1, b2⟩ := a2 hk j h1 h2
    refine ⟨b1, fun u hu => ?_⟩
    have a1 : uwf (uG S kd) true (S.2.1 v) := by have := a1; rw [show (uG S kd).2.1 v = true from hk] at this; exact this
    have h8 := (a1.row.2.2.2 u hu).1
    have h8 : u < S.1 := h8
    rw [if_neg (by omega)]; exact b2 u hu
