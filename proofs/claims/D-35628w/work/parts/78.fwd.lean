/-! ===== a type's cell comes to be another; new cells ===== -/
set_option maxRecDepth 100000
theorem countP_flip {p q : Nat → Bool} {a : Nat} : ∀ (L : List Nat), L.Nodup → a ∈ L → p a = true → q a = false → (∀ x ∈ L, x ≠ a → p x = q x) → L.countP q + 1 = L.countP p := by
  intro L
  induction L with
  | nil => intro _ h; cases h
  | cons b L ih =>
    intro hn ha hp hq hx
    rw [List.nodup_cons] at hn
    by_cases hb : b = a
    · subst hb
      rw [List.countP_cons_of_pos hp, List.countP_cons_of_neg (by rw [hq]; decide)]
      have e : L.countP q = L.countP p := List.countP_congr (fun x hxL => by rw [hx x (List.mem_cons_of_mem _ hxL) (fun h9 => hn.1 (h9 ▸ hxL))])
      rw [e]
    · have ha2 : a ∈ L := by rcases List.mem_cons.1 ha with h | h; exact absurd h.symm hb; exact h
      have h1 := ih hn.2 ha2 hp hq (fun x hxL h2 => hx x (List.mem_cons_of_mem _ hxL) h2)
      have h2 := hx b List.mem_cons_self hb
      cases h3 : p b with
      | true => rw [List.countP_cons_of_pos h3, List.countP_cons_of_pos (by rw [← h2]; exact h3)]; omega
      | false => rw [List.countP_cons_of_neg (p := p) (by rw [h3]; decide), List.countP_cons_of_neg (p := q) (by rw [← h2, h3]; decide)]; exact h1
/-- the cell a comes to be o -/
theorem uCI.fwd {Z : mm_G} {M M' : mm_M} {L : List Nat} {vr : Nat → Nat} {S S' : ts} (hC : uCI Z M L vr S) (hK : uK M M') {a o : Nat} (hq : ∀ q, q ≠ a → M' q = M q) (haL : a ∈ L) (hna : unext M a = none) (hno : unext M' a = some o) (hon : unext M o = none) (hoa : o ≠ a) {m : Bool} {t t' : ev} (hta : tp Z M L vr S.1 t m a) (hto : tp Z M L vr S.1 t' m o)
    (h1 : S'.1 = S.1) (hok : ts_ok S') (hle : ts_le S S') (h4 : ∀ v, S.1 ≤ v → S'.2.1 v = .var v) (h5 : ∀ v, v < S.1 → ∀ u, uoc u (S'.2.1 v) = true → u < S.1)
    (hv : ∀ v, v < S.1 → (∃ bd, M' (vr v) = some (co_E bd (S'.2.2.2.2 v) (S'.2.2.1 v)) ∧ (bd = none ↔ S'.2.1 v = .var v)) ∨ ∃ bd, M' (vr v) = some (cr_E bd (S'.2.2.2.2 v) (S'.2.2.1 v) (S'.2.2.2.1 v)) ∧ (bd = none ↔ S'.2.1 v = .var v)) (he : uap S'.2.1 t = uap S'.2.1 t') : uCI Z M' L vr S' ∧ uPhi M' L + 1 = uPhi M L := by
  obtain ⟨⟨c1, c2, c3, c4, c5⟩, d1, d2, ⟨rk, d3⟩, d4, d5⟩ := hC
  have mono : ∀ t m a, tp Z M L vr S.1 t m a → tp Z M' L vr S.1 t m a := fun t m a h => tp.mono hK (fun _ h => h) (fun _ _ => rfl) (Nat.le_refl _) t m a h
  have hnx : ∀ q, q ≠ a → unext M' q = unext M q := fun q h => by unfold unext; rw [hq q h]
  have hphi : uPhi M' L + 1 = uPhi M L := countP_flip L c2 haL (by rw [hna]; rfl) (by rw [hno]; rfl) (fun x _ h => by rw [hnx x h])
  refine ⟨⟨⟨hok, c2, by rw [h1]; exact c3, by rw [h1]; exact h4, by rw [h1]; exact h5⟩, ?_, ?_, ⟨fun q => if q = o then 0 else rk q + 1, ?_⟩, hK.atC d4 (by decide), hK.atC d5 (by decide)⟩, hphi⟩
  · intro v h3
    rw [h1] at h3
    exact ⟨(d1 v h3).1, hv v h3⟩
  · intro q hqL
    obtain ⟨m, t, h⟩ := d2 q hqL
    rw [h1]; exact ⟨m, t, mono _ _ _ h⟩
  · intro q hqL
    have hb := (d3 q hqL).1
    refine ⟨?_, fun x hx => ?_⟩
    · by_cases h : q = o
      · dsimp only; rw [if_pos h]; omega
      · dsimp only; rw [if_neg h]; omega
    · by_cases h : q = a
      · subst h
        rw [hno] at hx
        cases hx
        refine ⟨fun _ => ?_, m, t, t', ?_⟩
        · dsimp only; rw [if_pos rfl, if_neg (Ne.symm hoa)]; omega
        · rw [h1]; exact ⟨mono _ _ _ hta, mono _ _ _ hto, he⟩
      · rw [hnx q h] at hx
        have hqo : q ≠ o := fun h9 => by rw [h9, hon] at hx; cases hx
        obtain ⟨e1, m2, t2, t3, e2, e3, e4⟩ := (d3 q hqL).2 x hx
        refine ⟨fun hxL => ?_, m2, t2, t3, ?_⟩
        · have := e1 hxL
          dsimp only
          rw [if_neg hqo]
          by_cases h9 : x = o
          · rw [if_pos h9]; omega
          · rw [if_neg h9]; omega
        · rw [h1]; exact ⟨mono _ _ _ e2, mono _ _ _ e3, by rw [← hle t2, e4, hle t3]⟩
theorem ts_ok.var {S : ts} (h : ts_ok S) {t : ev} {u : Nat} (hu : uoc u (uap S.2.1 t) = true) : S.2.1 u = .var u := by
  obtain ⟨x, -, h2⟩ := uoc_ap.1 hu
  exact h.2 x u h2
theorem uap_on_id {v : Nat} {T t : ev} (hc : ucan t) (h : uoc v t = false) : uap (uon v T) t = t := uap_id hc (fun u hu => by
  unfold uon
  rw [if_neg (fun h9 => by rw [h9, h] at hu; cases hu)])
theorem uins_var {l w : Nat} {t r : ev} : uins l t r ≠ .var w := by
  intro h
  unfold uins at h
  split at h
  · split at h <;> cases h
  · cases h
theorem uap_eq_var {s : Nat → ev} {w : Nat} {t : ev} (h : uap s t = .var w) : ∃ x, t = .var x ∧ s x = .var w := by
  match t with
  | .var v => exact ⟨v, rfl, h⟩
  | .add (.pow x k) y => exact absurd h uins_var
  | .sub _ _ | .pow _ _ | .num _ | .natCast _ | .intCast _ | .neg _ | .mul _ _ => cases h
  | .add (.num _) _ | .add (.natCast _) _ | .add (.intCast _) _ | .add (.var _) _ | .add (.neg _) _ | .add (.add _ _) _ | .add (.sub _ _) _ | .add (.mul _ _) _ => cases h
theorem ts_put_ok {S : ts} (h : ts_ok S) {v : Nat} {t : ev} (hv : uoc v (uap S.2.1 t) = false) : ts_ok (ts_put S v (uap S.2.1 t)) := by
  have hon : ∀ u, ucan (uon v (uap S.2.1 t) u) := by
    intro u
    unfold uon
    split
    · exact h.can t
    · rfl
  refine ⟨fun w => ucan_ap hon (S.2.1 w), fun w u hu => ?_⟩
  obtain ⟨x, hx1, hx2⟩ := uoc_ap.1 hu
  show uap (uon v (uap S.2.1 t)) (S.2.1 u) = .var u
  rcases uoc_on.1 hx2 with ⟨rfl, h2⟩ | ⟨h2, rfl⟩
  · rw [h.var h2]
    show uon _ _ u = .var u
    unfold uon
    rw [if_neg (fun h9 => by rw [h9, hv] at h2; cases h2)]
  · rw [h.2 w _ hx1]
    show uon _ _ _ = _
    unfold uon
    rw [if_neg h2]
theorem tp.lt {Z : mm_G} {M : mm_M} {L : List Nat} {vr : Nat → Nat} {n : Nat} {u : Nat} : ∀ (N : Nat) (t : ev) (m : Bool) (a : Nat), SizeOf.sizeOf t < N → tp Z M L vr n t m a → uoc u t = true → u < n := by
  intro N
  induction N with
  | zero => intro t m a h; omega
  | succ N ih =>
    intro t m a hz h hu
    unfold tp at h
    split at h
    · simp [uoc] at hu
    · simp only [uoc, beq_iff_eq] at hu; subst hu; exact h.1
    · rename_i x y
      obtain ⟨f, g, sm, bq, rn, -, h1, hf, hg⟩ := h
      have z1 : SizeOf.sizeOf (Lean.Grind.CommRing.Expr.sub x y) = 1 + SizeOf.sizeOf x + SizeOf.sizeOf y := rfl
      simp only [uoc, Bool.or_eq_true] at hu
      rcases hu with hu | hu
      · exact ih x _ _ (by omega) hf hu
      · exact ih y _ _ (by omega) hg hu
    · rename_i r k
      obtain ⟨iv, w, sm, bq, rn, -, hk, h1, hw⟩ := h
      have z1 : SizeOf.sizeOf (Lean.Grind.CommRing.Expr.pow r k) = 1 + SizeOf.sizeOf r + SizeOf.sizeOf k := rfl
      exact ih r _ _ (by omega) hw hu
    · simp [uoc] at hu
    · simp only [uoc, beq_iff_eq] at hu; subst hu; exact h.1
    · rename_i x k r
      obtain ⟨ty, rs, hk, h1, hx, hr⟩ := h
      have z1 : SizeOf.sizeOf (Lean.Grind.CommRing.Expr.add (.pow x k) r) = 1 + (1 + SizeOf.sizeOf x + SizeOf.sizeOf k) + SizeOf.sizeOf r := rfl
      simp only [uoc, Bool.or_eq_true] at hu
      rcases hu with hu | hu
      · exact ih x _ _ (by omega) hx hu
      · exact ih r _ _ (by omega) hr hu
    · exact h.elim
/-- what is seen of a type has known variables alone -/
theorem uCI.seen {Z : mm_G} {M : mm_M} {L : List Nat} {vr : Nat → Nat} {S : ts} (hC : uCI Z M L vr S) {t : ev} {m : Bool} {a : Nat} (h : tp Z M L vr S.1 t m a) {u : Nat} (hu : uoc u (uap S.2.1 t) = true) : u < S.1 := by
  obtain ⟨x, h1, h2⟩ := uoc_ap.1 hu
  exact hC.1.2.2.2.2 x (tp.lt _ t m a (Nat.lt_succ_self _) h h1) u h2
/-- a variable (a type's or a row's) is put: what is seen of it -/
theorem uCI.put {Z : mm_G} {M M' : mm_M} {L : List Nat} {vr : Nat → Nat} {S : ts} (hC : uCI Z M L vr S) (hK : uK M M') {v o : Nat} (hv : v < S.1) (hq : ∀ q, q ≠ vr v → M' q = M q) (hna : unext M (vr v) = none) (hon : unext M o = none) {m : Bool} {t' : ev} (hta : tp Z M L vr S.1 (.var v) m (vr v)) (hto : tp Z M L vr S.1 t' m o) (hoc : uoc v (uap S.2.1 t') = false)
    (hm : (∃ lv lk, M (vr v) = some (co_E none lv lk) ∧ M' (vr v) = some (co_E (some o) lv lk)) ∨ ∃ lv lk lc, M (vr v) = some (cr_E none lv lk lc) ∧ M' (vr v) = some (cr_E (some o) lv lk lc)) : uCI Z M' L vr (ts_put S v (uap S.2.1 t')) ∧ uPhi M' L + 1 = uPhi M L := by
  have hok := hC.1.1
  have hsv : S.2.1 v = .var v := by
    rcases (hC.2.1 v hv).2 with ⟨bd, h1, h2⟩ | ⟨bd, h1, h2⟩
    · rw [unext_co h1] at hna; exact h2.1 hna
    · rw [unext_cr h1] at hna; exact h2.1 hna
  have hno : unext M' (vr v) = some o := by
    rcases hm with ⟨lv, lk, -, h⟩ | ⟨lv, lk, lc, -, h⟩
    · rw [unext_co h]
    · rw [unext_cr h]
  have hov : o ≠ vr v := fun h9 => by
    rw [h9] at hto
    obtain ⟨e1, -⟩ := tp.uniq hC.1.2.2.1 _ _ _ _ _ hta hto
    rw [← e1] at hoc
    simp only [uap, hsv, uoc, beq_self_eq_true] at hoc
    cases hoc
  have hputT : uap (uon v (uap S.2.1 t')) (uap S.2.1 t') = uap S.2.1 t' := uap_on_id (hok.can t') hoc
  refine hC.fwd (S' := ts_put S v (uap S.2.1 t')) hK hq (hC.2.1 v hv).1 hna hno hon hov hta hto rfl (ts_put_ok hok hoc) (ts_put_le hok) ?_ ?_ ?_ ?_
  · intro w hw
    show uap (uon v (uap S.2.1 t')) (S.2.1 w) = .var w
    rw [hC.1.2.2.2.1 w hw]
    show uon v _ w = .var w
    unfold uon; rw [if_neg (by omega)]
  · intro w hw u hu
    have hu : uoc u (uap (uon v (uap S.2.1 t')) (S.2.1 w)) = true := hu
    obtain ⟨x, h1, h2⟩ := uoc_ap.1 hu
    rcases uoc_on.1 h2 with ⟨-, h3⟩ | ⟨-, rfl⟩
    · exact hC.seen hto h3
    · exact hC.1.2.2.2.2 w hw _ h1
  · intro w hw
    by_cases hwv : w = v
    · subst hwv
      have hne : (ts_put S w (uap S.2.1 t')).2.1 w ≠ .var w := by
        show uap (uon w (uap S.2.1 t')) (S.2.1 w) ≠ .var w
        rw [hsv]
        show uon w (uap S.2.1 t') w ≠ .var w
        unfold uon
        rw [if_pos rfl]
        intro h9
        rw [h9] at hoc
        simp [uoc] at hoc
      rcases hm with ⟨lv, lk, h1, h2⟩ | ⟨lv, lk, lc, h1, h2⟩
      · rcases (hC.2.1 w hw).2 with ⟨bd, h3, -⟩ | ⟨bd, h3, -⟩
        · obtain ⟨-, e2, e3⟩ := co_inj (Option.some.inj (h1.symm.trans h3))
          exact Or.inl ⟨some o, by rw [h2, e2, e3]; rfl, (fun h9 => by cases h9), fun h9 => absurd h9 hne⟩
        · rw [h1] at h3; simp at h3
      · rcases (hC.2.1 w hw).2 with ⟨bd, h3, -⟩ | ⟨bd, h3, -⟩
        · rw [h1] at h3; simp at h3
        · obtain ⟨-, e2, e3, e4⟩ := cr_inj (Option.some.inj (h1.symm.trans h3))
          exact Or.inr ⟨some o, by rw [h2, e2, e3, e4]; rfl, (fun h9 => by cases h9), fun h9 => absurd h9 hne⟩
    · have hn : vr w ≠ vr v := fun h => hwv (hC.1.2.2.1 w v hw hv h)
      have key : S.2.1 w = .var w ↔ (ts_put S v (uap S.2.1 t')).2.1 w = .var w := by
        show _ ↔ uap (uon v (uap S.2.1 t')) (S.2.1 w) = .var w
        constructor
        · intro h9
          rw [h9]
          show uon v _ w = .var w
          unfold uon; rw [if_neg hwv]
        · intro h9
          obtain ⟨x, hsw, h9⟩ := uap_eq_var h9
          unfold uon at h9
          by_cases hx : x = v
          · rw [if_pos hx] at h9
            exact hok.var (t := t') (by rw [h9]; simp [uoc])
          · rw [if_neg hx] at h9; rw [hsw]; exact h9
      rw [hq _ hn]
      rcases (hC.2.1 w hw).2 with ⟨bd, h3, h4⟩ | ⟨bd, h3, h4⟩
      · exact Or.inl ⟨bd, h3, h4.trans key⟩
      · exact Or.inr ⟨bd, h3, h4.trans key⟩
  · show uap (fun u => uap (uon v (uap S.2.1 t')) (S.2.1 u)) (.var v) = uap (fun u => uap (uon v (uap S.2.1 t')) (S.2.1 u)) t'
    rw [← uap_ap, ← uap_ap, hputT]
    show uap (uon v (uap S.2.1 t')) (S.2.1 v) = _
    rw [hsv]
    show uon v (uap S.2.1 t') v = _
    unfold uon; rw [if_pos rfl]
