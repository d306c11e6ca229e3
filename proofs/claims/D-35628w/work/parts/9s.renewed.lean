/-! ===== the model: renewing, walked ===== -/
set_option maxRecDepth 100000
/-- nothing of gl is in it -/
def noG (gl : List Nat) (T : ev) : Prop := ∀ g ∈ gl, uoc g T = false
theorem uth_noG {gl : List Nat} {n : Nat} {T : ev} (hlt : ∀ u, uoc u T = true → u < n) (h : uap (uth gl n) T = T) : noG gl T := by
  intro g hg
  cases h9 : uoc g T with
  | false => rfl
  | true =>
    have h8 := (uoc_ap (s := uth gl n) (t := T) (v := n + gl.idxOf g)).2 ⟨g, h9, by rw [uth_in hg]; simp [uoc]⟩
    rw [h] at h8
    exact absurd (hlt _ h8) (by omega)
theorem uth_id {gl : List Nat} {n : Nat} {T : ev} (hc : ucan T) (h : noG gl T) : uap (uth gl n) T = T := uap_id hc (fun v hv => uth_not (fun h9 => by rw [h v h9] at hv; cases hv))
/-- changed by renewing -/
def mCh (M0 : mm_M) (L0 : List Nat) (vr : Nat → Nat) (D : Nat → Bool) (S : ts) (gl : List Nat) (b : Nat) : Prop := ∃ tb, mtp M0 L0 vr D tb false b ∧ ¬ noG gl (uap S.2.1 tb)
open Classical in
/-- what is to be renewed yet -/
noncomputable def mNu (M0 M : mm_M) (L0 : List Nat) (vr : Nat → Nat) (D : Nat → Bool) (S : ts) (gl : List Nat) (mark : Int64) : Nat := L0.countP fun b => decide (mCh M0 L0 vr D S gl b ∧ ¬ mk M mark b)
/-- while the model renews: M0, L0 is what was there -/
def NM (M0 : mm_M) (L0 : List Nat) (vr : Nat → Nat) (D : Nat → Bool) (S : ts) (gl : List Nat) (n : Nat) (mark : Int64) (M : mm_M) (L : List Nat) : Prop :=
  mL mark M0 M ∧ (∀ z ∈ L0, z ∈ L) ∧ mCI M L vr D S ∧ ∀ b ∈ L0, mk M mark b → ∀ tb, mtp M0 L0 vr D tb false b → ∃ k is fr to rw cm a', M b = some (mt_E k is fr to rw cm mark (some a')) ∧ (∃ t', mtp M L vr D t' false a' ∧ uap S.2.1 t' = uap (uth gl n) (uap S.2.1 tb)) ∧ (noG gl (uap S.2.1 tb) → a' = b)
theorem mL.mk {mark : Int64} {M M' : mm_M} (h : mL mark M M') {b : Nat} (hb : mk M mark b) : mk M' mark b := by
  obtain ⟨k, is, fr, to, rw, cm, cp, h1⟩ := hb
  obtain ⟨cm', sn', cp', h2, h3⟩ := h.t h1
  rcases h3 with h3 | h3 <;> (subst h3; exact ⟨_, _, _, _, _, _, _, h2⟩)
theorem mL.atC {mark : Int64} {M M' : mm_M} {a ci : Nat} {fs : List Value} (h : mL mark M M') (ha : M a = some (.inr (ci, fs))) (hc : ci ≠ 20 ∧ ci ≠ 22) : M' a = some (.inr (ci, fs)) := by
  rcases h a _ ha with k1 | ⟨k2, is2, fr2, to2, rw2, cm2, sn2, cp2, cm3, sn3, cp3, e, -⟩ | ⟨is2, lk2, cm2, cm3, e, -⟩
  · exact k1
  · exact absurd (Prod.mk.inj (Sum.inr.inj e)).1 hc.1
  · exact absurd (Prod.mk.inj (Sum.inr.inj e)).1 hc.2
theorem mL.atA {mark : Int64} {M M' : mm_M} {a : Nat} {x : ClassId × vp_A} (h : mL mark M M') (ha : M a = some (.inl x)) : M' a = some (.inl x) := by
  rcases h a _ ha with k1 | ⟨k2, is2, fr2, to2, rw2, cm2, sn2, cp2, cm3, sn3, cp3, e, -⟩ | ⟨is2, lk2, cm2, cm3, e, -⟩
  · exact k1
  · cases e
  · cases e
theorem AL.mL {Z : mm_G} {mark : Int64} {M M' : mm_M} {a ar cap : Nat} {xs : List (Option Nat)} (h : AL Z M a ar cap xs) (hL : mL mark M M') : AL Z M' a ar cap xs := by
  obtain ⟨md, f, k1, k2, k3⟩ := h
  exact ⟨md, f, hL.atC k1 (by decide), hL.atA k2, k3⟩
theorem mt_now.light {mark : Int64} {M M' : mm_M} (hx : mL mark M M') : ∀ {d a b : Nat}, mt_now M d a b → mt_now M' d a b := by
  intro d
  induction d with
  | zero => rintro a b ⟨h1, k, fr, to, rw, cm, sn, cp, h2⟩; obtain ⟨cm', sn', cp', h3, -⟩ := hx.t (is := none) h2; exact ⟨h1, _, _, _, _, _, _, _, h3⟩
  | succ d ih => rintro a b ⟨q, k, fr, to, rw, cm, sn, cp, h1, h2⟩; obtain ⟨cm', sn', cp', h3, -⟩ := hx.t (is := some q) h1; exact ⟨q, _, _, _, _, _, _, _, h3, ih h2⟩
theorem mr_now.light {mark : Int64} {M M' : mm_M} (hx : mL mark M M') : ∀ {d a b : Nat}, mr_now M d a b → mr_now M' d a b := by
  intro d
  induction d with
  | zero => rintro a b ⟨h1, k, lb, ty, rs, lk, cm, h2⟩; obtain ⟨cm', h3⟩ := hx.r (is := none) h2; exact ⟨h1, _, _, _, _, _, _, h3⟩
  | succ d ih => rintro a b ⟨q, k, lb, ty, rs, lk, cm, h1, h2⟩; obtain ⟨cm', h3⟩ := hx.r (is := some q) h1; exact ⟨q, _, _, _, _, _, _, h3, ih h2⟩
/-- a mark and a copy are put -/
theorem mL.two {mark : Int64} {M M' : mm_M} {b : Nat} {k : Int32} {is fr to rw cp cp' : Option Nat} {cm : Bool} {sn : Int64} (h : M b = some (mt_E k is fr to rw cm sn cp)) (h' : M' b = some (mt_E k is fr to rw cm mark cp')) (hk : ∀ z, z ≠ b → M' z = M z) : mL mark M M' := fun q e he => by
  by_cases hq : q = b
  · subst hq; rw [h] at he; cases he; exact Or.inr (Or.inl ⟨_, _, _, _, _, _, _, _, _, _, _, rfl, h', Or.inr rfl⟩)
  · exact Or.inl ((hk q hq).trans he)
theorem countP_mono {α : Type} {p q : α → Bool} : ∀ (L : List α), (∀ x ∈ L, q x = true → p x = true) → L.countP q ≤ L.countP p
  | [], _ => Nat.le_refl _
  | x :: L, h => by
    have h1 := countP_mono L (fun y hy => h y (List.mem_cons_of_mem _ hy))
    rw [List.countP_cons, List.countP_cons]
    have h2 := h x List.mem_cons_self
    cases hq : q x <;> cases hp : p x <;> simp_all <;> omega
theorem countP_less {α : Type} {p q : α → Bool} {a : α} : ∀ (L : List α), (∀ x ∈ L, q x = true → p x = true) → a ∈ L → p a = true → q a = false → L.countP q + 1 ≤ L.countP p
  | [], _, ha, _, _ => absurd ha List.not_mem_nil
  | x :: L, h, ha, h1, h2 => by
    rw [List.countP_cons, List.countP_cons]
    rcases List.mem_cons.1 ha with rfl | ha
    · have h3 := countP_mono L (fun y hy => h y (List.mem_cons_of_mem _ hy))
      rw [h1, h2]; simp; omega
    · have h3 := countP_less L (fun y hy => h y (List.mem_cons_of_mem _ hy)) ha h1 h2
      have h4 := h x List.mem_cons_self
      cases hq : q x <;> cases hp : p x <;> simp_all <;> omega
theorem mNu_mono {M0 M M' : mm_M} {L0 : List Nat} {vr : Nat → Nat} {D : Nat → Bool} {S : ts} {gl : List Nat} {mark : Int64} (h : ∀ b ∈ L0, mk M mark b → mk M' mark b) : mNu M0 M' L0 vr D S gl mark ≤ mNu M0 M L0 vr D S gl mark := by
  unfold mNu
  refine countP_mono L0 (fun b hb h9 => ?_)
  simp only [decide_eq_true_eq] at h9 ⊢
  exact ⟨h9.1, fun h8 => h9.2 (h b hb h8)⟩
theorem mNu_less {M0 M M' : mm_M} {L0 : List Nat} {vr : Nat → Nat} {D : Nat → Bool} {S : ts} {gl : List Nat} {mark : Int64} (h : ∀ b ∈ L0, mk M mark b → mk M' mark b) {b : Nat} (hb : b ∈ L0) (hc : mCh M0 L0 vr D S gl b) (h1 : ¬ mk M mark b) (h2 : mk M' mark b) : mNu M0 M' L0 vr D S gl mark + 1 ≤ mNu M0 M L0 vr D S gl mark := by
  unfold mNu
  refine countP_less (a := b) L0 (fun b hb h9 => ?_) hb ?_ ?_
  · simp only [decide_eq_true_eq] at h9 ⊢
    exact ⟨h9.1, fun h8 => h9.2 (h b hb h8)⟩
  · simp only [decide_eq_true_eq]; exact ⟨hc, h1⟩
  · simp only [decide_eq_false_iff_not]; exact fun h9 => h9.2 h2
theorem NM.mark {M0 M : mm_M} {L0 L : List Nat} {vr : Nat → Nat} {D : Nat → Bool} {S : ts} {gl : List Nat} {n : Nat} {mark : Int64} (h : NM M0 L0 vr D S gl n mark M L) {M' : mm_M} {b a' : Nat} {t1 t' : ev} {k : Int32} {is fr to rw cp : Option Nat} {cm : Bool} {sn : Int64} (hb : b ∈ L0) (hI : ∀ u v, D u = true → D v = true → vr u = vr v → u = v) (ht : mtp M0 L0 vr D t1 false b) (hbM : M b = some (mt_E k is fr to rw cm sn cp)) (hM' : M' b = some (mt_E k is fr to rw cm mark (some a'))) (hk : ∀ z, z ≠ b → M' z = M z)
    (ht' : mtp M L vr D t' false a') (he : uap S.2.1 t' = uap (uth gl n) (uap S.2.1 t1)) (hun : noG gl (uap S.2.1 t1) → a' = b) : NM M0 L0 vr D S gl n mark M' L ∧ mL mark M M' ∧ (∀ z, mk M' mark z → z = b ∨ mk M mark z) := by
  have hL := mL.two hbM hM' hk
  obtain ⟨h1, h2, h3, h4⟩ := h
  have hmk : ∀ z, mk M' mark z → z = b ∨ mk M mark z := fun z hz => by
    by_cases e : z = b
    · exact Or.inl e
    · obtain ⟨k9, is9, fr9, to9, rw9, cm9, cp9, h9⟩ := hz
      rw [hk z e] at h9
      exact Or.inr ⟨_, _, _, _, _, _, _, h9⟩
  refine ⟨⟨h1.trans hL, h2, ?_, fun z hz hm tb htb => ?_⟩, hL, hmk⟩
  · refine h3.light hL rfl rfl (fun v hD => ?_)
    rcases (h3.2.1 v hD).2 with ⟨is9, sn9, cp9, k1, k2⟩ | ⟨is9, k1, k2⟩
    · by_cases e : vr v = b
      · rw [e, hbM] at k1
        obtain ⟨rfl, rfl, rfl, rfl, rfl, rfl, rfl, rfl⟩ := mt_inj (Option.some.inj k1)
        exact Or.inl ⟨_, _, _, by rw [e]; exact hM', k2⟩
      · exact Or.inl ⟨_, _, _, by rw [hk _ e]; exact k1, k2⟩
    · by_cases e : vr v = b
      · rw [e, hbM] at k1; exact absurd (Option.some.inj k1) mt_ne_mr
      · exact Or.inr ⟨_, by rw [hk _ e]; exact k1, k2⟩
  · by_cases e : z = b
    · subst e
      obtain ⟨rfl, -⟩ := mtp.uniq hI _ _ _ _ _ htb ht
      exact ⟨_, _, _, _, _, _, _, hM', ⟨t', ht'.light hL, he⟩, hun⟩
    · rcases hmk z hm with e9 | hm9
      · exact absurd e9 e
      · obtain ⟨k9, is9, fr9, to9, rw9, cm9, a9, k1, ⟨t9, k2, k3⟩, k4⟩ := h4 z hz hm9 tb htb
        exact ⟨_, _, _, _, _, _, _, by rw [hk z e]; exact k1, ⟨t9, k2.light hL, k3⟩, k4⟩
theorem NM.ext {M0 M : mm_M} {L0 L : List Nat} {vr : Nat → Nat} {D : Nat → Bool} {S : ts} {gl : List Nat} {n : Nat} {mark : Int64} (h : NM M0 L0 vr D S gl n mark M L) (hC0 : mCI M0 L0 vr D S) {M' : mm_M} (hx : mm_Ext M M') : NM M0 L0 vr D S gl n mark M' L ∧ ∀ z ∈ L0, mk M' mark z → mk M mark z := by
  obtain ⟨h1, h2, h3, h4⟩ := h
  have hmk : ∀ z ∈ L0, mk M' mark z → mk M mark z := fun z hz hm => by
    obtain ⟨m, t, h5⟩ := hC0.2.2.1 z hz
    obtain ⟨k9, is9, fr9, to9, rw9, cm9, cp9, h9⟩ := hm
    rw [hx z (h5.light h1).has] at h9
    exact ⟨_, _, _, _, _, _, _, h9⟩
  refine ⟨⟨h1.trans hx.mL, h2, h3.ext hx, fun z hz hm tb htb => ?_⟩, hmk⟩
  obtain ⟨k9, is9, fr9, to9, rw9, cm9, a9, k1, ⟨t9, k2, k3⟩, k4⟩ := h4 z hz (hmk z hz hm) tb htb
  exact ⟨_, _, _, _, _, _, _, hx.at k1, ⟨t9, k2.ext hx, k3⟩, k4⟩
theorem NM.grow {M0 M : mm_M} {L0 L : List Nat} {vr : Nat → Nat} {D : Nat → Bool} {S : ts} {gl : List Nat} {n : Nat} {mark : Int64} (h : NM M0 L0 vr D S gl n mark M L) {q : Nat} (hC : mCI M (q :: L) vr D S) : NM M0 L0 vr D S gl n mark M (q :: L) := by
  obtain ⟨h1, h2, h3, h4⟩ := h
  refine ⟨h1, fun z hz => List.mem_cons_of_mem _ (h2 z hz), hC, fun z hz hm tb htb => ?_⟩
  obtain ⟨k9, is9, fr9, to9, rw9, cm9, a9, k1, ⟨t9, k2, k3⟩, k4⟩ := h4 z hz hm tb htb
  exact ⟨_, _, _, _, _, _, _, k1, ⟨t9, mtp.mono (mK.rf _) (fun _ h => List.mem_cons_of_mem _ h) (fun _ h => ⟨h, rfl⟩) _ _ _ k2, k3⟩, k4⟩
/-- what is marked by a walk is no larger than s -/
def mSz (M0 : mm_M) (L0 : List Nat) (vr : Nat → Nat) (D : Nat → Bool) (S : ts) (mark : Int64) (M M' : mm_M) (s : Nat) : Prop := ∀ b ∈ L0, mk M' mark b → mk M mark b ∨ ∀ tb, mtp M0 L0 vr D tb false b → SizeOf.sizeOf (uap S.2.1 tb) ≤ s
theorem mSz.trans {M0 : mm_M} {L0 : List Nat} {vr : Nat → Nat} {D : Nat → Bool} {S : ts} {mark : Int64} {M N O : mm_M} {s s' s9 : Nat} (h1 : mSz M0 L0 vr D S mark M N s) (h2 : mSz M0 L0 vr D S mark N O s') (e1 : s ≤ s9) (e2 : s' ≤ s9) : mSz M0 L0 vr D S mark M O s9 := fun b hb hm => by
  rcases h2 b hb hm with h3 | h3
  · rcases h1 b hb h3 with h4 | h4
    · exact Or.inl h4
    · exact Or.inr fun tb htb => Nat.le_trans (h4 tb htb) e1
  · exact Or.inr fun tb htb => Nat.le_trans (h3 tb htb) e2
theorem mSz.not {M0 : mm_M} {L0 : List Nat} {vr : Nat → Nat} {D : Nat → Bool} {S : ts} {mark : Int64} {M M' : mm_M} {s b : Nat} {tb : ev} (h : mSz M0 L0 vr D S mark M M' s) (hb : b ∈ L0) (htb : mtp M0 L0 vr D tb false b) (hs : s < SizeOf.sizeOf (uap S.2.1 tb)) (hn : ¬ mk M mark b) : ¬ mk M' mark b := fun hm => by
  rcases h b hb hm with h1 | h1
  · exact hn h1
  · exact absurd (h1 tb htb) (by omega)
theorem mk_of {M : mm_M} {mark : Int64} {b : Nat} {k : Int32} {is fr to rw cp : Option Nat} {cm : Bool} {sn : Int64} (h : M b = some (mt_E k is fr to rw cm sn cp)) : mk M mark b ↔ sn = mark := by
  constructor
  · rintro ⟨k9, is9, fr9, to9, rw9, cm9, cp9, h9⟩
    rw [h] at h9
    exact (mt_inj (Option.some.inj h9)).2.2.2.2.2.2.1
  · rintro rfl; exact ⟨_, _, _, _, _, _, _, h⟩
theorem mt_now.b {M : mm_M} : ∀ {d a b : Nat}, mt_now M d a b → ∀ {d' b' : Nat}, mt_now M d' a b' → b = b' := by
  intro d
  induction d with
  | zero =>
    rintro a b ⟨h1, k, fr, to, rw, cm, sn, cp, h2⟩ d' b' h'
    cases d' with
    | zero => exact h1.symm.trans h'.1
    | succ d' => obtain ⟨q, k', fr', to', rw', cm', sn', cp', h3, -⟩ := h'; rw [h2] at h3; exact absurd (mt_inj (Option.some.inj h3)).2.1 (by simp)
  | succ d ih =>
    rintro a b ⟨q, k, fr, to, rw, cm, sn, cp, h1, h2⟩ d' b' h'
    cases d' with
    | zero => obtain ⟨-, k', fr', to', rw', cm', sn', cp', h3⟩ := h'; rw [h1] at h3; exact absurd (mt_inj (Option.some.inj h3)).2.1 (by simp)
    | succ d' =>
      obtain ⟨q', k', fr', to', rw', cm', sn', cp', h3, h4⟩ := h'
      rw [h1] at h3
      obtain ⟨-, e, -⟩ := mt_inj (Option.some.inj h3)
      cases e
      exact ih h2 h4
theorem mr_now.b {M : mm_M} : ∀ {d a b : Nat}, mr_now M d a b → ∀ {d' b' : Nat}, mr_now M d' a b' → b = b' := by
  intro d
  induction d with
  | zero =>
    rintro a b ⟨h1, k, lb, ty, rs, lk, cm, h2⟩ d' b' h'
    cases d' with
    | zero => exact h1.symm.trans h'.1
    | succ d' => obtain ⟨q, k', lb', ty', rs', lk', cm', h3, -⟩ := h'; rw [h2] at h3; exact absurd (mr_inj (Option.some.inj h3)).2.1 (by simp)
  | succ d ih =>
    rintro a b ⟨q, k, lb, ty, rs, lk, cm, h1, h2⟩ d' b' h'
    cases d' with
    | zero => obtain ⟨-, k', lb', ty', rs', lk', cm', h3⟩ := h'; rw [h1] at h3; exact absurd (mr_inj (Option.some.inj h3)).2.1 (by simp)
    | succ d' =>
      obtain ⟨q', k', lb', ty', rs', lk', cm', h3, h4⟩ := h'
      rw [h1] at h3
      obtain ⟨-, e, -⟩ := mr_inj (Option.some.inj h3)
      cases e
      exact ih h2 h4

