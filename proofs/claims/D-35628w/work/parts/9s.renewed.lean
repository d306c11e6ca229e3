/-! ===== the model: renewing, walked ===== -/
set_option maxRecDepth 100000
/-- nothing of gl is in it -/
def noG (gl : List Nat) (T : ev) : Prop := ∀ g ∈ gl, uoc g T = false
theorem uth_noG {gl : List Nat} {n : Nat} {T : ev} (hlt : ∀ u, uoc u T = true → u < n) (h : uap (uth gl n) T = T) : noG gl T := by
  intro g hg
  cases h9 : uoc g T with
  | false => rfl
  | true =>
    have h8 := (uoc_ap (s := uth gl n) (t := T) (v := n + gl.idxOf g)).2 ⟨g, h9, by rw [uth_in hg]; simp [uoc]⟩
    rw [h] at h8
    exact absurd (hlt _ h8) (by omega)
theorem uth_id {gl : List Nat} {n : Nat} {T : ev} (hc : ucan T) (h : noG gl T) : uap (uth gl n) T = T := uap_id hc (fun v hv => uth_not (fun h9 => by rw [h v h9] at hv; cases hv))
/-- changed by renewing -/
def mCh (M0 : mm_M) (L0 : List Nat) (vr : Nat → Nat) (D : Nat → Bool) (S : ts) (gl : List Nat) (b : Nat) : Prop := ∃ tb, mtp M0 L0 vr D tb false b ∧ ¬ noG gl (uap S.2.1 tb)
/-- what is to be renewed yet -/
noncomputable def mNu (M0 M : mm_M) (L0 : List Nat) (vr : Nat → Nat) (D : Nat → Bool) (S : ts) (gl : List Nat) (mark : Int64) : Nat := L0.countP fun b => @decide (mCh M0 L0 vr D S gl b ∧ ¬ mk M mark b) (Classical.propDecidable _)
/-- while the model renews: M0, L0 is what was there -/
def NM (M0 : mm_M) (L0 : List Nat) (vr : Nat → Nat) (D : Nat → Bool) (S : ts) (gl : List Nat) (n : Nat) (mark : Int64) (M : mm_M) (L : List Nat) : Prop :=
  mL mark M0 M ∧ ((∀ z ∈ L0, z ∈ L) ∧ ∀ z ∈ L, z ∉ L0 → ∃ k fr to rw, M z = some (mt_E k none fr to rw false 0 none)) ∧ mCI M L vr D S ∧ ∀ b ∈ L0, mk M mark b → ∀ tb, mtp M0 L0 vr D tb false b → ∃ k is fr to rw cm a', M b = some (mt_E k is fr to rw cm mark (some a')) ∧ (∃ t', mtp M L vr D t' false a' ∧ uap S.2.1 t' = uap (uth gl n) (uap S.2.1 tb)) ∧ (noG gl (uap S.2.1 tb) → a' = b)
theorem mL.mk {mark : Int64} {M M' : mm_M} (h : mL mark M M') {b : Nat} (hb : mk M mark b) : mk M' mark b := by
  obtain ⟨k, is, fr, to, rw, cm, cp, h1⟩ := hb
  obtain ⟨cm', sn', cp', h2, h3⟩ := h.t h1
  rcases h3 with h3 | h3 <;> (subst h3; exact ⟨_, _, _, _, _, _, _, h2⟩)
theorem AL.mL {Z : mm_G} {mark : Int64} {M M' : mm_M} {a ar cap : Nat} {xs : List (Option Nat)} (h : AL Z M a ar cap xs) (hL : mL mark M M') : AL Z M' a ar cap xs := by
  obtain ⟨md, f, k1, k2, k3⟩ := h
  exact ⟨md, f, hL.atC k1 (by decide), hL.atA k2, k3⟩
theorem mt_now.light {mark : Int64} {M M' : mm_M} (hx : mL mark M M') : ∀ {d a b : Nat}, mt_now M d a b → mt_now M' d a b := by
  intro d
  induction d with
  | zero => rintro a b ⟨h1, k, fr, to, rw, cm, sn, cp, h2⟩; obtain ⟨cm', sn', cp', h3, -⟩ := hx.t (is := none) h2; exact ⟨h1, _, _, _, _, _, _, _, h3⟩
  | succ d ih => rintro a b ⟨q, k, fr, to, rw, cm, sn, cp, h1, h2⟩; obtain ⟨cm', sn', cp', h3, -⟩ := hx.t (is := some q) h1; exact ⟨q, _, _, _, _, _, _, _, h3, ih h2⟩
theorem mr_now.light {mark : Int64} {M M' : mm_M} (hx : mL mark M M') : ∀ {d a b : Nat}, mr_now M d a b → mr_now M' d a b := by
  intro d
  induction d with
  | zero => rintro a b ⟨h1, k, lb, ty, rs, lk, cm, h2⟩; obtain ⟨cm', h3⟩ := hx.r (is := none) h2; exact ⟨h1, _, _, _, _, _, _, h3⟩
  | succ d ih => rintro a b ⟨q, k, lb, ty, rs, lk, cm, h1, h2⟩; obtain ⟨cm', h3⟩ := hx.r (is := some q) h1; exact ⟨q, _, _, _, _, _, _, h3, ih h2⟩
/-- a mark and a copy are put -/
theorem mL.two {mark : Int64} {M M' : mm_M} {b : Nat} {k : Int32} {is fr to rw cp cp' : Option Nat} {cm : Bool} {sn : Int64} (h : M b = some (mt_E k is fr to rw cm sn cp)) (h' : M' b = some (mt_E k is fr to rw cm mark cp')) (hk : ∀ z, z ≠ b → M' z = M z) : mL mark M M' := fun q e he => by
  by_cases hq : q = b
  · subst hq; rw [h] at he; cases he; exact Or.inr (Or.inl ⟨_, _, _, _, _, _, _, _, _, _, _, rfl, h', Or.inr rfl⟩)
  · exact Or.inl ((hk q hq).trans he)
theorem countP_mono {α : Type} {p q : α → Bool} : ∀ (L : List α), (∀ x ∈ L, q x = true → p x = true) → L.countP q ≤ L.countP p
  | [], _ => Nat.le_refl _
  | x :: L, h => by
    have h1 := countP_mono L (fun y hy => h y (List.mem_cons_of_mem _ hy))
    rw [List.countP_cons, List.countP_cons]
    have h2 := h x List.mem_cons_self
    cases hq : q x <;> cases hp : p x <;> simp_all <;> omega
theorem countP_less {α : Type} {p q : α → Bool} {a : α} : ∀ (L : List α), (∀ x ∈ L, q x = true → p x = true) → a ∈ L → p a = true → q a = false → L.countP q + 1 ≤ L.countP p
  | [], _, ha, _, _ => absurd ha List.not_mem_nil
  | x :: L, h, ha, h1, h2 => by
    rw [List.countP_cons, List.countP_cons]
    rcases List.mem_cons.1 ha with rfl | ha
    · have h3 := countP_mono L (fun y hy => h y (List.mem_cons_of_mem _ hy))
      rw [h1, h2]; simp; omega
    · have h3 := countP_less L (fun y hy => h y (List.mem_cons_of_mem _ hy)) ha h1 h2
      have h4 := h x List.mem_cons_self
      cases hq : q x <;> cases hp : p x <;> simp_all <;> omega
theorem mNu_mono {M0 M M' : mm_M} {L0 : List Nat} {vr : Nat → Nat} {D : Nat → Bool} {S : ts} {gl : List Nat} {mark : Int64} (h : ∀ b ∈ L0, mk M mark b → mk M' mark b) : mNu M0 M' L0 vr D S gl mark ≤ mNu M0 M L0 vr D S gl mark := by
  unfold mNu
  refine countP_mono L0 (fun b hb h9 => ?_)
  simp only [decide_eq_true_eq] at h9 ⊢
  exact ⟨h9.1, fun h8 => h9.2 (h b hb h8)⟩
theorem mNu_less {M0 M M' : mm_M} {L0 : List Nat} {vr : Nat → Nat} {D : Nat → Bool} {S : ts} {gl : List Nat} {mark : Int64} (h : ∀ b ∈ L0, mk M mark b → mk M' mark b) {b : Nat} (hb : b ∈ L0) (hc : mCh M0 L0 vr D S gl b) (h1 : ¬ mk M mark b) (h2 : mk M' mark b) : mNu M0 M' L0 vr D S gl mark + 1 ≤ mNu M0 M L0 vr D S gl mark := by
  unfold mNu
  refine countP_less (a := b) L0 (fun b hb h9 => ?_) hb ?_ ?_
  · simp only [decide_eq_true_eq] at h9 ⊢
    exact ⟨h9.1, fun h8 => h9.2 (h b hb h8)⟩
  · simp only [decide_eq_true_eq]; exact ⟨hc, h1⟩
  · simp only [decide_eq_false_iff_not]; exact fun h9 => h9.2 h2
theorem NM.mark {M0 M : mm_M} {L0 L : List Nat} {vr : Nat → Nat} {D : Nat → Bool} {S : ts} {gl : List Nat} {n : Nat} {mark : Int64} (h : NM M0 L0 vr D S gl n mark M L) {M' : mm_M} {b a' : Nat} {t1 t' : ev} {k : Int32} {is fr to rw cp : Option Nat} {cm : Bool} {sn : Int64} (hb : b ∈ L0) (hI : ∀ u v, D u = true → D v = true → vr u = vr v → u = v) (ht : mtp M0 L0 vr D t1 false b) (hbM : M b = some (mt_E k is fr to rw cm sn cp)) (hM' : M' b = some (mt_E k is fr to rw cm mark (some a'))) (hk : ∀ z, z ≠ b → M' z = M z)
    (ht' : mtp M L vr D t' false a') (he : uap S.2.1 t' = uap (uth gl n) (uap S.2.1 t1)) (hun : noG gl (uap S.2.1 t1) → a' = b) : NM M0 L0 vr D S gl n mark M' L ∧ mL mark M M' ∧ (∀ z, mk M' mark z → z = b ∨ mk M mark z) ∧ mk M' mark b := by
  have hL := mL.two hbM hM' hk
  obtain ⟨h1, h2, h3, h4⟩ := h
  have hmk : ∀ z, mk M' mark z → z = b ∨ mk M mark z := fun z hz => by
    by_cases e : z = b
    · exact Or.inl e
    · obtain ⟨k9, is9, fr9, to9, rw9, cm9, cp9, h9⟩ := hz
      rw [hk z e] at h9
      exact Or.inr ⟨_, _, _, _, _, _, _, h9⟩
  refine ⟨⟨h1.trans hL, ⟨h2.1, fun z hz hn => by rw [hk z (fun e => hn (e ▸ hb))]; exact h2.2 z hz hn⟩, ?_, fun z hz hm tb htb => ?_⟩, hL, hmk, ⟨_, _, _, _, _, _, _, hM'⟩⟩
  · refine h3.light hL rfl rfl (fun v hD => ?_)
    rcases (h3.2.1 v hD).2 with ⟨is9, sn9, cp9, k1, k2⟩ | ⟨is9, k1, k2⟩
    · by_cases e : vr v = b
      · rw [e, hbM] at k1
        obtain ⟨rfl, rfl, rfl, rfl, rfl, rfl, rfl, rfl⟩ := mt_inj (Option.some.inj k1)
        exact Or.inl ⟨_, _, _, by rw [e]; exact hM', k2⟩
      · exact Or.inl ⟨_, _, _, by rw [hk _ e]; exact k1, k2⟩
    · by_cases e : vr v = b
      · rw [e, hbM] at k1; exact absurd (Option.some.inj k1) mt_ne_mr
      · exact Or.inr ⟨_, by rw [hk _ e]; exact k1, k2⟩
  · by_cases e : z = b
    · subst e
      obtain ⟨rfl, -⟩ := mtp.uniq hI _ _ _ _ _ htb ht
      exact ⟨_, _, _, _, _, _, _, hM', ⟨t', ht'.light hL, he⟩, hun⟩
    · rcases hmk z hm with e9 | hm9
      · exact absurd e9 e
      · obtain ⟨k9, is9, fr9, to9, rw9, cm9, a9, k1, ⟨t9, k2, k3⟩, k4⟩ := h4 z hz hm9 tb htb
        exact ⟨_, _, _, _, _, _, _, by rw [hk z e]; exact k1, ⟨t9, k2.light hL, k3⟩, k4⟩
theorem NM.ext {M0 M : mm_M} {L0 L : List Nat} {vr : Nat → Nat} {D : Nat → Bool} {S : ts} {gl : List Nat} {n : Nat} {mark : Int64} (h : NM M0 L0 vr D S gl n mark M L) (hC0 : mCI M0 L0 vr D S) {M' : mm_M} (hx : mm_Ext M M') : NM M0 L0 vr D S gl n mark M' L ∧ ∀ z ∈ L0, mk M' mark z → mk M mark z := by
  obtain ⟨h1, h2, h3, h4⟩ := h
  have hmk : ∀ z ∈ L0, mk M' mark z → mk M mark z := fun z hz hm => by
    obtain ⟨m, t, h5⟩ := hC0.2.2.1 z hz
    obtain ⟨k9, is9, fr9, to9, rw9, cm9, cp9, h9⟩ := hm
    rw [hx z (h5.light h1).has] at h9
    exact ⟨_, _, _, _, _, _, _, h9⟩
  refine ⟨⟨h1.trans hx.mL, ⟨h2.1, fun z hz hn => by obtain ⟨k, fr, to, rw, k9⟩ := h2.2 z hz hn; exact ⟨_, _, _, _, hx.at k9⟩⟩, h3.ext hx, fun z hz hm tb htb => ?_⟩, hmk⟩
  obtain ⟨k9, is9, fr9, to9, rw9, cm9, a9, k1, ⟨t9, k2, k3⟩, k4⟩ := h4 z hz (hmk z hz hm) tb htb
  exact ⟨_, _, _, _, _, _, _, hx.at k1, ⟨t9, k2.ext hx, k3⟩, k4⟩
theorem NM.grow {M0 M : mm_M} {L0 L : List Nat} {vr : Nat → Nat} {D : Nat → Bool} {S : ts} {gl : List Nat} {n : Nat} {mark : Int64} (h : NM M0 L0 vr D S gl n mark M L) {q : Nat} (hC : mCI M (q :: L) vr D S) {k : Int32} {fr to rw : Option Nat} (hq : M q = some (mt_E k none fr to rw false 0 none)) : NM M0 L0 vr D S gl n mark M (q :: L) := by
  obtain ⟨h1, h2, h3, h4⟩ := h
  refine ⟨h1, ⟨fun z hz => List.mem_cons_of_mem _ (h2.1 z hz), fun z hz hn => by
    rcases List.mem_cons.1 hz with rfl | hz
    · exact ⟨_, _, _, _, hq⟩
    · exact h2.2 z hz hn⟩, hC, fun z hz hm tb htb => ?_⟩
  obtain ⟨k9, is9, fr9, to9, rw9, cm9, a9, k1, ⟨t9, k2, k3⟩, k4⟩ := h4 z hz hm tb htb
  exact ⟨_, _, _, _, _, _, _, k1, ⟨t9, mtp.mono (mK.rf _) (fun _ h => List.mem_cons_of_mem _ h) (fun _ h => ⟨h, rfl⟩) _ _ _ k2, k3⟩, k4⟩
/-- what is marked by a walk is no larger than s -/
def mSz (M0 : mm_M) (L0 : List Nat) (vr : Nat → Nat) (D : Nat → Bool) (S : ts) (mark : Int64) (M M' : mm_M) (s : Nat) : Prop := ∀ b ∈ L0, mk M' mark b → mk M mark b ∨ ∀ tb, mtp M0 L0 vr D tb false b → SizeOf.sizeOf (uap S.2.1 tb) ≤ s
theorem mSz.trans {M0 : mm_M} {L0 : List Nat} {vr : Nat → Nat} {D : Nat → Bool} {S : ts} {mark : Int64} {M N O : mm_M} {s s' s9 : Nat} (h1 : mSz M0 L0 vr D S mark M N s) (h2 : mSz M0 L0 vr D S mark N O s') (e1 : s ≤ s9) (e2 : s' ≤ s9) : mSz M0 L0 vr D S mark M O s9 := fun b hb hm => by
  rcases h2 b hb hm with h3 | h3
  · rcases h1 b hb h3 with h4 | h4
    · exact Or.inl h4
    · exact Or.inr fun tb htb => Nat.le_trans (h4 tb htb) e1
  · exact Or.inr fun tb htb => Nat.le_trans (h3 tb htb) e2
theorem mSz.not {M0 : mm_M} {L0 : List Nat} {vr : Nat → Nat} {D : Nat → Bool} {S : ts} {mark : Int64} {M M' : mm_M} {s b : Nat} {tb : ev} (h : mSz M0 L0 vr D S mark M M' s) (hb : b ∈ L0) (htb : mtp M0 L0 vr D tb false b) (hs : s < SizeOf.sizeOf (uap S.2.1 tb)) (hn : ¬ mk M mark b) : ¬ mk M' mark b := fun hm => by
  rcases h b hb hm with h1 | h1
  · exact hn h1
  · exact absurd (h1 tb htb) (by omega)
theorem NM.st {M0 M : mm_M} {L0 L : List Nat} {vr : Nat → Nat} {D : Nat → Bool} {S : ts} {gl : List Nat} {n st : Nat} (h : NM M0 L0 vr D S gl n (nJ st) M L) (h0 : mSt M0 L0 st) (hC0 : mCI M0 L0 vr D S) : mSt M L st := ⟨h0.1, fun b hb k is fr to rw cm sn cp h1 => by
  by_cases hL : b ∈ L0
  · obtain ⟨m, t, h2⟩ := hC0.2.2.1 b hL
    cases m with
    | true =>
      obtain ⟨k2, is2, lb2, ty2, rs2, lk2, cm2, h3, -⟩ := h2.cellR
      obtain ⟨cm3, h4⟩ := h.1.r h3
      rw [h4] at h1; exact absurd (Option.some.inj h1).symm mt_ne_mr
    | false =>
      obtain ⟨-, k2, is2, fr2, to2, rw2, cm2, sn2, cp2, h3⟩ := h2.cellT
      obtain ⟨cm3, sn3, cp3, h4, h5⟩ := h.1.t h3
      rw [h4] at h1
      obtain ⟨-, -, -, -, -, -, rfl, -⟩ := mt_inj (Option.some.inj h1)
      rcases h5 with rfl | rfl
      · exact h0.2 b hL _ _ _ _ _ _ _ _ h3
      · exact ⟨st, Nat.le_refl _, rfl⟩
  · obtain ⟨k2, fr2, to2, rw2, h3⟩ := h.2.1.2 b hb hL
    rw [h3] at h1
    obtain ⟨-, -, -, -, -, -, rfl, -⟩ := mt_inj (Option.some.inj h1)
    exact ⟨0, Nat.zero_le _, rfl⟩⟩
theorem mk_of {M : mm_M} {mark : Int64} {b : Nat} {k : Int32} {is fr to rw cp : Option Nat} {cm : Bool} {sn : Int64} (h : M b = some (mt_E k is fr to rw cm sn cp)) : mk M mark b ↔ sn = mark := by
  constructor
  · rintro ⟨k9, is9, fr9, to9, rw9, cm9, cp9, h9⟩
    rw [h] at h9
    exact (mt_inj (Option.some.inj h9)).2.2.2.2.2.2.1
  · rintro rfl; exact ⟨_, _, _, _, _, _, _, h⟩
theorem mt_now.b {M : mm_M} : ∀ {d a b : Nat}, mt_now M d a b → ∀ {d' b' : Nat}, mt_now M d' a b' → b = b' := by
  intro d
  induction d with
  | zero =>
    rintro a b ⟨h1, k, fr, to, rw, cm, sn, cp, h2⟩ d' b' h'
    cases d' with
    | zero => exact h1.symm.trans h'.1
    | succ d' => obtain ⟨q, k', fr', to', rw', cm', sn', cp', h3, -⟩ := h'; rw [h2] at h3; exact absurd (mt_inj (Option.some.inj h3)).2.1 (by simp)
  | succ d ih =>
    rintro a b ⟨q, k, fr, to, rw, cm, sn, cp, h1, h2⟩ d' b' h'
    cases d' with
    | zero => obtain ⟨-, k', fr', to', rw', cm', sn', cp', h3⟩ := h'; rw [h1] at h3; exact absurd (mt_inj (Option.some.inj h3)).2.1 (by simp)
    | succ d' =>
      obtain ⟨q', k', fr', to', rw', cm', sn', cp', h3, h4⟩ := h'
      rw [h1] at h3
      obtain ⟨-, e, -⟩ := mt_inj (Option.some.inj h3)
      cases e
      exact ih h2 h4
theorem mr_now.b {M : mm_M} : ∀ {d a b : Nat}, mr_now M d a b → ∀ {d' b' : Nat}, mr_now M d' a b' → b = b' := by
  intro d
  induction d with
  | zero =>
    rintro a b ⟨h1, k, lb, ty, rs, lk, cm, h2⟩ d' b' h'
    cases d' with
    | zero => exact h1.symm.trans h'.1
    | succ d' => obtain ⟨q, k', lb', ty', rs', lk', cm', h3, -⟩ := h'; rw [h2] at h3; exact absurd (mr_inj (Option.some.inj h3)).2.1 (by simp)
  | succ d ih =>
    rintro a b ⟨q, k, lb, ty, rs, lk, cm, h1, h2⟩ d' b' h'
    cases d' with
    | zero => obtain ⟨-, k', lb', ty', rs', lk', cm', h3⟩ := h'; rw [h1] at h3; exact absurd (mr_inj (Option.some.inj h3)).2.1 (by simp)
    | succ d' =>
      obtain ⟨q', k', lb', ty', rs', lk', cm', h3, h4⟩ := h'
      rw [h1] at h3
      obtain ⟨-, e, -⟩ := mr_inj (Option.some.inj h3)
      cases e
      exact ih h2 h4

set_option maxHeartbeats 4000000 in
set_option maxRecDepth 100000 in
theorem c_renewedM (l : Launch) (Z : mm_G) (M0 : mm_M) (L0 : List Nat) (vr : Nat → Nat) (D : Nat → Bool) (S : ts) (kk : Nat → Bool) (gl gr : List Nat) (n nm : Nat) (mark : Int64) (kq ty lt lr ra arr cpr : Nat) (nx : Option Nat) (fr9 : Nat → Option Nat) (hC0 : mCI M0 L0 vr D S) (hkq : M0 kq = some (mn_E nm ty lt lr nx)) (hlr : AL Z M0 lr arr cpr (gr.map fun v => some (vr v))) (hra : M0 ra = some (.inl (Z.2.1 7, gr.length, .inr (.inr (.inr (.inr fr9)))))) (hfr : ∀ j g, gr[j]? = some g → fr9 j = some (vr (n + gl.idxOf g))) (hgr : ∀ g ∈ gr, g ∈ gl ∧ D g = true) (hgl : ∀ g ∈ gl, kk g = true → g ∈ gr) (hgt : ∀ g ∈ gl, kk g = false → mk M0 mark (vr g)) (hgD : ∀ g ∈ gr, D (n + gl.idxOf g) = true ∧ S.2.1 (n + gl.idxOf g) = .var (n + gl.idxOf g) ∧ ∃ is lk cm, M0 (vr (n + gl.idxOf g)) = some (mr_E 0 is 0 none none lk cm)) (hmk0 : mark ≠ 0) (hgl9 : gr.length < 2 ^ 15) (N : Nat) : (∀ (T t : ev) (a : Nat) (M : mm_M) (L : List Nat), SizeOf.sizeOf T < N → uap S.2.1 t = T → uwf (uG S kk) false T → (∀ u, uoc u T = true → u < n) → NM M0 L0 vr D S gl n mark M L → mtp M0 L0 vr D t false a → mm_D l Z yX2_renewed_2 (ws_ yX2_renewed_2 cX2_renewed_2 9 (some (.object "RowenTongueModel$Type"))) { frames := 2 * uz T + 12, cells := 12 * mNu M0 M L0 vr D S gl mark + 12 * uz T, slots := 8 * (12 * mNu M0 M L0 vr D S gl mark + 12 * uz T), locals := 30 * uz T + 500 } [.ref a, .ref kq, .ref ra, .long mark] M (fun v M' n9 k9 => ∃ (a' : Nat) (L' : List Nat) (t' : ev), v = some (.ref a') ∧ NM M0 L0 vr D S gl n mark M' L' ∧ mL mark M M' ∧ (∀ z ∈ L, z ∈ L') ∧ mtp M' L' vr D t' false a' ∧ uap S.2.1 t' = uap (uth gl n) T ∧ (noG gl T → ∃ d, mt_now M0 d a a') ∧ n9 + 12 * mNu M0 M' L0 vr D S gl mark ≤ 12 * mNu M0 M L0 vr D S gl mark ∧ k9 ≤ 8 * n9 ∧ L'.length ≤ L.length + n9 ∧ mSz M0 L0 vr D S mark M M' (SizeOf.sizeOf T)) mm_nx) ∧
    (∀ (T t : ev) (a : Nat) (M : mm_M) (L : List Nat), SizeOf.sizeOf T < N → uap S.2.1 t = T → uwf (uG S kk) true T → (∀ u, uoc u T = true → u < n) → NM M0 L0 vr D S gl n mark M L → mtp M0 L0 vr D t true a → mm_D l Z yX2_renewedRow (ws_ yX2_renewedRow cX2_renewedRow 8 (some (.object "RowenTongueModel$Row"))) { frames := 2 * (urn T + uz T + 1) + 12, cells := 12 * mNu M0 M L0 vr D S gl mark + 12 * (urn T + uz T + 1), slots := 8 * (12 * mNu M0 M L0 vr D S gl mark + 12 * (urn T + uz T + 1)), locals := 30 * (urn T + uz T + 1) + 500 } [.ref a, .ref kq, .ref ra, .long mark] M (fun v M' n9 k9 => ∃ (a' : Nat) (L' : List Nat) (t' : ev), v = some (.ref a') ∧ NM M0 L0 vr D S gl n mark M' L' ∧ mL mark M M' ∧ (∀ z ∈ L, z ∈ L') ∧ mtp M' L' vr D t' true a' ∧ uap S.2.1 t' = uap (uth gl n) T ∧ (noG gl T → ∃ d, mr_now M0 d a a') ∧ n9 + 12 * mNu M0 M' L0 vr D S gl mark ≤ 12 * mNu M0 M L0 vr D S gl mark + urn T ∧ (noG gl T → n9 + 12 * mNu M0 M' L0 vr D S gl mark ≤ 12 * mNu M0 M L0 vr D S gl mark) ∧ k9 ≤ 8 * n9 ∧ L'.length ≤ L.length + n9 ∧ mSz M0 L0 vr D S mark M M' (SizeOf.sizeOf T)) mm_nx) := by
  induction N with
  | zero => exact ⟨fun _ _ _ _ _ h => absurd h (Nat.not_lt_zero _), fun _ _ _ _ _ h => absurd h (Nat.not_lt_zero _)⟩
  | succ N ih =>
  obtain ⟨ihT, ihR⟩ := ih
  have hI := hC0.1.2.2.1
  refine ⟨fun T t a M L hz hT hww hlt hN htp0 => ?_, fun T t a M L hz hT hww hlt hN htp0 => ?_⟩
  · skip
    refine mm_ofWD (cc := cX2_renewed_2) (maxL := 9) (ret := (some (.object "RowenTongueModel$Type"))) (by decide) rfl (Nat.le_of_ble_eq_true rfl) ?_
    intro p e s m below meth c A ls hx hb hr hlk hml hown hmn hts htab hE hST hA hM hS hl
    replace hl : lv_has ls 9 [(0, .ref a), (1, .ref kq), (2, .ref ra), (3, .long mark)] := hl
    have hL0 := hN.1
    have htpM := htp0.light hL0
    obtain ⟨d1, b1, t1, hn1, htb, he1, hbL, hcs⟩ := hC0.nowT htp0
    have hn1M := mt_now.light hL0 hn1
    refine lv_aload_n hx hb dX2_renewed_2_0 rfl (lv_at hl 0 rfl) ?_
    obtain ⟨-, k9, is9, fr9, to9, rw9, cm9, sn9, cp9, hq9⟩ := (htpM).cellT
    refine mm_callV (As := []) (rest := []) ⟨hx, hb, hml, hown, hts⟩ hE hST hA (c_X25_now l Z hn1M) (cwV 0 hts (lw_V q2604 q2605 q2606 q98 q2607) rfl rfl rfl (by decide +kernel) ⟨(by (try dsimp only); omega), (by (try dsimp only); omega)⟩) hM hS mm_cX25 hq9 rfl hl.1 (Nat.le_of_ble_eq_true rfl) dX2_renewed_2_1 rfl ⟨(by (try dsimp only); omega), (by (try dsimp only); omega)⟩ (fun _ _ _ _ _ _ h9 => h9.elim) (fun v_1 M_2 H locs hp_3 hM hS => ?_)
    obtain ⟨rfl, eM_2⟩ := hp_3
    rw [eM_2] at hM
    refine lv_astore hx hb dX2_renewed_2_4 hl (by decide) rfl (fun ls hl => ?_)
    replace hl : lv_has ls 9 [(5, .ref b1), (0, .ref a), (1, .ref kq), (2, .ref ra), (3, .long mark)] := hl
    have hcan : ucan T := by rw [← hT]; exact hC0.1.1.can t
    rcases hcs with ⟨eT, cm1, sn1, cp1, hb1⟩ | ⟨u, hu, eT, hsu, hbu, sn1, cp1, hb1⟩ | ⟨x1, y1, f1, g1, cm1, sn1, cp1, eT, hb1, hf1, hg1⟩ | ⟨r1, iv1, w1, cm1, sn1, cp1, eT, hb1, hw1⟩
    · skip
      rw [hT] at eT
      obtain ⟨cm2, sn2, cp2, hbM, hsn2⟩ := hL0.t (k := 1) (is := none) (fr := none) (to := none) (rw := none) hb1
      refine lv_aload hx hb dX2_renewed_2_6 (lv_at hl 0 rfl) ?_
      refine va_get (D := Z.1) (ci := 20) (v := .long sn2) (C := RX25) (T := TX25) (N := 8) hx hb hts in_X25 hown hE.1 (hM.at hbM) 0 rfl mm_cX25 6 (by decide) (hts _ q2511) (fun _ h9 => h9) rfl dX2_renewed_2_8 ?_
      refine lv_lload_n hx hb dX2_renewed_2_11 rfl (lv_at hl 4 rfl) ?_
      refine W.lcmp hx hb dX2_renewed_2_12 ?_
      refine lv_if_ne (tgt := 22) hx hb dX2_renewed_2_13 (by decide) (fun c_4 => ?_) (fun c_4 => ?_)
      · skip
        have hsn : sn2 ≠ mark := fun e9 => c_4 (lg_cmp_0.2 e9)
        have hnm : ¬ mk M mark b1 := fun h9 => hsn ((mk_of hbM).1 h9)
        have hno : noG gl T := fun g _ => by rw [eT]; rfl
        refine lv_aload hx hb dX2_renewed_2_22 (lv_at hl 0 rfl) ?_
        refine lv_astore hx hb dX2_renewed_2_24 hl (by decide) rfl (fun ls hl => ?_)
        replace hl : lv_has ls 9 [(6, .ref b1), (5, .ref b1), (0, .ref a), (1, .ref kq), (2, .ref ra), (3, .long mark)] := hl
        refine lv_aload hx hb dX2_renewed_2_26 (lv_at hl 1 rfl) ?_
        refine va_get (D := Z.1) (ci := 20) (v := .int 1) (C := RX25) (T := TX25) (N := 8) hx hb hts in_X25 hown hE.1 (hM.at hbM) 0 rfl mm_cX25 0 (by decide) (hts _ q2504) (fun _ h9 => h9) rfl dX2_renewed_2_28 ?_
        refine lv_iconst (v := 2) hx hb dX2_renewed_2_31 (by decide) ?_
        refine lv_icmp_ne (tgt := 104) hx hb dX2_renewed_2_32 (by decide) (fun _ => ?_) (fun h9 => absurd h9 (by decide))
        refine lv_aload hx hb dX2_renewed_2_104 (lv_at hl 1 rfl) ?_
        refine va_get (D := Z.1) (ci := 20) (v := .int 1) (C := RX25) (T := TX25) (N := 8) hx hb hts in_X25 hown hE.1 (hM.at hbM) 0 rfl mm_cX25 0 (by decide) (hts _ q2504) (fun _ h9 => h9) rfl dX2_renewed_2_106 ?_
        refine lv_iconst (v := 3) hx hb dX2_renewed_2_109 (by decide) ?_
        refine lv_icmp_eq (tgt := 122) hx hb dX2_renewed_2_110 (by decide) (fun h9 => absurd h9 (by decide)) (fun _ => ?_)
        refine lv_aload hx hb dX2_renewed_2_113 (lv_at hl 1 rfl) ?_
        refine va_get (D := Z.1) (ci := 20) (v := .int 1) (C := RX25) (T := TX25) (N := 8) hx hb hts in_X25 hown hE.1 (hM.at hbM) 0 rfl mm_cX25 0 (by decide) (hts _ q2504) (fun _ h9 => h9) rfl dX2_renewed_2_115 ?_
        refine lv_iconst (v := 4) hx hb dX2_renewed_2_118 (by decide) ?_
        refine lv_icmp_ne (tgt := 165) hx hb dX2_renewed_2_119 (by decide) (fun _ => ?_) (fun h9 => absurd h9 (by decide))
        refine lv_aload hx hb dX2_renewed_2_165 (lv_at hl 1 rfl) ?_
        refine lv_lload_n hx hb dX2_renewed_2_167 rfl (lv_at hl 5 rfl) ?_
        refine mm_put (D := Z.1) (ci := 20) (v := .long mark) (ty := .long) (C := RX25) (T := TX25) (N := 8) hx hb hts in_X25 tyX25 tyX25_ok nmX25 hown hE.1 hM hS hbM mm_cX25 6 (by decide) (hts _ q2511) (fun _ h9 => h9) rfl (by decide +kernel) rfl rfl (Nat.le_of_ble_eq_true rfl) dX2_renewed_2_168 (fun H locs hM hS => ?_)
        have hM : mm_P Z.1 mm_cl A (mm_U M b1 (.inr (20, [.int 1, .null, .null, .null, .null, .int (mm_b cm2), .long mark, va_rf cp2]))) H := hM
        have hc_5 : (mm_U M b1 (.inr (20, [.int 1, .null, .null, .null, .null, .int (mm_b cm2), .long mark, va_rf cp2]))) b1 = some (.inr (20, [.int 1, .null, .null, .null, .null, .int (mm_b cm2), .long mark, va_rf cp2])) := mm_U_eq
        obtain ⟨M_6, eM_6⟩ : ∃ z, z = mm_U M b1 (.inr (20, [.int 1, .null, .null, .null, .null, .int (mm_b cm2), .long mark, va_rf cp2])) := ⟨_, rfl⟩
        rw [← eM_6] at hM hc_5
        refine lv_aload hx hb dX2_renewed_2_171 (lv_at hl 1 rfl) ?_
        refine lv_aload hx hb dX2_renewed_2_173 (lv_at hl 0 rfl) ?_
        refine mm_put (D := Z.1) (ci := 20) (v := .ref b1) (ty := .object "RowenTongueModel$Type") (C := RX25) (T := TX25) (N := 8) hx hb hts in_X25 tyX25 tyX25_ok nmX25 hown hE.1 hM hS hc_5 mm_cX25 7 (by decide) (hts _ q2512) (fun _ h9 => h9) rfl (by decide +kernel) rfl rfl (Nat.le_of_ble_eq_true rfl) dX2_renewed_2_175 (fun H locs hM hS => ?_)
        have hM : mm_P Z.1 mm_cl A (mm_U M_6 b1 (.inr (20, [.int 1, .null, .null, .null, .null, .int (mm_b cm2), .long mark, .ref b1]))) H := hM
        have hc_7 : (mm_U M_6 b1 (.inr (20, [.int 1, .null, .null, .null, .null, .int (mm_b cm2), .long mark, .ref b1]))) b1 = some (.inr (20, [.int 1, .null, .null, .null, .null, .int (mm_b cm2), .long mark, .ref b1])) := mm_U_eq
        obtain ⟨M_8, eM_8⟩ : ∃ z, z = mm_U M_6 b1 (.inr (20, [.int 1, .null, .null, .null, .null, .int (mm_b cm2), .long mark, .ref b1])) := ⟨_, rfl⟩
        rw [← eM_8] at hM hc_7
        have hbE := hc_7
        have hkE : ∀ z, z ≠ b1 → M_8 z = M z := fun z hz => by subst eM_8 eM_6; (try rw [mm_U_U]); simp only [mm_U_ne hz]
        obtain ⟨hNE, hLE, hmE, hmB⟩ := hN.mark hbL hI htb hbM hbE hkE (mtp.mono (mK.rf _) hN.2.1.1 (fun _ h => ⟨h, rfl⟩) _ _ _ (htb.light hL0)) (by rw [he1, hT]; exact (uth_id hcan hno).symm) (fun _ => rfl)
        have hszE : mSz M0 L0 vr D S mark M M_8 (SizeOf.sizeOf T) := fun b hb hm => by
          rcases hmE b hm with e9 | h9
          · subst e9; exact Or.inr fun tb htb9 => by rw [(mtp.uniq hI _ _ _ _ _ htb9 htb).1, he1, hT]; exact Nat.le_refl _
          · exact Or.inl h9
        have hnuE := mNu_mono (M0 := M0) (L0 := L0) (vr := vr) (D := D) (S := S) (gl := gl) (fun b _ h => hLE.mk h)
        have hpay : mCh M0 L0 vr D S gl b1 → mNu M0 M_8 L0 vr D S gl mark + 1 ≤ mNu M0 M L0 vr D S gl mark := fun hc9 => mNu_less (fun b _ h => hLE.mk h) hbL hc9 hnm hmB
        refine lv_aload hx hb dX2_renewed_2_178 (lv_at hl 0 rfl) ?_
        exact mm_retaD hx hb hr (Or.inl ⟨_, rfl⟩) (Or.inr ⟨_, rfl⟩) hlk hM hS ⟨b1, L, t1, rfl, hNE, hLE, fun _ h => h, (mtp.mono (mK.rf _) hN.2.1.1 (fun _ h => ⟨h, rfl⟩) _ _ _ (htb.light hL0)).light hLE, by rw [he1, hT]; exact (uth_id hcan hno).symm, fun _ => ⟨d1, hn1⟩, by (try dsimp only); omega, by (try dsimp only); omega, by (try dsimp only); omega, hszE⟩ dX2_renewed_2_180 (by (try dsimp only); omega) (by (try dsimp only); omega)
      · skip
        have hsn : sn2 = mark := lg_cmp_0.1 (by first | exact c_4 | exact Classical.not_not.1 c_4)
        subst hsn
        obtain ⟨k8, is8, fr8, to8, rw8, cm8, a8, hb8, ⟨t8, ht8, he8⟩, hun8⟩ := hN.2.2.2 b1 hbL ⟨_, _, _, _, _, _, _, hbM⟩ t1 htb
        have hcp : cp2 = some a8 := by rw [hbM] at hb8; exact (mt_inj (Option.some.inj hb8)).2.2.2.2.2.2.2
        subst hcp
        refine lv_aload hx hb dX2_renewed_2_16 (lv_at hl 0 rfl) ?_
        refine va_get (D := Z.1) (ci := 20) (v := .ref a8) (C := RX25) (T := TX25) (N := 8) hx hb hts in_X25 hown hE.1 (hM.at hbM) 0 rfl mm_cX25 7 (by decide) (hts _ q2512) (fun _ h9 => h9) rfl dX2_renewed_2_18 ?_
        exact mm_retaD hx hb hr (Or.inl ⟨_, rfl⟩) (Or.inr ⟨_, rfl⟩) hlk hM hS ⟨a8, L, t8, rfl, hN, mL.rf _, fun _ h => h, ht8, by rw [he8, he1, hT], fun hno => ⟨d1, by rw [hun8 (by rw [he1, hT]; exact hno)]; exact hn1⟩, by (try dsimp only); omega, by (try dsimp only); omega, by (try dsimp only); omega, fun b hb hm => Or.inl hm⟩ dX2_renewed_2_21 (by (try dsimp only); omega) (by (try dsimp only); omega)
    · skip
      rw [hT] at eT
      obtain ⟨cm2, sn2, cp2, hbM, hsn2⟩ := hL0.t (k := 0) (is := none) (fr := none) (to := none) (rw := none) hb1
      refine lv_aload hx hb dX2_renewed_2_6 (lv_at hl 0 rfl) ?_
      refine va_get (D := Z.1) (ci := 20) (v := .long sn2) (C := RX25) (T := TX25) (N := 8) hx hb hts in_X25 hown hE.1 (hM.at hbM) 0 rfl mm_cX25 6 (by decide) (hts _ q2511) (fun _ h9 => h9) rfl dX2_renewed_2_8 ?_
      refine lv_lload_n hx hb dX2_renewed_2_11 rfl (lv_at hl 4 rfl) ?_
      refine W.lcmp hx hb dX2_renewed_2_12 ?_
      refine lv_if_ne (tgt := 22) hx hb dX2_renewed_2_13 (by decide) (fun c_4 => ?_) (fun c_4 => ?_)
      · skip
        have hsn : sn2 ≠ mark := fun e9 => c_4 (lg_cmp_0.2 e9)
        have hnm : ¬ mk M mark b1 := fun h9 => hsn ((mk_of hbM).1 h9)
        have hkd : kk u = false := by rw [eT] at hww; exact hww.2
        have hno : noG gl T := fun g hg => by
          rw [eT]; simp only [uoc, beq_eq_false_iff_ne, ne_eq]
          intro e9; subst e9
          exact hnm (hbu ▸ hL0.mk (hgt u hg hkd))
        refine lv_aload hx hb dX2_renewed_2_22 (lv_at hl 0 rfl) ?_
        refine lv_astore hx hb dX2_renewed_2_24 hl (by decide) rfl (fun ls hl => ?_)
        replace hl : lv_has ls 9 [(6, .ref b1), (5, .ref b1), (0, .ref a), (1, .ref kq), (2, .ref ra), (3, .long mark)] := hl
        refine lv_aload hx hb dX2_renewed_2_26 (lv_at hl 1 rfl) ?_
        refine va_get (D := Z.1) (ci := 20) (v := .int 0) (C := RX25) (T := TX25) (N := 8) hx hb hts in_X25 hown hE.1 (hM.at hbM) 0 rfl mm_cX25 0 (by decide) (hts _ q2504) (fun _ h9 => h9) rfl dX2_renewed_2_28 ?_
        refine lv_iconst (v := 2) hx hb dX2_renewed_2_31 (by decide) ?_
        refine lv_icmp_ne (tgt := 104) hx hb dX2_renewed_2_32 (by decide) (fun _ => ?_) (fun h9 => absurd h9 (by decide))
        refine lv_aload hx hb dX2_renewed_2_104 (lv_at hl 1 rfl) ?_
        refine va_get (D := Z.1) (ci := 20) (v := .int 0) (C := RX25) (T := TX25) (N := 8) hx hb hts in_X25 hown hE.1 (hM.at hbM) 0 rfl mm_cX25 0 (by decide) (hts _ q2504) (fun _ h9 => h9) rfl dX2_renewed_2_106 ?_
        refine lv_iconst (v := 3) hx hb dX2_renewed_2_109 (by decide) ?_
        refine lv_icmp_eq (tgt := 122) hx hb dX2_renewed_2_110 (by decide) (fun h9 => absurd h9 (by decide)) (fun _ => ?_)
        refine lv_aload hx hb dX2_renewed_2_113 (lv_at hl 1 rfl) ?_
        refine va_get (D := Z.1) (ci := 20) (v := .int 0) (C := RX25) (T := TX25) (N := 8) hx hb hts in_X25 hown hE.1 (hM.at hbM) 0 rfl mm_cX25 0 (by decide) (hts _ q2504) (fun _ h9 => h9) rfl dX2_renewed_2_115 ?_
        refine lv_iconst (v := 4) hx hb dX2_renewed_2_118 (by decide) ?_
        refine lv_icmp_ne (tgt := 165) hx hb dX2_renewed_2_119 (by decide) (fun _ => ?_) (fun h9 => absurd h9 (by decide))
        refine lv_aload hx hb dX2_renewed_2_165 (lv_at hl 1 rfl) ?_
        refine lv_lload_n hx hb dX2_renewed_2_167 rfl (lv_at hl 5 rfl) ?_
        refine mm_put (D := Z.1) (ci := 20) (v := .long mark) (ty := .long) (C := RX25) (T := TX25) (N := 8) hx hb hts in_X25 tyX25 tyX25_ok nmX25 hown hE.1 hM hS hbM mm_cX25 6 (by decide) (hts _ q2511) (fun _ h9 => h9) rfl (by decide +kernel) rfl rfl (Nat.le_of_ble_eq_true rfl) dX2_renewed_2_168 (fun H locs hM hS => ?_)
        have hM : mm_P Z.1 mm_cl A (mm_U M b1 (.inr (20, [.int 0, .null, .null, .null, .null, .int (mm_b cm2), .long mark, va_rf cp2]))) H := hM
        have hc_5 : (mm_U M b1 (.inr (20, [.int 0, .null, .null, .null, .null, .int (mm_b cm2), .long mark, va_rf cp2]))) b1 = some (.inr (20, [.int 0, .null, .null, .null, .null, .int (mm_b cm2), .long mark, va_rf cp2])) := mm_U_eq
        obtain ⟨M_6, eM_6⟩ : ∃ z, z = mm_U M b1 (.inr (20, [.int 0, .null, .null, .null, .null, .int (mm_b cm2), .long mark, va_rf cp2])) := ⟨_, rfl⟩
        rw [← eM_6] at hM hc_5
        refine lv_aload hx hb dX2_renewed_2_171 (lv_at hl 1 rfl) ?_
        refine lv_aload hx hb dX2_renewed_2_173 (lv_at hl 0 rfl) ?_
        refine mm_put (D := Z.1) (ci := 20) (v := .ref b1) (ty := .object "RowenTongueModel$Type") (C := RX25) (T := TX25) (N := 8) hx hb hts in_X25 tyX25 tyX25_ok nmX25 hown hE.1 hM hS hc_5 mm_cX25 7 (by decide) (hts _ q2512) (fun _ h9 => h9) rfl (by decide +kernel) rfl rfl (Nat.le_of_ble_eq_true rfl) dX2_renewed_2_175 (fun H locs hM hS => ?_)
        have hM : mm_P Z.1 mm_cl A (mm_U M_6 b1 (.inr (20, [.int 0, .null, .null, .null, .null, .int (mm_b cm2), .long mark, .ref b1]))) H := hM
        have hc_7 : (mm_U M_6 b1 (.inr (20, [.int 0, .null, .null, .null, .null, .int (mm_b cm2), .long mark, .ref b1]))) b1 = some (.inr (20, [.int 0, .null, .null, .null, .null, .int (mm_b cm2), .long mark, .ref b1])) := mm_U_eq
        obtain ⟨M_8, eM_8⟩ : ∃ z, z = mm_U M_6 b1 (.inr (20, [.int 0, .null, .null, .null, .null, .int (mm_b cm2), .long mark, .ref b1])) := ⟨_, rfl⟩
        rw [← eM_8] at hM hc_7
        have hbE := hc_7
        have hkE : ∀ z, z ≠ b1 → M_8 z = M z := fun z hz => by subst eM_8 eM_6; (try rw [mm_U_U]); simp only [mm_U_ne hz]
        obtain ⟨hNE, hLE, hmE, hmB⟩ := hN.mark hbL hI htb hbM hbE hkE (mtp.mono (mK.rf _) hN.2.1.1 (fun _ h => ⟨h, rfl⟩) _ _ _ (htb.light hL0)) (by rw [he1, hT]; exact (uth_id hcan hno).symm) (fun _ => rfl)
        have hszE : mSz M0 L0 vr D S mark M M_8 (SizeOf.sizeOf T) := fun b hb hm => by
          rcases hmE b hm with e9 | h9
          · subst e9; exact Or.inr fun tb htb9 => by rw [(mtp.uniq hI _ _ _ _ _ htb9 htb).1, he1, hT]; exact Nat.le_refl _
          · exact Or.inl h9
        have hnuE := mNu_mono (M0 := M0) (L0 := L0) (vr := vr) (D := D) (S := S) (gl := gl) (fun b _ h => hLE.mk h)
        have hpay : mCh M0 L0 vr D S gl b1 → mNu M0 M_8 L0 vr D S gl mark + 1 ≤ mNu M0 M L0 vr D S gl mark := fun hc9 => mNu_less (fun b _ h => hLE.mk h) hbL hc9 hnm hmB
        refine lv_aload hx hb dX2_renewed_2_178 (lv_at hl 0 rfl) ?_
        exact mm_retaD hx hb hr (Or.inl ⟨_, rfl⟩) (Or.inr ⟨_, rfl⟩) hlk hM hS ⟨b1, L, t1, rfl, hNE, hLE, fun _ h => h, (mtp.mono (mK.rf _) hN.2.1.1 (fun _ h => ⟨h, rfl⟩) _ _ _ (htb.light hL0)).light hLE, by rw [he1, hT]; exact (uth_id hcan hno).symm, fun _ => ⟨d1, hn1⟩, by (try dsimp only); omega, by (try dsimp only); omega, by (try dsimp only); omega, hszE⟩ dX2_renewed_2_180 (by (try dsimp only); omega) (by (try dsimp only); omega)
      · skip
        have hsn : sn2 = mark := lg_cmp_0.1 (by first | exact c_4 | exact Classical.not_not.1 c_4)
        subst hsn
        obtain ⟨k8, is8, fr8, to8, rw8, cm8, a8, hb8, ⟨t8, ht8, he8⟩, hun8⟩ := hN.2.2.2 b1 hbL ⟨_, _, _, _, _, _, _, hbM⟩ t1 htb
        have hcp : cp2 = some a8 := by rw [hbM] at hb8; exact (mt_inj (Option.some.inj hb8)).2.2.2.2.2.2.2
        subst hcp
        refine lv_aload hx hb dX2_renewed_2_16 (lv_at hl 0 rfl) ?_
        refine va_get (D := Z.1) (ci := 20) (v := .ref a8) (C := RX25) (T := TX25) (N := 8) hx hb hts in_X25 hown hE.1 (hM.at hbM) 0 rfl mm_cX25 7 (by decide) (hts _ q2512) (fun _ h9 => h9) rfl dX2_renewed_2_18 ?_
        exact mm_retaD hx hb hr (Or.inl ⟨_, rfl⟩) (Or.inr ⟨_, rfl⟩) hlk hM hS ⟨a8, L, t8, rfl, hN, mL.rf _, fun _ h => h, ht8, by rw [he8, he1, hT], fun hno => ⟨d1, by rw [hun8 (by rw [he1, hT]; exact hno)]; exact hn1⟩, by (try dsimp only); omega, by (try dsimp only); omega, by (try dsimp only); omega, fun b hb hm => Or.inl hm⟩ dX2_renewed_2_21 (by (try dsimp only); omega) (by (try dsimp only); omega)
    · skip
      rw [hT] at eT
      have hsz : SizeOf.sizeOf T = 1 + SizeOf.sizeOf (uap S.2.1 x1) + SizeOf.sizeOf (uap S.2.1 y1) := by rw [eT]; rfl
      have huz : uz T = max (uz (uap S.2.1 x1)) (uz (uap S.2.1 y1)) + 2 := by rw [eT]; rfl
      have hor : ∀ u, uoc u T = (uoc u (uap S.2.1 x1) || uoc u (uap S.2.1 y1)) := fun u => by rw [eT]; rfl
      have hwx : uwf (uG S kk) false (uap S.2.1 x1) ∧ uwf (uG S kk) false (uap S.2.1 y1) := by rw [eT] at hww; exact hww
      have hnoi : noG gl T ↔ noG gl (uap S.2.1 x1) ∧ noG gl (uap S.2.1 y1) := ⟨fun h => ⟨fun g hg => by have := h g hg; rw [hor g, Bool.or_eq_false_iff] at this; exact this.1, fun g hg => by have := h g hg; rw [hor g, Bool.or_eq_false_iff] at this; exact this.2⟩, fun h g hg => by rw [hor g, h.1 g hg, h.2 g hg]; rfl⟩
      have hltx : ∀ u, uoc u (uap S.2.1 x1) = true → u < n := fun u h => hlt u (by rw [hor u, h]; rfl)
      have hlty : ∀ u, uoc u (uap S.2.1 y1) = true → u < n := fun u h => hlt u (by rw [hor u, h, Bool.or_true])
      obtain ⟨cm2, sn2, cp2, hbM, hsn2⟩ := hL0.t (k := 2) (is := none) (fr := some f1) (to := some g1) (rw := none) hb1
      refine lv_aload hx hb dX2_renewed_2_6 (lv_at hl 0 rfl) ?_
      refine va_get (D := Z.1) (ci := 20) (v := .long sn2) (C := RX25) (T := TX25) (N := 8) hx hb hts in_X25 hown hE.1 (hM.at hbM) 0 rfl mm_cX25 6 (by decide) (hts _ q2511) (fun _ h9 => h9) rfl dX2_renewed_2_8 ?_
      refine lv_lload_n hx hb dX2_renewed_2_11 rfl (lv_at hl 4 rfl) ?_
      refine W.lcmp hx hb dX2_renewed_2_12 ?_
      refine lv_if_ne (tgt := 22) hx hb dX2_renewed_2_13 (by decide) (fun c_4 => ?_) (fun c_4 => ?_)
      · skip
        have hsn : sn2 ≠ mark := fun e9 => c_4 (lg_cmp_0.2 e9)
        have hnm : ¬ mk M mark b1 := fun h9 => hsn ((mk_of hbM).1 h9)
        refine lv_aload hx hb dX2_renewed_2_22 (lv_at hl 0 rfl) ?_
        refine lv_astore hx hb dX2_renewed_2_24 hl (by decide) rfl (fun ls hl => ?_)
        replace hl : lv_has ls 9 [(6, .ref b1), (5, .ref b1), (0, .ref a), (1, .ref kq), (2, .ref ra), (3, .long mark)] := hl
        refine lv_aload hx hb dX2_renewed_2_26 (lv_at hl 1 rfl) ?_
        refine va_get (D := Z.1) (ci := 20) (v := .int 2) (C := RX25) (T := TX25) (N := 8) hx hb hts in_X25 hown hE.1 (hM.at hbM) 0 rfl mm_cX25 0 (by decide) (hts _ q2504) (fun _ h9 => h9) rfl dX2_renewed_2_28 ?_
        refine lv_iconst (v := 2) hx hb dX2_renewed_2_31 (by decide) ?_
        refine lv_icmp_ne (tgt := 104) hx hb dX2_renewed_2_32 (by decide) (fun h9 => absurd (by decide) h9) (fun _ => ?_)
        refine lv_aload hx hb dX2_renewed_2_35 (lv_at hl 1 rfl) ?_
        refine va_get (D := Z.1) (ci := 20) (v := .ref f1) (C := RX25) (T := TX25) (N := 8) hx hb hts in_X25 hown hE.1 (hM.at hbM) 0 rfl mm_cX25 2 (by decide) (hts _ q2507) (fun _ h9 => h9) rfl dX2_renewed_2_37 ?_
        refine lv_aload_n hx hb dX2_renewed_2_40 rfl (lv_at hl 3 rfl) ?_
        refine lv_aload_n hx hb dX2_renewed_2_41 rfl (lv_at hl 4 rfl) ?_
        refine lv_lload_n hx hb dX2_renewed_2_42 rfl (lv_at hl 5 rfl) ?_
        refine mm_callSD (As := [.ref f1, .ref kq, .ref ra, .long mark]) (rest := []) ⟨hx, hb, hml, hown, hts⟩ hE hST hA (ihT (uap S.2.1 x1) x1 f1 M L (by omega) rfl hwx.1 hltx hN hf1) (va_cwS 4 hts (lw_S q2601 q2602 q54 q2603) rfl rfl rfl (by decide +kernel) ⟨(by (try dsimp only); omega), (by (try dsimp only); omega)⟩) hM hS rfl hl.1 (Nat.le_of_ble_eq_true rfl) dX2_renewed_2_43 rfl ⟨(by (try dsimp only); omega), (by (try dsimp only); omega)⟩ (fun _ _ _ _ _ _ h9 => h9.elim) (fun v_5 M_6 n_8 k_9 H locs hp_7 hM hS => ?_)
        obtain ⟨a2, L2, t2, rfl, hN2, hL2, hs2, ht2, he2, hr2, hn2, hk2, hl2, hz2⟩ := hp_7
        have hnum2 := mNu_mono (M0 := M0) (L0 := L0) (vr := vr) (D := D) (S := S) (gl := gl) (fun b _ h => hL2.mk h)
        obtain ⟨cm3, sn3, cp3, hbM3, -⟩ := hL2.t (k := 2) (is := none) (fr := some f1) (to := some g1) (rw := none) hbM
        refine lv_astore hx hb dX2_renewed_2_46 hl (by decide) rfl (fun ls hl => ?_)
        replace hl : lv_has ls 9 [(7, .ref a2), (6, .ref b1), (5, .ref b1), (0, .ref a), (1, .ref kq), (2, .ref ra), (3, .long mark)] := hl
        refine lv_aload hx hb dX2_renewed_2_48 (lv_at hl 2 rfl) ?_
        refine va_get (D := Z.1) (ci := 20) (v := .ref g1) (C := RX25) (T := TX25) (N := 8) hx hb hts in_X25 hown hE.1 (hM.at hbM3) 0 rfl mm_cX25 3 (by decide) (hts _ q2508) (fun _ h9 => h9) rfl dX2_renewed_2_50 ?_
        refine lv_aload_n hx hb dX2_renewed_2_53 rfl (lv_at hl 4 rfl) ?_
        refine lv_aload_n hx hb dX2_renewed_2_54 rfl (lv_at hl 5 rfl) ?_
        refine lv_lload_n hx hb dX2_renewed_2_55 rfl (lv_at hl 6 rfl) ?_
        refine mm_callSD (As := [.ref g1, .ref kq, .ref ra, .long mark]) (rest := []) ⟨hx, hb, hml, hown, hts⟩ hE hST hA (ihT (uap S.2.1 y1) y1 g1 _ L2 (by omega) rfl hwx.2 hlty hN2 hg1) (va_cwS 4 hts (lw_S q2601 q2602 q54 q2603) rfl rfl rfl (by decide +kernel) ⟨(by (try dsimp only); omega), (by (try dsimp only); omega)⟩) hM hS rfl hl.1 (Nat.le_of_ble_eq_true rfl) dX2_renewed_2_56 rfl ⟨(by (try dsimp only); omega), (by (try dsimp only); omega)⟩ (fun _ _ _ _ _ _ h9 => h9.elim) (fun v_10 M_11 n_13 k_14 H locs hp_12 hM hS => ?_)
        obtain ⟨a4, L4, t4, rfl, hN4, hL4, hs4, ht4, he4, hr4, hn4, hk4, hl4, hz4⟩ := hp_12
        have hnum4 := mNu_mono (M0 := M0) (L0 := L0) (vr := vr) (D := D) (S := S) (gl := gl) (fun b _ h => hL4.mk h)
        obtain ⟨cm5, sn5, cp5, hbM5, -⟩ := hL4.t (k := 2) (is := none) (fr := some f1) (to := some g1) (rw := none) hbM3
        have hL24 := hL2.trans hL4
        have hz24 := hz2.trans hz4 (s9 := SizeOf.sizeOf T - 1) (by omega) (by omega)
        have hnm5 : ¬ mk M_11 mark b1 := hz24.not hbL htb (by rw [he1, hT]; omega) hnm
        refine lv_astore hx hb dX2_renewed_2_59 hl (by decide) rfl (fun ls hl => ?_)
        replace hl : lv_has ls 9 [(8, .ref a4), (7, .ref a2), (6, .ref b1), (5, .ref b1), (0, .ref a), (1, .ref kq), (2, .ref ra), (3, .long mark)] := hl
        refine lv_aload hx hb dX2_renewed_2_61 (lv_at hl 1 rfl) ?_
        refine lv_aload hx hb dX2_renewed_2_63 (lv_at hl 3 rfl) ?_
        refine va_get (D := Z.1) (ci := 20) (v := .ref f1) (C := RX25) (T := TX25) (N := 8) hx hb hts in_X25 hown hE.1 (hM.at hbM5) 0 rfl mm_cX25 2 (by decide) (hts _ q2507) (fun _ h9 => h9) rfl dX2_renewed_2_65 ?_
        obtain ⟨dx, bx, tx, hnx, htx, hex, -, -⟩ := hC0.nowT hf1
        have hL04 := hN4.1
        have hf14 := hf1.light hL04
        obtain ⟨-, k9, is9, fr9, to9, rw9, cm9, sn9, cp9, hq9⟩ := (hf14).cellT
        refine mm_callV (As := []) (rest := [.ref a2]) ⟨hx, hb, hml, hown, hts⟩ hE hST hA (c_X25_now l Z (mt_now.light hL04 hnx)) (cwV 0 hts (lw_V q2604 q2605 q2606 q98 q2607) rfl rfl rfl (by decide +kernel) ⟨(by (try dsimp only); omega), (by (try dsimp only); omega)⟩) hM hS mm_cX25 hq9 rfl hl.1 (Nat.le_of_ble_eq_true rfl) dX2_renewed_2_68 rfl ⟨(by (try dsimp only); omega), (by (try dsimp only); omega)⟩ (fun _ _ _ _ _ _ h9 => h9.elim) (fun v_15 M_16 H locs hp_17 hM hS => ?_)
        obtain ⟨rfl, eM_16⟩ := hp_17
        rw [eM_16] at hM
        have hxeq : a2 = bx ↔ noG gl (uap S.2.1 x1) := ⟨fun e9 => uth_noG (n := n) hltx (by
          have k1 := (mtp.uniq hN4.2.2.1.1.2.2.1 _ _ _ _ _ (mtp.mono hL4.K hs4 (fun _ h => ⟨h, rfl⟩) _ _ _ ht2) (e9 ▸ mtp.mono (mK.rf _) hN4.2.1.1 (fun _ h => ⟨h, rfl⟩) _ _ _ (htx.light hL04))).1
          rw [← he2, k1, hex]), fun h9 => by
          obtain ⟨d9, k9⟩ := hr2 h9
          exact mt_now.b k9 hnx⟩
        obtain ⟨dy, by9, ty9, hny, hty, hey, -, -⟩ := hC0.nowT hg1
        have hyeq : a4 = by9 ↔ noG gl (uap S.2.1 y1) := ⟨fun e9 => uth_noG (n := n) hlty (by
          have k1 := (mtp.uniq hN4.2.2.1.1.2.2.1 _ _ _ _ _ ht4 (e9 ▸ mtp.mono (mK.rf _) hN4.2.1.1 (fun _ h => ⟨h, rfl⟩) _ _ _ (hty.light hL04))).1
          rw [← he4, k1, hey]), fun h9 => by
          obtain ⟨d9, k9⟩ := hr4 h9
          exact mt_now.b k9 hny⟩
        refine lv_acmp_ne (rx := (some a2)) (ry := (some bx)) (tgt := 92) hx hb dX2_renewed_2_71 (by decide) (fun c_18 => ?_) (fun c_18 => ?_)
        · skip
          have hyes : ¬ noG gl T := fun h9 => by
            exact c_18 (by rw [hxeq.2 (hnoi.1 h9).1])
          refine lv_aload hx hb dX2_renewed_2_92 (lv_at hl 1 rfl) ?_
          refine lv_aload hx hb dX2_renewed_2_94 (lv_at hl 0 rfl) ?_
          refine mm_callS (As := [.ref a2, .ref a4]) (rest := []) ⟨hx, hb, hml, hown, hts⟩ hE hST hA (c_X2_function l Z (x1 := some a2) (x2 := some a4)) (va_cwS 2 hts (lw_S q2608 q2609 q54 q2610) rfl rfl rfl (by decide +kernel) ⟨(by (try dsimp only); omega), (by (try dsimp only); omega)⟩) hM hS rfl hl.1 (Nat.le_of_ble_eq_true rfl) dX2_renewed_2_96 rfl ⟨(by (try dsimp only); omega), (by (try dsimp only); omega)⟩ (fun _ _ _ _ _ _ h9 => h9.elim) (fun v_19 M_20 H locs hp_21 hM hS => ?_)
          obtain ⟨qn, hqn, rfl, eM9⟩ := hp_21
          have hxn : mm_Ext M_11 M_20 := by rw [eM9]; exact mm_Ext.U hqn
          have hq1 : M_20 qn = some (mt_E 2 none (some a2) (some a4) none false 0 none) := by rw [eM9]; exact mm_U_eq
          obtain ⟨hN6, hm6⟩ := hN4.ext hC0 hxn
          have htq : mtp M_20 (qn :: L4) vr D (.sub t2 t4) false qn := by
            simp only [mtp]
            exact ⟨a2, a4, List.mem_cons_self, ⟨_, _, _, _, hq1⟩, mtp.mono (hL4.K.trans hxn.mK) (fun z h => List.mem_cons_of_mem _ (hs4 z h)) (fun _ h => ⟨h, rfl⟩) _ _ _ ht2, mtp.mono hxn.mK (fun z h => List.mem_cons_of_mem _ h) (fun _ h => ⟨h, rfl⟩) _ _ _ ht4⟩
          obtain ⟨hC7, -⟩ := hN4.2.2.1.newObj hxn hqn htq (mnext_t hq1)
          have hN7 := hN6.grow hC7 hq1
          have hbM7 := hxn.at hbM5
          have hnm7 : ¬ mk M_20 mark b1 := fun h9 => hnm5 (hm6 b1 hbL h9)
          have hseeT : uap S.2.1 (.sub t2 t4) = uap (uth gl n) T := by rw [eT]; simp only [uap]; rw [he2, he4]
          refine lv_astore hx hb dX2_renewed_2_99 hl (by decide) rfl (fun ls hl => ?_)
          replace hl : lv_has ls 9 [(6, .ref qn), (8, .ref a4), (7, .ref a2), (5, .ref b1), (0, .ref a), (1, .ref kq), (2, .ref ra), (3, .long mark)] := hl
          refine lv_goto (tgt := 165) hx hb dX2_renewed_2_101 (by decide) ?_
          refine lv_aload hx hb dX2_renewed_2_165 (lv_at hl 3 rfl) ?_
          refine lv_lload_n hx hb dX2_renewed_2_167 rfl (lv_at hl 7 rfl) ?_
          refine mm_put (D := Z.1) (ci := 20) (v := .long mark) (ty := .long) (C := RX25) (T := TX25) (N := 8) hx hb hts in_X25 tyX25 tyX25_ok nmX25 hown hE.1 hM hS hbM7 mm_cX25 6 (by decide) (hts _ q2511) (fun _ h9 => h9) rfl (by decide +kernel) rfl rfl (Nat.le_of_ble_eq_true rfl) dX2_renewed_2_168 (fun H locs hM hS => ?_)
          have hM : mm_P Z.1 mm_cl A (mm_U M_20 b1 (.inr (20, [.int 2, .null, .ref f1, .ref g1, .null, .int (mm_b cm5), .long mark, va_rf cp5]))) H := hM
          have hc_22 : (mm_U M_20 b1 (.inr (20, [.int 2, .null, .ref f1, .ref g1, .null, .int (mm_b cm5), .long mark, va_rf cp5]))) b1 = some (.inr (20, [.int 2, .null, .ref f1, .ref g1, .null, .int (mm_b cm5), .long mark, va_rf cp5])) := mm_U_eq
          obtain ⟨M_23, eM_23⟩ : ∃ z, z = mm_U M_20 b1 (.inr (20, [.int 2, .null, .ref f1, .ref g1, .null, .int (mm_b cm5), .long mark, va_rf cp5])) := ⟨_, rfl⟩
          rw [← eM_23] at hM hc_22
          refine lv_aload hx hb dX2_renewed_2_171 (lv_at hl 3 rfl) ?_
          refine lv_aload hx hb dX2_renewed_2_173 (lv_at hl 0 rfl) ?_
          refine mm_put (D := Z.1) (ci := 20) (v := .ref qn) (ty := .object "RowenTongueModel$Type") (C := RX25) (T := TX25) (N := 8) hx hb hts in_X25 tyX25 tyX25_ok nmX25 hown hE.1 hM hS hc_22 mm_cX25 7 (by decide) (hts _ q2512) (fun _ h9 => h9) rfl (by decide +kernel) rfl rfl (Nat.le_of_ble_eq_true rfl) dX2_renewed_2_175 (fun H locs hM hS => ?_)
          have hM : mm_P Z.1 mm_cl A (mm_U M_23 b1 (.inr (20, [.int 2, .null, .ref f1, .ref g1, .null, .int (mm_b cm5), .long mark, .ref qn]))) H := hM
          have hc_24 : (mm_U M_23 b1 (.inr (20, [.int 2, .null, .ref f1, .ref g1, .null, .int (mm_b cm5), .long mark, .ref qn]))) b1 = some (.inr (20, [.int 2, .null, .ref f1, .ref g1, .null, .int (mm_b cm5), .long mark, .ref qn])) := mm_U_eq
          obtain ⟨M_25, eM_25⟩ : ∃ z, z = mm_U M_23 b1 (.inr (20, [.int 2, .null, .ref f1, .ref g1, .null, .int (mm_b cm5), .long mark, .ref qn])) := ⟨_, rfl⟩
          rw [← eM_25] at hM hc_24
          have hbE := hc_24
          have hkE : ∀ z, z ≠ b1 → M_25 z = M_20 z := fun z hz => by subst eM_25 eM_23; (try rw [mm_U_U]); simp only [mm_U_ne hz]
          obtain ⟨hNE, hLE, hmE, hmB⟩ := hN7.mark hbL hI htb hbM7 hbE hkE htq (by rw [hseeT, he1, hT]) (fun h9 => absurd (by rw [he1, hT] at h9; exact h9) hyes)
          have hszE : mSz M0 L0 vr D S mark M_20 M_25 (SizeOf.sizeOf T) := fun b hb hm => by
            rcases hmE b hm with e9 | h9
            · subst e9; exact Or.inr fun tb htb9 => by rw [(mtp.uniq hI _ _ _ _ _ htb9 htb).1, he1, hT]; exact Nat.le_refl _
            · exact Or.inl h9
          have hnuE := mNu_mono (M0 := M0) (L0 := L0) (vr := vr) (D := D) (S := S) (gl := gl) (fun b _ h => hLE.mk h)
          have hpay : mCh M0 L0 vr D S gl b1 → mNu M0 M_25 L0 vr D S gl mark + 1 ≤ mNu M0 M_20 L0 vr D S gl mark := fun hc9 => mNu_less (fun b _ h => hLE.mk h) hbL hc9 hnm7 hmB
          refine lv_aload hx hb dX2_renewed_2_178 (lv_at hl 0 rfl) ?_
          have hp9 := hpay ⟨t1, htb, by rw [he1, hT]; exact hyes⟩
          have hnu7 : mNu M0 M_20 L0 vr D S gl mark ≤ mNu M0 M_11 L0 vr D S gl mark := mNu_mono (fun b hb h => by
            obtain ⟨k9, is9, fr9, to9, rw9, cm9, cp9, h9⟩ := h
            exact ⟨_, _, _, _, _, _, _, hxn.at h9⟩)
          exact mm_retaD hx hb hr (Or.inl ⟨_, rfl⟩) (Or.inr ⟨_, rfl⟩) hlk hM hS ⟨qn, qn :: L4, .sub t2 t4, rfl, hNE, (hL24.trans hxn.mL).trans hLE, fun z h => List.mem_cons_of_mem _ (hs4 z (hs2 z h)), htq.light hLE, hseeT, fun h9 => absurd h9 hyes, by (try dsimp only); omega, by (try dsimp only); omega, by simp only [List.length_cons]; (try dsimp only); omega, (hz24.trans (fun b hb hm => Or.inl (hm6 b hb hm)) (s' := 0) (s9 := SizeOf.sizeOf T) (by omega) (by omega)).trans hszE (Nat.le_refl _) (Nat.le_refl _)⟩ dX2_renewed_2_180 (by (try dsimp only); omega) (by (try dsimp only); omega)
        · skip
          have hex9 : a2 = bx := Option.some.inj (by first | exact c_18 | exact Classical.not_not.1 c_18)
          have hg14 := hg1.light hL04
          refine lv_aload hx hb dX2_renewed_2_74 (lv_at hl 0 rfl) ?_
          refine lv_aload hx hb dX2_renewed_2_76 (lv_at hl 3 rfl) ?_
          refine va_get (D := Z.1) (ci := 20) (v := .ref g1) (C := RX25) (T := TX25) (N := 8) hx hb hts in_X25 hown hE.1 (hM.at hbM5) 0 rfl mm_cX25 3 (by decide) (hts _ q2508) (fun _ h9 => h9) rfl dX2_renewed_2_78 ?_
          obtain ⟨-, k9, is9, fr9, to9, rw9, cm9, sn9, cp9, hq9⟩ := (hg14).cellT
          refine mm_callV (As := []) (rest := [.ref a4]) ⟨hx, hb, hml, hown, hts⟩ hE hST hA (c_X25_now l Z (mt_now.light hL04 hny)) (cwV 0 hts (lw_V q2604 q2605 q2606 q98 q2607) rfl rfl rfl (by decide +kernel) ⟨(by (try dsimp only); omega), (by (try dsimp only); omega)⟩) hM hS mm_cX25 hq9 rfl hl.1 (Nat.le_of_ble_eq_true rfl) dX2_renewed_2_81 rfl ⟨(by (try dsimp only); omega), (by (try dsimp only); omega)⟩ (fun _ _ _ _ _ _ h9 => h9.elim) (fun v_19 M_20 H locs hp_21 hM hS => ?_)
          obtain ⟨rfl, eM_20⟩ := hp_21
          rw [eM_20] at hM
          refine lv_acmp_ne (rx := (some a4)) (ry := (some by9)) (tgt := 92) hx hb dX2_renewed_2_84 (by decide) (fun c_22 => ?_) (fun c_22 => ?_)
          · skip
            have hyes : ¬ noG gl T := fun h9 => by
              exact c_22 (by rw [hyeq.2 (hnoi.1 h9).2])
            refine lv_aload hx hb dX2_renewed_2_92 (lv_at hl 1 rfl) ?_
            refine lv_aload hx hb dX2_renewed_2_94 (lv_at hl 0 rfl) ?_
            refine mm_callS (As := [.ref a2, .ref a4]) (rest := []) ⟨hx, hb, hml, hown, hts⟩ hE hST hA (c_X2_function l Z (x1 := some a2) (x2 := some a4)) (va_cwS 2 hts (lw_S q2608 q2609 q54 q2610) rfl rfl rfl (by decide +kernel) ⟨(by (try dsimp only); omega), (by (try dsimp only); omega)⟩) hM hS rfl hl.1 (Nat.le_of_ble_eq_true rfl) dX2_renewed_2_96 rfl ⟨(by (try dsimp only); omega), (by (try dsimp only); omega)⟩ (fun _ _ _ _ _ _ h9 => h9.elim) (fun v_23 M_24 H locs hp_25 hM hS => ?_)
            obtain ⟨qn, hqn, rfl, eM9⟩ := hp_25
            have hxn : mm_Ext M_11 M_24 := by rw [eM9]; exact mm_Ext.U hqn
            have hq1 : M_24 qn = some (mt_E 2 none (some a2) (some a4) none false 0 none) := by rw [eM9]; exact mm_U_eq
            obtain ⟨hN6, hm6⟩ := hN4.ext hC0 hxn
            have htq : mtp M_24 (qn :: L4) vr D (.sub t2 t4) false qn := by
              simp only [mtp]
              exact ⟨a2, a4, List.mem_cons_self, ⟨_, _, _, _, hq1⟩, mtp.mono (hL4.K.trans hxn.mK) (fun z h => List.mem_cons_of_mem _ (hs4 z h)) (fun _ h => ⟨h, rfl⟩) _ _ _ ht2, mtp.mono hxn.mK (fun z h => List.mem_cons_of_mem _ h) (fun _ h => ⟨h, rfl⟩) _ _ _ ht4⟩
            obtain ⟨hC7, -⟩ := hN4.2.2.1.newObj hxn hqn htq (mnext_t hq1)
            have hN7 := hN6.grow hC7 hq1
            have hbM7 := hxn.at hbM5
            have hnm7 : ¬ mk M_24 mark b1 := fun h9 => hnm5 (hm6 b1 hbL h9)
            have hseeT : uap S.2.1 (.sub t2 t4) = uap (uth gl n) T := by rw [eT]; simp only [uap]; rw [he2, he4]
            refine lv_astore hx hb dX2_renewed_2_99 hl (by decide) rfl (fun ls hl => ?_)
            replace hl : lv_has ls 9 [(6, .ref qn), (8, .ref a4), (7, .ref a2), (5, .ref b1), (0, .ref a), (1, .ref kq), (2, .ref ra), (3, .long mark)] := hl
            refine lv_goto (tgt := 165) hx hb dX2_renewed_2_101 (by decide) ?_
            refine lv_aload hx hb dX2_renewed_2_165 (lv_at hl 3 rfl) ?_
            refine lv_lload_n hx hb dX2_renewed_2_167 rfl (lv_at hl 7 rfl) ?_
            refine mm_put (D := Z.1) (ci := 20) (v := .long mark) (ty := .long) (C := RX25) (T := TX25) (N := 8) hx hb hts in_X25 tyX25 tyX25_ok nmX25 hown hE.1 hM hS hbM7 mm_cX25 6 (by decide) (hts _ q2511) (fun _ h9 => h9) rfl (by decide +kernel) rfl rfl (Nat.le_of_ble_eq_true rfl) dX2_renewed_2_168 (fun H locs hM hS => ?_)
            have hM : mm_P Z.1 mm_cl A (mm_U M_24 b1 (.inr (20, [.int 2, .null, .ref f1, .ref g1, .null, .int (mm_b cm5), .long mark, va_rf cp5]))) H := hM
            have hc_26 : (mm_U M_24 b1 (.inr (20, [.int 2, .null, .ref f1, .ref g1, .null, .int (mm_b cm5), .long mark, va_rf cp5]))) b1 = some (.inr (20, [.int 2, .null, .ref f1, .ref g1, .null, .int (mm_b cm5), .long mark, va_rf cp5])) := mm_U_eq
            obtain ⟨M_27, eM_27⟩ : ∃ z, z = mm_U M_24 b1 (.inr (20, [.int 2, .null, .ref f1, .ref g1, .null, .int (mm_b cm5), .long mark, va_rf cp5])) := ⟨_, rfl⟩
            rw [← eM_27] at hM hc_26
            refine lv_aload hx hb dX2_renewed_2_171 (lv_at hl 3 rfl) ?_
            refine lv_aload hx hb dX2_renewed_2_173 (lv_at hl 0 rfl) ?_
            refine mm_put (D := Z.1) (ci := 20) (v := .ref qn) (ty := .object "RowenTongueModel$Type") (C := RX25) (T := TX25) (N := 8) hx hb hts in_X25 tyX25 tyX25_ok nmX25 hown hE.1 hM hS hc_26 mm_cX25 7 (by decide) (hts _ q2512) (fun _ h9 => h9) rfl (by decide +kernel) rfl rfl (Nat.le_of_ble_eq_true rfl) dX2_renewed_2_175 (fun H locs hM hS => ?_)
            have hM : mm_P Z.1 mm_cl A (mm_U M_27 b1 (.inr (20, [.int 2, .null, .ref f1, .ref g1, .null, .int (mm_b cm5), .long mark, .ref qn]))) H := hM
            have hc_28 : (mm_U M_27 b1 (.inr (20, [.int 2, .null, .ref f1, .ref g1, .null, .int (mm_b cm5), .long mark, .ref qn]))) b1 = some (.inr (20, [.int 2, .null, .ref f1, .ref g1, .null, .int (mm_b cm5), .long mark, .ref qn])) := mm_U_eq
            obtain ⟨M_29, eM_29⟩ : ∃ z, z = mm_U M_27 b1 (.inr (20, [.int 2, .null, .ref f1, .ref g1, .null, .int (mm_b cm5), .long mark, .ref qn])) := ⟨_, rfl⟩
            rw [← eM_29] at hM hc_28
            have hbE := hc_28
            have hkE : ∀ z, z ≠ b1 → M_29 z = M_24 z := fun z hz => by subst eM_29 eM_27; (try rw [mm_U_U]); simp only [mm_U_ne hz]
            obtain ⟨hNE, hLE, hmE, hmB⟩ := hN7.mark hbL hI htb hbM7 hbE hkE htq (by rw [hseeT, he1, hT]) (fun h9 => absurd (by rw [he1, hT] at h9; exact h9) hyes)
            have hszE : mSz M0 L0 vr D S mark M_24 M_29 (SizeOf.sizeOf T) := fun b hb hm => by
              rcases hmE b hm with e9 | h9
              · subst e9; exact Or.inr fun tb htb9 => by rw [(mtp.uniq hI _ _ _ _ _ htb9 htb).1, he1, hT]; exact Nat.le_refl _
              · exact Or.inl h9
            have hnuE := mNu_mono (M0 := M0) (L0 := L0) (vr := vr) (D := D) (S := S) (gl := gl) (fun b _ h => hLE.mk h)
            have hpay : mCh M0 L0 vr D S gl b1 → mNu M0 M_29 L0 vr D S gl mark + 1 ≤ mNu M0 M_24 L0 vr D S gl mark := fun hc9 => mNu_less (fun b _ h => hLE.mk h) hbL hc9 hnm7 hmB
            refine lv_aload hx hb dX2_renewed_2_178 (lv_at hl 0 rfl) ?_
            have hp9 := hpay ⟨t1, htb, by rw [he1, hT]; exact hyes⟩
            have hnu7 : mNu M0 M_24 L0 vr D S gl mark ≤ mNu M0 M_11 L0 vr D S gl mark := mNu_mono (fun b hb h => by
              obtain ⟨k9, is9, fr9, to9, rw9, cm9, cp9, h9⟩ := h
              exact ⟨_, _, _, _, _, _, _, hxn.at h9⟩)
            exact mm_retaD hx hb hr (Or.inl ⟨_, rfl⟩) (Or.inr ⟨_, rfl⟩) hlk hM hS ⟨qn, qn :: L4, .sub t2 t4, rfl, hNE, (hL24.trans hxn.mL).trans hLE, fun z h => List.mem_cons_of_mem _ (hs4 z (hs2 z h)), htq.light hLE, hseeT, fun h9 => absurd h9 hyes, by (try dsimp only); omega, by (try dsimp only); omega, by simp only [List.length_cons]; (try dsimp only); omega, (hz24.trans (fun b hb hm => Or.inl (hm6 b hb hm)) (s' := 0) (s9 := SizeOf.sizeOf T) (by omega) (by omega)).trans hszE (Nat.le_refl _) (Nat.le_refl _)⟩ dX2_renewed_2_180 (by (try dsimp only); omega) (by (try dsimp only); omega)
          · skip
            have hey9 : a4 = by9 := Option.some.inj (by first | exact c_22 | exact Classical.not_not.1 c_22)
            have hno : noG gl T := hnoi.2 ⟨hxeq.1 hex9, hyeq.1 hey9⟩
            refine lv_aload hx hb dX2_renewed_2_87 (lv_at hl 3 rfl) ?_
            refine lv_goto (tgt := 99) hx hb dX2_renewed_2_89 (by decide) ?_
            refine lv_astore hx hb dX2_renewed_2_99 hl (by decide) rfl (fun ls hl => ?_)
            replace hl : lv_has ls 9 [(6, .ref b1), (8, .ref a4), (7, .ref a2), (5, .ref b1), (0, .ref a), (1, .ref kq), (2, .ref ra), (3, .long mark)] := hl
            refine lv_goto (tgt := 165) hx hb dX2_renewed_2_101 (by decide) ?_
            refine lv_aload hx hb dX2_renewed_2_165 (lv_at hl 3 rfl) ?_
            refine lv_lload_n hx hb dX2_renewed_2_167 rfl (lv_at hl 7 rfl) ?_
            refine mm_put (D := Z.1) (ci := 20) (v := .long mark) (ty := .long) (C := RX25) (T := TX25) (N := 8) hx hb hts in_X25 tyX25 tyX25_ok nmX25 hown hE.1 hM hS hbM5 mm_cX25 6 (by decide) (hts _ q2511) (fun _ h9 => h9) rfl (by decide +kernel) rfl rfl (Nat.le_of_ble_eq_true rfl) dX2_renewed_2_168 (fun H locs hM hS => ?_)
            have hM : mm_P Z.1 mm_cl A (mm_U M_11 b1 (.inr (20, [.int 2, .null, .ref f1, .ref g1, .null, .int (mm_b cm5), .long mark, va_rf cp5]))) H := hM
            have hc_23 : (mm_U M_11 b1 (.inr (20, [.int 2, .null, .ref f1, .ref g1, .null, .int (mm_b cm5), .long mark, va_rf cp5]))) b1 = some (.inr (20, [.int 2, .null, .ref f1, .ref g1, .null, .int (mm_b cm5), .long mark, va_rf cp5])) := mm_U_eq
            obtain ⟨M_24, eM_24⟩ : ∃ z, z = mm_U M_11 b1 (.inr (20, [.int 2, .null, .ref f1, .ref g1, .null, .int (mm_b cm5), .long mark, va_rf cp5])) := ⟨_, rfl⟩
            rw [← eM_24] at hM hc_23
            refine lv_aload hx hb dX2_renewed_2_171 (lv_at hl 3 rfl) ?_
            refine lv_aload hx hb dX2_renewed_2_173 (lv_at hl 0 rfl) ?_
            refine mm_put (D := Z.1) (ci := 20) (v := .ref b1) (ty := .object "RowenTongueModel$Type") (C := RX25) (T := TX25) (N := 8) hx hb hts in_X25 tyX25 tyX25_ok nmX25 hown hE.1 hM hS hc_23 mm_cX25 7 (by decide) (hts _ q2512) (fun _ h9 => h9) rfl (by decide +kernel) rfl rfl (Nat.le_of_ble_eq_true rfl) dX2_renewed_2_175 (fun H locs hM hS => ?_)
            have hM : mm_P Z.1 mm_cl A (mm_U M_24 b1 (.inr (20, [.int 2, .null, .ref f1, .ref g1, .null, .int (mm_b cm5), .long mark, .ref b1]))) H := hM
            have hc_25 : (mm_U M_24 b1 (.inr (20, [.int 2, .null, .ref f1, .ref g1, .null, .int (mm_b cm5), .long mark, .ref b1]))) b1 = some (.inr (20, [.int 2, .null, .ref f1, .ref g1, .null, .int (mm_b cm5), .long mark, .ref b1])) := mm_U_eq
            obtain ⟨M_26, eM_26⟩ : ∃ z, z = mm_U M_24 b1 (.inr (20, [.int 2, .null, .ref f1, .ref g1, .null, .int (mm_b cm5), .long mark, .ref b1])) := ⟨_, rfl⟩
            rw [← eM_26] at hM hc_25
            have hbE := hc_25
            have hkE : ∀ z, z ≠ b1 → M_26 z = M_11 z := fun z hz => by subst eM_26 eM_24; (try rw [mm_U_U]); simp only [mm_U_ne hz]
            obtain ⟨hNE, hLE, hmE, hmB⟩ := hN4.mark hbL hI htb hbM5 hbE hkE (mtp.mono (mK.rf _) hN4.2.1.1 (fun _ h => ⟨h, rfl⟩) _ _ _ (htb.light hL04)) (by rw [he1, hT]; exact (uth_id hcan hno).symm) (fun _ => rfl)
            have hszE : mSz M0 L0 vr D S mark M_11 M_26 (SizeOf.sizeOf T) := fun b hb hm => by
              rcases hmE b hm with e9 | h9
              · subst e9; exact Or.inr fun tb htb9 => by rw [(mtp.uniq hI _ _ _ _ _ htb9 htb).1, he1, hT]; exact Nat.le_refl _
              · exact Or.inl h9
            have hnuE := mNu_mono (M0 := M0) (L0 := L0) (vr := vr) (D := D) (S := S) (gl := gl) (fun b _ h => hLE.mk h)
            have hpay : mCh M0 L0 vr D S gl b1 → mNu M0 M_26 L0 vr D S gl mark + 1 ≤ mNu M0 M_11 L0 vr D S gl mark := fun hc9 => mNu_less (fun b _ h => hLE.mk h) hbL hc9 hnm5 hmB
            refine lv_aload hx hb dX2_renewed_2_178 (lv_at hl 0 rfl) ?_
            exact mm_retaD hx hb hr (Or.inl ⟨_, rfl⟩) (Or.inr ⟨_, rfl⟩) hlk hM hS ⟨b1, L4, t1, rfl, hNE, hL24.trans hLE, fun z h => hs4 z (hs2 z h), (mtp.mono (mK.rf _) hN4.2.1.1 (fun _ h => ⟨h, rfl⟩) _ _ _ (htb.light hL04)).light hLE, by rw [he1, hT]; exact (uth_id hcan hno).symm, fun _ => ⟨d1, hn1⟩, by (try dsimp only); omega, by (try dsimp only); omega, by (try dsimp only); omega, (hz24.trans hszE (by omega) (Nat.le_refl _))⟩ dX2_renewed_2_180 (by (try dsimp only); omega) (by (try dsimp only); omega)
      · skip
        have hsn : sn2 = mark := lg_cmp_0.1 (by first | exact c_4 | exact Classical.not_not.1 c_4)
        subst hsn
        obtain ⟨k8, is8, fr8, to8, rw8, cm8, a8, hb8, ⟨t8, ht8, he8⟩, hun8⟩ := hN.2.2.2 b1 hbL ⟨_, _, _, _, _, _, _, hbM⟩ t1 htb
        have hcp : cp2 = some a8 := by rw [hbM] at hb8; exact (mt_inj (Option.some.inj hb8)).2.2.2.2.2.2.2
        subst hcp
        refine lv_aload hx hb dX2_renewed_2_16 (lv_at hl 0 rfl) ?_
        refine va_get (D := Z.1) (ci := 20) (v := .ref a8) (C := RX25) (T := TX25) (N := 8) hx hb hts in_X25 hown hE.1 (hM.at hbM) 0 rfl mm_cX25 7 (by decide) (hts _ q2512) (fun _ h9 => h9) rfl dX2_renewed_2_18 ?_
        exact mm_retaD hx hb hr (Or.inl ⟨_, rfl⟩) (Or.inr ⟨_, rfl⟩) hlk hM hS ⟨a8, L, t8, rfl, hN, mL.rf _, fun _ h => h, ht8, by rw [he8, he1, hT], fun hno => ⟨d1, by rw [hun8 (by rw [he1, hT]; exact hno)]; exact hn1⟩, by (try dsimp only); omega, by (try dsimp only); omega, by (try dsimp only); omega, fun b hb hm => Or.inl hm⟩ dX2_renewed_2_21 (by (try dsimp only); omega) (by (try dsimp only); omega)
    · skip
      rw [hT] at eT
      have hsz : SizeOf.sizeOf (uap S.2.1 r1) < SizeOf.sizeOf T := by rw [eT]; simp <;> omega
      have huz : uz T = urn (uap S.2.1 r1) + uz (uap S.2.1 r1) + 3 := by rw [eT]; rfl
      have hor : ∀ u, uoc u T = uoc u (uap S.2.1 r1) := fun u => by rw [eT]; rfl
      have hwx : uwf (uG S kk) true (uap S.2.1 r1) := by rw [eT] at hww; exact hww
      have hnoi : noG gl T ↔ noG gl (uap S.2.1 r1) := ⟨fun h g hg => by rw [← hor g]; exact h g hg, fun h g hg => by rw [hor g]; exact h g hg⟩
      have hltx : ∀ u, uoc u (uap S.2.1 r1) = true → u < n := fun u h => hlt u (by rw [hor u, h])
      have hu10 := urn_le hwx
      cases iv1
      · skip
        replace hb1 : M0 b1 = some (mt_E 3 none none none (some w1) cm1 sn1 cp1) := hb1
        obtain ⟨cm2, sn2, cp2, hbM, hsn2⟩ := hL0.t (k := 3) (is := none) (fr := none) (to := none) (rw := some w1) hb1
        refine lv_aload hx hb dX2_renewed_2_6 (lv_at hl 0 rfl) ?_
        refine va_get (D := Z.1) (ci := 20) (v := .long sn2) (C := RX25) (T := TX25) (N := 8) hx hb hts in_X25 hown hE.1 (hM.at hbM) 0 rfl mm_cX25 6 (by decide) (hts _ q2511) (fun _ h9 => h9) rfl dX2_renewed_2_8 ?_
        refine lv_lload_n hx hb dX2_renewed_2_11 rfl (lv_at hl 4 rfl) ?_
        refine W.lcmp hx hb dX2_renewed_2_12 ?_
        refine lv_if_ne (tgt := 22) hx hb dX2_renewed_2_13 (by decide) (fun c_4 => ?_) (fun c_4 => ?_)
        · skip
          have hsn : sn2 ≠ mark := fun e9 => c_4 (lg_cmp_0.2 e9)
          have hnm : ¬ mk M mark b1 := fun h9 => hsn ((mk_of hbM).1 h9)
          refine lv_aload hx hb dX2_renewed_2_22 (lv_at hl 0 rfl) ?_
          refine lv_astore hx hb dX2_renewed_2_24 hl (by decide) rfl (fun ls hl => ?_)
          replace hl : lv_has ls 9 [(6, .ref b1), (5, .ref b1), (0, .ref a), (1, .ref kq), (2, .ref ra), (3, .long mark)] := hl
          refine lv_aload hx hb dX2_renewed_2_26 (lv_at hl 1 rfl) ?_
          refine va_get (D := Z.1) (ci := 20) (v := .int 3) (C := RX25) (T := TX25) (N := 8) hx hb hts in_X25 hown hE.1 (hM.at hbM) 0 rfl mm_cX25 0 (by decide) (hts _ q2504) (fun _ h9 => h9) rfl dX2_renewed_2_28 ?_
          refine lv_iconst (v := 2) hx hb dX2_renewed_2_31 (by decide) ?_
          refine lv_icmp_ne (tgt := 104) hx hb dX2_renewed_2_32 (by decide) (fun _ => ?_) (fun h9 => absurd h9 (by decide))
          refine lv_aload hx hb dX2_renewed_2_104 (lv_at hl 1 rfl) ?_
          refine va_get (D := Z.1) (ci := 20) (v := .int 3) (C := RX25) (T := TX25) (N := 8) hx hb hts in_X25 hown hE.1 (hM.at hbM) 0 rfl mm_cX25 0 (by decide) (hts _ q2504) (fun _ h9 => h9) rfl dX2_renewed_2_106 ?_
          refine lv_iconst (v := 3) hx hb dX2_renewed_2_109 (by decide) ?_
          refine lv_icmp_eq (tgt := 122) hx hb dX2_renewed_2_110 (by decide) (fun _ => ?_) (fun h9 => absurd (by decide) h9)
          refine lv_aload hx hb dX2_renewed_2_122 (lv_at hl 1 rfl) ?_
          refine va_get (D := Z.1) (ci := 20) (v := .ref w1) (C := RX25) (T := TX25) (N := 8) hx hb hts in_X25 hown hE.1 (hM.at hbM) 0 rfl mm_cX25 4 (by decide) (hts _ q2509) (fun _ h9 => h9) rfl dX2_renewed_2_124 ?_
          refine lv_aload_n hx hb dX2_renewed_2_127 rfl (lv_at hl 3 rfl) ?_
          refine lv_aload_n hx hb dX2_renewed_2_128 rfl (lv_at hl 4 rfl) ?_
          refine lv_lload_n hx hb dX2_renewed_2_129 rfl (lv_at hl 5 rfl) ?_
          refine mm_callSD (As := [.ref w1, .ref kq, .ref ra, .long mark]) (rest := []) ⟨hx, hb, hml, hown, hts⟩ hE hST hA (ihR (uap S.2.1 r1) r1 w1 M L (by omega) rfl hwx hltx hN hw1) (va_cwS 4 hts (lw_S q2611 q2612 q54 q2613) rfl rfl rfl (by decide +kernel) ⟨(by (try dsimp only); omega), (by (try dsimp only); omega)⟩) hM hS rfl hl.1 (Nat.le_of_ble_eq_true rfl) dX2_renewed_2_130 rfl ⟨(by (try dsimp only); omega), (by (try dsimp only); omega)⟩ (fun _ _ _ _ _ _ h9 => h9.elim) (fun v_5 M_6 n_8 k_9 H locs hp_7 hM hS => ?_)
          obtain ⟨a4, L4, t4, rfl, hN4, hL4, hs4, ht4, he4, hr4, hn4, hnn4, hk4, hl4, hz4⟩ := hp_7
          have hnum4 := mNu_mono (M0 := M0) (L0 := L0) (vr := vr) (D := D) (S := S) (gl := gl) (fun b _ h => hL4.mk h)
          obtain ⟨cm5, sn5, cp5, hbM5, -⟩ := hL4.t (k := 3) (is := none) (fr := none) (to := none) (rw := some w1) hbM
          have hnm5 : ¬ mk M_6 mark b1 := hz4.not hbL htb (by rw [he1, hT]; omega) hnm
          refine lv_astore hx hb dX2_renewed_2_133 hl (by decide) rfl (fun ls hl => ?_)
          replace hl : lv_has ls 9 [(7, .ref a4), (6, .ref b1), (5, .ref b1), (0, .ref a), (1, .ref kq), (2, .ref ra), (3, .long mark)] := hl
          refine lv_aload hx hb dX2_renewed_2_135 (lv_at hl 0 rfl) ?_
          refine lv_aload hx hb dX2_renewed_2_137 (lv_at hl 2 rfl) ?_
          refine va_get (D := Z.1) (ci := 20) (v := .ref w1) (C := RX25) (T := TX25) (N := 8) hx hb hts in_X25 hown hE.1 (hM.at hbM5) 0 rfl mm_cX25 4 (by decide) (hts _ q2509) (fun _ h9 => h9) rfl dX2_renewed_2_139 ?_
          obtain ⟨dx, bx, tx, hnx, htx, hex, -⟩ := hC0.nowR hw1
          have hL04 := hN4.1
          have hw14 := hw1.light hL04
          obtain ⟨k9, is9, lb9, ty9, rs9, lk9, cm9, hq9, -⟩ := (hw14).cellR
          refine mm_callV (As := []) (rest := [.ref a4]) ⟨hx, hb, hml, hown, hts⟩ hE hST hA (c_X27_now l Z (mr_now.light hL04 hnx)) (cwV 0 hts (lw_V q2614 q2615 q2616 q100 q2617) rfl rfl rfl (by decide +kernel) ⟨(by (try dsimp only); omega), (by (try dsimp only); omega)⟩) hM hS mm_cX27 hq9 rfl hl.1 (Nat.le_of_ble_eq_true rfl) dX2_renewed_2_142 rfl ⟨(by (try dsimp only); omega), (by (try dsimp only); omega)⟩ (fun _ _ _ _ _ _ h9 => h9.elim) (fun v_10 M_11 H locs hp_12 hM hS => ?_)
          obtain ⟨rfl, eM_11⟩ := hp_12
          rw [eM_11] at hM
          have hxeq : a4 = bx ↔ noG gl (uap S.2.1 r1) := ⟨fun e9 => uth_noG (n := n) hltx (by
            have k1 := (mtp.uniq hN4.2.2.1.1.2.2.1 _ _ _ _ _ ht4 (e9 ▸ mtp.mono (mK.rf _) hN4.2.1.1 (fun _ h => ⟨h, rfl⟩) _ _ _ (htx.light hL04))).1
            rw [← he4, k1, hex]), fun h9 => by
            obtain ⟨d9, k9⟩ := hr4 h9
            exact mr_now.b k9 hnx⟩
          refine lv_acmp_ne (rx := (some a4)) (ry := (some bx)) (tgt := 153) hx hb dX2_renewed_2_145 (by decide) (fun c_13 => ?_) (fun c_13 => ?_)
          · skip
            have hyes : ¬ noG gl T := fun h9 => c_13 (by rw [hxeq.2 (hnoi.1 h9)])
            refine lv_aload hx hb dX2_renewed_2_153 (lv_at hl 2 rfl) ?_
            refine va_get (D := Z.1) (ci := 20) (v := .int 3) (C := RX25) (T := TX25) (N := 8) hx hb hts in_X25 hown hE.1 (hM.at hbM5) 0 rfl mm_cX25 0 (by decide) (hts _ q2504) (fun _ h9 => h9) rfl dX2_renewed_2_155 ?_
            refine lv_aload hx hb dX2_renewed_2_158 (lv_at hl 0 rfl) ?_
            refine mm_callS (As := [.int 3, .ref a4]) (rest := []) ⟨hx, hb, hml, hown, hts⟩ hE hST hA (c_X2_of l Z (x1 := 3) (x2 := some a4)) (va_cwS 2 hts (lw_S q2622 q2623 q54 q2624) rfl rfl rfl (by decide +kernel) ⟨(by (try dsimp only); omega), (by (try dsimp only); omega)⟩) hM hS rfl hl.1 (Nat.le_of_ble_eq_true rfl) dX2_renewed_2_160 rfl ⟨(by (try dsimp only); omega), (by (try dsimp only); omega)⟩ (fun _ _ _ _ _ _ h9 => h9.elim) (fun v_14 M_15 H locs hp_16 hM hS => ?_)
            obtain ⟨qn, hqn, rfl, eM9⟩ := hp_16
            have hxn : mm_Ext M_6 M_15 := by rw [eM9]; exact mm_Ext.U hqn
            have hq1 : M_15 qn = some (mt_E 3 none none none (some a4) false 0 none) := by rw [eM9]; exact mm_U_eq
            obtain ⟨hN6, hm6⟩ := hN4.ext hC0 hxn
            have htq : mtp M_15 (qn :: L4) vr D (.pow t4 (Bool.toNat false)) false qn := by
              simp only [mtp]
              exact ⟨false, a4, List.mem_cons_self, rfl, ⟨_, _, _, _, hq1⟩, mtp.mono hxn.mK (fun z h => List.mem_cons_of_mem _ h) (fun _ h => ⟨h, rfl⟩) _ _ _ ht4⟩
            obtain ⟨hC7, -⟩ := hN4.2.2.1.newObj hxn hqn htq (mnext_t hq1)
            have hN7 := hN6.grow hC7 hq1
            have hbM7 := hxn.at hbM5
            have hnm7 : ¬ mk M_15 mark b1 := fun h9 => hnm5 (hm6 b1 hbL h9)
            have hseeT : uap S.2.1 (.pow t4 (Bool.toNat false)) = uap (uth gl n) T := by rw [eT]; simp only [uap]; rw [he4]
            refine lv_astore hx hb dX2_renewed_2_163 hl (by decide) rfl (fun ls hl => ?_)
            replace hl : lv_has ls 9 [(6, .ref qn), (7, .ref a4), (5, .ref b1), (0, .ref a), (1, .ref kq), (2, .ref ra), (3, .long mark)] := hl
            refine lv_aload hx hb dX2_renewed_2_165 (lv_at hl 2 rfl) ?_
            refine lv_lload_n hx hb dX2_renewed_2_167 rfl (lv_at hl 6 rfl) ?_
            refine mm_put (D := Z.1) (ci := 20) (v := .long mark) (ty := .long) (C := RX25) (T := TX25) (N := 8) hx hb hts in_X25 tyX25 tyX25_ok nmX25 hown hE.1 hM hS hbM7 mm_cX25 6 (by decide) (hts _ q2511) (fun _ h9 => h9) rfl (by decide +kernel) rfl rfl (Nat.le_of_ble_eq_true rfl) dX2_renewed_2_168 (fun H locs hM hS => ?_)
            have hM : mm_P Z.1 mm_cl A (mm_U M_15 b1 (.inr (20, [.int 3, .null, .null, .null, .ref w1, .int (mm_b cm5), .long mark, va_rf cp5]))) H := hM
            have hc_17 : (mm_U M_15 b1 (.inr (20, [.int 3, .null, .null, .null, .ref w1, .int (mm_b cm5), .long mark, va_rf cp5]))) b1 = some (.inr (20, [.int 3, .null, .null, .null, .ref w1, .int (mm_b cm5), .long mark, va_rf cp5])) := mm_U_eq
            obtain ⟨M_18, eM_18⟩ : ∃ z, z = mm_U M_15 b1 (.inr (20, [.int 3, .null, .null, .null, .ref w1, .int (mm_b cm5), .long mark, va_rf cp5])) := ⟨_, rfl⟩
            rw [← eM_18] at hM hc_17
            refine lv_aload hx hb dX2_renewed_2_171 (lv_at hl 2 rfl) ?_
            refine lv_aload hx hb dX2_renewed_2_173 (lv_at hl 0 rfl) ?_
            refine mm_put (D := Z.1) (ci := 20) (v := .ref qn) (ty := .object "RowenTongueModel$Type") (C := RX25) (T := TX25) (N := 8) hx hb hts in_X25 tyX25 tyX25_ok nmX25 hown hE.1 hM hS hc_17 mm_cX25 7 (by decide) (hts _ q2512) (fun _ h9 => h9) rfl (by decide +kernel) rfl rfl (Nat.le_of_ble_eq_true rfl) dX2_renewed_2_175 (fun H locs hM hS => ?_)
            have hM : mm_P Z.1 mm_cl A (mm_U M_18 b1 (.inr (20, [.int 3, .null, .null, .null, .ref w1, .int (mm_b cm5), .long mark, .ref qn]))) H := hM
            have hc_19 : (mm_U M_18 b1 (.inr (20, [.int 3, .null, .null, .null, .ref w1, .int (mm_b cm5), .long mark, .ref qn]))) b1 = some (.inr (20, [.int 3, .null, .null, .null, .ref w1, .int (mm_b cm5), .long mark, .ref qn])) := mm_U_eq
            obtain ⟨M_20, eM_20⟩ : ∃ z, z = mm_U M_18 b1 (.inr (20, [.int 3, .null, .null, .null, .ref w1, .int (mm_b cm5), .long mark, .ref qn])) := ⟨_, rfl⟩
            rw [← eM_20] at hM hc_19
            have hbE := hc_19
            have hkE : ∀ z, z ≠ b1 → M_20 z = M_15 z := fun z hz => by subst eM_20 eM_18; (try rw [mm_U_U]); simp only [mm_U_ne hz]
            obtain ⟨hNE, hLE, hmE, hmB⟩ := hN7.mark hbL hI htb hbM7 hbE hkE htq (by rw [hseeT, he1, hT]) (fun h9 => absurd (by rw [he1, hT] at h9; exact h9) hyes)
            have hszE : mSz M0 L0 vr D S mark M_15 M_20 (SizeOf.sizeOf T) := fun b hb hm => by
              rcases hmE b hm with e9 | h9
              · subst e9; exact Or.inr fun tb htb9 => by rw [(mtp.uniq hI _ _ _ _ _ htb9 htb).1, he1, hT]; exact Nat.le_refl _
              · exact Or.inl h9
            have hnuE := mNu_mono (M0 := M0) (L0 := L0) (vr := vr) (D := D) (S := S) (gl := gl) (fun b _ h => hLE.mk h)
            have hpay : mCh M0 L0 vr D S gl b1 → mNu M0 M_20 L0 vr D S gl mark + 1 ≤ mNu M0 M_15 L0 vr D S gl mark := fun hc9 => mNu_less (fun b _ h => hLE.mk h) hbL hc9 hnm7 hmB
            refine lv_aload hx hb dX2_renewed_2_178 (lv_at hl 0 rfl) ?_
            have hp9 := hpay ⟨t1, htb, by rw [he1, hT]; exact hyes⟩
            have hnu7 : mNu M0 M_15 L0 vr D S gl mark ≤ mNu M0 M_6 L0 vr D S gl mark := mNu_mono (fun b hb h => by
              obtain ⟨k9, is9, fr9, to9, rw9, cm9, cp9, h9⟩ := h
              exact ⟨_, _, _, _, _, _, _, hxn.at h9⟩)
            exact mm_retaD hx hb hr (Or.inl ⟨_, rfl⟩) (Or.inr ⟨_, rfl⟩) hlk hM hS ⟨qn, qn :: L4, .pow t4 (Bool.toNat false), rfl, hNE, (hL4.trans hxn.mL).trans hLE, fun z h => List.mem_cons_of_mem _ (hs4 z h), htq.light hLE, hseeT, fun h9 => absurd h9 hyes, by (try dsimp only); omega, by (try dsimp only); omega, by simp only [List.length_cons]; (try dsimp only); omega, (hz4.trans (fun b hb hm => Or.inl (hm6 b hb hm)) (s' := 0) (s9 := SizeOf.sizeOf T) (by omega) (by omega)).trans hszE (Nat.le_refl _) (Nat.le_refl _)⟩ dX2_renewed_2_180 (by (try dsimp only); omega) (by (try dsimp only); omega)
          · skip
            have hex9 : a4 = bx := Option.some.inj (by first | exact c_13 | exact Classical.not_not.1 c_13)
            have hno : noG gl T := hnoi.2 (hxeq.1 hex9)
            have hnn5 := hnn4 (hnoi.1 hno)
            refine lv_aload hx hb dX2_renewed_2_148 (lv_at hl 2 rfl) ?_
            refine lv_goto (tgt := 163) hx hb dX2_renewed_2_150 (by decide) ?_
            refine lv_astore hx hb dX2_renewed_2_163 hl (by decide) rfl (fun ls hl => ?_)
            replace hl : lv_has ls 9 [(6, .ref b1), (7, .ref a4), (5, .ref b1), (0, .ref a), (1, .ref kq), (2, .ref ra), (3, .long mark)] := hl
            refine lv_aload hx hb dX2_renewed_2_165 (lv_at hl 2 rfl) ?_
            refine lv_lload_n hx hb dX2_renewed_2_167 rfl (lv_at hl 6 rfl) ?_
            refine mm_put (D := Z.1) (ci := 20) (v := .long mark) (ty := .long) (C := RX25) (T := TX25) (N := 8) hx hb hts in_X25 tyX25 tyX25_ok nmX25 hown hE.1 hM hS hbM5 mm_cX25 6 (by decide) (hts _ q2511) (fun _ h9 => h9) rfl (by decide +kernel) rfl rfl (Nat.le_of_ble_eq_true rfl) dX2_renewed_2_168 (fun H locs hM hS => ?_)
            have hM : mm_P Z.1 mm_cl A (mm_U M_6 b1 (.inr (20, [.int 3, .null, .null, .null, .ref w1, .int (mm_b cm5), .long mark, va_rf cp5]))) H := hM
            have hc_14 : (mm_U M_6 b1 (.inr (20, [.int 3, .null, .null, .null, .ref w1, .int (mm_b cm5), .long mark, va_rf cp5]))) b1 = some (.inr (20, [.int 3, .null, .null, .null, .ref w1, .int (mm_b cm5), .long mark, va_rf cp5])) := mm_U_eq
            obtain ⟨M_15, eM_15⟩ : ∃ z, z = mm_U M_6 b1 (.inr (20, [.int 3, .null, .null, .null, .ref w1, .int (mm_b cm5), .long mark, va_rf cp5])) := ⟨_, rfl⟩
            rw [← eM_15] at hM hc_14
            refine lv_aload hx hb dX2_renewed_2_171 (lv_at hl 2 rfl) ?_
            refine lv_aload hx hb dX2_renewed_2_173 (lv_at hl 0 rfl) ?_
            refine mm_put (D := Z.1) (ci := 20) (v := .ref b1) (ty := .object "RowenTongueModel$Type") (C := RX25) (T := TX25) (N := 8) hx hb hts in_X25 tyX25 tyX25_ok nmX25 hown hE.1 hM hS hc_14 mm_cX25 7 (by decide) (hts _ q2512) (fun _ h9 => h9) rfl (by decide +kernel) rfl rfl (Nat.le_of_ble_eq_true rfl) dX2_renewed_2_175 (fun H locs hM hS => ?_)
            have hM : mm_P Z.1 mm_cl A (mm_U M_15 b1 (.inr (20, [.int 3, .null, .null, .null, .ref w1, .int (mm_b cm5), .long mark, .ref b1]))) H := hM
            have hc_16 : (mm_U M_15 b1 (.inr (20, [.int 3, .null, .null, .null, .ref w1, .int (mm_b cm5), .long mark, .ref b1]))) b1 = some (.inr (20, [.int 3, .null, .null, .null, .ref w1, .int (mm_b cm5), .long mark, .ref b1])) := mm_U_eq
            obtain ⟨M_17, eM_17⟩ : ∃ z, z = mm_U M_15 b1 (.inr (20, [.int 3, .null, .null, .null, .ref w1, .int (mm_b cm5), .long mark, .ref b1])) := ⟨_, rfl⟩
            rw [← eM_17] at hM hc_16
            have hbE := hc_16
            have hkE : ∀ z, z ≠ b1 → M_17 z = M_6 z := fun z hz => by subst eM_17 eM_15; (try rw [mm_U_U]); simp only [mm_U_ne hz]
            obtain ⟨hNE, hLE, hmE, hmB⟩ := hN4.mark hbL hI htb hbM5 hbE hkE (mtp.mono (mK.rf _) hN4.2.1.1 (fun _ h => ⟨h, rfl⟩) _ _ _ (htb.light hL04)) (by rw [he1, hT]; exact (uth_id hcan hno).symm) (fun _ => rfl)
            have hszE : mSz M0 L0 vr D S mark M_6 M_17 (SizeOf.sizeOf T) := fun b hb hm => by
              rcases hmE b hm with e9 | h9
              · subst e9; exact Or.inr fun tb htb9 => by rw [(mtp.uniq hI _ _ _ _ _ htb9 htb).1, he1, hT]; exact Nat.le_refl _
              · exact Or.inl h9
            have hnuE := mNu_mono (M0 := M0) (L0 := L0) (vr := vr) (D := D) (S := S) (gl := gl) (fun b _ h => hLE.mk h)
            have hpay : mCh M0 L0 vr D S gl b1 → mNu M0 M_17 L0 vr D S gl mark + 1 ≤ mNu M0 M_6 L0 vr D S gl mark := fun hc9 => mNu_less (fun b _ h => hLE.mk h) hbL hc9 hnm5 hmB
            refine lv_aload hx hb dX2_renewed_2_178 (lv_at hl 0 rfl) ?_
            exact mm_retaD hx hb hr (Or.inl ⟨_, rfl⟩) (Or.inr ⟨_, rfl⟩) hlk hM hS ⟨b1, L4, t1, rfl, hNE, hL4.trans hLE, hs4, (mtp.mono (mK.rf _) hN4.2.1.1 (fun _ h => ⟨h, rfl⟩) _ _ _ (htb.light hL04)).light hLE, by rw [he1, hT]; exact (uth_id hcan hno).symm, fun _ => ⟨d1, hn1⟩, by (try dsimp only); omega, by (try dsimp only); omega, by (try dsimp only); omega, (hz4.trans hszE (by omega) (Nat.le_refl _))⟩ dX2_renewed_2_180 (by (try dsimp only); omega) (by (try dsimp only); omega)
        · skip
          have hsn : sn2 = mark := lg_cmp_0.1 (by first | exact c_4 | exact Classical.not_not.1 c_4)
          subst hsn
          obtain ⟨k8, is8, fr8, to8, rw8, cm8, a8, hb8, ⟨t8, ht8, he8⟩, hun8⟩ := hN.2.2.2 b1 hbL ⟨_, _, _, _, _, _, _, hbM⟩ t1 htb
          have hcp : cp2 = some a8 := by rw [hbM] at hb8; exact (mt_inj (Option.some.inj hb8)).2.2.2.2.2.2.2
          subst hcp
          refine lv_aload hx hb dX2_renewed_2_16 (lv_at hl 0 rfl) ?_
          refine va_get (D := Z.1) (ci := 20) (v := .ref a8) (C := RX25) (T := TX25) (N := 8) hx hb hts in_X25 hown hE.1 (hM.at hbM) 0 rfl mm_cX25 7 (by decide) (hts _ q2512) (fun _ h9 => h9) rfl dX2_renewed_2_18 ?_
          exact mm_retaD hx hb hr (Or.inl ⟨_, rfl⟩) (Or.inr ⟨_, rfl⟩) hlk hM hS ⟨a8, L, t8, rfl, hN, mL.rf _, fun _ h => h, ht8, by rw [he8, he1, hT], fun hno => ⟨d1, by rw [hun8 (by rw [he1, hT]; exact hno)]; exact hn1⟩, by (try dsimp only); omega, by (try dsimp only); omega, by (try dsimp only); omega, fun b hb hm => Or.inl hm⟩ dX2_renewed_2_21 (by (try dsimp only); omega) (by (try dsimp only); omega)
      · skip
        replace hb1 : M0 b1 = some (mt_E 4 none none none (some w1) cm1 sn1 cp1) := hb1
        obtain ⟨cm2, sn2, cp2, hbM, hsn2⟩ := hL0.t (k := 4) (is := none) (fr := none) (to := none) (rw := some w1) hb1
        refine lv_aload hx hb dX2_renewed_2_6 (lv_at hl 0 rfl) ?_
        refine va_get (D := Z.1) (ci := 20) (v := .long sn2) (C := RX25) (T := TX25) (N := 8) hx hb hts in_X25 hown hE.1 (hM.at hbM) 0 rfl mm_cX25 6 (by decide) (hts _ q2511) (fun _ h9 => h9) rfl dX2_renewed_2_8 ?_
        refine lv_lload_n hx hb dX2_renewed_2_11 rfl (lv_at hl 4 rfl) ?_
        refine W.lcmp hx hb dX2_renewed_2_12 ?_
        refine lv_if_ne (tgt := 22) hx hb dX2_renewed_2_13 (by decide) (fun c_4 => ?_) (fun c_4 => ?_)
        · skip
          have hsn : sn2 ≠ mark := fun e9 => c_4 (lg_cmp_0.2 e9)
          have hnm : ¬ mk M mark b1 := fun h9 => hsn ((mk_of hbM).1 h9)
          refine lv_aload hx hb dX2_renewed_2_22 (lv_at hl 0 rfl) ?_
          refine lv_astore hx hb dX2_renewed_2_24 hl (by decide) rfl (fun ls hl => ?_)
          replace hl : lv_has ls 9 [(6, .ref b1), (5, .ref b1), (0, .ref a), (1, .ref kq), (2, .ref ra), (3, .long mark)] := hl
          refine lv_aload hx hb dX2_renewed_2_26 (lv_at hl 1 rfl) ?_
          refine va_get (D := Z.1) (ci := 20) (v := .int 4) (C := RX25) (T := TX25) (N := 8) hx hb hts in_X25 hown hE.1 (hM.at hbM) 0 rfl mm_cX25 0 (by decide) (hts _ q2504) (fun _ h9 => h9) rfl dX2_renewed_2_28 ?_
          refine lv_iconst (v := 2) hx hb dX2_renewed_2_31 (by decide) ?_
          refine lv_icmp_ne (tgt := 104) hx hb dX2_renewed_2_32 (by decide) (fun _ => ?_) (fun h9 => absurd h9 (by decide))
          refine lv_aload hx hb dX2_renewed_2_104 (lv_at hl 1 rfl) ?_
          refine va_get (D := Z.1) (ci := 20) (v := .int 4) (C := RX25) (T := TX25) (N := 8) hx hb hts in_X25 hown hE.1 (hM.at hbM) 0 rfl mm_cX25 0 (by decide) (hts _ q2504) (fun _ h9 => h9) rfl dX2_renewed_2_106 ?_
          refine lv_iconst (v := 3) hx hb dX2_renewed_2_109 (by decide) ?_
          refine lv_icmp_eq (tgt := 122) hx hb dX2_renewed_2_110 (by decide) (fun h9 => absurd h9 (by decide)) (fun _ => ?_)
          refine lv_aload hx hb dX2_renewed_2_113 (lv_at hl 1 rfl) ?_
          refine va_get (D := Z.1) (ci := 20) (v := .int 4) (C := RX25) (T := TX25) (N := 8) hx hb hts in_X25 hown hE.1 (hM.at hbM) 0 rfl mm_cX25 0 (by decide) (hts _ q2504) (fun _ h9 => h9) rfl dX2_renewed_2_115 ?_
          refine lv_iconst (v := 4) hx hb dX2_renewed_2_118 (by decide) ?_
          refine lv_icmp_ne (tgt := 165) hx hb dX2_renewed_2_119 (by decide) (fun h9 => absurd (by decide) h9) (fun _ => ?_)
          refine lv_aload hx hb dX2_renewed_2_122 (lv_at hl 1 rfl) ?_
          refine va_get (D := Z.1) (ci := 20) (v := .ref w1) (C := RX25) (T := TX25) (N := 8) hx hb hts in_X25 hown hE.1 (hM.at hbM) 0 rfl mm_cX25 4 (by decide) (hts _ q2509) (fun _ h9 => h9) rfl dX2_renewed_2_124 ?_
          refine lv_aload_n hx hb dX2_renewed_2_127 rfl (lv_at hl 3 rfl) ?_
          refine lv_aload_n hx hb dX2_renewed_2_128 rfl (lv_at hl 4 rfl) ?_
          refine lv_lload_n hx hb dX2_renewed_2_129 rfl (lv_at hl 5 rfl) ?_
          refine mm_callSD (As := [.ref w1, .ref kq, .ref ra, .long mark]) (rest := []) ⟨hx, hb, hml, hown, hts⟩ hE hST hA (ihR (uap S.2.1 r1) r1 w1 M L (by omega) rfl hwx hltx hN hw1) (va_cwS 4 hts (lw_S q2611 q2612 q54 q2613) rfl rfl rfl (by decide +kernel) ⟨(by (try dsimp only); omega), (by (try dsimp only); omega)⟩) hM hS rfl hl.1 (Nat.le_of_ble_eq_true rfl) dX2_renewed_2_130 rfl ⟨(by (try dsimp only); omega), (by (try dsimp only); omega)⟩ (fun _ _ _ _ _ _ h9 => h9.elim) (fun v_5 M_6 n_8 k_9 H locs hp_7 hM hS => ?_)
          obtain ⟨a4, L4, t4, rfl, hN4, hL4, hs4, ht4, he4, hr4, hn4, hnn4, hk4, hl4, hz4⟩ := hp_7
          have hnum4 := mNu_mono (M0 := M0) (L0 := L0) (vr := vr) (D := D) (S := S) (gl := gl) (fun b _ h => hL4.mk h)
          obtain ⟨cm5, sn5, cp5, hbM5, -⟩ := hL4.t (k := 4) (is := none) (fr := none) (to := none) (rw := some w1) hbM
          have hnm5 : ¬ mk M_6 mark b1 := hz4.not hbL htb (by rw [he1, hT]; omega) hnm
          refine lv_astore hx hb dX2_renewed_2_133 hl (by decide) rfl (fun ls hl => ?_)
          replace hl : lv_has ls 9 [(7, .ref a4), (6, .ref b1), (5, .ref b1), (0, .ref a), (1, .ref kq), (2, .ref ra), (3, .long mark)] := hl
          refine lv_aload hx hb dX2_renewed_2_135 (lv_at hl 0 rfl) ?_
          refine lv_aload hx hb dX2_renewed_2_137 (lv_at hl 2 rfl) ?_
          refine va_get (D := Z.1) (ci := 20) (v := .ref w1) (C := RX25) (T := TX25) (N := 8) hx hb hts in_X25 hown hE.1 (hM.at hbM5) 0 rfl mm_cX25 4 (by decide) (hts _ q2509) (fun _ h9 => h9) rfl dX2_renewed_2_139 ?_
          obtain ⟨dx, bx, tx, hnx, htx, hex, -⟩ := hC0.nowR hw1
          have hL04 := hN4.1
          have hw14 := hw1.light hL04
          obtain ⟨k9, is9, lb9, ty9, rs9, lk9, cm9, hq9, -⟩ := (hw14).cellR
          refine mm_callV (As := []) (rest := [.ref a4]) ⟨hx, hb, hml, hown, hts⟩ hE hST hA (c_X27_now l Z (mr_now.light hL04 hnx)) (cwV 0 hts (lw_V q2614 q2615 q2616 q100 q2617) rfl rfl rfl (by decide +kernel) ⟨(by (try dsimp only); omega), (by (try dsimp only); omega)⟩) hM hS mm_cX27 hq9 rfl hl.1 (Nat.le_of_ble_eq_true rfl) dX2_renewed_2_142 rfl ⟨(by (try dsimp only); omega), (by (try dsimp only); omega)⟩ (fun _ _ _ _ _ _ h9 => h9.elim) (fun v_10 M_11 H locs hp_12 hM hS => ?_)
          obtain ⟨rfl, eM_11⟩ := hp_12
          rw [eM_11] at hM
          have hxeq : a4 = bx ↔ noG gl (uap S.2.1 r1) := ⟨fun e9 => uth_noG (n := n) hltx (by
            have k1 := (mtp.uniq hN4.2.2.1.1.2.2.1 _ _ _ _ _ ht4 (e9 ▸ mtp.mono (mK.rf _) hN4.2.1.1 (fun _ h => ⟨h, rfl⟩) _ _ _ (htx.light hL04))).1
            rw [← he4, k1, hex]), fun h9 => by
            obtain ⟨d9, k9⟩ := hr4 h9
            exact mr_now.b k9 hnx⟩
          refine lv_acmp_ne (rx := (some a4)) (ry := (some bx)) (tgt := 153) hx hb dX2_renewed_2_145 (by decide) (fun c_13 => ?_) (fun c_13 => ?_)
          · skip
            have hyes : ¬ noG gl T := fun h9 => c_13 (by rw [hxeq.2 (hnoi.1 h9)])
            refine lv_aload hx hb dX2_renewed_2_153 (lv_at hl 2 rfl) ?_
            refine va_get (D := Z.1) (ci := 20) (v := .int 4) (C := RX25) (T := TX25) (N := 8) hx hb hts in_X25 hown hE.1 (hM.at hbM5) 0 rfl mm_cX25 0 (by decide) (hts _ q2504) (fun _ h9 => h9) rfl dX2_renewed_2_155 ?_
            refine lv_aload hx hb dX2_renewed_2_158 (lv_at hl 0 rfl) ?_
            refine mm_callS (As := [.int 4, .ref a4]) (rest := []) ⟨hx, hb, hml, hown, hts⟩ hE hST hA (c_X2_of l Z (x1 := 4) (x2 := some a4)) (va_cwS 2 hts (lw_S q2622 q2623 q54 q2624) rfl rfl rfl (by decide +kernel) ⟨(by (try dsimp only); omega), (by (try dsimp only); omega)⟩) hM hS rfl hl.1 (Nat.le_of_ble_eq_true rfl) dX2_renewed_2_160 rfl ⟨(by (try dsimp only); omega), (by (try dsimp only); omega)⟩ (fun _ _ _ _ _ _ h9 => h9.elim) (fun v_14 M_15 H locs hp_16 hM hS => ?_)
            obtain ⟨qn, hqn, rfl, eM9⟩ := hp_16
            have hxn : mm_Ext M_6 M_15 := by rw [eM9]; exact mm_Ext.U hqn
            have hq1 : M_15 qn = some (mt_E 4 none none none (some a4) false 0 none) := by rw [eM9]; exact mm_U_eq
            obtain ⟨hN6, hm6⟩ := hN4.ext hC0 hxn
            have htq : mtp M_15 (qn :: L4) vr D (.pow t4 (Bool.toNat true)) false qn := by
              simp only [mtp]
              exact ⟨true, a4, List.mem_cons_self, rfl, ⟨_, _, _, _, hq1⟩, mtp.mono hxn.mK (fun z h => List.mem_cons_of_mem _ h) (fun _ h => ⟨h, rfl⟩) _ _ _ ht4⟩
            obtain ⟨hC7, -⟩ := hN4.2.2.1.newObj hxn hqn htq (mnext_t hq1)
            have hN7 := hN6.grow hC7 hq1
            have hbM7 := hxn.at hbM5
            have hnm7 : ¬ mk M_15 mark b1 := fun h9 => hnm5 (hm6 b1 hbL h9)
            have hseeT : uap S.2.1 (.pow t4 (Bool.toNat true)) = uap (uth gl n) T := by rw [eT]; simp only [uap]; rw [he4]
            refine lv_astore hx hb dX2_renewed_2_163 hl (by decide) rfl (fun ls hl => ?_)
            replace hl : lv_has ls 9 [(6, .ref qn), (7, .ref a4), (5, .ref b1), (0, .ref a), (1, .ref kq), (2, .ref ra), (3, .long mark)] := hl
            refine lv_aload hx hb dX2_renewed_2_165 (lv_at hl 2 rfl) ?_
            refine lv_lload_n hx hb dX2_renewed_2_167 rfl (lv_at hl 6 rfl) ?_
            refine mm_put (D := Z.1) (ci := 20) (v := .long mark) (ty := .long) (C := RX25) (T := TX25) (N := 8) hx hb hts in_X25 tyX25 tyX25_ok nmX25 hown hE.1 hM hS hbM7 mm_cX25 6 (by decide) (hts _ q2511) (fun _ h9 => h9) rfl (by decide +kernel) rfl rfl (Nat.le_of_ble_eq_true rfl) dX2_renewed_2_168 (fun H locs hM hS => ?_)
            have hM : mm_P Z.1 mm_cl A (mm_U M_15 b1 (.inr (20, [.int 4, .null, .null, .null, .ref w1, .int (mm_b cm5), .long mark, va_rf cp5]))) H := hM
            have hc_17 : (mm_U M_15 b1 (.inr (20, [.int 4, .null, .null, .null, .ref w1, .int (mm_b cm5), .long mark, va_rf cp5]))) b1 = some (.inr (20, [.int 4, .null, .null, .null, .ref w1, .int (mm_b cm5), .long mark, va_rf cp5])) := mm_U_eq
            obtain ⟨M_18, eM_18⟩ : ∃ z, z = mm_U M_15 b1 (.inr (20, [.int 4, .null, .null, .null, .ref w1, .int (mm_b cm5), .long mark, va_rf cp5])) := ⟨_, rfl⟩
            rw [← eM_18] at hM hc_17
            refine lv_aload hx hb dX2_renewed_2_171 (lv_at hl 2 rfl) ?_
            refine lv_aload hx hb dX2_renewed_2_173 (lv_at hl 0 rfl) ?_
            refine mm_put (D := Z.1) (ci := 20) (v := .ref qn) (ty := .object "RowenTongueModel$Type") (C := RX25) (T := TX25) (N := 8) hx hb hts in_X25 tyX25 tyX25_ok nmX25 hown hE.1 hM hS hc_17 mm_cX25 7 (by decide) (hts _ q2512) (fun _ h9 => h9) rfl (by decide +kernel) rfl rfl (Nat.le_of_ble_eq_true rfl) dX2_renewed_2_175 (fun H locs hM hS => ?_)
            have hM : mm_P Z.1 mm_cl A (mm_U M_18 b1 (.inr (20, [.int 4, .null, .null, .null, .ref w1, .int (mm_b cm5), .long mark, .ref qn]))) H := hM
            have hc_19 : (mm_U M_18 b1 (.inr (20, [.int 4, .null, .null, .null, .ref w1, .int (mm_b cm5), .long mark, .ref qn]))) b1 = some (.inr (20, [.int 4, .null, .null, .null, .ref w1, .int (mm_b cm5), .long mark, .ref qn])) := mm_U_eq
            obtain ⟨M_20, eM_20⟩ : ∃ z, z = mm_U M_18 b1 (.inr (20, [.int 4, .null, .null, .null, .ref w1, .int (mm_b cm5), .long mark, .ref qn])) := ⟨_, rfl⟩
            rw [← eM_20] at hM hc_19
            have hbE := hc_19
            have hkE : ∀ z, z ≠ b1 → M_20 z = M_15 z := fun z hz => by subst eM_20 eM_18; (try rw [mm_U_U]); simp only [mm_U_ne hz]
            obtain ⟨hNE, hLE, hmE, hmB⟩ := hN7.mark hbL hI htb hbM7 hbE hkE htq (by rw [hseeT, he1, hT]) (fun h9 => absurd (by rw [he1, hT] at h9; exact h9) hyes)
            have hszE : mSz M0 L0 vr D S mark M_15 M_20 (SizeOf.sizeOf T) := fun b hb hm => by
              rcases hmE b hm with e9 | h9
              · subst e9; exact Or.inr fun tb htb9 => by rw [(mtp.uniq hI _ _ _ _ _ htb9 htb).1, he1, hT]; exact Nat.le_refl _
              · exact Or.inl h9
            have hnuE := mNu_mono (M0 := M0) (L0 := L0) (vr := vr) (D := D) (S := S) (gl := gl) (fun b _ h => hLE.mk h)
            have hpay : mCh M0 L0 vr D S gl b1 → mNu M0 M_20 L0 vr D S gl mark + 1 ≤ mNu M0 M_15 L0 vr D S gl mark := fun hc9 => mNu_less (fun b _ h => hLE.mk h) hbL hc9 hnm7 hmB
            refine lv_aload hx hb dX2_renewed_2_178 (lv_at hl 0 rfl) ?_
            have hp9 := hpay ⟨t1, htb, by rw [he1, hT]; exact hyes⟩
            have hnu7 : mNu M0 M_15 L0 vr D S gl mark ≤ mNu M0 M_6 L0 vr D S gl mark := mNu_mono (fun b hb h => by
              obtain ⟨k9, is9, fr9, to9, rw9, cm9, cp9, h9⟩ := h
              exact ⟨_, _, _, _, _, _, _, hxn.at h9⟩)
            exact mm_retaD hx hb hr (Or.inl ⟨_, rfl⟩) (Or.inr ⟨_, rfl⟩) hlk hM hS ⟨qn, qn :: L4, .pow t4 (Bool.toNat true), rfl, hNE, (hL4.trans hxn.mL).trans hLE, fun z h => List.mem_cons_of_mem _ (hs4 z h), htq.light hLE, hseeT, fun h9 => absurd h9 hyes, by (try dsimp only); omega, by (try dsimp only); omega, by simp only [List.length_cons]; (try dsimp only); omega, (hz4.trans (fun b hb hm => Or.inl (hm6 b hb hm)) (s' := 0) (s9 := SizeOf.sizeOf T) (by omega) (by omega)).trans hszE (Nat.le_refl _) (Nat.le_refl _)⟩ dX2_renewed_2_180 (by (try dsimp only); omega) (by (try dsimp only); omega)
          · skip
            have hex9 : a4 = bx := Option.some.inj (by first | exact c_13 | exact Classical.not_not.1 c_13)
            have hno : noG gl T := hnoi.2 (hxeq.1 hex9)
            have hnn5 := hnn4 (hnoi.1 hno)
            refine lv_aload hx hb dX2_renewed_2_148 (lv_at hl 2 rfl) ?_
            refine lv_goto (tgt := 163) hx hb dX2_renewed_2_150 (by decide) ?_
            refine lv_astore hx hb dX2_renewed_2_163 hl (by decide) rfl (fun ls hl => ?_)
            replace hl : lv_has ls 9 [(6, .ref b1), (7, .ref a4), (5, .ref b1), (0, .ref a), (1, .ref kq), (2, .ref ra), (3, .long mark)] := hl
            refine lv_aload hx hb dX2_renewed_2_165 (lv_at hl 2 rfl) ?_
            refine lv_lload_n hx hb dX2_renewed_2_167 rfl (lv_at hl 6 rfl) ?_
            refine mm_put (D := Z.1) (ci := 20) (v := .long mark) (ty := .long) (C := RX25) (T := TX25) (N := 8) hx hb hts in_X25 tyX25 tyX25_ok nmX25 hown hE.1 hM hS hbM5 mm_cX25 6 (by decide) (hts _ q2511) (fun _ h9 => h9) rfl (by decide +kernel) rfl rfl (Nat.le_of_ble_eq_true rfl) dX2_renewed_2_168 (fun H locs hM hS => ?_)
            have hM : mm_P Z.1 mm_cl A (mm_U M_6 b1 (.inr (20, [.int 4, .null, .null, .null, .ref w1, .int (mm_b cm5), .long mark, va_rf cp5]))) H := hM
            have hc_14 : (mm_U M_6 b1 (.inr (20, [.int 4, .null, .null, .null, .ref w1, .int (mm_b cm5), .long mark, va_rf cp5]))) b1 = some (.inr (20, [.int 4, .null, .null, .null, .ref w1, .int (mm_b cm5), .long mark, va_rf cp5])) := mm_U_eq
            obtain ⟨M_15, eM_15⟩ : ∃ z, z = mm_U M_6 b1 (.inr (20, [.int 4, .null, .null, .null, .ref w1, .int (mm_b cm5), .long mark, va_rf cp5])) := ⟨_, rfl⟩
            rw [← eM_15] at hM hc_14
            refine lv_aload hx hb dX2_renewed_2_171 (lv_at hl 2 rfl) ?_
            refine lv_aload hx hb dX2_renewed_2_173 (lv_at hl 0 rfl) ?_
            refine mm_put (D := Z.1) (ci := 20) (v := .ref b1) (ty := .object "RowenTongueModel$Type") (C := RX25) (T := TX25) (N := 8) hx hb hts in_X25 tyX25 tyX25_ok nmX25 hown hE.1 hM hS hc_14 mm_cX25 7 (by decide) (hts _ q2512) (fun _ h9 => h9) rfl (by decide +kernel) rfl rfl (Nat.le_of_ble_eq_true rfl) dX2_renewed_2_175 (fun H locs hM hS => ?_)
            have hM : mm_P Z.1 mm_cl A (mm_U M_15 b1 (.inr (20, [.int 4, .null, .null, .null, .ref w1, .int (mm_b cm5), .long mark, .ref b1]))) H := hM
            have hc_16 : (mm_U M_15 b1 (.inr (20, [.int 4, .null, .null, .null, .ref w1, .int (mm_b cm5), .long mark, .ref b1]))) b1 = some (.inr (20, [.int 4, .null, .null, .null, .ref w1, .int (mm_b cm5), .long mark, .ref b1])) := mm_U_eq
            obtain ⟨M_17, eM_17⟩ : ∃ z, z = mm_U M_15 b1 (.inr (20, [.int 4, .null, .null, .null, .ref w1, .int (mm_b cm5), .long mark, .ref b1])) := ⟨_, rfl⟩
            rw [← eM_17] at hM hc_16
            have hbE := hc_16
            have hkE : ∀ z, z ≠ b1 → M_17 z = M_6 z := fun z hz => by subst eM_17 eM_15; (try rw [mm_U_U]); simp only [mm_U_ne hz]
            obtain ⟨hNE, hLE, hmE, hmB⟩ := hN4.mark hbL hI htb hbM5 hbE hkE (mtp.mono (mK.rf _) hN4.2.1.1 (fun _ h => ⟨h, rfl⟩) _ _ _ (htb.light hL04)) (by rw [he1, hT]; exact (uth_id hcan hno).symm) (fun _ => rfl)
            have hszE : mSz M0 L0 vr D S mark M_6 M_17 (SizeOf.sizeOf T) := fun b hb hm => by
              rcases hmE b hm with e9 | h9
              · subst e9; exact Or.inr fun tb htb9 => by rw [(mtp.uniq hI _ _ _ _ _ htb9 htb).1, he1, hT]; exact Nat.le_refl _
              · exact Or.inl h9
            have hnuE := mNu_mono (M0 := M0) (L0 := L0) (vr := vr) (D := D) (S := S) (gl := gl) (fun b _ h => hLE.mk h)
            have hpay : mCh M0 L0 vr D S gl b1 → mNu M0 M_17 L0 vr D S gl mark + 1 ≤ mNu M0 M_6 L0 vr D S gl mark := fun hc9 => mNu_less (fun b _ h => hLE.mk h) hbL hc9 hnm5 hmB
            refine lv_aload hx hb dX2_renewed_2_178 (lv_at hl 0 rfl) ?_
            exact mm_retaD hx hb hr (Or.inl ⟨_, rfl⟩) (Or.inr ⟨_, rfl⟩) hlk hM hS ⟨b1, L4, t1, rfl, hNE, hL4.trans hLE, hs4, (mtp.mono (mK.rf _) hN4.2.1.1 (fun _ h => ⟨h, rfl⟩) _ _ _ (htb.light hL04)).light hLE, by rw [he1, hT]; exact (uth_id hcan hno).symm, fun _ => ⟨d1, hn1⟩, by (try dsimp only); omega, by (try dsimp only); omega, by (try dsimp only); omega, (hz4.trans hszE (by omega) (Nat.le_refl _))⟩ dX2_renewed_2_180 (by (try dsimp only); omega) (by (try dsimp only); omega)
        · skip
          have hsn : sn2 = mark := lg_cmp_0.1 (by first | exact c_4 | exact Classical.not_not.1 c_4)
          subst hsn
          obtain ⟨k8, is8, fr8, to8, rw8, cm8, a8, hb8, ⟨t8, ht8, he8⟩, hun8⟩ := hN.2.2.2 b1 hbL ⟨_, _, _, _, _, _, _, hbM⟩ t1 htb
          have hcp : cp2 = some a8 := by rw [hbM] at hb8; exact (mt_inj (Option.some.inj hb8)).2.2.2.2.2.2.2
          subst hcp
          refine lv_aload hx hb dX2_renewed_2_16 (lv_at hl 0 rfl) ?_
          refine va_get (D := Z.1) (ci := 20) (v := .ref a8) (C := RX25) (T := TX25) (N := 8) hx hb hts in_X25 hown hE.1 (hM.at hbM) 0 rfl mm_cX25 7 (by decide) (hts _ q2512) (fun _ h9 => h9) rfl dX2_renewed_2_18 ?_
          exact mm_retaD hx hb hr (Or.inl ⟨_, rfl⟩) (Or.inr ⟨_, rfl⟩) hlk hM hS ⟨a8, L, t8, rfl, hN, mL.rf _, fun _ h => h, ht8, by rw [he8, he1, hT], fun hno => ⟨d1, by rw [hun8 (by rw [he1, hT]; exact hno)]; exact hn1⟩, by (try dsimp only); omega, by (try dsimp only); omega, by (try dsimp only); omega, fun b hb hm => Or.inl hm⟩ dX2_renewed_2_21 (by (try dsimp only); omega) (by (try dsimp only); omega)
  · skip
    refine mm_ofWD (cc := cX2_renewedRow) (maxL := 8) (ret := (some (.object "RowenTongueModel$Row"))) (by decide) rfl (Nat.le_of_ble_eq_true rfl) ?_
    intro p e s m below meth c A ls hx hb hr hlk hml hown hmn hts htab hE hST hA hM hS hl
    replace hl : lv_has ls 8 [(0, .ref a), (1, .ref kq), (2, .ref ra), (3, .long mark)] := hl
    have hL0 := hN.1
    have htpM := htp0.light hL0
    have hcan : ucan T := by rw [← hT]; exact hC0.1.1.can t
    obtain ⟨d1, b1, t1, hn1, htb, he1, hcs⟩ := hC0.nowR htp0
    have hn1M := mr_now.light hL0 hn1
    refine lv_aload_n hx hb dX2_renewedRow_0 rfl (lv_at hl 0 rfl) ?_
    obtain ⟨k9, is9, lb9, ty9, rs9, lk9, cm9, hq9, -⟩ := (htpM).cellR
    refine mm_callV (As := []) (rest := []) ⟨hx, hb, hml, hown, hts⟩ hE hST hA (c_X27_now l Z hn1M) (cwV 0 hts (lw_V q2614 q2615 q2616 q100 q2617) rfl rfl rfl (by decide +kernel) ⟨(by (try dsimp only); omega), (by (try dsimp only); omega)⟩) hM hS mm_cX27 hq9 rfl hl.1 (Nat.le_of_ble_eq_true rfl) dX2_renewedRow_1 rfl ⟨(by (try dsimp only); omega), (by (try dsimp only); omega)⟩ (fun _ _ _ _ _ _ h9 => h9.elim) (fun v_1 M_2 H locs hp_3 hM hS => ?_)
    obtain ⟨rfl, eM_2⟩ := hp_3
    rw [eM_2] at hM
    refine lv_astore hx hb dX2_renewedRow_4 hl (by decide) rfl (fun ls hl => ?_)
    replace hl : lv_has ls 8 [(5, .ref b1), (0, .ref a), (1, .ref kq), (2, .ref ra), (3, .long mark)] := hl
    rcases hcs with ⟨eT, hb1⟩ | ⟨u, hu, eT, hsu, hbu, hbL, hb1⟩ | ⟨x1, k1, r1, ty1, rs1, eT, hk1, hb1, hx1, hr1⟩
    · skip
      rw [hT] at eT
      have hno : noG gl T := fun g _ => by rw [eT]; rfl
      obtain ⟨cm2, hbM⟩ := hL0.r (k := 1) (is := none) (ty := none) (rs := none) hb1
      refine lv_aload hx hb dX2_renewedRow_6 (lv_at hl 0 rfl) ?_
      refine va_get (D := Z.1) (ci := 22) (v := .int 1) (C := RX27) (T := TX27) (N := 7) hx hb hts in_X27 hown hE.1 (hM.at hbM) 0 rfl mm_cX27 0 (by decide) (hts _ q2577) (fun _ h9 => h9) rfl dX2_renewedRow_8 ?_
      refine lv_iconst (v := 2) hx hb dX2_renewedRow_11 (by decide) ?_
      refine lv_icmp_ne (tgt := 85) hx hb dX2_renewedRow_12 (by decide) (fun _ => ?_) (fun h9 => absurd h9 (by decide))
      refine lv_aload hx hb dX2_renewedRow_85 (lv_at hl 0 rfl) ?_
      refine va_get (D := Z.1) (ci := 22) (v := .int 1) (C := RX27) (T := TX27) (N := 7) hx hb hts in_X27 hown hE.1 (hM.at hbM) 0 rfl mm_cX27 0 (by decide) (hts _ q2577) (fun _ h9 => h9) rfl dX2_renewedRow_87 ?_
      refine lv_if_ne (tgt := 105) hx hb dX2_renewedRow_90 (by decide) (fun _ => ?_) (fun h9 => absurd h9 (by decide))
      refine lv_iconst (v := -1) hx hb dX2_renewedRow_105 (by decide) ?_
      refine lv_istore hx hb dX2_renewedRow_106 hl (by decide) rfl (fun ls hl => ?_)
      replace hl : lv_has ls 8 [(6, .int (-1)), (5, .ref b1), (0, .ref a), (1, .ref kq), (2, .ref ra), (3, .long mark)] := hl
      refine lv_iload hx hb dX2_renewedRow_108 (lv_at hl 0 rfl) ?_
      refine lv_if_ge (tgt := 118) hx hb dX2_renewedRow_110 (by decide) (fun h9 => absurd h9 (by decide)) (fun _ => ?_)
      refine lv_aload hx hb dX2_renewedRow_113 (lv_at hl 1 rfl) ?_
      refine lv_goto (tgt := 122) hx hb dX2_renewedRow_115 (by decide) ?_
      exact mm_retaD hx hb hr (Or.inl ⟨_, rfl⟩) (Or.inr ⟨_, rfl⟩) hlk hM hS ⟨b1, L, t1, rfl, hN, mL.rf _, fun _ h => h, mtp.mono (mK.rf _) hN.2.1.1 (fun _ h => ⟨h, rfl⟩) _ _ _ (htb.light hL0), by rw [he1, hT]; exact (uth_id hcan hno).symm, fun _ => ⟨d1, hn1⟩, by (try dsimp only); omega, (fun _ => by (try dsimp only); omega), by (try dsimp only); omega, by (try dsimp only); omega, fun b hb hm => Or.inl hm⟩ dX2_renewedRow_122 (by (try dsimp only); omega) (by (try dsimp only); omega)
    · skip
      rw [hT] at eT
      have hkd : kk u = true := by rw [eT] at hww; exact hww.2
      obtain ⟨cm2, hbM⟩ := hL0.r (k := 0) (is := none) (ty := none) (rs := none) hb1
      have hkqM := hL0.atC hkq (by decide)
      have hlrM := hlr.mL hL0
      obtain ⟨mdq, fq, hpq, -⟩ := id hlrM
      refine lv_aload hx hb dX2_renewedRow_6 (lv_at hl 0 rfl) ?_
      refine va_get (D := Z.1) (ci := 22) (v := .int 0) (C := RX27) (T := TX27) (N := 7) hx hb hts in_X27 hown hE.1 (hM.at hbM) 0 rfl mm_cX27 0 (by decide) (hts _ q2577) (fun _ h9 => h9) rfl dX2_renewedRow_8 ?_
      refine lv_iconst (v := 2) hx hb dX2_renewedRow_11 (by decide) ?_
      refine lv_icmp_ne (tgt := 85) hx hb dX2_renewedRow_12 (by decide) (fun _ => ?_) (fun h9 => absurd h9 (by decide))
      refine lv_aload hx hb dX2_renewedRow_85 (lv_at hl 0 rfl) ?_
      refine va_get (D := Z.1) (ci := 22) (v := .int 0) (C := RX27) (T := TX27) (N := 7) hx hb hts in_X27 hown hE.1 (hM.at hbM) 0 rfl mm_cX27 0 (by decide) (hts _ q2577) (fun _ h9 => h9) rfl dX2_renewedRow_87 ?_
      refine lv_if_ne (tgt := 105) hx hb dX2_renewedRow_90 (by decide) (fun h9 => absurd (by decide) h9) (fun _ => ?_)
      refine lv_aload_n hx hb dX2_renewedRow_93 rfl (lv_at hl 2 rfl) ?_
      refine va_get (D := Z.1) (ci := 23) (v := .ref lr) (C := RX28) (T := TX28) (N := 5) hx hb hts in_X28 hown hE.1 (hM.at hkqM) 0 rfl mm_cX28 3 (by decide) (hts _ q2640) (fun _ h9 => h9) rfl dX2_renewedRow_94 ?_
      refine lv_aload hx hb dX2_renewedRow_97 (lv_at hl 0 rfl) ?_
      refine mm_callV (As := [.ref b1]) (rest := []) ⟨hx, hb, hml, hown, hts⟩ hE hST hA (c_J2_indexOf_X27 l Z hlrM hbM) (cwV 1 hts (lw_V q2621 q729 q730 q53 q731) rfl rfl rfl (by decide +kernel) ⟨(by (try dsimp only); omega), (by (try dsimp only); omega)⟩) hM hS mm_cJ2 hpq rfl hl.1 (Nat.le_of_ble_eq_true rfl) dX2_renewedRow_99 rfl ⟨(by (try dsimp only); omega), (by (try dsimp only); omega)⟩ (fun _ _ _ _ _ _ h9 => h9.elim) (fun v_4 M_5 H locs hp_6 hM hS => ?_)
      obtain ⟨⟨x9, rfl, hix⟩, eM_5⟩ := hp_6
      rw [eM_5] at hM
      rcases hix with ⟨j, rfl, hj1, -⟩ | ⟨rfl, hj1⟩
      · skip
        have hjl : j < gr.length := by
          rcases Nat.lt_or_ge j gr.length with h9 | h9
          · exact h9
          · rw [List.getElem?_eq_none (by rw [List.length_map]; exact h9)] at hj1; cases hj1
        have hju : gr[j]? = some u := by
          rw [List.getElem?_map] at hj1
          cases h9 : gr[j]? with
          | none => rw [h9] at hj1; cases hj1
          | some g =>
            rw [h9] at hj1
            have h8 : vr g = b1 := Option.some.inj (Option.some.inj hj1)
            rw [hI g u (hgr g (List.mem_of_getElem? h9)).2 hu (h8.trans hbu)]
        have hug := hgr u (List.mem_of_getElem? hju)
        obtain ⟨hD9, hs9, is9, lk9, cm9, hb9⟩ := hgD u (List.mem_of_getElem? hju)
        refine lv_goto (tgt := 106) hx hb dX2_renewedRow_102 (by decide) ?_
        refine lv_istore hx hb dX2_renewedRow_106 hl (by decide) rfl (fun ls hl => ?_)
        replace hl : lv_has ls 8 [(6, .int (nI j)), (5, .ref b1), (0, .ref a), (1, .ref kq), (2, .ref ra), (3, .long mark)] := hl
        refine lv_iload hx hb dX2_renewedRow_108 (lv_at hl 0 rfl) ?_
        refine lv_if_ge (tgt := 118) hx hb dX2_renewedRow_110 (by decide) (fun _ => ?_) (fun h9 => absurd (show (0 : Int32) ≤ nI j from (nI_leI (a := 0) (b := j) (by omega) (by omega)).2 (Nat.zero_le _)) h9)
        refine lv_aload_n hx hb dX2_renewedRow_118 rfl (lv_at hl 4 rfl) ?_
        refine lv_iload hx hb dX2_renewedRow_119 (lv_at hl 0 rfl) ?_
        have hraM := hL0.atA hra
        refine mm_aald (k := j) hx hb hE hM 7 hraM rfl rfl hjl (by omega) dX2_renewedRow_121 ?_
        rw [hfr j u hju]
        obtain ⟨cm8, hb8⟩ := hL0.r hb9
        have hyes : ¬ noG gl T := fun h9 => by have := h9 u hug.1; rw [eT] at this; simp [uoc] at this
        have htv : mtp M0 L0 vr D (.var (n + gl.idxOf u)) true (vr (n + gl.idxOf u)) := mtp_varR hD9 (hC0.2.1 _ hD9).1 hb9
        exact mm_retaD hx hb hr (Or.inl ⟨_, rfl⟩) (Or.inr ⟨_, rfl⟩) hlk hM hS ⟨vr (n + gl.idxOf u), L, .var (n + gl.idxOf u), rfl, hN, mL.rf _, fun _ h => h, mtp.mono (mK.rf _) hN.2.1.1 (fun _ h => ⟨h, rfl⟩) _ _ _ (htv.light hL0), by rw [eT]; show S.2.1 _ = uth gl n u; rw [hs9, uth_in hug.1], fun h9 => absurd h9 hyes, by (try dsimp only); omega, (fun _ => by (try dsimp only); omega), by (try dsimp only); omega, by (try dsimp only); omega, fun b hb hm => Or.inl hm⟩ dX2_renewedRow_122 (by (try dsimp only); omega) (by (try dsimp only); omega)
      · skip
        have hno : noG gl T := fun g hg => by
          rw [eT]; simp only [uoc, beq_eq_false_iff_ne, ne_eq]
          intro e9; subst e9
          obtain ⟨j, hj⟩ := List.mem_iff_getElem?.1 (hgl u hg hkd)
          exact hj1 j (by rw [List.getElem?_map, hj, hbu]; rfl)
        refine lv_goto (tgt := 106) hx hb dX2_renewedRow_102 (by decide) ?_
        refine lv_istore hx hb dX2_renewedRow_106 hl (by decide) rfl (fun ls hl => ?_)
        replace hl : lv_has ls 8 [(6, .int (-1)), (5, .ref b1), (0, .ref a), (1, .ref kq), (2, .ref ra), (3, .long mark)] := hl
        refine lv_iload hx hb dX2_renewedRow_108 (lv_at hl 0 rfl) ?_
        refine lv_if_ge (tgt := 118) hx hb dX2_renewedRow_110 (by decide) (fun h9 => absurd h9 (by decide)) (fun _ => ?_)
        refine lv_aload hx hb dX2_renewedRow_113 (lv_at hl 1 rfl) ?_
        refine lv_goto (tgt := 122) hx hb dX2_renewedRow_115 (by decide) ?_
        exact mm_retaD hx hb hr (Or.inl ⟨_, rfl⟩) (Or.inr ⟨_, rfl⟩) hlk hM hS ⟨b1, L, t1, rfl, hN, mL.rf _, fun _ h => h, mtp.mono (mK.rf _) hN.2.1.1 (fun _ h => ⟨h, rfl⟩) _ _ _ (htb.light hL0), by rw [he1, hT]; exact (uth_id hcan hno).symm, fun _ => ⟨d1, hn1⟩, by (try dsimp only); omega, (fun _ => by (try dsimp only); omega), by (try dsimp only); omega, by (try dsimp only); omega, fun b hb hm => Or.inl hm⟩ dX2_renewedRow_122 (by (try dsimp only); omega) (by (try dsimp only); omega)
    · skip
      rw [hT] at eT
      obtain ⟨cm2, hbM⟩ := hL0.r (k := 2) (is := none) (ty := some ty1) (rs := some rs1) hb1
      have hwi := uwf_ins_inv _ (eT ▸ hww)
      have hsz : SizeOf.sizeOf T = 1 + (1 + SizeOf.sizeOf (uap S.2.1 x1) + SizeOf.sizeOf k1) + SizeOf.sizeOf (uap S.2.1 r1) := by rw [eT, uins_size]
      have hurn : urn T = urn (uap S.2.1 r1) + 1 := by rw [eT, urn_ins]
      have huz : uz T = max (uz (uap S.2.1 x1)) (uz (uap S.2.1 r1)) := by rw [eT]; exact uz_ins _ hwi.2.row.1
      have hor : ∀ u, uoc u T = (uoc u (uap S.2.1 x1) || uoc u (uap S.2.1 r1)) := fun u => by rw [eT]; exact uins_oc _
      have hnoi : noG gl T ↔ noG gl (uap S.2.1 x1) ∧ noG gl (uap S.2.1 r1) := ⟨fun h => ⟨fun g hg => by have := h g hg; rw [hor g, Bool.or_eq_false_iff] at this; exact this.1, fun g hg => by have := h g hg; rw [hor g, Bool.or_eq_false_iff] at this; exact this.2⟩, fun h g hg => by rw [hor g, h.1 g hg, h.2 g hg]; rfl⟩
      have hltx : ∀ u, uoc u (uap S.2.1 x1) = true → u < n := fun u h => hlt u (by rw [hor u, h]; rfl)
      have hltr : ∀ u, uoc u (uap S.2.1 r1) = true → u < n := fun u h => hlt u (by rw [hor u, h, Bool.or_true])
      refine lv_aload hx hb dX2_renewedRow_6 (lv_at hl 0 rfl) ?_
      refine va_get (D := Z.1) (ci := 22) (v := .int 2) (C := RX27) (T := TX27) (N := 7) hx hb hts in_X27 hown hE.1 (hM.at hbM) 0 rfl mm_cX27 0 (by decide) (hts _ q2577) (fun _ h9 => h9) rfl dX2_renewedRow_8 ?_
      refine lv_iconst (v := 2) hx hb dX2_renewedRow_11 (by decide) ?_
      refine lv_icmp_ne (tgt := 85) hx hb dX2_renewedRow_12 (by decide) (fun h9 => absurd (by decide) h9) (fun _ => ?_)
      refine lv_aload hx hb dX2_renewedRow_15 (lv_at hl 0 rfl) ?_
      refine va_get (D := Z.1) (ci := 22) (v := .ref ty1) (C := RX27) (T := TX27) (N := 7) hx hb hts in_X27 hown hE.1 (hM.at hbM) 0 rfl mm_cX27 3 (by decide) (hts _ q2581) (fun _ h9 => h9) rfl dX2_renewedRow_17 ?_
      refine lv_aload_n hx hb dX2_renewedRow_20 rfl (lv_at hl 2 rfl) ?_
      refine lv_aload_n hx hb dX2_renewedRow_21 rfl (lv_at hl 3 rfl) ?_
      refine lv_lload_n hx hb dX2_renewedRow_22 rfl (lv_at hl 4 rfl) ?_
      refine mm_callSD (As := [.ref ty1, .ref kq, .ref ra, .long mark]) (rest := []) ⟨hx, hb, hml, hown, hts⟩ hE hST hA (ihT (uap S.2.1 x1) x1 ty1 M L (by omega) rfl hwi.1 hltx hN hx1) (va_cwS 4 hts (lw_S q2601 q2602 q54 q2603) rfl rfl rfl (by decide +kernel) ⟨(by (try dsimp only); omega), (by (try dsimp only); omega)⟩) hM hS rfl hl.1 (Nat.le_of_ble_eq_true rfl) dX2_renewedRow_23 rfl ⟨(by (try dsimp only); omega), (by (try dsimp only); omega)⟩ (fun _ _ _ _ _ _ h9 => h9.elim) (fun v_4 M_5 n_7 k_8 H locs hp_6 hM hS => ?_)
      obtain ⟨a2, L2, t2, rfl, hN2, hL2, hs2, ht2, he2, hr2, hn2, hk2, hl2, hz2⟩ := hp_6
      have hnum2 := mNu_mono (M0 := M0) (L0 := L0) (vr := vr) (D := D) (S := S) (gl := gl) (fun b _ h => hL2.mk h)
      obtain ⟨cm3, hbM3⟩ := hL2.r hbM
      refine lv_astore hx hb dX2_renewedRow_26 hl (by decide) rfl (fun ls hl => ?_)
      replace hl : lv_has ls 8 [(6, .ref a2), (5, .ref b1), (0, .ref a), (1, .ref kq), (2, .ref ra), (3, .long mark)] := hl
      refine lv_aload hx hb dX2_renewedRow_28 (lv_at hl 1 rfl) ?_
      refine va_get (D := Z.1) (ci := 22) (v := .ref rs1) (C := RX27) (T := TX27) (N := 7) hx hb hts in_X27 hown hE.1 (hM.at hbM3) 0 rfl mm_cX27 4 (by decide) (hts _ q2582) (fun _ h9 => h9) rfl dX2_renewedRow_30 ?_
      refine lv_aload_n hx hb dX2_renewedRow_33 rfl (lv_at hl 3 rfl) ?_
      refine lv_aload_n hx hb dX2_renewedRow_34 rfl (lv_at hl 4 rfl) ?_
      refine lv_lload_n hx hb dX2_renewedRow_35 rfl (lv_at hl 5 rfl) ?_
      refine mm_callSD (As := [.ref rs1, .ref kq, .ref ra, .long mark]) (rest := []) ⟨hx, hb, hml, hown, hts⟩ hE hST hA (ihR (uap S.2.1 r1) r1 rs1 _ L2 (by omega) rfl hwi.2 hltr hN2 hr1) (va_cwS 4 hts (lw_S q2611 q2612 q54 q2613) rfl rfl rfl (by decide +kernel) ⟨(by (try dsimp only); omega), (by (try dsimp only); omega)⟩) hM hS rfl hl.1 (Nat.le_of_ble_eq_true rfl) dX2_renewedRow_36 rfl ⟨(by (try dsimp only); omega), (by (try dsimp only); omega)⟩ (fun _ _ _ _ _ _ h9 => h9.elim) (fun v_9 M_10 n_12 k_13 H locs hp_11 hM hS => ?_)
      obtain ⟨a4, L4, t4, rfl, hN4, hL4, hs4, ht4, he4, hr4, hn4, hnn4, hk4, hl4, hz4⟩ := hp_11
      have hnum4 := mNu_mono (M0 := M0) (L0 := L0) (vr := vr) (D := D) (S := S) (gl := gl) (fun b _ h => hL4.mk h)
      obtain ⟨cm5, hbM5⟩ := hL4.r hbM3
      have hL24 := hL2.trans hL4
      have hz24 := hz2.trans hz4 (s9 := SizeOf.sizeOf T) (by omega) (by omega)
      refine lv_astore hx hb dX2_renewedRow_39 hl (by decide) rfl (fun ls hl => ?_)
      replace hl : lv_has ls 8 [(7, .ref a4), (6, .ref a2), (5, .ref b1), (0, .ref a), (1, .ref kq), (2, .ref ra), (3, .long mark)] := hl
      refine lv_aload hx hb dX2_renewedRow_41 (lv_at hl 1 rfl) ?_
      refine lv_aload hx hb dX2_renewedRow_43 (lv_at hl 2 rfl) ?_
      refine va_get (D := Z.1) (ci := 22) (v := .ref ty1) (C := RX27) (T := TX27) (N := 7) hx hb hts in_X27 hown hE.1 (hM.at hbM5) 0 rfl mm_cX27 3 (by decide) (hts _ q2581) (fun _ h9 => h9) rfl dX2_renewedRow_45 ?_
      obtain ⟨dx, bx, tx, hnx, htx, hex, -, -⟩ := hC0.nowT hx1
      have hL04 := hN4.1
      have hx14 := hx1.light hL04
      obtain ⟨-, k9, is9, fr9, to9, rw9, cm9, sn9, cp9, hq9⟩ := (hx14).cellT
      refine mm_callV (As := []) (rest := [.ref a2]) ⟨hx, hb, hml, hown, hts⟩ hE hST hA (c_X25_now l Z (mt_now.light hL04 hnx)) (cwV 0 hts (lw_V q2604 q2605 q2606 q98 q2607) rfl rfl rfl (by decide +kernel) ⟨(by (try dsimp only); omega), (by (try dsimp only); omega)⟩) hM hS mm_cX25 hq9 rfl hl.1 (Nat.le_of_ble_eq_true rfl) dX2_renewedRow_48 rfl ⟨(by (try dsimp only); omega), (by (try dsimp only); omega)⟩ (fun _ _ _ _ _ _ h9 => h9.elim) (fun v_14 M_15 H locs hp_16 hM hS => ?_)
      obtain ⟨rfl, eM_15⟩ := hp_16
      rw [eM_15] at hM
      have hxeq : a2 = bx ↔ noG gl (uap S.2.1 x1) := ⟨fun e9 => uth_noG (n := n) hltx (by
        have k1 := (mtp.uniq hN4.2.2.1.1.2.2.1 _ _ _ _ _ (mtp.mono hL4.K hs4 (fun _ h => ⟨h, rfl⟩) _ _ _ ht2) (e9 ▸ mtp.mono (mK.rf _) hN4.2.1.1 (fun _ h => ⟨h, rfl⟩) _ _ _ (htx.light hL04))).1
        rw [← he2, k1, hex]), fun h9 => by
        obtain ⟨d9, k9⟩ := hr2 h9
        exact mt_now.b k9 hnx⟩
      obtain ⟨dy, by9, ty9, hny, hty, hey, -⟩ := hC0.nowR hr1
      have hyeq : a4 = by9 ↔ noG gl (uap S.2.1 r1) := ⟨fun e9 => uth_noG (n := n) hltr (by
        have k1 := (mtp.uniq hN4.2.2.1.1.2.2.1 _ _ _ _ _ ht4 (e9 ▸ mtp.mono (mK.rf _) hN4.2.1.1 (fun _ h => ⟨h, rfl⟩) _ _ _ (hty.light hL04))).1
        rw [← he4, k1, hey]), fun h9 => by
        obtain ⟨d9, k9⟩ := hr4 h9
        exact mr_now.b k9 hny⟩
      refine lv_acmp_ne (rx := (some a2)) (ry := (some bx)) (tgt := 72) hx hb dX2_renewedRow_51 (by decide) (fun c_17 => ?_) (fun c_17 => ?_)
      · skip
        have hyes : ¬ noG gl T := fun h9 => by
          exact c_17 (by rw [hxeq.2 (hnoi.1 h9).1])
        refine lv_aload hx hb dX2_renewedRow_72 (lv_at hl 2 rfl) ?_
        refine va_get (D := Z.1) (ci := 22) (v := .int (nI k1)) (C := RX27) (T := TX27) (N := 7) hx hb hts in_X27 hown hE.1 (hM.at hbM5) 0 rfl mm_cX27 2 (by decide) (hts _ q2580) (fun _ h9 => h9) rfl dX2_renewedRow_74 ?_
        refine lv_aload hx hb dX2_renewedRow_77 (lv_at hl 1 rfl) ?_
        refine lv_aload hx hb dX2_renewedRow_79 (lv_at hl 0 rfl) ?_
        refine mm_callS (As := [.int (nI k1), .ref a2, .ref a4]) (rest := []) ⟨hx, hb, hml, hown, hts⟩ hE hST hA (c_X2_row l Z (x1 := nI k1) (x2 := some a2) (x3 := some a4)) (va_cwS 3 hts (lw_S q2618 q2619 q54 q2620) rfl rfl rfl (by decide +kernel) ⟨(by (try dsimp only); omega), (by (try dsimp only); omega)⟩) hM hS rfl hl.1 (Nat.le_of_ble_eq_true rfl) dX2_renewedRow_81 rfl ⟨(by (try dsimp only); omega), (by (try dsimp only); omega)⟩ (fun _ _ _ _ _ _ h9 => h9.elim) (fun v_18 M_19 H locs hp_20 hM hS => ?_)
        obtain ⟨qn, hqn, rfl, eM9⟩ := hp_20
        have hxn : mm_Ext M_10 M_19 := by rw [eM9]; exact mm_Ext.U hqn
        have hq1 : M_19 qn = some (mr_E 2 none (nI k1) (some a2) (some a4) 0 false) := by rw [eM9]; exact mm_U_eq
        obtain ⟨hN6, hm6⟩ := hN4.ext hC0 hxn
        have htq : mtp M_19 L4 vr D (.add (.pow t2 k1) t4) true qn := by
          simp only [mtp]
          exact ⟨a2, a4, hk1, hq1, mtp.mono (hL4.K.trans hxn.mK) hs4 (fun _ h => ⟨h, rfl⟩) _ _ _ ht2, ht4.ext hxn⟩
        have hseeT : uap S.2.1 (.add (.pow t2 k1) t4) = uap (uth gl n) T := by rw [eT, uap_ins]; simp only [uap]; rw [he2, he4]
        have hnu7 : mNu M0 M_19 L0 vr D S gl mark ≤ mNu M0 M_10 L0 vr D S gl mark := mNu_mono (fun b hb h => by
          obtain ⟨k9, is9, fr9, to9, rw9, cm9, cp9, h9⟩ := h
          exact ⟨_, _, _, _, _, _, _, hxn.at h9⟩)
        exact mm_retaD hx hb hr (Or.inl ⟨_, rfl⟩) (Or.inr ⟨_, rfl⟩) hlk hM hS ⟨qn, L4, .add (.pow t2 k1) t4, rfl, hN6, hL24.trans hxn.mL, fun z h => hs4 z (hs2 z h), htq, hseeT, fun h9 => absurd h9 hyes, by (try dsimp only); omega, fun h9 => absurd h9 hyes, by (try dsimp only); omega, by (try dsimp only); omega, hz24.trans (fun b hb hm => Or.inl (hm6 b hb hm)) (s' := 0) (Nat.le_refl _) (by omega)⟩ dX2_renewedRow_84 (by (try dsimp only); omega) (by (try dsimp only); omega)
      · skip
        have hex9 : a2 = bx := Option.some.inj (by first | exact c_17 | exact Classical.not_not.1 c_17)
        have hr14 := hr1.light hL04
        refine lv_aload hx hb dX2_renewedRow_54 (lv_at hl 0 rfl) ?_
        refine lv_aload hx hb dX2_renewedRow_56 (lv_at hl 2 rfl) ?_
        refine va_get (D := Z.1) (ci := 22) (v := .ref rs1) (C := RX27) (T := TX27) (N := 7) hx hb hts in_X27 hown hE.1 (hM.at hbM5) 0 rfl mm_cX27 4 (by decide) (hts _ q2582) (fun _ h9 => h9) rfl dX2_renewedRow_58 ?_
        obtain ⟨k9, is9, lb9, ty9, rs9, lk9, cm9, hq9, -⟩ := (hr14).cellR
        refine mm_callV (As := []) (rest := [.ref a4]) ⟨hx, hb, hml, hown, hts⟩ hE hST hA (c_X27_now l Z (mr_now.light hL04 hny)) (cwV 0 hts (lw_V q2614 q2615 q2616 q100 q2617) rfl rfl rfl (by decide +kernel) ⟨(by (try dsimp only); omega), (by (try dsimp only); omega)⟩) hM hS mm_cX27 hq9 rfl hl.1 (Nat.le_of_ble_eq_true rfl) dX2_renewedRow_61 rfl ⟨(by (try dsimp only); omega), (by (try dsimp only); omega)⟩ (fun _ _ _ _ _ _ h9 => h9.elim) (fun v_18 M_19 H locs hp_20 hM hS => ?_)
        obtain ⟨rfl, eM_19⟩ := hp_20
        rw [eM_19] at hM
        refine lv_acmp_ne (rx := (some a4)) (ry := (some by9)) (tgt := 72) hx hb dX2_renewedRow_64 (by decide) (fun c_21 => ?_) (fun c_21 => ?_)
        · skip
          have hyes : ¬ noG gl T := fun h9 => by
            exact c_21 (by rw [hyeq.2 (hnoi.1 h9).2])
          refine lv_aload hx hb dX2_renewedRow_72 (lv_at hl 2 rfl) ?_
          refine va_get (D := Z.1) (ci := 22) (v := .int (nI k1)) (C := RX27) (T := TX27) (N := 7) hx hb hts in_X27 hown hE.1 (hM.at hbM5) 0 rfl mm_cX27 2 (by decide) (hts _ q2580) (fun _ h9 => h9) rfl dX2_renewedRow_74 ?_
          refine lv_aload hx hb dX2_renewedRow_77 (lv_at hl 1 rfl) ?_
          refine lv_aload hx hb dX2_renewedRow_79 (lv_at hl 0 rfl) ?_
          refine mm_callS (As := [.int (nI k1), .ref a2, .ref a4]) (rest := []) ⟨hx, hb, hml, hown, hts⟩ hE hST hA (c_X2_row l Z (x1 := nI k1) (x2 := some a2) (x3 := some a4)) (va_cwS 3 hts (lw_S q2618 q2619 q54 q2620) rfl rfl rfl (by decide +kernel) ⟨(by (try dsimp only); omega), (by (try dsimp only); omega)⟩) hM hS rfl hl.1 (Nat.le_of_ble_eq_true rfl) dX2_renewedRow_81 rfl ⟨(by (try dsimp only); omega), (by (try dsimp only); omega)⟩ (fun _ _ _ _ _ _ h9 => h9.elim) (fun v_22 M_23 H locs hp_24 hM hS => ?_)
          obtain ⟨qn, hqn, rfl, eM9⟩ := hp_24
          have hxn : mm_Ext M_10 M_23 := by rw [eM9]; exact mm_Ext.U hqn
          have hq1 : M_23 qn = some (mr_E 2 none (nI k1) (some a2) (some a4) 0 false) := by rw [eM9]; exact mm_U_eq
          obtain ⟨hN6, hm6⟩ := hN4.ext hC0 hxn
          have htq : mtp M_23 L4 vr D (.add (.pow t2 k1) t4) true qn := by
            simp only [mtp]
            exact ⟨a2, a4, hk1, hq1, mtp.mono (hL4.K.trans hxn.mK) hs4 (fun _ h => ⟨h, rfl⟩) _ _ _ ht2, ht4.ext hxn⟩
          have hseeT : uap S.2.1 (.add (.pow t2 k1) t4) = uap (uth gl n) T := by rw [eT, uap_ins]; simp only [uap]; rw [he2, he4]
          have hnu7 : mNu M0 M_23 L0 vr D S gl mark ≤ mNu M0 M_10 L0 vr D S gl mark := mNu_mono (fun b hb h => by
            obtain ⟨k9, is9, fr9, to9, rw9, cm9, cp9, h9⟩ := h
            exact ⟨_, _, _, _, _, _, _, hxn.at h9⟩)
          exact mm_retaD hx hb hr (Or.inl ⟨_, rfl⟩) (Or.inr ⟨_, rfl⟩) hlk hM hS ⟨qn, L4, .add (.pow t2 k1) t4, rfl, hN6, hL24.trans hxn.mL, fun z h => hs4 z (hs2 z h), htq, hseeT, fun h9 => absurd h9 hyes, by (try dsimp only); omega, fun h9 => absurd h9 hyes, by (try dsimp only); omega, by (try dsimp only); omega, hz24.trans (fun b hb hm => Or.inl (hm6 b hb hm)) (s' := 0) (Nat.le_refl _) (by omega)⟩ dX2_renewedRow_84 (by (try dsimp only); omega) (by (try dsimp only); omega)
        · skip
          have hey9 : a4 = by9 := Option.some.inj (by first | exact c_21 | exact Classical.not_not.1 c_21)
          have hno : noG gl T := hnoi.2 ⟨hxeq.1 hex9, hyeq.1 hey9⟩
          have hnn5 := hnn4 (hyeq.1 hey9)
          refine lv_aload hx hb dX2_renewedRow_67 (lv_at hl 2 rfl) ?_
          refine lv_goto (tgt := 84) hx hb dX2_renewedRow_69 (by decide) ?_
          exact mm_retaD hx hb hr (Or.inl ⟨_, rfl⟩) (Or.inr ⟨_, rfl⟩) hlk hM hS ⟨b1, L4, t1, rfl, hN4, hL24, fun z h => hs4 z (hs2 z h), mtp.mono (mK.rf _) hN4.2.1.1 (fun _ h => ⟨h, rfl⟩) _ _ _ (htb.light hL04), by rw [he1, hT]; exact (uth_id hcan hno).symm, fun _ => ⟨d1, hn1⟩, by (try dsimp only); omega, (fun _ => by (try dsimp only); omega), by (try dsimp only); omega, by (try dsimp only); omega, hz24⟩ dX2_renewedRow_84 (by (try dsimp only); omega) (by (try dsimp only); omega)
