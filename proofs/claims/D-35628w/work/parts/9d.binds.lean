/-! ===== the model: a type comes to be another; binds ===== -/
set_option maxRecDepth 100000
theorem mtp.vars {M : mm_M} {L : List Nat} {vr : Nat → Nat} {D : Nat → Bool} {u : Nat} : ∀ (N : Nat) (t : ev) (m : Bool) (a : Nat), SizeOf.sizeOf t < N → mtp M L vr D t m a → uoc u t = true → D u = true := by
  intro N
  induction N with
  | zero => intro t m a h; omega
  | succ N ih =>
    intro t m a hz h hu
    unfold mtp at h
    split at h
    · simp [uoc] at hu
    · simp only [uoc, beq_iff_eq] at hu; subst hu; exact h.1
    · rename_i x y
      obtain ⟨f, g, -, -, hf, hg⟩ := h
      have z1 : SizeOf.sizeOf (Lean.Grind.CommRing.Expr.sub x y) = 1 + SizeOf.sizeOf x + SizeOf.sizeOf y := rfl
      simp only [uoc, Bool.or_eq_true] at hu
      rcases hu with hu | hu
      · exact ih x _ _ (by omega) hf hu
      · exact ih y _ _ (by omega) hg hu
    · rename_i r k
      obtain ⟨iv, w, -, -, -, hw⟩ := h
      have z1 : SizeOf.sizeOf (Lean.Grind.CommRing.Expr.pow r k) = 1 + SizeOf.sizeOf r + SizeOf.sizeOf k := rfl
      exact ih r _ _ (by omega) hw hu
    · simp [uoc] at hu
    · simp only [uoc, beq_iff_eq] at hu; subst hu; exact h.1
    · rename_i x k r
      obtain ⟨ty, rs, hk, h1, hx, hr⟩ := h
      have z1 : SizeOf.sizeOf (Lean.Grind.CommRing.Expr.add (.pow x k) r) = 1 + (1 + SizeOf.sizeOf x + SizeOf.sizeOf k) + SizeOf.sizeOf r := rfl
      simp only [uoc, Bool.or_eq_true] at hu
      rcases hu with hu | hu
      · exact ih x _ _ (by omega) hx hu
      · exact ih r _ _ (by omega) hr hu
    · exact h.elim
theorem mCI.vars {M : mm_M} {L : List Nat} {vr : Nat → Nat} {D : Nat → Bool} {S : ts} (hC : mCI M L vr D S) {t : ev} {m : Bool} {a : Nat} (h : mtp M L vr D t m a) {u : Nat} (hu : uoc u (uap S.2.1 t) = true) : D u = true := by
  obtain ⟨x, h1, h2⟩ := uoc_ap.1 hu
  exact hC.1.2.2.2.2.2 x (mtp.vars _ t m a (Nat.lt_succ_self _) h h1) u h2
/-- what is not there yet is left alone -/
def mPd (D : Nat → Bool) (S S' : ts) : Prop := ∀ v, D v = false → v < S.1 → (S.2.1 v = .var v → S'.2.1 v = .var v) ∧ S'.2.2.1 v = S.2.2.1 v ∧ S'.2.2.2.1 v = S.2.2.2.1 v
theorem mPd.rf (D : Nat → Bool) (S : ts) : mPd D S S := fun _ _ _ => ⟨fun h => h, rfl, rfl⟩
theorem mPd.trans {D : Nat → Bool} {S1 S2 S3 : ts} (h1 : mPd D S1 S2) (h2 : mPd D S2 S3) (hn : S1.1 ≤ S2.1) : mPd D S1 S3 := fun v hD hv => by
  obtain ⟨a1, a2, a3⟩ := h1 v hD hv
  obtain ⟨b1, b2, b3⟩ := h2 v hD (Nat.lt_of_lt_of_le hv hn)
  exact ⟨fun h => b1 (a1 h), b2.trans a2, b3.trans a3⟩
theorem mPd.like {M : mm_M} {L : List Nat} {vr : Nat → Nat} {D : Nat → Bool} {S : ts} (hC : mCI M L vr D S) {t : ev} {m : Bool} {a : Nat} (h : mtp M L vr D t m a) : mPd D S (ts_like S (uap S.2.1 t)) := fun v hD _ => by
  refine ⟨fun h9 => h9, ?_, rfl⟩
  show (S.2.2.1 v || uoc v (uap S.2.1 t)) = S.2.2.1 v
  cases h1 : uoc v (uap S.2.1 t) with
  | false => rw [Bool.or_false]
  | true => rw [hC.vars h h1] at hD; cases hD
theorem mPd.put {D : Nat → Bool} {S : ts} {v : Nat} {T : ev} (hv : D v = true) : mPd D S (ts_put S v T) := fun w hD _ => by
  refine ⟨fun h9 => ?_, rfl, rfl⟩
  show uap (uon v T) (S.2.1 w) = .var w
  rw [h9]
  show uon v T w = .var w
  unfold uon
  rw [if_neg (fun e => by rw [e, hv] at hD; cases hD)]
/-- the cell a comes to be o -/
theorem mCI.fwd {M M' : mm_M} {L : List Nat} {vr : Nat → Nat} {D : Nat → Bool} {S S' : ts} (hC : mCI M L vr D S) (hK : mK M M') {a o : Nat} (hq : ∀ q, q ≠ a → M' q = M q) (haL : a ∈ L) (hna : mnext M a = none) (hno : mnext M' a = some o) (hon : mnext M o = none) (hoa : o ≠ a) {m : Bool} {t t' : ev} (hta : mtp M L vr D t m a) (hto : mtp M L vr D t' m o)
    (h1 : S'.1 = S.1) (hok : ts_ok S') (hle : ts_le S S') (h4 : ∀ v, S.1 ≤ v → S'.2.1 v = .var v) (h5 : ∀ v, D v = true → ∀ u, uoc u (S'.2.1 v) = true → D u = true)
    (hv : ∀ v, D v = true → (∃ is sn cp, M' (vr v) = some (mt_E 0 is none none none (S'.2.2.1 v) sn cp) ∧ (is = none ↔ S'.2.1 v = .var v)) ∨ ∃ is, M' (vr v) = some (mr_E 0 is 0 none none (S'.2.2.2.1 v) (S'.2.2.1 v)) ∧ (is = none ↔ S'.2.1 v = .var v)) (he : uap S'.2.1 t = uap S'.2.1 t') : mCI M' L vr D S' ∧ mPhi M' L + 1 = mPhi M L := by
  obtain ⟨⟨c1, c2, c3, c4, c5, c6⟩, d1, d2, ⟨rk, d3⟩⟩ := hC
  have mono : ∀ t m a, mtp M L vr D t m a → mtp M' L vr D t m a := fun t m a h => mtp.mono hK (fun _ h => h) (fun _ h => ⟨h, rfl⟩) t m a h
  have hnx : ∀ q, q ≠ a → mnext M' q = mnext M q := fun q h => by unfold mnext; rw [hq q h]
  have hphi : mPhi M' L + 1 = mPhi M L := countP_flip L c2 haL (by rw [hna]; rfl) (by rw [hno]; rfl) (fun x _ h => by rw [hnx x h])
  refine ⟨⟨⟨hok, c2, c3, by rw [h1]; exact h4, by rw [h1]; exact c5, h5⟩, fun v h3 => ⟨(d1 v h3).1, hv v h3⟩, fun q hqL => ?_, ⟨fun q => if q = o then 0 else rk q + 1, ?_⟩⟩, hphi⟩
  · obtain ⟨m, t, h⟩ := d2 q hqL
    exact ⟨m, t, mono _ _ _ h⟩
  · intro q hqL
    have hb := (d3 q hqL).1
    refine ⟨?_, fun x hx => ?_⟩
    · by_cases h : q = o
      · dsimp only; rw [if_pos h]; omega
      · dsimp only; rw [if_neg h]; omega
    · by_cases h : q = a
      · subst h
        rw [hno] at hx
        cases hx
        refine ⟨fun _ => ?_, m, t, t', ?_⟩
        · dsimp only; rw [if_pos rfl, if_neg (Ne.symm hoa)]; omega
        · exact ⟨mono _ _ _ hta, mono _ _ _ hto, he⟩
      · rw [hnx q h] at hx
        have hqo : q ≠ o := fun h9 => by rw [h9, hon] at hx; cases hx
        obtain ⟨e1, m2, t2, t3, e2, e3, e4⟩ := (d3 q hqL).2 x hx
        refine ⟨fun hxL => ?_, m2, t2, t3, ?_⟩
        · have := e1 hxL
          dsimp only
          rw [if_neg hqo]
          by_cases h9 : x = o
          · rw [if_pos h9]; omega
          · rw [if_neg h9]; omega
        · exact ⟨mono _ _ _ e2, mono _ _ _ e3, by rw [← hle t2, e4, hle t3]⟩
/-- a variable (a type's or a row's) is put: what is seen of it -/
theorem mCI.put {M M' : mm_M} {L : List Nat} {vr : Nat → Nat} {D : Nat → Bool} {S : ts} (hC : mCI M L vr D S) (hK : mK M M') {v o : Nat} (hv : D v = true) (hq : ∀ q, q ≠ vr v → M' q = M q) (hna : mnext M (vr v) = none) (hon : mnext M o = none) {m : Bool} {t' : ev} (hta : mtp M L vr D (.var v) m (vr v)) (hto : mtp M L vr D t' m o) (hoc : uoc v (uap S.2.1 t') = false)
    (hm : (∃ cm sn cp, M (vr v) = some (mt_E 0 none none none none cm sn cp) ∧ M' (vr v) = some (mt_E 0 (some o) none none none cm sn cp)) ∨ ∃ lk cm, M (vr v) = some (mr_E 0 none 0 none none lk cm) ∧ M' (vr v) = some (mr_E 0 (some o) 0 none none lk cm)) : mCI M' L vr D (ts_put S v (uap S.2.1 t')) ∧ mPhi M' L + 1 = mPhi M L := by
  have hok := hC.1.1
  have hsv : S.2.1 v = .var v := by
    rcases (hC.2.1 v hv).2 with ⟨is, sn, cp, h1, h2⟩ | ⟨is, h1, h2⟩
    · rw [mnext_t h1] at hna; exact h2.1 hna
    · rw [mnext_r h1] at hna; exact h2.1 hna
  have hno : mnext M' (vr v) = some o := by
    rcases hm with ⟨cm, sn, cp, -, h⟩ | ⟨lk, cm, -, h⟩
    · rw [mnext_t h]
    · rw [mnext_r h]
  have hov : o ≠ vr v := fun h9 => by
    rw [h9] at hto
    obtain ⟨e1, -⟩ := mtp.uniq hC.1.2.2.1 _ _ _ _ _ hta hto
    rw [← e1] at hoc
    simp only [uap, hsv, uoc, beq_self_eq_true] at hoc
    cases hoc
  have hputT : uap (uon v (uap S.2.1 t')) (uap S.2.1 t') = uap S.2.1 t' := uap_on_id (hok.can t') hoc
  refine hC.fwd (S' := ts_put S v (uap S.2.1 t')) hK hq (hC.2.1 v hv).1 hna hno hon hov hta hto rfl (ts_put_ok hok hoc) (ts_put_le hok) ?_ ?_ ?_ ?_
  · intro w hw
    show uap (uon v (uap S.2.1 t')) (S.2.1 w) = .var w
    rw [hC.1.2.2.2.1 w hw]
    have := hC.1.2.2.2.2.1 v hv
    show uon v _ w = .var w
    unfold uon; rw [if_neg (by omega)]
  · intro w hw u hu
    have hu : uoc u (uap (uon v (uap S.2.1 t')) (S.2.1 w)) = true := hu
    obtain ⟨x, h1, h2⟩ := uoc_ap.1 hu
    rcases uoc_on.1 h2 with ⟨-, h3⟩ | ⟨-, rfl⟩
    · exact hC.vars hto h3
    · exact hC.1.2.2.2.2.2 w hw _ h1
  · intro w hw
    by_cases hwv : w = v
    · subst hwv
      have hne : (ts_put S w (uap S.2.1 t')).2.1 w ≠ .var w := by
        show uap (uon w (uap S.2.1 t')) (S.2.1 w) ≠ .var w
        rw [hsv]
        show uon w (uap S.2.1 t') w ≠ .var w
        unfold uon
        rw [if_pos rfl]
        intro h9
        rw [h9] at hoc
        simp [uoc] at hoc
      rcases hm with ⟨cm, sn, cp, h1, h2⟩ | ⟨lk, cm, h1, h2⟩
      · rcases (hC.2.1 w hw).2 with ⟨is, sn2, cp2, h3, -⟩ | ⟨is, h3, -⟩
        · obtain ⟨-, -, -, -, -, e2, -⟩ := mt_inj (Option.some.inj (h1.symm.trans h3))
          exact Or.inl ⟨some o, sn, cp, by rw [h2, e2]; rfl, (fun h9 => by cases h9), fun h9 => absurd h9 hne⟩
        · rw [h1] at h3; exact absurd (Option.some.inj h3) mt_ne_mr
      · rcases (hC.2.1 w hw).2 with ⟨is, sn2, cp2, h3, -⟩ | ⟨is, h3, -⟩
        · rw [h1] at h3; exact absurd (Option.some.inj h3).symm mt_ne_mr
        · obtain ⟨-, -, -, -, -, e2, e3⟩ := mr_inj (Option.some.inj (h1.symm.trans h3))
          exact Or.inr ⟨some o, by rw [h2, e2, e3]; rfl, (fun h9 => by cases h9), fun h9 => absurd h9 hne⟩
    · have hn : vr w ≠ vr v := fun h => hwv (hC.1.2.2.1 w v hw hv h)
      have key : S.2.1 w = .var w ↔ (ts_put S v (uap S.2.1 t')).2.1 w = .var w := by
        show _ ↔ uap (uon v (uap S.2.1 t')) (S.2.1 w) = .var w
        constructor
        · intro h9
          rw [h9]
          show uon v _ w = .var w
          unfold uon; rw [if_neg hwv]
        · intro h9
          obtain ⟨x, hsw, h9⟩ := uap_eq_var h9
          unfold uon at h9
          by_cases hx : x = v
          · rw [if_pos hx] at h9
            exact hok.var (t := t') (by rw [h9]; simp [uoc])
          · rw [if_neg hx] at h9; rw [hsw]; exact h9
      rw [hq _ hn]
      rcases (hC.2.1 w hw).2 with ⟨is, sn, cp, h3, h4⟩ | ⟨is, h3, h4⟩
      · exact Or.inl ⟨is, sn, cp, h3, h4.trans key⟩
      · exact Or.inr ⟨is, h3, h4.trans key⟩
  · show uap (fun u => uap (uon v (uap S.2.1 t')) (S.2.1 u)) (.var v) = uap (fun u => uap (uon v (uap S.2.1 t')) (S.2.1 u)) t'
    rw [← uap_ap, ← uap_ap, hputT]
    show uap (uon v (uap S.2.1 t')) (S.2.1 v) = _
    rw [hsv]
    show uon v (uap S.2.1 t') v = _
    unfold uon; rw [if_pos rfl]
/-- a stamp -/
def nJ (k : Nat) : Int64 := Int64.ofNat k
theorem nJ_1 (k : Nat) : nJ k + 1 = nJ (k + 1) := by
  unfold nJ; exact (Int64.ofNat_add k 1).symm
theorem nJ_inj {a b : Nat} (ha : a < 2 ^ 62) (hb : b < 2 ^ 62) (h : nJ a = nJ b) : a = b := by
  have h1 := congrArg Int64.toInt h
  unfold nJ at h1
  rw [Int64.toInt_ofNat_of_lt (by omega), Int64.toInt_ofNat_of_lt (by omega)] at h1
  omega
/-- no mark is younger than k -/
def mSt (M : mm_M) (L : List Nat) (n : Nat) : Prop := n < 2 ^ 62 ∧ ∀ b ∈ L, ∀ k is fr to rw cm sn cp, M b = some (mt_E k is fr to rw cm sn cp) → ∃ j, j ≤ n ∧ sn = nJ j
theorem mSt.no {M : mm_M} {L : List Nat} {n : Nat} (h : mSt M L n) (hn : n + 1 < 2 ^ 62) {b : Nat} (hb : b ∈ L) (hk : mk M (nJ (n + 1)) b) : False := by
  obtain ⟨k, is, fr, to, rw, cm, cp, h1⟩ := hk
  obtain ⟨j, h2, h3⟩ := h.2 b hb _ _ _ _ _ _ _ _ h1
  have := nJ_inj hn (by omega) h3
  omega
theorem mSt.light {M M' : mm_M} {L : List Nat} {vr : Nat → Nat} {D : Nat → Bool} {S : ts} {n : Nat} (h : mSt M L n) (hC : mCI M L vr D S) (hL : mL (nJ (n + 1)) M M') (hn : n + 1 < 2 ^ 62) : mSt M' L (n + 1) := by
  refine ⟨hn, fun b hb k is fr to rw cm sn cp hM' => ?_⟩
  obtain ⟨m, t, ht⟩ := hC.2.2.1 b hb
  cases m with
  | false =>
    obtain ⟨-, k2, is2, fr2, to2, rw2, cm2, sn2, cp2, h1⟩ := ht.cellT
    obtain ⟨cm3, sn3, cp3, h2, h3⟩ := hL.t h1
    rw [hM'] at h2
    obtain ⟨-, -, -, -, -, -, e, -⟩ := mt_inj (Option.some.inj h2)
    rcases h3 with h3 | h3
    · obtain ⟨j, h4, h5⟩ := h.2 b hb _ _ _ _ _ _ _ _ h1
      exact ⟨j, by omega, by rw [e, h3, h5]⟩
    · exact ⟨n + 1, Nat.le_refl _, by rw [e, h3]⟩
  | true =>
    obtain ⟨k2, is2, lb, ty, rs, lk, cm2, h1, -⟩ := ht.cellR
    obtain ⟨cm3, h2⟩ := hL.r h1
    rw [hM'] at h2; exact absurd (Option.some.inj h2) mt_ne_mr
theorem mSt.eq {M M' : mm_M} {L : List Nat} {n : Nat} (h : mSt M L n) (he : ∀ b ∈ L, ∀ k is fr to rw cm sn cp, M' b = some (mt_E k is fr to rw cm sn cp) → ∃ k is fr to rw cm cp, M b = some (mt_E k is fr to rw cm sn cp)) : mSt M' L n := ⟨h.1, fun b hb k is fr to rw cm sn cp h1 => by
  obtain ⟨k2, is2, fr2, to2, rw2, cm2, cp2, h2⟩ := he b hb _ _ _ _ _ _ _ _ h1
  exact h.2 b hb _ _ _ _ _ _ _ _ h2⟩
theorem mSt.put {M : mm_M} {L : List Nat} {n a : Nat} {k : Int32} {is is' fr to rw cp : Option Nat} {cm cm' : Bool} {sn : Int64} (h : mSt M L n) (ha : M a = some (mt_E k is fr to rw cm sn cp)) : mSt (mm_U M a (mt_E k is' fr to rw cm' sn cp)) L n := h.eq fun b hb k2 is2 fr2 to2 rw2 cm2 sn2 cp2 h1 => by
  by_cases hba : b = a
  · subst hba
    rw [mm_U_eq] at h1
    obtain ⟨-, -, -, -, -, -, e, -⟩ := mt_inj (Option.some.inj h1)
    subst e; exact ⟨_, _, _, _, _, _, _, ha⟩
  · rw [mm_U_ne hba] at h1; exact ⟨_, _, _, _, _, _, _, h1⟩
/-- another object's cell changes -/
theorem mCI.other {M M' : mm_M} {L : List Nat} {vr : Nat → Nat} {D : Nat → Bool} {S : ts} (hC : mCI M L vr D S) (hK : mK M M') (hq : ∀ q k is fr to rw cm sn cp, M q = some (mt_E k is fr to rw cm sn cp) → M' q = M q) (hr : ∀ q k is lb ty rs lk cm, M q = some (mr_E k is lb ty rs lk cm) → M' q = M q) : mCI M' L vr D S := by
  obtain ⟨c, d1, d2, ⟨rk, d3⟩⟩ := hC
  have mono : ∀ t m a, mtp M L vr D t m a → mtp M' L vr D t m a := fun t m a h => mtp.mono hK (fun _ h => h) (fun _ h => ⟨h, rfl⟩) t m a h
  have hat : ∀ t m a, mtp M L vr D t m a → M' a = M a := fun t m a h => by
    cases m with
    | false => obtain ⟨-, k, is, fr, to, rw, cm, sn, cp, h1⟩ := h.cellT; exact hq _ _ _ _ _ _ _ _ _ h1
    | true => obtain ⟨k, is, lb, ty, rs, lk, cm, h1, -⟩ := h.cellR; exact hr _ _ _ _ _ _ _ _ h1
  have hnx : ∀ a ∈ L, mnext M' a = mnext M a := fun a ha => by obtain ⟨m, t, h⟩ := d2 a ha; unfold mnext; rw [hat _ _ _ h]
  have hphi : mPhi M' L = mPhi M L := by unfold mPhi; exact List.countP_congr fun a ha => by rw [hnx a ha]
  refine ⟨c, fun v hD => ⟨(d1 v hD).1, ?_⟩, fun a ha => by obtain ⟨m, t, h⟩ := d2 a ha; exact ⟨m, t, mono _ _ _ h⟩, ⟨rk, fun a ha => ?_⟩⟩
  · rcases (d1 v hD).2 with ⟨is, sn, cp, h1, h2⟩ | ⟨is, h1, h2⟩
    · exact Or.inl ⟨is, sn, cp, by rw [hq _ _ _ _ _ _ _ _ _ h1]; exact h1, h2⟩
    · exact Or.inr ⟨is, by rw [hr _ _ _ _ _ _ _ _ h1]; exact h1, h2⟩
  · rw [hphi]
    refine ⟨(d3 a ha).1, fun o ho => ?_⟩
    rw [hnx a ha] at ho
    obtain ⟨e1, m2, t2, t3, e2, e3, e4⟩ := (d3 a ha).2 o ho
    exact ⟨e1, m2, t2, t3, mono _ _ _ e2, mono _ _ _ e3, e4⟩

theorem mK.putM {M : mm_M} {md kd wh f1 f2 f3 wg pl : Nat} {tm ea sp th ak wr tk : Int32} {rt : Option Nat} {fa : Bool} {st st' : Int64} (h : M md = some (md_E tm kd wh f1 f2 f3 wg ea sp rt th ak wr pl tk fa st)) : mK M (mm_U M md (md_E tm kd wh f1 f2 f3 wg ea sp rt th ak wr pl tk fa st')) := by
  intro q e he
  by_cases hq : q = md
  · subst hq; rw [h] at he; cases he; exact Or.inr (Or.inr (Or.inr ⟨_, _, _, _, _, _, _, _, _, _, _, _, _, _, _, _, _, _, _, rfl, mm_U_eq⟩))
  · exact Or.inl ((mm_U_ne hq).trans he)
theorem mCI.putM {M : mm_M} {L : List Nat} {vr : Nat → Nat} {D : Nat → Bool} {S : ts} (hC : mCI M L vr D S) {md kd wh f1 f2 f3 wg pl : Nat} {tm ea sp th ak wr tk : Int32} {rt : Option Nat} {fa : Bool} {st st' : Int64} (h : M md = some (md_E tm kd wh f1 f2 f3 wg ea sp rt th ak wr pl tk fa st)) : mCI (mm_U M md (md_E tm kd wh f1 f2 f3 wg ea sp rt th ak wr pl tk fa st')) L vr D S := by
  refine hC.other (mK.putM h) (fun q k is fr to rw cm sn cp h1 => mm_U_ne (fun e => ?_)) (fun q k is lb ty rs lk cm h1 => mm_U_ne (fun e => ?_))
  · subst e; rw [h] at h1; exact absurd (Prod.mk.inj (Sum.inr.inj (Option.some.inj h1))).1 (by decide)
  · subst e; rw [h] at h1; exact absurd (Prod.mk.inj (Sum.inr.inj (Option.some.inj h1))).1 (by decide)
theorem mSt.putM {M : mm_M} {L : List Nat} {n : Nat} (hC : mSt M L n) {md kd wh f1 f2 f3 wg pl : Nat} {tm ea sp th ak wr tk : Int32} {rt : Option Nat} {fa : Bool} {st st' : Int64} (h : M md = some (md_E tm kd wh f1 f2 f3 wg ea sp rt th ak wr pl tk fa st)) : mSt (mm_U M md (md_E tm kd wh f1 f2 f3 wg ea sp rt th ak wr pl tk fa st')) L n := hC.eq fun b hb k2 is2 fr2 to2 rw2 cm2 sn2 cp2 h1 => by
  by_cases hba : b = md
  · subst hba
    rw [mm_U_eq] at h1
    exact absurd (Prod.mk.inj (Sum.inr.inj (Option.some.inj h1))).1 (by decide)
  · rw [mm_U_ne hba] at h1; exact ⟨_, _, _, _, _, _, _, h1⟩
