/-! ===== the model: what same does: the words ===== -/
set_option maxRecDepth 100000
/-- same is done with this; c: what is not paid yet; k0: the stamp before -/
def mUP (md : Nat) (E : Int64 → va_E) (M : mm_M) (L : List Nat) (vr : Nat → Nat) (D : Nat → Bool) (S : ts) (x : ev) (c : Nat) (r : te) (k0 : Nat) : Option Value → mm_M → Nat → Nat → Prop := fun v9 M' n9 k9 => v9 = none ∧ ∃ (S' : ts) (L' : List Nat) (vr' : Nat → Nat) (D' : Nat → Bool) (k' : Nat), r = .inr S' ∧ mK M M' ∧ mCI M' L' vr' D' S' ∧ (∀ a ∈ L, a ∈ L') ∧ (∀ v, D v = true → D' v = true ∧ vr' v = vr v) ∧ S.1 ≤ S'.1 ∧ (∀ v, D' v = true ↔ D v = true ∨ (S.1 ≤ v ∧ v < S'.1)) ∧ mPd D S S' ∧
  n9 + 27 * mPhi M' L' ≤ 27 * mPhi M L + 9 * c ∧ k9 + 180 * mPhi M' L' ≤ 180 * mPhi M L + 40 * c ∧ L'.length + mPhi M' L' ≤ L.length + mPhi M L ∧ mPhi M' L' ≤ mPhi M L ∧ mNw M' L L' ∧ M' md = some (E (nJ k')) ∧ mSt M' L' k' ∧ k' + 8 * mPhi M' L' ≤ k0 + 8 * mPhi M L + 4 * c ∧
  ∀ z, M z ≠ none → mnext M z = none → mnext M' z ≠ none → mVar M z ∨ ∃ t, mtp M' L' vr' D' t false z ∧ ∀ s, SizeOf.sizeOf (uap s (uap S'.2.1 t)) ≤ SizeOf.sizeOf (uap s (uap S'.2.1 x))
/-- what a call of same needs and does, n deep at most -/
def mUn (l : Launch) (Z : mm_G) (n md : Nat) (E : Int64 → va_E) : Prop := ∀ (M : mm_M) (L : List Nat) (vr : Nat → Nat) (D : Nat → Bool) (S : ts) (kn : Nat → Bool) (x y : ev) (ax ay : Nat) (r : te) (Hh d Dd b k : Nat), M md = some (E (nJ k)) → mSt M L k → k + 8 * mPhi M L + 4 * Dd + 8 < 2 ^ 62 → mCI M L vr D S → usg S kn → mtp M L vr D x false ax → mtp M L vr D y false ay → uwf (uG S kn) false (uap S.2.1 x) → uwf (uG S kn) false (uap S.2.1 y) →
  tU n S x y = some r → mB M L vr D S b → 2 * b + 3 ≤ Hh → Dd + d = Hh → mDeep M L vr D S x d →
  mm_D l Z yX2_same (ws_ yX2_same cX2_same 7 none) { frames := 2 * Hh + 24 + 2 * Dd, cells := 27 * mPhi M L + 9 * Dd + 40, slots := 180 * mPhi M L + 40 * Dd + 260, locals := 30 * Hh + 800 + 60 * Dd } [.ref md, .ref ax, .ref ay] M (mUP md E M L vr D S x 0 r k) (fun E9 q M' => ∃ er, r = .inl er ∧ mX M er E9 q M')
theorem usome_le {S Sx : ts} (hle : ts_le S Sx) {F g : Nat → Option ev} (hF : ∀ l, l < 10 → F l = (g l).map (uap S.2.1)) {st : Int32} {er : ev} : uap Sx.2.1 (usome F st er 10) = uap Sx.2.1 (usome g st er 10) := usome_cgu 10 er er (fun l hl => by
  rw [hF l hl]
  cases g l with
  | none => rfl
  | some y => exact congrArg some (hle y)) rfl
theorem mPd.new {D : Nat → Bool} {S S4 : ts} {x : Int32} {k : Bool} {c : Int32} (h : mPd (mD D S.1) (ts_new S x k c) S4) : mPd D S S4 := fun v hD hv => by
  have hne : v ≠ S.1 := Nat.ne_of_lt hv
  have h1 := h v (by simp [mD, hne, hD]) (Nat.lt_succ_of_lt hv)
  refine ⟨h1.1, h1.2.1.trans (if_neg hne), h1.2.2.trans (if_neg hne)⟩
theorem mClose_le {S S' : ts} {v : Nat} {R : ev} (hok : ts_ok S) (h : tClose S v R = .inr S') : ts_le S S' ∧ ts_ok S' := by
  unfold tClose at h
  split at h
  · cases h
  · rename_i hoc
    cases h
    have hoc2 : uoc v (uap S.2.1 R) = false := by cases h8 : uoc v (uap S.2.1 R) with | false => rfl | true => exact absurd h8 hoc
    exact ⟨ts_put_le (S := ts_lev S (S.2.2.2.2 v) (uap S.2.1 R)) hok, ts_put_ok (S := ts_lev S (S.2.2.2.2 v) (uap S.2.1 R)) hok hoc2⟩
theorem mClose_var {S S' : ts} {v : Nat} {R : ev} (hok : ts_ok S) (hs : S.2.1 v = .var v) (h : tClose S v R = .inr S') : S'.2.1 v = uap S.2.1 R ∧ ∀ u, S.2.1 u = .var u → u ≠ v → S'.2.1 u = .var u := by
  unfold tClose at h
  split at h
  · cases h
  · cases h
    refine ⟨?_, fun u hu hne => ?_⟩
    · show uap (uon v (uap S.2.1 R)) (S.2.1 v) = _
      rw [hs]; exact if_pos rfl
    · show uap (uon v (uap S.2.1 R)) (S.2.1 u) = _
      rw [hu]; exact if_neg hne
/-- all in the row that a variable came to be is made comparable, if it was to be -/
def tLk (S : ts) (v : Nat) : ts := if S.2.2.1 v then ts_like S (S.2.1 v) else S
theorem tLk_eq {S : ts} {v : Nat} (h : S.2.2.1 v = true → uhf (S.2.1 v) = false) : (if S.2.2.1 v then tLike S (S.2.1 v) else .inr S : te) = .inr (tLk S v) := by
  unfold tLk tLike
  cases h1 : S.2.2.1 v with
  | false => rfl
  | true => rw [h h1]; rfl
theorem tLk_1 (S : ts) (v : Nat) : (tLk S v).1 = S.1 ∧ (tLk S v).2.1 = S.2.1 ∧ (tLk S v).2.2.2.1 = S.2.2.2.1 ∧ ∀ u, S.2.2.1 u = true → (tLk S v).2.2.1 u = true := by
  unfold tLk
  split
  · exact ⟨rfl, rfl, rfl, ts_like_mono _ _⟩
  · exact ⟨rfl, rfl, rfl, fun _ h => h⟩
theorem tLk_le {S : ts} {v : Nat} (hok : ts_ok S) : ts_le S (tLk S v) ∧ ts_ok (tLk S v) := by
  have h := (tLk_1 S v).2.1
  refine ⟨fun t => ?_, ?_⟩
  · rw [h]; exact hok.le t
  · unfold ts_ok; rw [h]; exact hok
theorem mPd.lk {M : mm_M} {L : List Nat} {vr : Nat → Nat} {D : Nat → Bool} {S : ts} (hC : mCI M L vr D S) {v : Nat} (hD : D v = true) : mPd D S (tLk S v) := by
  unfold tLk
  split
  · intro w hw _
    refine ⟨fun h => h, ?_, rfl⟩
    show (S.2.2.1 w || uoc w (S.2.1 v)) = S.2.2.1 w
    cases h1 : uoc w (S.2.1 v) with
    | false => rw [Bool.or_false]
    | true => rw [hC.1.2.2.2.2.2 v hD w h1] at hw; cases hw
  · exact mPd.rf _ _

theorem mXG.hh {M : mm_M} {L : List Nat} {vr : Nat → Nat} {D : Nat → Bool} {S : ts} {g : Nat → Option ev} {f : Nat → Option Nat} (h : mXG M L vr D g f) (hC : mCI M L vr D S) {b Hh : Nat} (hB : mB M L vr D S b) (hH : 2 * b + 3 ≤ Hh) : ∀ l x, l < 10 → g l = some x → uh (uap S.2.1 x) ≤ Hh := fun l x hl hx => by
  rcases h l hl with ⟨h1, -⟩ | ⟨x9, ad, h1, -, h3⟩
  · rw [h1] at hx; cases hx
  · rw [h1] at hx; cases hx
    have := hC.heightB hB h3
    simp only [Bool.toNat_false] at this; omega
theorem mCI.rootR {M : mm_M} {L : List Nat} {vr : Nat → Nat} {D : Nat → Bool} {S : ts} (hC : mCI M L vr D S) {v a : Nat} (hD : D v = true) (hs : S.2.1 v = .var v) (ha : vr v = a) {k lb lk : Int32} {is ty rs : Option Nat} {cm : Bool} (h : M a = some (mr_E k is lb ty rs lk cm)) : M a = some (mr_E 0 none 0 none none (S.2.2.2.1 v) (S.2.2.1 v)) := by
  subst ha
  rcases (hC.2.1 v hD).2 with ⟨is2, sn, cp, h1, h2⟩ | ⟨is2, h1, h2⟩
  · rw [h] at h1; exact absurd (Option.some.inj h1).symm mt_ne_mr
  · rw [h1, h2.2 hs]
theorem mCI.rootR2 {M : mm_M} {L : List Nat} {vr : Nat → Nat} {D : Nat → Bool} {S : ts} (hC : mCI M L vr D S) {v a : Nat} (hD : D v = true) (ha : vr v = a) {k lb lk : Int32} {is ty rs : Option Nat} {cm : Bool} (h : M a = some (mr_E k is lb ty rs lk cm)) : ∃ is', M a = some (mr_E 0 is' 0 none none (S.2.2.2.1 v) (S.2.2.1 v)) := by
  subst ha
  rcases (hC.2.1 v hD).2 with ⟨is2, sn, cp, h1, h2⟩ | ⟨is2, h1, h2⟩
  · rw [h] at h1; exact absurd (Option.some.inj h1).symm mt_ne_mr
  · exact ⟨is2, h1⟩

theorem mm_b_n {b : Bool} (h : ¬ mm_b b = 0) : b = true := by cases b with | true => rfl | false => exact absurd rfl h
theorem mm_b_z {b : Bool} (h : mm_b b = 0) : b = false := (mm_b_0 _).1 h
theorem mT_eq {Sc Sn Sx : ts} {u : Nat} {R R' : ev} (h1 : Sn.2.1 u = uap Sc.2.1 R) (h2 : ts_le Sn Sx) (h3 : ts_le Sc Sx) (h4 : uap Sx.2.1 R = uap Sx.2.1 R') : uap Sx.2.1 R' = Sx.2.1 u := by
  have a : uap Sx.2.1 (Sn.2.1 u) = Sx.2.1 u := h2 (.var u)
  rw [← a, h1, h3 R, h4]
theorem tLk_5 {S : ts} {v : Nat} (h1 : S.2.2.1 v = true) (h2 : uhf (S.2.1 v) = true) : (if S.2.2.1 v then tLike S (S.2.1 v) else .inr S : te) = .inl 5 := by
  rw [if_pos h1]; unfold tLike; rw [if_pos h2]

theorem d_X2_endsRowA (l : Launch) (Z : mm_G) {M : mm_M} {md kd wh f1 f2 f3 wg pl : Nat} {tm ea sp th ak wr tk : Int32} {rt : Option Nat} {fa : Bool} {k : Nat} {L : List Nat} {vr : Nat → Nat} {D : Nat → Bool} {S : ts} {v av q rb Hh : Nat} {st9 : Int32} {g : Nat → Option ev} {f : Nat → Option Nat} {er R9 : ev} (hmd : M md = some (md_E tm kd wh f1 f2 f3 wg ea sp rt th ak wr pl tk fa (nJ k))) (hSt : mSt M L k) (hk : k + 1 < 2 ^ 62) (hC : mCI M L vr D S) (hv : D v = true) (hav : vr v = av) (hvO : M av = some (mr_E 0 none 0 none none (S.2.2.2.1 v) (S.2.2.1 v))) (hqA : M q = some (ty_A Z f)) (hX : mXG M L vr D g f) (hset : ∀ l, l < 10 → uhs st9 l = true → g l ≠ none) (htp : mtp M L vr D er true rb) (hrb : mnext M rb = none) (hoe : uoc v (uap S.2.1 er) = false) (hR : uap S.2.1 R9 = uap S.2.1 (usome g st9 er 10)) (hH : ∀ l x, l < 10 → g l = some x → uh (uap S.2.1 x) ≤ Hh) : mm_D l Z yX2_endsRow (ws_ yX2_endsRow cX2_endsRow 8 none) { frames := 2 * Hh + 10, cells := 11, slots := 80, locals := 30 * Hh + 400 } [.ref md, .ref av, .ref q, .int st9, .ref rb] M (fun v9 M' n9 k9 => v9 = none ∧ n9 ≤ 10 ∧ k9 ≤ 70 ∧ ∃ S', tClose S v R9 = .inr S' ∧ S'.2.1 = (ts_put S v (uap S.2.1 R9)).2.1 ∧ S'.2.2.1 = S.2.2.1 ∧ S'.2.2.2.1 = S.2.2.2.1 ∧ mK M M' ∧ mCI M' L vr D S' ∧ S'.1 = S.1 ∧ mPhi M' L + 1 = mPhi M L ∧ (∀ z, M z ≠ none → z ≠ av → mnext M' z = mnext M z) ∧ mPd D S S' ∧ M' md = some (md_E tm kd wh f1 f2 f3 wg ea sp rt th ak wr pl tk fa (nJ (k + 1))) ∧ mSt M' L (k + 1)) (fun E q M' => tClose S v R9 = .inl 3 ∧ mX M 3 E q M') := by
  subst hav
  exact d_X2_endsRow l Z hmd hSt hk hC hv hvO hqA hX hset htp hrb hoe hR hH
