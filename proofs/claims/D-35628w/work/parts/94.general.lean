/-! ===== what is made general ===== -/
set_option maxRecDepth 100000
/-- variables in T that are deeper than lv become general -/
def ts_gen (S : ts) (lv : Int32) (T : ev) : ts := (S.1, S.2.1, S.2.2.1, S.2.2.2.1, fun u => if uoc u T && decide (lv < S.2.2.2.2 u) then 1048576 else S.2.2.2.2 u)
/-- a place: a row's variable that becomes general, and a label that it lacks -/
def ugp (S : ts) (kd : Nat → Bool) (lv : Int32) (T : ev) (p : Nat × Nat) : Prop := uoc p.1 T = true ∧ kd p.1 = true ∧ lv < S.2.2.2.2 p.1 ∧ S.2.2.2.2 p.1 < 1048576 ∧ p.2 < 10 ∧ uhs (S.2.2.2.1 p.1) p.2 = true
/-- all in T is made general, its places are told behind pl -/
def uGR (S : ts) (kd : Nat → Bool) (lv : Int32) (T : ev) (pl : List (Nat × Nat)) (S' : ts) (pl' : List (Nat × Nat)) : Prop := S' = ts_gen S lv T ∧ ∃ ex, pl' = pl ++ ex ∧ ex.Nodup ∧ ∀ p, p ∈ ex ↔ ugp S kd lv T p
/-- at most K places -/
def uGK (S : ts) (kd : Nat → Bool) (lv : Int32) (T : ev) (pl : List (Nat × Nat)) (K : Nat) : Prop := ∀ ex : List (Nat × Nat), ex.Nodup → (∀ p ∈ ex, ugp S kd lv T p) → pl.length + ex.length ≤ K
theorem ts_gen_or {S : ts} {lv : Int32} {X Y T : ev} (hlv : lv < 1048576) (h : ∀ u, uoc u T = (uoc u X || uoc u Y)) : ts_gen (ts_gen S lv X) lv Y = ts_gen S lv T := by
  unfold ts_gen
  simp only [Prod.mk.injEq, true_and]
  funext u
  rw [h u]
  rcases Bool.eq_false_or_eq_true (uoc u X) with hx | hx <;> rcases Bool.eq_false_or_eq_true (uoc u Y) with hy | hy <;> by_cases h1 : lv < S.2.2.2.2 u <;> simp [hx, hy, h1, hlv]
theorem ts_gen_none {S : ts} {lv : Int32} {T : ev} (h : ∀ u, uoc u T = false) : ts_gen S lv T = S := by
  unfold ts_gen
  obtain ⟨a, b, c, d, e⟩ := S
  simp only [Prod.mk.injEq, true_and]
  funext u
  simp [h u]
theorem ts_gen_cg {S : ts} {lv : Int32} {T T' : ev} (h : ∀ u, uoc u T = uoc u T') : ts_gen S lv T = ts_gen S lv T' := by
  unfold ts_gen
  simp only [Prod.mk.injEq, true_and]
  funext u
  rw [h u]
theorem ugp_or {S : ts} {kd : Nat → Bool} {lv : Int32} {X Y T : ev} (hlv : lv < 1048576) (h : ∀ u, uoc u T = (uoc u X || uoc u Y)) (p : Nat × Nat) : ugp S kd lv T p ↔ ugp S kd lv X p ∨ ugp (ts_gen S lv X) kd lv Y p := by
  unfold ugp ts_gen
  simp only [h p.1, Bool.or_eq_true]
  constructor
  · rintro ⟨h1, h2, h3, h4, h5, h6⟩
    by_cases hx : uoc p.1 X = true
    · exact Or.inl ⟨hx, h2, h3, h4, h5, h6⟩
    · rcases h1 with h1 | h1
      · exact absurd h1 hx
      · simp only [Bool.not_eq_true] at hx
        refine Or.inr ⟨h1, h2, ?_, ?_, h5, h6⟩ <;> (simp [hx]; assumption)
  · rintro (⟨h1, h2, h3, h4, h5, h6⟩ | ⟨h1, h2, h3, h4, h5, h6⟩)
    · exact ⟨Or.inl h1, h2, h3, h4, h5, h6⟩
    · by_cases hx : uoc p.1 X = true ∧ lv < S.2.2.2.2 p.1
      · simp [hx.1, hx.2] at h4
      · have e : (uoc p.1 X && decide (lv < S.2.2.2.2 p.1)) = false := by
          cases h9 : uoc p.1 X
          · rfl
          · simp only [Bool.true_and, decide_eq_false_iff_not]; exact fun h8 => hx ⟨h9, h8⟩
        simp only [e, Bool.false_eq_true, if_false] at h3 h4
        exact ⟨Or.inr h1, h2, h3, h4, h5, h6⟩
theorem ugp_apart {S : ts} {kd : Nat → Bool} {lv : Int32} {X Y : ev} {p : Nat × Nat} (h : ugp S kd lv X p) : ¬ ugp (ts_gen S lv X) kd lv Y p := by
  intro h9
  have h8 := h9.2.2.2.1
  unfold ts_gen at h8
  simp only [h.1, decide_eq_true h.2.2.1, Bool.and_self, if_true] at h8
  exact absurd h8 (by decide)
theorem uGR.comp {S S1 S2 : ts} {kd : Nat → Bool} {lv : Int32} {X Y T : ev} {pl pl1 pl2 : List (Nat × Nat)} (hlv : lv < 1048576) (h1 : uGR S kd lv X pl S1 pl1) (h2 : uGR S1 kd lv Y pl1 S2 pl2) (h : ∀ u, uoc u T = (uoc u X || uoc u Y)) : uGR S kd lv T pl S2 pl2 := by
  obtain ⟨rfl, e1, rfl, n1, m1⟩ := h1
  obtain ⟨rfl, e2, rfl, n2, m2⟩ := h2
  refine ⟨ts_gen_or hlv h, e1 ++ e2, List.append_assoc _ _ _, ?_, fun p => ?_⟩
  · refine List.nodup_append.2 ⟨n1, n2, fun a ha b hb e => ?_⟩
    subst e
    exact ugp_apart ((m1 a).1 ha) ((m2 a).1 hb)
  · rw [List.mem_append, m1, m2, ugp_or hlv h]
theorem uGR.nil {S : ts} {kd : Nat → Bool} {lv : Int32} {T : ev} {pl : List (Nat × Nat)} (h : ∀ u, uoc u T = false) : uGR S kd lv T pl S pl :=
  ⟨(ts_gen_none h).symm, [], (List.append_nil _).symm, List.nodup_nil, fun p => ⟨fun h9 => absurd h9 List.not_mem_nil, fun h9 => by have h8 := h9.1; rw [h] at h8; cases h8⟩⟩
theorem uGR.cg {S S' : ts} {kd : Nat → Bool} {lv : Int32} {T T' : ev} {pl pl' : List (Nat × Nat)} (h : ∀ u, uoc u T = uoc u T') (h1 : uGR S kd lv T pl S' pl') : uGR S kd lv T' pl S' pl' := by
  obtain ⟨rfl, e1, h2, n1, m1⟩ := h1
  exact ⟨ts_gen_cg h, e1, h2, n1, fun p => by rw [m1]; unfold ugp; rw [h p.1]⟩
theorem uGK.sub {S : ts} {kd : Nat → Bool} {lv : Int32} {X T : ev} {pl : List (Nat × Nat)} {K : Nat} (h : uGK S kd lv T pl K) (hX : ∀ u, uoc u X = true → uoc u T = true) : uGK S kd lv X pl K :=
  fun ex n m => h ex n (fun p hp => ⟨hX _ (m p hp).1, (m p hp).2⟩)
theorem uGK.next {S S1 : ts} {kd : Nat → Bool} {lv : Int32} {X Y T : ev} {pl pl1 : List (Nat × Nat)} {K : Nat} (hlv : lv < 1048576) (h : uGK S kd lv T pl K) (h1 : uGR S kd lv X pl S1 pl1) (hT : ∀ u, uoc u T = (uoc u X || uoc u Y)) : uGK S1 kd lv Y pl1 K := by
  obtain ⟨rfl, e1, rfl, n1, m1⟩ := h1
  intro ex n m
  have h2 := h (e1 ++ ex) (List.nodup_append.2 ⟨n1, n, fun a ha b hb e => by subst e; exact ugp_apart ((m1 a).1 ha) (m a hb)⟩) (fun p hp => by
    rcases List.mem_append.1 hp with hp | hp
    · exact (ugp_or hlv hT p).2 (Or.inl ((m1 p).1 hp))
    · exact (ugp_or hlv hT p).2 (Or.inr (m p hp)))
  rw [List.length_append] at h2
  rw [List.length_append]
  omega
theorem uGR.len {S S' : ts} {kd : Nat → Bool} {lv : Int32} {T : ev} {pl pl' : List (Nat × Nat)} {K : Nat} (h : uGK S kd lv T pl K) (h1 : uGR S kd lv T pl S' pl') : pl.length ≤ pl'.length ∧ pl'.length ≤ K := by
  obtain ⟨-, e1, rfl, n1, m1⟩ := h1
  have h2 := h e1 n1 (fun p hp => (m1 p).1 hp)
  rw [List.length_append]
  omega
theorem ts_gen_lv {S : ts} {lv : Int32} {T : ev} (h : ∀ u, S.2.2.2.2 u ≤ 1048576) (u : Nat) : (ts_gen S lv T).2.2.2.2 u ≤ 1048576 := by
  unfold ts_gen
  simp only
  split
  · exact Int32.le_refl _
  · exact h u
/-- how a list grows: its room -/
def gl_ok (cap n : Nat) : Prop := (cap = 0 ∨ 10 ≤ cap) ∧ cap ≤ 10 + 2 * n
theorem gl_step {n cap : Nat} (h : gl_ok cap n) (hn : n ≤ cap) : gl_ok (al_cap n cap) (n + 1) ∧ al_mk n cap ≤ 1 ∧ al_ms n cap + 4 * cap ≤ 4 * al_cap n cap ∧ cap ≤ al_cap n cap ∧ n < al_cap n cap := by
  obtain ⟨h1, h2⟩ := h
  by_cases h3 : n < cap
  · simp only [gl_ok, al_cap, al_mk, al_ms, if_pos h3]; omega
  · obtain rfl : n = cap := by omega
    simp only [gl_ok, al_cap, al_mk, al_ms, if_neg h3]
    by_cases h4 : n = 0
    · simp only [if_pos h4]; omega
    · simp only [if_neg h4]
      have h5 : max 1 (n / 2) = n / 2 := by omega
      rw [h5]; omega
abbrev pc_E (row : Option Nat) (lb : Int32) : va_E := .inr (13, [va_rf row, .int lb])
/-- places in memory -/
def PLs (M : mm_M) (vr : Nat → Nat) (ads : List Nat) (pl : List (Nat × Nat)) : Prop := ads.length = pl.length ∧ ∀ (i : Nat) (p : Nat × Nat), pl[i]? = some p → ∃ a, ads[i]? = some a ∧ M a = some (pc_E (some (vr p.1)) (nI p.2))
theorem PLs.mono {M M' : mm_M} {vr vr' : Nat → Nat} {ads : List Nat} {pl : List (Nat × Nat)} (h : PLs M vr ads pl) (hM : ∀ a ci fs, M a = some (.inr (13, fs)) → ci = 13 → M' a = some (.inr (13, fs))) (hv : ∀ p ∈ pl, vr' p.1 = vr p.1) : PLs M' vr' ads pl :=
  ⟨h.1, fun i p hp => by
    obtain ⟨a, h1, h2⟩ := h.2 i p hp
    exact ⟨a, h1, by rw [hv p (List.mem_of_getElem? hp)]; exact hM a 13 _ h2 rfl⟩⟩
theorem PLs.snoc {M : mm_M} {vr : Nat → Nat} {ads : List Nat} {pl : List (Nat × Nat)} {a : Nat} {p : Nat × Nat} (h : PLs M vr ads pl) (ha : M a = some (pc_E (some (vr p.1)) (nI p.2))) : PLs M vr (ads ++ [a]) (pl ++ [p]) := by
  refine ⟨by simp [h.1], fun i q hq => ?_⟩
  rcases Nat.lt_or_ge i pl.length with hi | hi
  · rw [List.getElem?_append_left hi] at hq
    obtain ⟨b, h1, h2⟩ := h.2 i q hq
    exact ⟨b, by rw [List.getElem?_append_left (by rw [h.1]; exact hi)]; exact h1, h2⟩
  · rw [List.getElem?_append_right hi] at hq
    have h3 : i - pl.length = 0 := by
      rcases Nat.eq_zero_or_pos (i - pl.length) with h3 | h3
      · exact h3
      · rw [List.getElem?_eq_none (by simp; omega)] at hq; cases hq
    rw [h3] at hq
    simp only [List.getElem?_cons_zero, Option.some.injEq] at hq
    subst hq
    exact ⟨a, by rw [List.getElem?_append_right (by rw [h.1]; exact hi), h.1, h3]; rfl, ha⟩
/-- while things are made general: B is what was there, its levels changed; gk the walk, pa its list -/
def gN (Z : mm_G) (B M : mm_M) (L : List Nat) (vr : Nat → Nat) (S : ts) (gk pa ar cap : Nat) (ads : List Nat) (pl : List (Nat × Nat)) (lv : Int32) : Prop :=
  mm_Ext B M ∧ uCI Z B L vr S ∧ B gk = none ∧ B pa = none ∧ (cap = 0 ∨ B ar = none) ∧ M gk = some (.inr (18, [.ref pa, .int lv])) ∧ AL Z M pa ar cap (ads.map some) ∧ PLs M vr ads pl ∧ gl_ok cap pl.length
theorem gN.C {Z : mm_G} {B M : mm_M} {L : List Nat} {vr : Nat → Nat} {S : ts} {gk pa ar cap : Nat} {ads : List Nat} {pl : List (Nat × Nat)} {lv : Int32} (h : gN Z B M L vr S gk pa ar cap ads pl lv) : uCI Z M L vr S := h.2.1.lite h.1
theorem gN.len {Z : mm_G} {B M : mm_M} {L : List Nat} {vr : Nat → Nat} {S : ts} {gk pa ar cap : Nat} {ads : List Nat} {pl : List (Nat × Nat)} {lv : Int32} (h : gN Z B M L vr S gk pa ar cap ads pl lv) : (ads.map some).length = pl.length ∧ pl.length ≤ cap ∧ cap < 2 ^ 20 := by
  obtain ⟨-, -, -, -, -, -, ⟨_, _, _, _, h1, h2, -⟩, h3, -⟩ := h
  have h4 := h3.1
  rw [List.length_map] at h1 ⊢
  exact ⟨h4, by omega, h2⟩
theorem mm_Ext.UUe {B M : mm_M} (h : mm_Ext B M) (a : Nat) (e : va_E) : mm_Ext (mm_U B a e) (mm_U M a e) := fun q hq => by
  by_cases e9 : q = a
  · subst e9; rw [mm_U_eq, mm_U_eq]
  · rw [mm_U_ne e9] at hq ⊢; rw [mm_U_ne e9]; exact h q hq

theorem PLs.ok {M : mm_M} {vr : Nat → Nat} {ads : List Nat} {pl : List (Nat × Nat)} (h : PLs M vr ads pl) : ∀ y ∈ ads.map some, mm_ok M y := by
  intro y hy v hv
  obtain ⟨a, ha, rfl⟩ := List.mem_map.1 hy
  cases hv
  obtain ⟨i, hi⟩ := List.mem_iff_getElem?.1 ha
  have h1 : i < pl.length := by
    rw [← h.1]
    rcases Nat.lt_or_ge i ads.length with h9 | h9
    · exact h9
    · rw [List.getElem?_eq_none h9] at hi; cases hi
  obtain ⟨b, h2, h3⟩ := h.2 i pl[i] (List.getElem?_eq_getElem h1)
  rw [hi] at h2
  cases h2
  exact ⟨_, _, h3⟩
theorem AL.hd {Z : mm_G} {M : mm_M} {a ar cap : Nat} {xs : List (Option Nat)} (h : AL Z M a ar cap xs) : (∃ fs, M a = some (.inr (41, fs))) ∧ ∃ x, M ar = some (.inl x) := by
  obtain ⟨md, f, h1, h2, -⟩ := h; exact ⟨⟨_, h1⟩, _, h2⟩
/-- a place more -/
theorem gN.add {Z : mm_G} {B M Mp Ma : mm_M} {L : List Nat} {vr : Nat → Nat} {S : ts} {gk pa ar ar' cap : Nat} {ads : List Nat} {pl : List (Nat × Nat)} {lv : Int32} (h : gN Z B M L vr S gk pa ar cap ads pl lv) (hx : mm_Ext M Mp) {q : Nat} {p : Nat × Nat} (hq : Mp q = some (pc_E (some (vr p.1)) (nI p.2)))
    (hA : AL Z Ma pa ar' (al_cap pl.length cap) (ads.map some ++ [some q])) (hk : ∀ z, z ≠ pa → z ≠ ar' → Ma z = Mp z) (ho : ar' = ar ∧ pl.length < cap ∨ Mp ar' = none) : gN Z B Ma L vr S gk pa ar' (al_cap pl.length cap) (ads ++ [q]) (pl ++ [p]) lv := by
  have hlen := h.len
  obtain ⟨h1, h2, h3, h4, h5, h6, h7, h8, h9⟩ := h
  have hn : B ar' = none := by
    rcases ho with ⟨e, h10⟩ | h10
    · rcases h5 with h5 | h5
      · omega
      · rw [e]; exact h5
    · exact h1.none (hx.none h10)
  obtain ⟨⟨fs7, h71⟩, x7, h72⟩ := h7.hd
  have hp1 := hx.at h71
  have hne : ∀ {z : Nat} {ci : Nat} {fs : List Value}, Mp z = some (.inr (ci, fs)) → ci ≠ 41 → Ma z = some (.inr (ci, fs)) := by
    intro z ci fs hz hc
    rw [hk z (mm_neC hz hp1 hc) (fun e => ?_)]
    · exact hz
    · rcases ho with ⟨e1, -⟩ | e1
      · rw [e, e1, hx.at h72] at hz; cases hz
      · rw [e, e1] at hz; cases hz
  refine ⟨fun z hz => ?_, h2, h3, h4, Or.inr hn, hne (hx.at h6) (by decide), by rw [List.map_append]; exact hA, ?_, ?_⟩
  · rw [hk z (fun e => hz (e ▸ h4)) (fun e => hz (e ▸ hn)), hx z (by rw [h1 z hz]; exact hz), h1 z hz]
  · exact PLs.snoc (h8.mono (fun a ci fs ha _ => hne (hx.at ha) (by decide)) (fun _ _ => rfl)) (hne hq (by decide))
  · rw [List.length_append]; exact (gl_step h9 hlen.2.1).1
/-- a level is put -/
theorem gN.put {Z : mm_G} {B M : mm_M} {L : List Nat} {vr : Nat → Nat} {S S' : ts} {gk pa ar cap : Nat} {ads : List Nat} {pl : List (Nat × Nat)} {lv : Int32} (h : gN Z B M L vr S gk pa ar cap ads pl lv) {a ci : Nat} {fs : List Value} {e : va_E} (ha : B a = some (.inr (ci, fs))) (hc : ci ≠ 18 ∧ ci ≠ 41 ∧ ci ≠ 13) (hC : uCI Z (mm_U B a e) L vr S') : gN Z (mm_U B a e) (mm_U M a e) L vr S' gk pa ar cap ads pl lv := by
  obtain ⟨h1, h2, h3, h4, h5, h6, h7, h8, h9⟩ := h
  have ha2 := h1.at ha
  have hn : ∀ {z : Nat}, B z = none → mm_U B a e z = none := fun {z} hz => by rw [mm_U_ne (fun e9 => by rw [e9, ha] at hz; cases hz)]; exact hz
  have hk : ∀ {z cj : Nat} {gs : List Value}, M z = some (.inr (cj, gs)) → ci ≠ cj → mm_U M a e z = some (.inr (cj, gs)) := fun {z cj gs} hz hcc => by rw [mm_U_ne (mm_neC hz ha2 (Ne.symm hcc))]; exact hz
  refine ⟨h1.UUe a e, hC, hn h3, hn h4, h5.imp (fun h => h) hn, hk h6 hc.1, ?_, h8.mono (fun b cj gs hb _ => hk hb hc.2.2) (fun _ _ => rfl), h9⟩
  obtain ⟨md, f, k1, k2, k3⟩ := h7
  exact ⟨md, f, hk k1 hc.2.1, by rw [mm_U_ne (mm_neA k2 ha2)]; exact k2, k3⟩
/-- what the walk leaves -/
def gP (Z : mm_G) (B : mm_M) (L : List Nat) (vr : Nat → Nat) (S : ts) (kd : Nat → Bool) (gk pa cap : Nat) (pl : List (Nat × Nat)) (lv : Int32) (T : ev) : Option Value → mm_M → Nat → Nat → Prop := fun v9 M' n9 k9 => v9 = none ∧ ∃ (B' : mm_M) (ar' cap' : Nat) (ads' : List Nat) (pl' : List (Nat × Nat)), uL B B' ∧ gN Z B' M' L vr (ts_gen S lv T) gk pa ar' cap' ads' pl' lv ∧ uGR S kd lv T pl (ts_gen S lv T) pl' ∧ n9 ≤ 2 * (pl'.length - pl.length) ∧ k9 + 4 * cap + 2 * pl.length ≤ 4 * cap' + 2 * pl'.length
theorem uGR.stay {S : ts} {kd : Nat → Bool} {lv : Int32} {T : ev} {pl : List (Nat × Nat)} (h : ∀ p, ¬ ugp S kd lv T p) : uGR S kd lv T pl (ts_gen S lv T) pl :=
  ⟨rfl, [], (List.append_nil _).symm, List.nodup_nil, fun p => ⟨fun h9 => absurd h9 List.not_mem_nil, fun h9 => absurd h9 (h p)⟩⟩
theorem ts_gen_stay {S : ts} {lv : Int32} {u : Nat} (h : ¬ lv < S.2.2.2.2 u ∨ S.2.2.2.2 u = 1048576) : ts_gen S lv (.var u) = S := by
  obtain ⟨a, b, c, d, e⟩ := S
  unfold ts_gen
  simp only [Prod.mk.injEq, true_and]
  funext w
  simp only [uoc]
  by_cases hw : u = w
  · subst hw
    rcases h with h | h
    · simp only at h; simp [h]
    · simp only at h; simp [h]
  · simp [hw]
/-- the places of one row's variable, the labels below i -/
def ugl (u : Nat) (lc : Int32) (i : Nat) : List (Nat × Nat) := ((List.range i).filter (fun l => uhs lc l)).map fun l => (u, l)
theorem ugl_succ {u : Nat} {lc : Int32} {i : Nat} : ugl u lc (i + 1) = if uhs lc i then ugl u lc i ++ [(u, i)] else ugl u lc i := by
  unfold ugl
  rw [List.range_succ, List.filter_append, List.map_append]
  cases h : uhs lc i
  · simp [h]
  · simp [h]
theorem ugl_nodup {u : Nat} {lc : Int32} {i : Nat} : (ugl u lc i).Nodup := by
  induction i with
  | zero => exact List.nodup_nil
  | succ i ih =>
    rw [ugl_succ]
    split
    · refine List.nodup_append.2 ⟨ih, List.nodup_cons.2 ⟨List.not_mem_nil, List.nodup_nil⟩, fun a ha b hb e => ?_⟩
      simp only [List.mem_singleton] at hb
      subst hb
      subst e
      unfold ugl at ha
      obtain ⟨l, hl, e⟩ := List.mem_map.1 ha
      have h1 := (List.mem_filter.1 hl).1
      simp only [Prod.mk.injEq, true_and] at e
      subst e
      exact absurd (List.mem_range.1 h1) (Nat.lt_irrefl _)
    · exact ih
theorem ugl_mem {u : Nat} {lc : Int32} {i : Nat} {p : Nat × Nat} : p ∈ ugl u lc i ↔ p.1 = u ∧ p.2 < i ∧ uhs lc p.2 = true := by
  unfold ugl
  simp only [List.mem_map, List.mem_filter, List.mem_range]
  constructor
  · rintro ⟨l, ⟨h1, h2⟩, rfl⟩; exact ⟨rfl, h1, h2⟩
  · rintro ⟨rfl, h1, h2⟩; exact ⟨p.2, ⟨h1, h2⟩, rfl⟩
theorem ugl_gp {S : ts} {kd : Nat → Bool} {lv : Int32} {u : Nat} (hk : kd u = true) (h1 : lv < S.2.2.2.2 u) (h2 : S.2.2.2.2 u < 1048576) (p : Nat × Nat) : p ∈ ugl u (S.2.2.2.1 u) 10 ↔ ugp S kd lv (.var u) p := by
  rw [ugl_mem]
  unfold ugp
  simp only [uoc, beq_iff_eq]
  constructor
  · rintro ⟨rfl, h3, h4⟩; exact ⟨rfl, hk, h1, h2, h3, h4⟩
  · rintro ⟨rfl, -, -, -, h3, h4⟩; exact ⟨rfl, h3, h4⟩
theorem uwf_ins_inv {g : ug} {k : Nat} {t : ev} : ∀ r : ev, uwf g true (uins k t r) → uwf g false t ∧ uwf g true r
  | .add (.pow u j) r, h => by
    unfold uins at h
    split at h
    · simp only [uwf] at h ⊢
      exact ⟨h.2.1, h.2.2.1⟩
    · simp only [uwf] at h
      obtain ⟨h1, h2, h3, h4, h5⟩ := h
      obtain ⟨h6, h7⟩ := uwf_ins_inv r h3
      rw [uget_ins] at h4
      rw [uend_ins] at h5
      split at h4
      · cases h4
      · simp only [uwf]; exact ⟨h6, h1, h2, h7, h4, h5⟩
  | .add (.num _) _, h | .add (.natCast _) _, h | .add (.intCast _) _, h | .add (.var _) _, h | .add (.neg _) _, h | .add (.add _ _) _, h | .add (.sub _ _) _, h | .add (.mul _ _) _, h
  | .num _, h | .natCast _, h | .intCast _, h | .var _, h | .neg _, h | .sub _ _, h | .mul _ _, h | .pow _ _, h => by
    simp only [uins, uwf] at h
    exact ⟨h.2.1, by simp only [uwf]; first | exact h.2.2.1 | exact h.2.2.1.elim⟩

set_option maxHeartbeats 4000000 in
set_option maxRecDepth 100000 in
theorem d_X23_at (l : Launch) (Z : mm_G) {M : mm_M} {a u pa : Nat} {bd : Option Nat} {lv lu : Int32} {lk : Bool} (ha9 : M a = some (.inr (18, [.ref pa, .int lv]))) (hu9 : M u = some (co_E bd lu lk)) : mm_D l Z yX23_at (ws_ yX23_at cX23_at 2 none) { frames := 0, cells := 0, slots := 0, locals := 0 } [.ref a, .ref u] M (fun v M' n9 k9 => v = none ∧ n9 = 0 ∧ k9 = 0 ∧ M' = mm_U M u (co_E bd (if lv < lu then 1048576 else lu) lk)) mm_nx := by
  refine mm_ofWD (cc := cX23_at) (maxL := 2) (ret := none) (by decide) rfl (Nat.le_of_ble_eq_true rfl) ?_
  intro p e s m below meth c A ls hx hb hr hlk hml hown hmn hts htab hE hST hA hM hS hl
  replace hl : lv_has ls 2 [(0, .ref a), (1, .ref u)] := hl
  refine lv_aload_n hx hb dX23_at_0 rfl (lv_at hl 1 rfl) ?_
  refine lv_aload_n hx hb dX23_at_1 rfl (lv_at hl 1 rfl) ?_
  refine va_getN (D := Z.1) (ci := 9) (v := .int lu) (C := RX11) (T := TX11) (N := 3) hx hb hts in_X11 hown hE.1 (hM.at hu9) 0 rfl mm_cX11 1 (by decide) (va_Nw.use rfl (hE.2.1 _ q809 rfl)) (fun _ h9 => h9) rfl dX23_at_2 ?_
  refine lv_aload_n hx hb dX23_at_5 rfl (lv_at hl 0 rfl) ?_
  refine va_get (D := Z.1) (ci := 18) (v := .int lv) (C := RX23) (T := TX23) (N := 2) hx hb hts in_X23 hown hE.1 (hM.at ha9) 0 rfl mm_cX23 1 (by decide) (hts _ q1270) (fun _ h9 => h9) rfl dX23_at_6 ?_
  refine lv_icmp_le (tgt := 17) hx hb dX23_at_9 (by decide) (fun c_1 => ?_) (fun c_1 => ?_)
  · skip
    refine lv_aload_n hx hb dX23_at_17 rfl (lv_at hl 1 rfl) ?_
    refine va_getN (D := Z.1) (ci := 9) (v := .int lu) (C := RX11) (T := TX11) (N := 3) hx hb hts in_X11 hown hE.1 (hM.at hu9) 0 rfl mm_cX11 1 (by decide) (va_Nw.use rfl (hE.2.1 _ q809 rfl)) (fun _ h9 => h9) rfl dX23_at_18 ?_
    refine mm_putN (D := Z.1) (ci := 9) (v := .int lu) (ty := .int) (C := RX11) (T := TX11) (N := 3) hx hb hts in_X11 tyX11 tyX11_ok nmX11 hown hE.1 hM hS hu9 mm_cX11 1 (by decide) (va_Nw.use rfl (hE.2.1 _ q809 rfl)) (fun _ h9 => h9) rfl (by decide +kernel) rfl rfl (Nat.le_of_ble_eq_true rfl) dX23_at_21 (fun H locs hM hS => ?_)
    have hM : mm_P Z.1 mm_cl A (mm_U M u (.inr (9, [va_rf bd, .int lu, .int (mm_b lk)]))) H := hM
    have hc_2 : (mm_U M u (.inr (9, [va_rf bd, .int lu, .int (mm_b lk)]))) u = some (.inr (9, [va_rf bd, .int lu, .int (mm_b lk)])) := mm_U_eq
    have hc_3 : (mm_U M u (.inr (9, [va_rf bd, .int lu, .int (mm_b lk)]))) a = some (.inr (18, [.ref pa, .int lv])) := (mm_U_ne (mm_neC ha9 hu9 (by decide))).trans ha9
    obtain ⟨M_4, eM_4⟩ : ∃ z, z = mm_U M u (.inr (9, [va_rf bd, .int lu, .int (mm_b lk)])) := ⟨_, rfl⟩
    rw [← eM_4] at hM hc_3 hc_2
    exact mm_retvD hx hb hr hlk hM hS ⟨rfl, rfl, rfl, by rw [eM_4, if_neg (Int32.not_lt.2 c_1)]⟩ dX23_at_24 (Nat.le_of_ble_eq_true rfl) (Nat.le_of_ble_eq_true rfl)
  · skip
    refine lv_ldc (v := 1048576) hx hb hown (hts _ q1094) dX23_at_12 ?_
    refine lv_goto (tgt := 21) hx hb dX23_at_14 (by decide) ?_
    refine mm_putN (D := Z.1) (ci := 9) (v := .int 1048576) (ty := .int) (C := RX11) (T := TX11) (N := 3) hx hb hts in_X11 tyX11 tyX11_ok nmX11 hown hE.1 hM hS hu9 mm_cX11 1 (by decide) (va_Nw.use rfl (hE.2.1 _ q809 rfl)) (fun _ h9 => h9) rfl (by decide +kernel) rfl rfl (Nat.le_of_ble_eq_true rfl) dX23_at_21 (fun H locs hM hS => ?_)
    have hM : mm_P Z.1 mm_cl A (mm_U M u (.inr (9, [va_rf bd, .int 1048576, .int (mm_b lk)]))) H := hM
    have hc_2 : (mm_U M u (.inr (9, [va_rf bd, .int 1048576, .int (mm_b lk)]))) u = some (.inr (9, [va_rf bd, .int 1048576, .int (mm_b lk)])) := mm_U_eq
    have hc_3 : (mm_U M u (.inr (9, [va_rf bd, .int 1048576, .int (mm_b lk)]))) a = some (.inr (18, [.ref pa, .int lv])) := (mm_U_ne (mm_neC ha9 hu9 (by decide))).trans ha9
    obtain ⟨M_4, eM_4⟩ : ∃ z, z = mm_U M u (.inr (9, [va_rf bd, .int 1048576, .int (mm_b lk)])) := ⟨_, rfl⟩
    rw [← eM_4] at hM hc_3 hc_2
    exact mm_retvD hx hb hr hlk hM hS ⟨rfl, rfl, rfl, by rw [eM_4, if_pos (Int32.not_le.1 c_1)]⟩ dX23_at_24 (Nat.le_of_ble_eq_true rfl) (Nat.le_of_ble_eq_true rfl)
set_option maxHeartbeats 4000000 in
set_option maxRecDepth 100000 in
theorem d_X23_at_2 (l : Launch) (Z : mm_G) {M : mm_M} {B : mm_M} {L : List Nat} {vr : Nat → Nat} {S : ts} {kd : Nat → Bool} {u gk pa ar cap K : Nat} {ads : List Nat} {pl : List (Nat × Nat)} {lv : Int32} (hN : gN Z B M L vr S gk pa ar cap ads pl lv) (hu : u < S.1) (huR : M (vr u) = some (cr_E none (S.2.2.2.2 u) (S.2.2.1 u) (S.2.2.2.1 u))) (hkd : kd u = true) (hle : S.2.2.2.2 u ≤ 1048576) (hlv : lv < 1048576) (hK : uGK S kd lv (.var u) pl K) (hK2 : K < 2 ^ 15) : mm_D l Z yX23_at_2 (ws_ yX23_at_2 cX23_at_2 3 none) { frames := 10, cells := 2 * (K - pl.length), slots := (40 + 10 * K) - (4 * cap + 2 * pl.length), locals := 300 } [.ref gk, .ref (vr u)] M (gP Z B L vr S kd gk pa cap pl lv (.var u)) mm_nx := by
  refine mm_ofWD (cc := cX23_at_2) (maxL := 3) (ret := none) (by decide) rfl (Nat.le_of_ble_eq_true rfl) ?_
  intro p e s m below meth c A ls hx hb hr hlk hml hown hmn hts htab hE hST hA hM hS hl
  replace hl : lv_has ls 3 [(0, .ref gk), (1, .ref (vr u))] := hl
  obtain ⟨hlen1, hlen2, hlen3⟩ := hN.len
  have hgl := hN.2.2.2.2.2.2.2.2
  unfold gl_ok at hgl
  have hKl : pl.length ≤ K := by have h9 := hK [] List.nodup_nil (fun p hp => absurd hp List.not_mem_nil); simpa using h9
  have hgk := hN.2.2.2.2.2.1
  refine lv_aload_n hx hb dX23_at_2_0 rfl (lv_at hl 1 rfl) ?_
  refine va_getN (D := Z.1) (ci := 12) (v := .int (S.2.2.2.2 u)) (C := RX15) (T := TX15) (N := 4) hx hb hts in_X15 hown hE.1 (hM.at huR) 0 rfl mm_cX15 1 (by decide) (va_Nw.use rfl (hE.2.1 _ q923 rfl)) (fun _ h9 => h9) rfl dX23_at_2_1 ?_
  refine lv_aload_n hx hb dX23_at_2_4 rfl (lv_at hl 0 rfl) ?_
  refine va_get (D := Z.1) (ci := 18) (v := .int lv) (C := RX23) (T := TX23) (N := 2) hx hb hts in_X23 hown hE.1 (hM.at hgk) 0 rfl mm_cX23 1 (by decide) (hts _ q1270) (fun _ h9 => h9) rfl dX23_at_2_5 ?_
  refine lv_icmp_le (tgt := 68) hx hb dX23_at_2_8 (by decide) (fun c_1 => ?_) (fun c_1 => ?_)
  · skip
    have hst := ts_gen_stay (S := S) (lv := lv) (u := u) (Or.inl (Int32.not_lt.2 c_1))
    exact mm_retvD hx hb hr hlk hM hS ⟨rfl, B, ar, cap, ads, pl, uL.rf _, by rw [hst]; exact hN, uGR.stay (fun p hp => by have h8 := hp.1; simp only [uoc, beq_iff_eq] at h8; subst h8; exact absurd hp.2.2.1 (Int32.not_lt.2 c_1)), by omega, by omega⟩ dX23_at_2_68 (by (try dsimp only); omega) (by (try dsimp only); omega)
  · skip
    have hdeep : lv < S.2.2.2.2 u := Int32.not_le.1 c_1
    refine lv_aload_n hx hb dX23_at_2_11 rfl (lv_at hl 1 rfl) ?_
    refine va_getN (D := Z.1) (ci := 12) (v := .int (S.2.2.2.2 u)) (C := RX15) (T := TX15) (N := 4) hx hb hts in_X15 hown hE.1 (hM.at huR) 0 rfl mm_cX15 1 (by decide) (va_Nw.use rfl (hE.2.1 _ q923 rfl)) (fun _ h9 => h9) rfl dX23_at_2_12 ?_
    refine lv_ldc (v := 1048576) hx hb hown (hts _ q1094) dX23_at_2_15 ?_
    refine lv_icmp_ge (tgt := 68) hx hb dX23_at_2_17 (by decide) (fun c_2 => ?_) (fun c_2 => ?_)
    · skip
      have hst := ts_gen_stay (S := S) (lv := lv) (u := u) (Or.inr (Int32.le_antisymm hle c_2))
      exact mm_retvD hx hb hr hlk hM hS ⟨rfl, B, ar, cap, ads, pl, uL.rf _, by rw [hst]; exact hN, uGR.stay (fun p hp => by have h8 := hp.1; simp only [uoc, beq_iff_eq] at h8; subst h8; exact absurd hp.2.2.2.1 (Int32.not_lt.2 c_2)), by omega, by omega⟩ dX23_at_2_68 (by (try dsimp only); omega) (by (try dsimp only); omega)
    · skip
      have hlow : S.2.2.2.2 u < 1048576 := Int32.not_le.1 c_2
      refine lv_aload_n hx hb dX23_at_2_20 rfl (lv_at hl 1 rfl) ?_
      refine lv_ldc (v := 1048576) hx hb hown (hts _ q1094) dX23_at_2_21 ?_
      refine mm_putN (D := Z.1) (ci := 12) (v := .int 1048576) (ty := .int) (C := RX15) (T := TX15) (N := 4) hx hb hts in_X15 tyX15 tyX15_ok nmX15 hown hE.1 hM hS huR mm_cX15 1 (by decide) (va_Nw.use rfl (hE.2.1 _ q923 rfl)) (fun _ h9 => h9) rfl (by decide +kernel) rfl rfl (Nat.le_of_ble_eq_true rfl) dX23_at_2_23 (fun H locs hM hS => ?_)
      have hM : mm_P Z.1 mm_cl A (mm_U M (vr u) (.inr (12, [.null, .int 1048576, .int (mm_b (S.2.2.1 u)), .int (S.2.2.2.1 u)]))) H := hM
      have hc_3 : (mm_U M (vr u) (.inr (12, [.null, .int 1048576, .int (mm_b (S.2.2.1 u)), .int (S.2.2.2.1 u)]))) (vr u) = some (.inr (12, [.null, .int 1048576, .int (mm_b (S.2.2.1 u)), .int (S.2.2.2.1 u)])) := mm_U_eq
      have hc_4 : (mm_U M (vr u) (.inr (12, [.null, .int 1048576, .int (mm_b (S.2.2.1 u)), .int (S.2.2.2.1 u)]))) gk = some (.inr (18, [.ref pa, .int lv])) := (mm_U_ne (mm_neC hgk huR (by decide))).trans hgk
      obtain ⟨M_5, eM_5⟩ : ∃ z, z = mm_U M (vr u) (.inr (12, [.null, .int 1048576, .int (mm_b (S.2.2.1 u)), .int (S.2.2.2.1 u)])) := ⟨_, rfl⟩
      rw [← eM_5] at hM hc_4 hc_3
      have hBu : B (vr u) = some (cr_E none (S.2.2.2.2 u) (S.2.2.1 u) (S.2.2.2.1 u)) := by
        have h9 : B (vr u) ≠ none := by rcases (hN.2.1.2.1 u hu).2 with ⟨bd, h8, -⟩ | ⟨bd, h8, -⟩ <;> (rw [h8]; exact fun h7 => by cases h7)
        rw [← hN.1 _ h9]; exact huR
      have hCB : uCI Z (mm_U B (vr u) (cr_E none 1048576 (S.2.2.1 u) (S.2.2.2.1 u))) L vr (ts_gen S lv (.var u)) := hN.2.1.setR hu hBu rfl rfl rfl (fun w hw => ⟨by unfold ts_gen; simp [uoc, Ne.symm hw], rfl⟩) (by unfold ts_gen; simp [uoc, hdeep]) rfl
      have hN1 : gN Z (mm_U B (vr u) (cr_E none 1048576 (S.2.2.1 u) (S.2.2.2.1 u))) M_5 L vr (ts_gen S lv (.var u)) gk pa ar cap ads pl lv := by rw [eM_5]; exact hN.put hBu (by decide) hCB
      have hLB : uL B (mm_U B (vr u) (cr_E none 1048576 (S.2.2.1 u) (S.2.2.2.1 u))) := uL.R hBu
      generalize mm_U B (vr u) (cr_E none 1048576 (S.2.2.1 u) (S.2.2.2.1 u)) = B1 at hN1 hLB hCB
      have hu1 := hc_3
      refine lv_iconst (v := 0) hx hb dX23_at_2_26 (by decide) ?_
      refine lv_istore_n hx hb dX23_at_2_27 rfl hl (by decide) rfl (fun ls hl => ?_)
      replace hl : lv_has ls 3 [(2, .int 0), (0, .ref gk), (1, .ref (vr u))] := hl
      refine mm_loopW (fun k M' ls cells slots => ∃ (i ar1 cap1 : Nat) (ads1 : List Nat) (pl1 : List (Nat × Nat)), k = 10 - i ∧ i ≤ 10 ∧ lv_has ls 3 [(2, .int (nI i)), (0, .ref gk), (1, .ref (vr u))] ∧ gN Z B1 M' L vr (ts_gen S lv (.var u)) gk pa ar1 cap1 ads1 pl1 lv ∧ pl1 = pl ++ ugl u (S.2.2.2.1 u) i ∧ M' (vr u) = some (cr_E none 1048576 (S.2.2.1 u) (S.2.2.2.1 u)) ∧ cells ≤ 2 * (pl1.length - pl.length) ∧ slots + 4 * cap + 2 * pl.length ≤ 4 * cap1 + 2 * pl1.length) (fun k M2 ls H locs cells slots ih hI hM hS => ?_) ⟨0, ar, cap, ads, pl, rfl, by omega, lv_sub hl [0, 1, 2] rfl, hN1, (List.append_nil _).symm, hu1, by omega, by omega⟩ hM hS
      clear hN1 hu1 hgk huR
      obtain ⟨i, ar1, cap1, ads1, pl1, rfl, hi9, hl, hN2, hpl, hu2, hc9, hs9⟩ := hI
      obtain ⟨hlen4, hlen5, hlen6⟩ := hN2.len
      have hgl2 := hN2.2.2.2.2.2.2.2.2
      have hgk := hN2.2.2.2.2.2.1
      obtain ⟨mdq, fq, hpq, -⟩ := id hN2.2.2.2.2.2.2.1
      have hKi : ∀ j, j ≤ 10 → (pl ++ ugl u (S.2.2.2.1 u) j).length ≤ K := fun j hj => by rw [List.length_append]; exact hK _ ugl_nodup (fun p hp => (ugl_gp hkd hdeep hlow p).1 (by rw [ugl_mem] at hp ⊢; exact ⟨hp.1, by omega, hp.2.2⟩))
      have hlp : pl.length ≤ pl1.length := by rw [hpl, List.length_append]; omega
      have hKp : pl1.length ≤ K := by rw [hpl]; exact hKi i hi9
      have hgl3 := hgl2
      unfold gl_ok at hgl3
      refine lv_iload_n hx hb dX23_at_2_28 rfl (lv_at hl 0 rfl) ?_
      refine lv_bipush (v := 10) hx hb dX23_at_2_29 (by decide) ?_
      refine lv_icmp_ge (tgt := 68) hx hb dX23_at_2_31 (by decide) (fun c_6 => ?_) (fun c_6 => ?_)
      · skip
        obtain rfl : i = 10 := by have := (nI_leI (a := 10) (b := i) (by omega) (by omega)).1 c_6; omega
        exact mm_retvD hx hb hr hlk hM hS ⟨rfl, B1, ar1, cap1, ads1, pl1, hLB, hN2, ⟨rfl, _, hpl, ugl_nodup, ugl_gp hkd hdeep hlow⟩, hc9, hs9⟩ dX23_at_2_68 (by (try dsimp only); omega) (by (try dsimp only); omega)
      · skip
        have hi : i < 10 := (nI_ltI (b := 10) (by omega) (by omega)).1 (Int32.not_le.1 c_6)
        refine lv_aload_n hx hb dX23_at_2_34 rfl (lv_at hl 2 rfl) ?_
        refine va_getN (D := Z.1) (ci := 12) (v := .int (S.2.2.2.1 u)) (C := RX15) (T := TX15) (N := 4) hx hb hts in_X15 hown hE.1 (hM.at hu2) 0 rfl mm_cX15 3 (by decide) (va_Nw.use rfl (hE.2.1 _ q932 rfl)) (fun _ h9 => h9) rfl dX23_at_2_35 ?_
        refine lv_iload_n hx hb dX23_at_2_38 rfl (lv_at hl 0 rfl) ?_
        refine mm_callSN (As := [.int (S.2.2.2.1 u), .int (nI i)]) (rest := []) ⟨hx, hb, hml, hown, hts⟩ hE hST hA (c_X1_has l Z (st9 := S.2.2.2.1 u) (k := i)) ⟨va_cnB 2 hts (lw_meth q1163) rfl rfl rfl (hE.2.1 _ q1161 rfl) (hts _ q50) (by decide +kernel) ⟨(by (try dsimp only); omega), (by (try dsimp only); omega)⟩, hts _ q1162, trivial⟩ hM hS rfl hl.1 (Nat.le_of_ble_eq_true rfl) dX23_at_2_39 rfl ⟨(by (try dsimp only); omega), (by (try dsimp only); omega)⟩ (fun _ _ _ _ _ _ h9 => h9.elim) (fun v_7 M_8 H locs hp_9 hM hS => ?_)
        obtain ⟨rfl, eM_8⟩ := hp_9
        rw [eM_8] at hM
        refine lv_if_eq (tgt := 62) hx hb dX23_at_2_42 (by decide) (fun c_10 => ?_) (fun c_10 => ?_)
        · skip
          have hh : uhs (S.2.2.2.1 u) i = false := (mm_b_0 _).1 c_10
          obtain ⟨x_11, ex_11⟩ : ∃ z : Int32, z = (nI i) + 1 := ⟨_, rfl⟩
          refine lv_iinc (v := x_11) (lv' := [(2, .int x_11), (0, .ref gk), (1, .ref (vr u))]) hx hb dX23_at_2_62 hl (k := 0) rfl (by rw [ex_11]; rfl) (by decide) rfl (fun ls hl => ?_)
          rw [show x_11 = nI (i + 1) from by rw [ex_11]; exact nI_1 i] at hl
          refine lv_goto (tgt := 28) hx hb dX23_at_2_65 (by decide) ?_
          refine ih (10 - (i + 1)) (by omega) _ _ _ _ _ _ ⟨i + 1, ar1, cap1, ads1, pl1, rfl, hi, lv_sub hl [0, 1, 2] rfl, hN2, by rw [hpl, ugl_succ, hh]; rfl, hu2, hc9, hs9⟩ hM hS
        · skip
          have hh : uhs (S.2.2.2.1 u) i = true := by cases h8 : uhs (S.2.2.2.1 u) i with | true => rfl | false => exact absurd ((mm_b_0 _).2 h8) c_10
          have hK3 := hKi (i + 1) hi
          rw [ugl_succ, if_pos hh, ← List.append_assoc, ← hpl, List.length_append, List.length_singleton] at hK3
          obtain ⟨hg1, hg2, hg3, hg4, hg5⟩ := gl_step hgl2 hlen5
          unfold gl_ok at hg1
          refine lv_aload_n hx hb dX23_at_2_45 rfl (lv_at hl 1 rfl) ?_
          refine va_get (D := Z.1) (ci := 18) (v := .ref pa) (C := RX23) (T := TX23) (N := 2) hx hb hts in_X23 hown hE.1 (hM.at hgk) 0 rfl mm_cX23 0 (by decide) (hts _ q1268) (fun _ h9 => h9) rfl dX23_at_2_46 ?_
          refine mm_new (D := Z.1) (ci := 13) (fs := mm_f0X16) (C := RX16) (T := TX16) (N := 2) hx hb hts in_X16 tyX16 tyX16_ok hown (hts _ q1164) (hts _ q994) (hts _ q84) hE.1 hM hS hA mm_cX16 mm_dfX16 (by (try dsimp only); omega) (by (try dsimp only); omega) dX23_at_2_49 (fun q_12 H nq_11 hM hS => ?_)
          have hM : mm_P Z.1 mm_cl A (mm_U M2 q_12 (.inr (13, [.null, .int 0]))) H := hM
          have ne_13 : gk ≠ q_12 := (mm_neN hgk nq_11)
          have ne_14 : (vr u) ≠ q_12 := (mm_neN hu2 nq_11)
          have ne_15 : pa ≠ q_12 := (mm_neN hpq nq_11)
          have hc_16 : (mm_U M2 q_12 (.inr (13, [.null, .int 0]))) q_12 = some (.inr (13, [.null, .int 0])) := mm_U_eq
          have hc_17 : (mm_U M2 q_12 (.inr (13, [.null, .int 0]))) gk = some (.inr (18, [.ref pa, .int lv])) := (mm_U_ne ne_13).trans hgk
          have hc_18 : (mm_U M2 q_12 (.inr (13, [.null, .int 0]))) (vr u) = some (.inr (12, [.null, .int 1048576, .int (mm_b (S.2.2.1 u)), .int (S.2.2.2.1 u)])) := (mm_U_ne ne_14).trans hu2
          have hc_19 : (mm_U M2 q_12 (.inr (13, [.null, .int 0]))) pa = some (.inr (41, [.int mdq, .ref ar1, .int (nI (ads1.map some).length)])) := (mm_U_ne ne_15).trans hpq
          obtain ⟨M_20, eM_20⟩ : ∃ z, z = mm_U M2 q_12 (.inr (13, [.null, .int 0])) := ⟨_, rfl⟩
          rw [← eM_20] at hM hc_17 hc_18 hc_19 hc_16
          refine lv_dup hx hb dX23_at_2_52 rfl ?_
          refine lv_aload_n hx hb dX23_at_2_53 rfl (lv_at hl 2 rfl) ?_
          refine lv_iload_n hx hb dX23_at_2_54 rfl (lv_at hl 0 rfl) ?_
          refine mm_callI (As := [.ref (vr u), .int (nI i)]) (rest := [.ref q_12, .ref pa]) ⟨hx, hb, hml, hown, hts⟩ hE hST hA (c_X16_init l Z (M := M_20) (h0 := q_12) (x1 := (some (vr u))) (x2 := (nI i)) hc_16) (cwI (maxL := 3) 2 hts (lw_meth q998) rfl rfl rfl (hts _ q84) (hts _ q1165) (hts _ q997) rfl (by decide +kernel) ⟨(by (try dsimp only); omega), (by (try dsimp only); omega)⟩) hM hS rfl hl.1 (Nat.le_of_ble_eq_true rfl) dX23_at_2_55 rfl ⟨(by (try dsimp only); omega), (by (try dsimp only); omega)⟩ (fun _ _ _ _ _ _ h9 => h9.elim) (fun v_21 M_22 H locs hp_23 hM hS => ?_)
          obtain ⟨rfl, eM_22⟩ := hp_23
          rw [eM_22] at hM
          replace hM : mm_P Z.1 mm_cl A (mm_U M_20 q_12 (.inr (13, [.ref (vr u), .int (nI i)]))) H := hM
          have hc_24 : (mm_U M_20 q_12 (.inr (13, [.ref (vr u), .int (nI i)]))) q_12 = some (.inr (13, [.ref (vr u), .int (nI i)])) := mm_U_eq
          have hc_25 : (mm_U M_20 q_12 (.inr (13, [.ref (vr u), .int (nI i)]))) gk = some (.inr (18, [.ref pa, .int lv])) := (mm_U_ne ne_13).trans hc_17
          have hc_26 : (mm_U M_20 q_12 (.inr (13, [.ref (vr u), .int (nI i)]))) (vr u) = some (.inr (12, [.null, .int 1048576, .int (mm_b (S.2.2.1 u)), .int (S.2.2.2.1 u)])) := (mm_U_ne ne_14).trans hc_18
          have hc_27 : (mm_U M_20 q_12 (.inr (13, [.ref (vr u), .int (nI i)]))) pa = some (.inr (41, [.int mdq, .ref ar1, .int (nI (ads1.map some).length)])) := (mm_U_ne ne_15).trans hc_19
          obtain ⟨M_28, eM_28⟩ : ∃ z, z = mm_U M_20 q_12 (.inr (13, [.ref (vr u), .int (nI i)])) := ⟨_, rfl⟩
          rw [← eM_28] at hM hc_25 hc_26 hc_27 hc_24
          have hexP : mm_Ext M2 M_28 := by subst eM_28 eM_20; (try rw [mm_U_U]); exact mm_Ext.U nq_11
          have hA3 := hN2.2.2.2.2.2.2.1.ext hexP
          have hAdd := c_J2_add l Z hA3 (r := some q_12) (by omega) (fun y h9 => (hN2.2.2.2.2.2.2.2.1.mono (fun a ci fs ha _ => hexP.at ha) (fun _ _ => rfl)).ok y h9) (fun v h8 => by cases h8; exact ⟨_, _, hc_24⟩)
          rw [hlen4] at hAdd
          refine mm_callV (As := [.ref q_12]) (rest := []) ⟨hx, hb, hml, hown, hts⟩ hE hST hA hAdd (cwV 1 hts (lw_V q1166 q335 q336 q53 q337) rfl rfl rfl (by decide +kernel) ⟨(by (try dsimp only); omega), (by (try dsimp only); omega)⟩) hM hS mm_cJ2 hc_27 rfl hl.1 (Nat.le_of_ble_eq_true rfl) dX23_at_2_58 rfl ⟨(by (try dsimp only); omega), (by (try dsimp only); omega)⟩ (fun _ _ _ _ _ _ h9 => h9.elim) (fun v_29 M_30 H locs hp_31 hM hS => ?_)
          obtain ⟨rfl, ar2, hA9, hk9, ho9⟩ := hp_31
          have hN4 := hN2.add hexP (p := (u, i)) hc_24 hA9 hk9 ho9
          have hu4 : M_30 (vr u) = some (cr_E none 1048576 (S.2.2.1 u) (S.2.2.2.1 u)) := by
            rw [hk9 (vr u) (mm_neC (hexP.at hu2) (hexP.at hpq) (by decide)) (fun h9 => ?_)]
            · exact hexP.at hu2
            · obtain ⟨-, x7, h72⟩ := hA3.hd
              rcases ho9 with ⟨e1, -⟩ | e1
              · have h8 := hexP.at hu2; rw [h9, e1, h72] at h8; cases h8
              · have h8 := hexP.at hu2; rw [h9, e1] at h8; cases h8
          refine lv_pop hx hb dX23_at_2_61 rfl ?_
          obtain ⟨x_32, ex_32⟩ : ∃ z : Int32, z = (nI i) + 1 := ⟨_, rfl⟩
          refine lv_iinc (v := x_32) (lv' := [(2, .int x_32), (0, .ref gk), (1, .ref (vr u))]) hx hb dX23_at_2_62 hl (k := 0) rfl (by rw [ex_32]; rfl) (by decide) rfl (fun ls hl => ?_)
          rw [show x_32 = nI (i + 1) from by rw [ex_32]; exact nI_1 i] at hl
          refine lv_goto (tgt := 28) hx hb dX23_at_2_65 (by decide) ?_
          refine ih (10 - (i + 1)) (by omega) _ _ _ _ _ _ ⟨i + 1, ar2, _, _, _, rfl, hi, lv_sub hl [0, 1, 2] rfl, hN4, by rw [hpl, ugl_succ, if_pos hh, List.append_assoc], hu4, by rw [List.length_append, List.length_singleton]; (try dsimp only); omega, by rw [List.length_append, List.length_singleton]; (try dsimp only); omega⟩ hM hS
set_option maxHeartbeats 4000000 in
set_option maxRecDepth 100000 in
theorem c_through_G (l : Launch) (Z : mm_G) (L : List Nat) (vr : Nat → Nat) (kd : Nat → Bool) (gk pa : Nat) (lv : Int32) (K : Nat) (hlv : lv < 1048576) (hK2 : K < 2 ^ 15) (N : Nat) : (∀ (T : ev) (t : ev) (a : Nat) (M : mm_M) (S : ts) (B : mm_M) (ar cap : Nat) (ads : List Nat) (pl : List (Nat × Nat)), SizeOf.sizeOf T < N → uap S.2.1 t = T → gN Z B M L vr S gk pa ar cap ads pl lv → uwf (uG S kd) false T → (∀ u, S.2.2.2.2 u ≤ 1048576) → uGK S kd lv T pl K → tp Z B L vr S.1 t false a → mm_D l Z yX19_through (ws_ yX19_through cX19_through 6 none) { frames := uh T + L.length + 20, cells := 2 * (K - pl.length), slots := (40 + 10 * K) - (4 * cap + 2 * pl.length), locals := 25 * uh T + 20 * L.length + 700 } [.ref a, .ref gk] M (gP Z B L vr S kd gk pa cap pl lv T) mm_nx) ∧
    (∀ (T : ev) (t : ev) (a : Nat) (M : mm_M) (S : ts) (B : mm_M) (ar cap : Nat) (ads : List Nat) (pl : List (Nat × Nat)), SizeOf.sizeOf T < N → uap S.2.1 t = T → gN Z B M L vr S gk pa ar cap ads pl lv → uwf (uG S kd) true T → (∀ u, S.2.2.2.2 u ≤ 1048576) → uGK S kd lv T pl K → tp Z B L vr S.1 t true a → mm_D l Z yX19_through_2 (ws_ yX19_through_2 cX19_through_2 4 none) { frames := uh T + L.length + 20, cells := 2 * (K - pl.length), slots := (40 + 10 * K) - (4 * cap + 2 * pl.length), locals := 25 * uh T + 20 * L.length + 700 } [.ref a, .ref gk] M (gP Z B L vr S kd gk pa cap pl lv T) mm_nx) := by
  induction N with
  | zero => exact ⟨fun _ _ _ _ _ _ _ _ _ _ h => absurd h (Nat.not_lt_zero _), fun _ _ _ _ _ _ _ _ _ _ h => absurd h (Nat.not_lt_zero _)⟩
  | succ N ih =>
  obtain ⟨ihT, ihR⟩ := ih
  refine ⟨fun T t a M S B ar cap ads pl hz hT hN hw hlev hK htpB => ?_, fun T t a M S B ar cap ads pl hz hT hN hw hlev hK htpB => ?_⟩
  · skip
    refine mm_ofWD (cc := cX19_through) (maxL := 6) (ret := none) (by decide) rfl (Nat.le_of_ble_eq_true rfl) ?_
    intro p e s m below meth c A ls hx hb hr hlk hml hown hmn hts htab hE hST hA hM hS hl
    replace hl : lv_has ls 6 [(0, .ref a), (1, .ref gk)] := hl
    obtain ⟨hlen1, hlen2, hlen3⟩ := hN.len
    have hgl := hN.2.2.2.2.2.2.2.2
    unfold gl_ok at hgl
    have hKl : pl.length ≤ K := by have h9 := hK [] List.nodup_nil (fun p hp => absurd hp List.not_mem_nil); simpa using h9
    have hC := hN.C
    have htp := htpB.light hN.1.uL
    have hgk := hN.2.2.2.2.2.1
    obtain ⟨d1, b1, t1, hd1, hn1, htb, he1, hcs⟩ := hC.nowT htp
    refine lv_aload_n hx hb dX19_through_0 rfl (lv_at hl 0 rfl) ?_
    refine mm_cutR (b := b1) (pc2 := 4) (ls := ls) (rest := []) (M := M) (fun kk9 => ?_) (fun H locs hM hS => ?_) hM hS
    · skip
      have hw9 := c_now l Z hn1
      obtain ⟨sm9, hq9⟩ := hn1.at
      rcases hq9 with ⟨lv9, lk9, hq9⟩ | ⟨f9, t9, b9, r9, hq9⟩ | ⟨i9, w9, b9, r9, hq9⟩ | ⟨rfl, hq9⟩
      · skip
        refine mm_callU (As := []) (rest := []) ⟨hx, hb, hml, hown, hts⟩ hE hST hA (hw9.1 _ _ _ hq9) (va_cwO (x := ⟨"RowenTongue$Type", "now", "()LRowenTongue$Type;"⟩) (C := RX11) (owner := "RowenTongue$Type") 0 hts (lw_app (lw_in _ [1082, 707, 706, 720, 715, 78] (by decide +kernel) (by decide +kernel)) (lw_meth q716)) rfl rfl rfl q721 (by decide +kernel) ⟨(by (try dsimp only); omega), (by (try dsimp only); omega)⟩) hM hS mm_cX11 hq9 rfl hl.1 (Nat.le_of_ble_eq_true rfl) dX19_through_1 rfl ⟨(by (try dsimp only); omega), (by (try dsimp only); omega)⟩ (fun _ _ _ _ _ _ h9 => h9.elim) (fun v_1 M_2 H locs hp_3 hM hS => ?_)
        obtain ⟨rfl, eM_2⟩ := hp_3
        rw [eM_2] at hM
        exact kk9 _ _ hM hS
      · skip
        refine mm_callU (As := []) (rest := []) ⟨hx, hb, hml, hown, hts⟩ hE hST hA (hw9.2.1 _ _ _ _ _ hq9) (va_cwO (x := ⟨"RowenTongue$Type", "now", "()LRowenTongue$Type;"⟩) (C := RX12) (owner := "RowenTongue$Type") 0 hts (lw_app (lw_in _ [1082, 707, 706, 718, 712, 79] (by decide +kernel) (by decide +kernel)) (lw_meth q713)) rfl rfl rfl q721 (by decide +kernel) ⟨(by (try dsimp only); omega), (by (try dsimp only); omega)⟩) hM hS mm_cX12 hq9 rfl hl.1 (Nat.le_of_ble_eq_true rfl) dX19_through_1 rfl ⟨(by (try dsimp only); omega), (by (try dsimp only); omega)⟩ (fun _ _ _ _ _ _ h9 => h9.elim) (fun v_1 M_2 H locs hp_3 hM hS => ?_)
        obtain ⟨rfl, eM_2⟩ := hp_3
        rw [eM_2] at hM
        exact kk9 _ _ hM hS
      · skip
        refine mm_callU (As := []) (rest := []) ⟨hx, hb, hml, hown, hts⟩ hE hST hA (hw9.2.2.1 _ _ _ _ _ hq9) (va_cwO (x := ⟨"RowenTongue$Type", "now", "()LRowenTongue$Type;"⟩) (C := RX8) (owner := "RowenTongue$Type") 0 hts (lw_app (lw_in _ [1082, 707, 706, 708, 709, 74] (by decide +kernel) (by decide +kernel)) (lw_meth q710)) rfl rfl rfl q721 (by decide +kernel) ⟨(by (try dsimp only); omega), (by (try dsimp only); omega)⟩) hM hS mm_cX8 hq9 rfl hl.1 (Nat.le_of_ble_eq_true rfl) dX19_through_1 rfl ⟨(by (try dsimp only); omega), (by (try dsimp only); omega)⟩ (fun _ _ _ _ _ _ h9 => h9.elim) (fun v_1 M_2 H locs hp_3 hM hS => ?_)
        obtain ⟨rfl, eM_2⟩ := hp_3
        rw [eM_2] at hM
        exact kk9 _ _ hM hS
      · skip
        refine mm_callU (As := []) (rest := []) ⟨hx, hb, hml, hown, hts⟩ hE hST hA (hw9.2.2.2 hq9) (va_cwU (x := ⟨"RowenTongue$Type", "now", "()LRowenTongue$Type;"⟩) (C := "RowenTongue$Numbers") (owner := "RowenTongue$Type") 0 hts (lw_app (lw_in _ [1082, 707, 719, 706, 73] (by decide +kernel) (by decide +kernel)) (lw_meth q721)) rfl rfl rfl rfl (by decide +kernel) ⟨(by (try dsimp only); omega), (by (try dsimp only); omega)⟩) hM hS mm_cE1 hq9 rfl hl.1 (Nat.le_of_ble_eq_true rfl) dX19_through_1 rfl ⟨(by (try dsimp only); omega), (by (try dsimp only); omega)⟩ (fun _ _ _ _ _ _ h9 => h9.elim) (fun v_1 M_2 H locs hp_3 hM hS => ?_)
        obtain ⟨rfl, eM_2⟩ := hp_3
        rw [eM_2] at hM
        exact kk9 _ _ hM hS
    refine lv_astore_n hx hb dX19_through_4 rfl hl (by decide) rfl (fun ls hl => ?_)
    replace hl : lv_has ls 6 [(2, .ref b1), (0, .ref a), (1, .ref gk)] := hl
    refine lv_aload_n hx hb dX19_through_5 rfl (lv_at hl 0 rfl) ?_
    rcases hcs with ⟨eT, hb0, hbN⟩ | ⟨u, hu, eT, -, hbu, hbL, hbO⟩ | ⟨x1, y1, f1, g1, bq1, rn1, eT, hbL, hbF, hf1, hg1⟩ | ⟨r1, iv1, w1, bq1, rn1, eT, hbL, hbB, hw1⟩
    · skip
      rw [hT] at eT
      have hoc : ∀ u, uoc u T = false := fun u => by rw [eT]; rfl
      refine va_instNo (C := "RowenTongue$Numbers") hx hb hown (hts _ q1083) (hE.2.2.2.1 _ _ (by decide +kernel)) (mm_recv hE hM mm_cE1 hbN) dX19_through_6 ?_
      refine lv_if_eq (tgt := 27) hx hb dX19_through_9 (by decide) (fun _ => ?_) (fun h9 => absurd (by decide) h9)
      refine lv_aload_n hx hb dX19_through_27 rfl (lv_at hl 0 rfl) ?_
      refine va_instNo (C := "RowenTongue$Numbers") hx hb hown (hts _ q1127) (hE.2.2.2.1 _ _ (by decide +kernel)) (mm_recv hE hM mm_cE1 hbN) dX19_through_28 ?_
      refine lv_if_eq (tgt := 69) hx hb dX19_through_31 (by decide) (fun _ => ?_) (fun h9 => absurd (by decide) h9)
      refine lv_aload_n hx hb dX19_through_69 rfl (lv_at hl 0 rfl) ?_
      refine va_instNo (C := "RowenTongue$Numbers") hx hb hown (hts _ q1145) (hE.2.2.2.1 _ _ (by decide +kernel)) (mm_recv hE hM mm_cE1 hbN) dX19_through_70 ?_
      refine lv_if_eq (tgt := 91) hx hb dX19_through_73 (by decide) (fun _ => ?_) (fun h9 => absurd (by decide) h9)
      exact mm_retvD hx hb hr hlk hM hS ⟨rfl, B, ar, cap, ads, pl, uL.rf _, by rw [ts_gen_none hoc]; exact hN, uGR.stay (fun p hp => by have h8 := hp.1; rw [hoc p.1] at h8; cases h8), by omega, by omega⟩ dX19_through_91 (by (try dsimp only); omega) (by (try dsimp only); omega)
    · skip
      rw [hT] at eT
      subst hbu
      subst eT
      refine va_instS hx hb hown (hts _ q1083) (hE.1.1 9 _ mm_cX11).2 (mm_recv hE hM mm_cX11 hbO) dX19_through_6 ?_
      refine lv_if_eq (tgt := 27) hx hb dX19_through_9 (by decide) (fun h9 => absurd h9 (by decide)) (fun _ => ?_)
      refine lv_aload_n hx hb dX19_through_12 rfl (lv_at hl 0 rfl) ?_
      refine va_castS hx hb hown (hts _ q1083) (hE.1.1 9 _ mm_cX11).2 (mm_recv hE hM mm_cX11 hbO) dX19_through_13 ?_
      refine lv_astore_n hx hb dX19_through_16 rfl hl (by decide) rfl (fun ls hl => ?_)
      replace hl : lv_has ls 6 [(3, .ref (vr u)), (2, .ref (vr u)), (0, .ref a), (1, .ref gk)] := hl
      refine lv_aload_n hx hb dX19_through_17 rfl (lv_at hl 3 rfl) ?_
      refine lv_aload_n hx hb dX19_through_18 rfl (lv_at hl 0 rfl) ?_
      refine mm_callFD (As := [.ref (vr u)]) (rest := []) ⟨hx, hb, hml, hown, hts⟩ hE hST hA (d_X23_at l Z hgk hbO) (va_cwF (C := RX23) (x := ⟨"RowenTongue$Walk", "at", "(LRowenTongue$Open;)V"⟩) 1 hts (lw_app (lw_in _ [1085, 1089, 1091, 91] (by decide +kernel) (by decide +kernel)) (lw_meth q1093)) rfl rfl rfl (hE.2.2.1 _ (List.mem_of_getElem? (i := 2) rfl)) (by decide +kernel) ⟨(by (try dsimp only); omega), (by (try dsimp only); omega)⟩) hM hS mm_cX23 hgk rfl hl.1 (Nat.le_of_ble_eq_true rfl) dX19_through_19 rfl ⟨(by (try dsimp only); omega), (by (try dsimp only); omega)⟩ (fun _ _ _ _ _ _ h9 => h9.elim) (fun v_1 M_2 n_4 k_5 H locs hp_3 hM hS => ?_)
      obtain ⟨rfl, rfl, rfl, eM9⟩ := hp_3
      have hkd : kd u = false := by simp only [uwf] at hw; exact hw.2
      have hBu : B (vr u) = some (co_E none (S.2.2.2.2 u) (S.2.2.1 u)) := by
        have h9 : B (vr u) ≠ none := by rcases (hN.2.1.2.1 u hu).2 with ⟨bd, h8, -⟩ | ⟨bd, h8, -⟩ <;> (rw [h8]; exact fun h7 => by cases h7)
        rw [← hN.1 _ h9]; exact hbO
      have hCB : uCI Z (mm_U B (vr u) (co_E none (if lv < S.2.2.2.2 u then 1048576 else S.2.2.2.2 u) (S.2.2.1 u))) L vr (ts_gen S lv (.var u)) := hN.2.1.setO hu hBu rfl rfl rfl (fun w hw => ⟨by unfold ts_gen; simp [uoc, Ne.symm hw], rfl⟩) (by unfold ts_gen; simp [uoc]) rfl
      refine lv_goto (tgt := 91) hx hb dX19_through_24 (by decide) ?_
      exact mm_retvD hx hb hr hlk hM hS ⟨rfl, _, ar, cap, ads, pl, uL.O hBu, by rw [eM9]; exact hN.put hBu (by decide) hCB, uGR.stay (fun p hp => by have h8 := hp.1; have h7 := hp.2.1; simp only [uoc, beq_iff_eq] at h8; rw [← h8, hkd] at h7; cases h7), by omega, by omega⟩ dX19_through_91 (by (try dsimp only); omega) (by (try dsimp only); omega)
    · skip
      rw [hT] at eT
      have hsz : SizeOf.sizeOf T = 1 + SizeOf.sizeOf (uap S.2.1 x1) + SizeOf.sizeOf (uap S.2.1 y1) := by rw [eT]; rfl
      have huh : uh T = max (uh (uap S.2.1 x1)) (uh (uap S.2.1 y1)) + 1 := by rw [eT]; rfl
      have hor : ∀ u, uoc u T = (uoc u (uap S.2.1 x1) || uoc u (uap S.2.1 y1)) := fun u => by rw [eT]; rfl
      have hww : uwf (uG S kd) false (uap S.2.1 x1) ∧ uwf (uG S kd) false (uap S.2.1 y1) := by rw [eT] at hw; simpa only [uwf] using hw
      obtain ⟨hfB, hgB, hbB⟩ : tp Z B L vr S.1 x1 false f1 ∧ tp Z B L vr S.1 y1 false g1 ∧ B b1 = some (cf_E (some f1) (some g1) none bq1 rn1) := by
        have h1 := hN.2.1.2.2.1 b1 hbL
        obtain ⟨m9, t9, h1⟩ := h1
        obtain ⟨e9, h9⟩ := h1.some
        have h8 : B b1 = some (cf_E (some f1) (some g1) none bq1 rn1) := by rw [← hN.1 b1 (by rw [h9]; exact fun h7 => by cases h7)]; exact hbF
        obtain ⟨x9, y9, rfl, rfl, k1, k2⟩ := tp.isF h8 h1
        have k3 := (tp.uniq hC.1.2.2.1 _ _ _ _ _ (k1.light hN.1.uL) hf1).1
        have k4 := (tp.uniq hC.1.2.2.1 _ _ _ _ _ (k2.light hN.1.uL) hg1).1
        subst k3; subst k4
        exact ⟨k1, k2, h8⟩
      refine va_instNo (C := RX12) hx hb hown (hts _ q1083) (hE.2.2.2.1 _ _ (by decide +kernel)) (mm_recv hE hM mm_cX12 hbF) dX19_through_6 ?_
      refine lv_if_eq (tgt := 27) hx hb dX19_through_9 (by decide) (fun _ => ?_) (fun h9 => absurd (by decide) h9)
      refine lv_aload_n hx hb dX19_through_27 rfl (lv_at hl 0 rfl) ?_
      refine va_instS hx hb hown (hts _ q1127) (hE.1.1 10 _ mm_cX12).2 (mm_recv hE hM mm_cX12 hbF) dX19_through_28 ?_
      refine lv_if_eq (tgt := 69) hx hb dX19_through_31 (by decide) (fun h9 => absurd h9 (by decide)) (fun _ => ?_)
      refine lv_aload_n hx hb dX19_through_34 rfl (lv_at hl 0 rfl) ?_
      refine va_castS hx hb hown (hts _ q1127) (hE.1.1 10 _ mm_cX12).2 (mm_recv hE hM mm_cX12 hbF) dX19_through_35 ?_
      refine lv_astore hx hb dX19_through_38 hl (by decide) rfl (fun ls hl => ?_)
      replace hl : lv_has ls 6 [(4, .ref b1), (2, .ref b1), (0, .ref a), (1, .ref gk)] := hl
      refine lv_aload_n hx hb dX19_through_40 rfl (lv_at hl 3 rfl) ?_
      refine lv_aload hx hb dX19_through_41 (lv_at hl 0 rfl) ?_
      refine mm_callFL (As := [.ref b1]) (rest := []) ⟨hx, hb, hml, hown, hts⟩ hE hST hA (c_X19_at l Z (h0 := gk) (x1 := some b1)) (hts _ q1129) hST.2.2.2.2.2.2 (va_Nw.use rfl (hE.2.1 _ q1088 rfl)) ⟨(by (try dsimp only); omega), (by (try dsimp only); omega)⟩ hM hS mm_cX23 hgk rfl hl.1 (Nat.le_of_ble_eq_true rfl) dX19_through_43 rfl ⟨(by (try dsimp only); omega), (by (try dsimp only); omega)⟩ (fun _ _ _ _ _ _ h9 => h9.elim) (fun v_1 M_2 H locs hp_3 hM hS => ?_)
      obtain ⟨rfl, eM_2⟩ := hp_3
      rw [eM_2] at hM
      refine lv_aload hx hb dX19_through_48 (lv_at hl 0 rfl) ?_
      refine va_getN (D := Z.1) (ci := 10) (v := .ref f1) (C := RX12) (T := TX12) (N := 5) hx hb hts in_X12 hown hE.1 (hM.at hbF) 0 rfl mm_cX12 0 (by decide) (va_Nw.use rfl (hE.2.1 _ q840 rfl)) (fun _ h9 => h9) rfl dX19_through_50 ?_
      refine lv_aload_n hx hb dX19_through_53 rfl (lv_at hl 3 rfl) ?_
      refine mm_callSD (As := [.ref f1, .ref gk]) (rest := []) ⟨hx, hb, hml, hown, hts⟩ hE hST hA (ihT _ x1 f1 _ S B ar cap ads pl (by omega) rfl hN hww.1 hlev (hK.sub (fun u h => by rw [hor u, h]; rfl)) hfB) (va_cwS 2 hts (lw_S q1144 q1080 q87 q1081) rfl rfl rfl (by decide +kernel) ⟨(by (try dsimp only); omega), (by (try dsimp only); omega)⟩) hM hS rfl hl.1 (Nat.le_of_ble_eq_true rfl) dX19_through_54 rfl ⟨(by (try dsimp only); omega), (by (try dsimp only); omega)⟩ (fun _ _ _ _ _ _ h9 => h9.elim) (fun v_4 M_5 n_7 k_8 H locs hp_6 hM hS => ?_)
      obtain ⟨rfl, B1, ar1, cap1, ads1, pl1, hLb1, hN1, hR1, hn1, hk1⟩ := hp_6
      obtain ⟨hlen11, hlen21, hlen31⟩ := hN1.len
      have hgl1 := hN1.2.2.2.2.2.2.2.2
      unfold gl_ok at hgl1
      have hb1 := hN1.1.at ((hLb1.atC hbB (by decide)))
      have hg1' := hgB.light hLb1
      have hKn := hK.next hlv hR1 hor
      have hl1 := hR1.len (hK.sub (fun u h => by rw [hor u, h]; rfl))
      refine lv_aload hx hb dX19_through_57 (lv_at hl 0 rfl) ?_
      refine va_getN (D := Z.1) (ci := 10) (v := .ref g1) (C := RX12) (T := TX12) (N := 5) hx hb hts in_X12 hown hE.1 (hM.at hb1) 0 rfl mm_cX12 1 (by decide) (va_Nw.use rfl (hE.2.1 _ q844 rfl)) (fun _ h9 => h9) rfl dX19_through_59 ?_
      refine lv_aload_n hx hb dX19_through_62 rfl (lv_at hl 3 rfl) ?_
      refine mm_callSD (As := [.ref g1, .ref gk]) (rest := []) ⟨hx, hb, hml, hown, hts⟩ hE hST hA (ihT (uap S.2.1 y1) y1 g1 _ (ts_gen S lv (uap S.2.1 x1)) B1 ar1 cap1 ads1 pl1 (by omega) rfl hN1 hww.2 (ts_gen_lv hlev) hKn hg1') (va_cwS 2 hts (lw_S q1144 q1080 q87 q1081) rfl rfl rfl (by decide +kernel) ⟨(by (try dsimp only); omega), (by (try dsimp only); omega)⟩) hM hS rfl hl.1 (Nat.le_of_ble_eq_true rfl) dX19_through_63 rfl ⟨(by (try dsimp only); omega), (by (try dsimp only); omega)⟩ (fun _ _ _ _ _ _ h9 => h9.elim) (fun v_9 M_10 n_12 k_13 H locs hp_11 hM hS => ?_)
      obtain ⟨rfl, B2, ar2, cap2, ads2, pl2, hLb2, hN2, hR2, hn2, hk2⟩ := hp_11
      obtain ⟨hlen12, hlen22, hlen32⟩ := hN2.len
      have hgl2 := hN2.2.2.2.2.2.2.2.2
      unfold gl_ok at hgl2
      have hl2 := hR2.len hKn
      have hR := hR1.comp hlv hR2 hor
      rw [ts_gen_or hlv hor] at hN2
      refine lv_goto (tgt := 91) hx hb dX19_through_66 (by decide) ?_
      exact mm_retvD hx hb hr hlk hM hS ⟨rfl, B2, ar2, cap2, ads2, pl2, hLb1.trans hLb2, hN2, ⟨rfl, hR.2⟩, by (try dsimp only); omega, by (try dsimp only); omega⟩ dX19_through_91 (by (try dsimp only); omega) (by (try dsimp only); omega)
    · skip
      rw [hT] at eT
      have hsz : SizeOf.sizeOf T = 1 + SizeOf.sizeOf (uap S.2.1 r1) + SizeOf.sizeOf iv1.toNat := by rw [eT]; rfl
      have huh : uh T = uh (uap S.2.1 r1) + 1 := by rw [eT]; rfl
      have hor : ∀ u, uoc u (uap S.2.1 r1) = uoc u T := fun u => by rw [eT]; rfl
      have hww : uwf (uG S kd) true (uap S.2.1 r1) := by rw [eT] at hw; simpa only [uwf] using hw
      have hwB : tp Z B L vr S.1 r1 true w1 := by
        have h1 := hN.2.1.2.2.1 b1 hbL
        obtain ⟨m9, t9, h1⟩ := h1
        obtain ⟨e9, h9⟩ := h1.some
        have h8 : B b1 = some (cb_E iv1 (some w1) none bq1 rn1) := by rw [← hN.1 b1 (by rw [h9]; exact fun h7 => by cases h7)]; exact hbB
        obtain ⟨x9, rfl, rfl, k1⟩ := tp.isB h8 h1
        have k3 := (tp.uniq hC.1.2.2.1 _ _ _ _ _ (k1.light hN.1.uL) hw1).1
        subst k3
        exact k1
      refine va_instNo (C := RX8) hx hb hown (hts _ q1083) (hE.2.2.2.1 _ _ (by decide +kernel)) (mm_recv hE hM mm_cX8 hbB) dX19_through_6 ?_
      refine lv_if_eq (tgt := 27) hx hb dX19_through_9 (by decide) (fun _ => ?_) (fun h9 => absurd (by decide) h9)
      refine lv_aload_n hx hb dX19_through_27 rfl (lv_at hl 0 rfl) ?_
      refine va_instNo (C := RX8) hx hb hown (hts _ q1127) (hE.2.2.2.1 _ _ (by decide +kernel)) (mm_recv hE hM mm_cX8 hbB) dX19_through_28 ?_
      refine lv_if_eq (tgt := 69) hx hb dX19_through_31 (by decide) (fun _ => ?_) (fun h9 => absurd (by decide) h9)
      refine lv_aload_n hx hb dX19_through_69 rfl (lv_at hl 0 rfl) ?_
      refine va_instS hx hb hown (hts _ q1145) (hE.1.1 6 _ mm_cX8).2 (mm_recv hE hM mm_cX8 hbB) dX19_through_70 ?_
      refine lv_if_eq (tgt := 91) hx hb dX19_through_73 (by decide) (fun h9 => absurd h9 (by decide)) (fun _ => ?_)
      refine lv_aload_n hx hb dX19_through_76 rfl (lv_at hl 0 rfl) ?_
      refine va_castS hx hb hown (hts _ q1145) (hE.1.1 6 _ mm_cX8).2 (mm_recv hE hM mm_cX8 hbB) dX19_through_77 ?_
      refine lv_astore hx hb dX19_through_80 hl (by decide) rfl (fun ls hl => ?_)
      replace hl : lv_has ls 6 [(5, .ref b1), (2, .ref b1), (0, .ref a), (1, .ref gk)] := hl
      refine lv_aload hx hb dX19_through_82 (lv_at hl 0 rfl) ?_
      refine va_getN (D := Z.1) (ci := 6) (v := .ref w1) (C := RX8) (T := TX8) (N := 5) hx hb hts in_X8 hown hE.1 (hM.at hbB) 0 rfl mm_cX8 1 (by decide) (va_Nw.use rfl (hE.2.1 _ q625 rfl)) (fun _ h9 => h9) rfl dX19_through_84 ?_
      refine lv_aload_n hx hb dX19_through_87 rfl (lv_at hl 3 rfl) ?_
      refine mm_callSD (As := [.ref w1, .ref gk]) (rest := []) ⟨hx, hb, hml, hown, hts⟩ hE hST hA (ihR _ r1 w1 _ S B ar cap ads pl (by omega) rfl hN hww hlev (hK.sub (fun u h => by rw [← hor u]; exact h)) hwB) (va_cwS 2 hts (lw_S q1146 q1147 q87 q1148) rfl rfl rfl (by decide +kernel) ⟨(by (try dsimp only); omega), (by (try dsimp only); omega)⟩) hM hS rfl hl.1 (Nat.le_of_ble_eq_true rfl) dX19_through_88 rfl ⟨(by (try dsimp only); omega), (by (try dsimp only); omega)⟩ (fun _ _ _ _ _ _ h9 => h9.elim) (fun v_1 M_2 n_4 k_5 H locs hp_3 hM hS => ?_)
      obtain ⟨rfl, B1, ar1, cap1, ads1, pl1, hLb1, hN1, hR1, hn1, hk1⟩ := hp_3
      obtain ⟨hlen11, hlen21, hlen31⟩ := hN1.len
      have hgl1 := hN1.2.2.2.2.2.2.2.2
      unfold gl_ok at hgl1
      have hl1 := hR1.len (hK.sub (fun u h => by rw [← hor u]; exact h))
      have hR := hR1.cg hor
      rw [ts_gen_cg hor] at hN1
      exact mm_retvD hx hb hr hlk hM hS ⟨rfl, B1, ar1, cap1, ads1, pl1, hLb1, hN1, ⟨rfl, hR.2⟩, by (try dsimp only); omega, by (try dsimp only); omega⟩ dX19_through_91 (by (try dsimp only); omega) (by (try dsimp only); omega)
  · skip
    refine mm_ofWD (cc := cX19_through_2) (maxL := 4) (ret := none) (by decide) rfl (Nat.le_of_ble_eq_true rfl) ?_
    intro p e s m below meth c A ls hx hb hr hlk hml hown hmn hts htab hE hST hA hM hS hl
    replace hl : lv_has ls 4 [(0, .ref a), (1, .ref gk)] := hl
    obtain ⟨hlen1, hlen2, hlen3⟩ := hN.len
    have hgl := hN.2.2.2.2.2.2.2.2
    unfold gl_ok at hgl
    have hKl : pl.length ≤ K := by have h9 := hK [] List.nodup_nil (fun p hp => absurd hp List.not_mem_nil); simpa using h9
    have hC := hN.C
    have htp := htpB.light hN.1.uL
    have hgk := hN.2.2.2.2.2.1
    obtain ⟨d1, b1, hd1, hn1, hcs0⟩ := hN.2.1.nowR' htpB
    have hn1' := hn1.ext hN.1
    rw [hT] at hcs0
    refine lv_aload_n hx hb dX19_through_2_0 rfl (lv_at hl 0 rfl) ?_
    refine mm_cutR (b := b1) (pc2 := 4) (ls := ls) (rest := []) (M := M) (fun kk9 => ?_) (fun H locs hM hS => ?_) hM hS
    · skip
      have hw9 := c_nowR l Z hn1'
      obtain ⟨sm9, hq9⟩ := hn1'.at
      rcases hq9 with ⟨lv9, lk9, lc9, hq9⟩ | ⟨rfl, lb9, ty9, rs9, hq9⟩ | ⟨rfl, hq9⟩
      · skip
        refine mm_callU (As := []) (rest := []) ⟨hx, hb, hml, hown, hts⟩ hE hST hA (hw9.1 _ _ _ _ hq9) (va_cwO (x := ⟨"RowenTongue$Row", "now", "()LRowenTongue$Row;"⟩) (C := RX15) (owner := "RowenTongue$Row") 0 hts (lw_app (lw_in _ [1149, 873, 872, 876, 877, 82] (by decide +kernel) (by decide +kernel)) (lw_meth q878)) rfl rfl rfl q880 (by decide +kernel) ⟨(by (try dsimp only); omega), (by (try dsimp only); omega)⟩) hM hS mm_cX15 hq9 rfl hl.1 (Nat.le_of_ble_eq_true rfl) dX19_through_2_1 rfl ⟨(by (try dsimp only); omega), (by (try dsimp only); omega)⟩ (fun _ _ _ _ _ _ h9 => h9.elim) (fun v_1 M_2 H locs hp_3 hM hS => ?_)
        obtain ⟨rfl, eM_2⟩ := hp_3
        rw [eM_2] at hM
        exact kk9 _ _ hM hS
      · skip
        refine mm_callU (As := []) (rest := []) ⟨hx, hb, hml, hown, hts⟩ hE hST hA (hw9.2 (Or.inl ⟨_, _, _, hq9⟩)) (va_cwU (x := ⟨"RowenTongue$Row", "now", "()LRowenTongue$Row;"⟩) (C := RX14) (owner := "RowenTongue$Row") 0 hts (lw_app (lw_in _ [1149, 873, 874, 872, 80] (by decide +kernel) (by decide +kernel)) (lw_meth q880)) rfl rfl rfl rfl (by decide +kernel) ⟨(by (try dsimp only); omega), (by (try dsimp only); omega)⟩) hM hS mm_cX14 hq9 rfl hl.1 (Nat.le_of_ble_eq_true rfl) dX19_through_2_1 rfl ⟨(by (try dsimp only); omega), (by (try dsimp only); omega)⟩ (fun _ _ _ _ _ _ h9 => h9.elim) (fun v_1 M_2 H locs hp_3 hM hS => ?_)
        obtain ⟨rfl, eM_2⟩ := hp_3
        rw [eM_2] at hM
        exact kk9 _ _ hM hS
      · skip
        refine mm_callU (As := []) (rest := []) ⟨hx, hb, hml, hown, hts⟩ hE hST hA (hw9.2 (Or.inr hq9)) (va_cwU (x := ⟨"RowenTongue$Row", "now", "()LRowenTongue$Row;"⟩) (C := "RowenTongue$Nothing") (owner := "RowenTongue$Row") 0 hts (lw_app (lw_in _ [1149, 873, 875, 872, 80] (by decide +kernel) (by decide +kernel)) (lw_meth q880)) rfl rfl rfl rfl (by decide +kernel) ⟨(by (try dsimp only); omega), (by (try dsimp only); omega)⟩) hM hS mm_cE2 hq9 rfl hl.1 (Nat.le_of_ble_eq_true rfl) dX19_through_2_1 rfl ⟨(by (try dsimp only); omega), (by (try dsimp only); omega)⟩ (fun _ _ _ _ _ _ h9 => h9.elim) (fun v_1 M_2 H locs hp_3 hM hS => ?_)
        obtain ⟨rfl, eM_2⟩ := hp_3
        rw [eM_2] at hM
        exact kk9 _ _ hM hS
    refine lv_astore_n hx hb dX19_through_2_4 rfl hl (by decide) rfl (fun ls hl => ?_)
    replace hl : lv_has ls 4 [(2, .ref b1), (0, .ref a), (1, .ref gk)] := hl
    refine mm_loopW (fun k M' ls cells slots => ∃ (T2 : ev) (b : Nat) (S2 : ts) (B2 : mm_M) (ar2 cap2 : Nat) (ads2 : List Nat) (pl2 : List (Nat × Nat)), k = SizeOf.sizeOf T2 ∧ SizeOf.sizeOf T2 ≤ SizeOf.sizeOf T ∧ uh T2 ≤ uh T ∧ lv_has ls 4 [(2, .ref b), (0, .ref a), (1, .ref gk)] ∧ (S2.1 = S.1 ∧ S2.2.1 = S.2.1 ∧ S2.2.2.2.1 = S.2.2.2.1) ∧ uL B B2 ∧ gN Z B2 M' L vr S2 gk pa ar2 cap2 ads2 pl2 lv ∧ uRow Z B2 L vr S2 T2 b ∧ uwf (uG S kd) true T2 ∧ (∀ u, S2.2.2.2.2 u ≤ 1048576) ∧ uGK S2 kd lv T2 pl2 K ∧ ts_gen S2 lv T2 = ts_gen S lv T ∧ (∀ pl9, uGR S2 kd lv T2 pl2 (ts_gen S2 lv T2) pl9 → uGR S kd lv T pl (ts_gen S lv T) pl9) ∧ pl.length ≤ pl2.length ∧ cells ≤ 2 * (pl2.length - pl.length) ∧ slots + 4 * cap + 2 * pl.length ≤ 4 * cap2 + 2 * pl2.length) (fun k M3 ls H locs cells slots ih hI hM hS => ?_) ⟨T, b1, S, B, ar, cap, ads, pl, rfl, Nat.le_refl _, Nat.le_refl _, lv_sub hl [0, 1, 2] rfl, ⟨rfl, rfl, rfl⟩, uL.rf _, hN, hcs0, hw, hlev, hK, rfl, (fun _ h => h), Nat.le_refl _, by omega, by omega⟩ hM hS
    obtain ⟨T2, b, S2, B2, ar2, cap2, ads2, pl2, rfl, hz2, hh2, hl, ⟨hS1, hS2, hS3⟩, hLb, hN2, hrow, hw2, hlev2, hK2', hgen, hGo, hlp, hc9, hs9⟩ := hI
    have hC2 := hN2.C
    obtain ⟨hlen4, hlen5, hlen6⟩ := hN2.len
    have hgl2 := hN2.2.2.2.2.2.2.2.2
    unfold gl_ok at hgl2
    have hKl2 : pl2.length ≤ K := by have h9 := hK2' [] List.nodup_nil (fun p hp => absurd hp List.not_mem_nil); simpa using h9
    have hgk3 := hN2.2.2.2.2.2.1
    refine lv_aload_n hx hb dX19_through_2_5 rfl (lv_at hl 0 rfl) ?_
    rcases hrow with ⟨eT, hb0, hbZ⟩ | ⟨u, hu, eT, -, hbu, hbL, hbR⟩ | ⟨x1, k1, r1, ty1, rs1, eT, hk1, hbC, hx1, hr1⟩
    · skip
      refine va_instNo (C := "RowenTongue$Nothing") hx hb hown (hts _ q1150) (hE.2.2.2.1 _ _ (by decide +kernel)) (mm_recv hE hM mm_cE2 (hN2.1.at hbZ)) dX19_through_2_6 ?_
      refine lv_if_eq (tgt := 36) hx hb dX19_through_2_9 (by decide) (fun _ => ?_) (fun h9 => absurd (by decide) h9)
      refine lv_aload_n hx hb dX19_through_2_36 rfl (lv_at hl 0 rfl) ?_
      refine va_instNo (C := "RowenTongue$Nothing") hx hb hown (hts _ q1151) (hE.2.2.2.1 _ _ (by decide +kernel)) (mm_recv hE hM mm_cE2 (hN2.1.at hbZ)) dX19_through_2_37 ?_
      refine lv_if_eq (tgt := 55) hx hb dX19_through_2_40 (by decide) (fun _ => ?_) (fun h9 => absurd (by decide) h9)
      exact mm_retvD hx hb hr hlk hM hS ⟨rfl, B2, ar2, cap2, ads2, pl2, hLb, by rw [← hgen, eT, ts_gen_none (fun _ => rfl)]; exact hN2, hGo pl2 (uGR.stay (fun p hp => by rw [eT] at hp; exact absurd hp.1 (by simp [uoc]))), hc9, hs9⟩ dX19_through_2_55 (by (try dsimp only); omega) (by (try dsimp only); omega)
    · skip
      subst hbu
      subst eT
      refine va_instNo (C := RX15) hx hb hown (hts _ q1150) (hE.2.2.2.1 _ _ (by decide +kernel)) (mm_recv hE hM mm_cX15 (hN2.1.at hbR)) dX19_through_2_6 ?_
      refine lv_if_eq (tgt := 36) hx hb dX19_through_2_9 (by decide) (fun _ => ?_) (fun h9 => absurd (by decide) h9)
      refine lv_aload_n hx hb dX19_through_2_36 rfl (lv_at hl 0 rfl) ?_
      refine va_instS hx hb hown (hts _ q1151) (hE.1.1 12 _ mm_cX15).2 (mm_recv hE hM mm_cX15 (hN2.1.at hbR)) dX19_through_2_37 ?_
      refine lv_if_eq (tgt := 55) hx hb dX19_through_2_40 (by decide) (fun h9 => absurd h9 (by decide)) (fun _ => ?_)
      refine lv_aload_n hx hb dX19_through_2_43 rfl (lv_at hl 0 rfl) ?_
      refine va_castS hx hb hown (hts _ q1151) (hE.1.1 12 _ mm_cX15).2 (mm_recv hE hM mm_cX15 (hN2.1.at hbR)) dX19_through_2_44 ?_
      refine lv_astore_n hx hb dX19_through_2_47 rfl hl (by decide) rfl (fun ls hl => ?_)
      replace hl : lv_has ls 4 [(3, .ref (vr u)), (2, .ref (vr u)), (0, .ref a), (1, .ref gk)] := hl
      refine lv_aload_n hx hb dX19_through_2_48 rfl (lv_at hl 3 rfl) ?_
      refine lv_aload_n hx hb dX19_through_2_49 rfl (lv_at hl 0 rfl) ?_
      have hkd : kd u = true := by simp only [uwf] at hw2; exact hw2.2
      refine mm_callFD (As := [.ref (vr u)]) (rest := []) ⟨hx, hb, hml, hown, hts⟩ hE hST hA (d_X23_at_2 l Z hN2 hu (hN2.1.at hbR) hkd (hlev2 u) hlv hK2' hK2) (va_cwF (C := RX23) (x := ⟨"RowenTongue$Walk", "at", "(LRowenTongue$OpenRow;)V"⟩) 1 hts (lw_app (lw_in _ [1153, 1156, 1158, 91] (by decide +kernel) (by decide +kernel)) (lw_meth q1160)) rfl rfl rfl (hE.2.2.1 _ (List.mem_of_getElem? (i := 3) rfl)) (by decide +kernel) ⟨(by (try dsimp only); omega), (by (try dsimp only); omega)⟩) hM hS mm_cX23 hgk3 rfl hl.1 (Nat.le_of_ble_eq_true rfl) dX19_through_2_50 rfl ⟨(by (try dsimp only); omega), (by (try dsimp only); omega)⟩ (fun _ _ _ _ _ _ h9 => h9.elim) (fun v_1 M_2 n_4 k_5 H locs hp_3 hM hS => ?_)
      obtain ⟨rfl, B3, ar3, cap3, ads3, pl3, hLb3, hN3, hR3, hn3, hk3⟩ := hp_3
      obtain ⟨hlen13, hlen23, hlen33⟩ := hN3.len
      have hgl3 := hN3.2.2.2.2.2.2.2.2
      unfold gl_ok at hgl3
      have hl3 := hR3.len hK2'
      exact mm_retvD hx hb hr hlk hM hS ⟨rfl, B3, ar3, cap3, ads3, pl3, hLb.trans hLb3, by rw [← hgen]; exact hN3, hGo pl3 hR3, by (try dsimp only); omega, by (try dsimp only); omega⟩ dX19_through_2_55 (by (try dsimp only); omega) (by (try dsimp only); omega)
    · skip
      have hsz : SizeOf.sizeOf T2 = 1 + (1 + SizeOf.sizeOf (uap S2.2.1 x1) + SizeOf.sizeOf k1) + SizeOf.sizeOf (uap S2.2.1 r1) := by rw [eT, uins_size]
      have huh : uh T2 = max (uh (uap S2.2.1 x1) + 1) (uh (uap S2.2.1 r1)) := by rw [eT, uins_h]
      have hor : ∀ u, uoc u T2 = (uoc u (uap S2.2.1 x1) || uoc u (uap S2.2.1 r1)) := fun u => by rw [eT]; exact uins_oc _
      have hww := uwf_ins_inv _ (by rw [eT] at hw2; exact hw2)
      have hgeq : uG S2 kd = uG S kd := by show (S2.1, kd, S2.2.2.2.1) = (S.1, kd, S.2.2.2.1); rw [hS1, hS3]
      refine va_instS hx hb hown (hts _ q1150) (hE.1.1 11 _ mm_cX14).2 (mm_recv hE hM mm_cX14 (hN2.1.at hbC)) dX19_through_2_6 ?_
      refine lv_if_eq (tgt := 36) hx hb dX19_through_2_9 (by decide) (fun h9 => absurd h9 (by decide)) (fun _ => ?_)
      refine lv_aload_n hx hb dX19_through_2_12 rfl (lv_at hl 0 rfl) ?_
      refine va_castS hx hb hown (hts _ q1150) (hE.1.1 11 _ mm_cX14).2 (mm_recv hE hM mm_cX14 (hN2.1.at hbC)) dX19_through_2_13 ?_
      refine lv_astore_n hx hb dX19_through_2_16 rfl hl (by decide) rfl (fun ls hl => ?_)
      replace hl : lv_has ls 4 [(3, .ref b), (2, .ref b), (0, .ref a), (1, .ref gk)] := hl
      refine lv_aload_n hx hb dX19_through_2_17 rfl (lv_at hl 0 rfl) ?_
      refine va_getN (D := Z.1) (ci := 11) (v := .ref ty1) (C := RX14) (T := TX14) (N := 3) hx hb hts in_X14 hown hE.1 (hM.at (hN2.1.at hbC)) 0 rfl mm_cX14 1 (by decide) (va_Nw.use rfl (hE.2.1 _ q896 rfl)) (fun _ h9 => h9) rfl dX19_through_2_18 ?_
      refine lv_aload_n hx hb dX19_through_2_21 rfl (lv_at hl 3 rfl) ?_
      refine mm_callSD (As := [.ref ty1, .ref gk]) (rest := []) ⟨hx, hb, hml, hown, hts⟩ hE hST hA (ihT _ x1 ty1 _ S2 B2 ar2 cap2 ads2 pl2 (by omega) rfl hN2 (by rw [hgeq]; exact hww.1) hlev2 (hK2'.sub (fun u h => by rw [hor u, h]; rfl)) hx1) (va_cwS 2 hts (lw_S q1144 q1080 q87 q1081) rfl rfl rfl (by decide +kernel) ⟨(by (try dsimp only); omega), (by (try dsimp only); omega)⟩) hM hS rfl hl.1 (Nat.le_of_ble_eq_true rfl) dX19_through_2_22 rfl ⟨(by (try dsimp only); omega), (by (try dsimp only); omega)⟩ (fun _ _ _ _ _ _ h9 => h9.elim) (fun v_1 M_2 n_4 k_5 H locs hp_3 hM hS => ?_)
      obtain ⟨rfl, B3, ar3, cap3, ads3, pl3, hLb3, hN3, hR3, hn3, hk3⟩ := hp_3
      obtain ⟨hlen13, hlen23, hlen33⟩ := hN3.len
      have hgl3 := hN3.2.2.2.2.2.2.2.2
      unfold gl_ok at hgl3
      have hl3 := hR3.len (hK2'.sub (fun u h => by rw [hor u, h]; rfl))
      have hKn := hK2'.next hlv hR3 hor
      have hbC3 := hN3.1.at (hLb3.atC hbC (by decide))
      refine lv_aload_n hx hb dX19_through_2_25 rfl (lv_at hl 0 rfl) ?_
      refine va_getN (D := Z.1) (ci := 11) (v := .ref rs1) (C := RX14) (T := TX14) (N := 3) hx hb hts in_X14 hown hE.1 (hM.at hbC3) 0 rfl mm_cX14 2 (by decide) (va_Nw.use rfl (hE.2.1 _ q900 rfl)) (fun _ h9 => h9) rfl dX19_through_2_26 ?_
      have hr3 := hr1.light hLb3
      obtain ⟨d2, b2, hd2, hn2, hcs2⟩ := hN3.2.1.nowR' hr3
      have hn2' := hn2.ext hN3.1
      refine mm_cutR (b := b2) (pc2 := 32) (ls := ls) (rest := []) (M := M_2) (fun kk9 => ?_) (fun H locs hM hS => ?_) hM hS
      · skip
        have hw9 := c_nowR l Z hn2'
        obtain ⟨sm9, hq9⟩ := hn2'.at
        rcases hq9 with ⟨lv9, lk9, lc9, hq9⟩ | ⟨rfl, lb9, ty9, rs9, hq9⟩ | ⟨rfl, hq9⟩
        · skip
          refine mm_callU (As := []) (rest := []) ⟨hx, hb, hml, hown, hts⟩ hE hST hA (hw9.1 _ _ _ _ hq9) (va_cwO (x := ⟨"RowenTongue$Row", "now", "()LRowenTongue$Row;"⟩) (C := RX15) (owner := "RowenTongue$Row") 0 hts (lw_app (lw_in _ [1149, 873, 872, 876, 877, 82] (by decide +kernel) (by decide +kernel)) (lw_meth q878)) rfl rfl rfl q880 (by decide +kernel) ⟨(by (try dsimp only); omega), (by (try dsimp only); omega)⟩) hM hS mm_cX15 hq9 rfl hl.1 (Nat.le_of_ble_eq_true rfl) dX19_through_2_29 rfl ⟨(by (try dsimp only); omega), (by (try dsimp only); omega)⟩ (fun _ _ _ _ _ _ h9 => h9.elim) (fun v_6 M_7 H locs hp_8 hM hS => ?_)
          obtain ⟨rfl, eM_7⟩ := hp_8
          rw [eM_7] at hM
          exact kk9 _ _ hM hS
        · skip
          refine mm_callU (As := []) (rest := []) ⟨hx, hb, hml, hown, hts⟩ hE hST hA (hw9.2 (Or.inl ⟨_, _, _, hq9⟩)) (va_cwU (x := ⟨"RowenTongue$Row", "now", "()LRowenTongue$Row;"⟩) (C := RX14) (owner := "RowenTongue$Row") 0 hts (lw_app (lw_in _ [1149, 873, 874, 872, 80] (by decide +kernel) (by decide +kernel)) (lw_meth q880)) rfl rfl rfl rfl (by decide +kernel) ⟨(by (try dsimp only); omega), (by (try dsimp only); omega)⟩) hM hS mm_cX14 hq9 rfl hl.1 (Nat.le_of_ble_eq_true rfl) dX19_through_2_29 rfl ⟨(by (try dsimp only); omega), (by (try dsimp only); omega)⟩ (fun _ _ _ _ _ _ h9 => h9.elim) (fun v_6 M_7 H locs hp_8 hM hS => ?_)
          obtain ⟨rfl, eM_7⟩ := hp_8
          rw [eM_7] at hM
          exact kk9 _ _ hM hS
        · skip
          refine mm_callU (As := []) (rest := []) ⟨hx, hb, hml, hown, hts⟩ hE hST hA (hw9.2 (Or.inr hq9)) (va_cwU (x := ⟨"RowenTongue$Row", "now", "()LRowenTongue$Row;"⟩) (C := "RowenTongue$Nothing") (owner := "RowenTongue$Row") 0 hts (lw_app (lw_in _ [1149, 873, 875, 872, 80] (by decide +kernel) (by decide +kernel)) (lw_meth q880)) rfl rfl rfl rfl (by decide +kernel) ⟨(by (try dsimp only); omega), (by (try dsimp only); omega)⟩) hM hS mm_cE2 hq9 rfl hl.1 (Nat.le_of_ble_eq_true rfl) dX19_through_2_29 rfl ⟨(by (try dsimp only); omega), (by (try dsimp only); omega)⟩ (fun _ _ _ _ _ _ h9 => h9.elim) (fun v_6 M_7 H locs hp_8 hM hS => ?_)
          obtain ⟨rfl, eM_7⟩ := hp_8
          rw [eM_7] at hM
          exact kk9 _ _ hM hS
      refine lv_astore_n hx hb dX19_through_2_32 rfl hl (by decide) rfl (fun ls hl => ?_)
      replace hl : lv_has ls 4 [(2, .ref b2), (3, .ref b), (0, .ref a), (1, .ref gk)] := hl
      refine lv_goto (tgt := 5) hx hb dX19_through_2_33 (by decide) ?_
      refine ih (SizeOf.sizeOf (uap S2.2.1 r1)) (by omega) _ _ _ _ _ _ ⟨uap S2.2.1 r1, b2, ts_gen S2 lv (uap S2.2.1 x1), B3, ar3, cap3, ads3, pl3, rfl, by omega, by omega, lv_sub hl [0, 2, 3] rfl, ⟨hS1, hS2, hS3⟩, hLb.trans hLb3, hN3, hcs2, hww.2, ts_gen_lv hlev2, hKn, ?_, ?_, by omega, by (try dsimp only); omega, by (try dsimp only); omega⟩ hM hS
      · rw [← hgen]; exact ts_gen_or hlv hor
      · intro pl9 h9; refine hGo pl9 ?_; have h8 := hR3.comp hlv h9 hor; exact ⟨rfl, h8.2⟩
