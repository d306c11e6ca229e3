/-! ===== the model's put ===== -/
set_option maxRecDepth 100000
/-- what the model holds has labels of one sign -/
theorem mr_lb {Z : mm_G} {M : mm_M} {T : List pt_R} : ∀ (v : ev), (∀ (f : Nat → Option Nat) (o : Option Nat), mr Z M T v 0 f o → lb_ok v 0) ∧ ∀ (k : Nat) (f : Nat → Option Nat), mr Z M T v (k + 2) f none → lb_ok v (k + 1) := by
  have hx : ∀ (x : ev) (o : Option Nat), (∀ (f : Nat → Option Nat) (o : Option Nat), mr Z M T x 0 f o → lb_ok x 0) → mr_x Z M T x o → lb_ok x 0 := by
    intro x o h1 h2
    rcases h2 with ⟨h3, -⟩ | ⟨-, h3⟩
    · cases x <;> first | trivial | (simp [ev_abs] at h3)
    · exact h1 _ _ h3
  intro v
  induction v with
  | pow v l ih =>
    refine ⟨fun f o h => ?_, fun k f h => by simp [mr] at h⟩
    simp only [mr] at h
    obtain ⟨a, b, -, -, h1, h2⟩ := h
    exact ⟨h2, ih.1 _ _ h1⟩
  | add x r ihx ihr =>
    refine ⟨fun f o h => ?_, fun k f h => ?_⟩
    · obtain ⟨a, q, g, -, -, -, h1⟩ := mr_rec.1 h
      obtain ⟨h2, h3⟩ := mr_add.1 h1
      exact ⟨hx x _ ihx.1 h2, ihr.2 1 g h3⟩
    · have h4 := (mr_key _ _ h).2.1 _ _ rfl
      obtain ⟨h2, h3⟩ := mr_add.1 h
      exact ⟨by omega, hx x _ ihx.1 h2, ihr.2 (k + 1) f h3⟩
  | _ => exact ⟨fun _ _ _ => by simp only [lb_ok], fun _ _ _ => by simp only [lb_ok]⟩

/-- one sign, up to 300 -/
def ps1 (s : List Nat × Nat) (k : Nat) : List Nat × Nat := if s.1.length < 300 then ap s [k] else s
theorem ps1_pl {s : List Nat × Nat} {k : Nat} (h : s.1.length ≤ 300) : (ps1 s k).1 = pl s.1 [k] ∧ (ps1 s k).1.length ≤ 300 := by
  unfold ps1 pl
  by_cases h1 : s.1.length < 300
  · rw [if_pos h1]
    have hn : (s.1 ++ [k]).length ≤ 300 := by rw [List.length_append, List.length_singleton]; omega
    exact ⟨(List.take_of_length_le hn).symm, hn⟩
  · rw [if_neg h1]
    exact ⟨by rw [List.take_append_of_le_length (by omega), List.take_of_length_le h], h⟩

set_option maxHeartbeats 4000000 in
set_option maxRecDepth 100000 in
theorem c_X2_put (l : Launch) (Z : mm_G) {M : mm_M} {ss : List Nat × Nat} {b ar : Nat} {k : Nat} (hk : k < 128) (hl9 : ss.1.length ≤ 300) (hc9 : ss.2 ≤ 1500) (hT9 : TB Z M b ar ss.2 ss.1) : mm_C l Z yX2_put (ws_ yX2_put cX2_put 2 none) { frames := 6, cells := (ps1 ss k).2 - ss.2, slots := 2 * (ps1 ss k).2 - 2 * ss.2, locals := 400 } [.ref b, .int (nI k)] M (fun v M' => v = none ∧ ∃ ar', BF Z M M' b ar ar' (ps1 ss k)) mm_nx := by
  refine mm_ofW (cc := cX2_put) (maxL := 2) (ret := none) (by decide) rfl (Nat.le_of_ble_eq_true rfl) ?_
  intro p e s m below meth c A ls hx hb hr hlk hml hown hmn hts htab hE hST hA hM hS hl
  replace hl : lv_has ls 2 [(0, .ref b), (1, .int (nI k))] := hl
  have hb_1 := hT9.1
  refine lv_aload_n hx hb dX2_put_0 rfl (lv_at hl 0 rfl) ?_
  refine mm_callV (As := []) (rest := []) ⟨hx, hb, hml, hown, hts⟩ hE hST hA (c_J19_length l Z (M := M) (h0 := b) (f0 := (some ar)) (f1 := 0) (f2 := false) (f3 := (nI ss.1.length)) hb_1) (cwV 0 hts (lw_V q2742 q1483 q2860 q93 q1484) rfl rfl rfl (by decide +kernel) ⟨(by (try dsimp only); omega), (by (try dsimp only); omega)⟩) hM hS mm_cJ19 hb_1 rfl hl.1 (Nat.le_of_ble_eq_true rfl) dX2_put_1 rfl ⟨(by (try dsimp only); omega), (by (try dsimp only); omega)⟩ (fun _ _ _ _ _ _ h9 => h9.elim) (fun v_2 M_3 H locs hp_4 hM hS => ?_)
  obtain ⟨rfl, eM_3⟩ := hp_4
  rw [eM_3] at hM
  refine lv_sipush (v := 300) hx hb dX2_put_4 (by decide) ?_
  refine lv_icmp_ge (tgt := 16) hx hb dX2_put_7 (by decide) (fun c_5 => ?_) (fun c_5 => ?_)
  · skip
    have h3 : ¬ ss.1.length < 300 := fun h9 => absurd c_5 (Int32.not_le.2 ((nI_ltI (a := ss.1.length) (b := 300) (by omega) (by omega)).2 h9))
    have e9 : ps1 ss k = ss := if_neg h3
    rw [e9]
    exact mm_retv hx hb hr hlk hM hS ⟨rfl, _, BF.rf hT9⟩ dX2_put_16 (by (try dsimp only); omega) (by (try dsimp only); omega)
  · skip
    have h3 : ss.1.length < 300 := (nI_ltI (a := ss.1.length) (b := 300) (by omega) (by omega)).1 (Int32.not_le.1 c_5)
    have e9 : ps1 ss k = ap ss [k] := if_pos h3
    rw [e9]
    have hrm : tb_mk (ss.1.length + 1) ss.2 + ss.2 ≤ (ap ss [k]).2 ∧ tb_ms (ss.1.length + 1) ss.2 + 2 * ss.2 ≤ 2 * (ap ss [k]).2 := rm_ap ss [k]
    refine lv_aload_n hx hb dX2_put_10 rfl (lv_at hl 0 rfl) ?_
    refine lv_iload_n hx hb dX2_put_11 rfl (lv_at hl 1 rfl) ?_
    refine mm_callV (As := [.int (nI k)]) (rest := []) ⟨hx, hb, hml, hown, hts⟩ hE hST hA (c_J19_append_3 l Z (k := k) hT9 (by omega) hk (by omega)) (cwV 1 hts (lw_V q2746 q1627 q1628 q93 q1629) rfl rfl rfl (by decide +kernel) ⟨(by (try dsimp only); omega), (by (try dsimp only); omega)⟩) hM hS mm_cJ19 hb_1 rfl hl.1 (Nat.le_of_ble_eq_true rfl) dX2_put_12 rfl ⟨(by (try dsimp only); omega), (by (try dsimp only); omega)⟩ (fun _ _ _ _ _ _ h9 => h9.elim) (fun v_6 M_7 H locs hp_8 hM hS => ?_)
    obtain ⟨rfl, hp9⟩ := hp_8
    obtain ⟨ar9, hB9⟩ := BF.of (s := ss) (ds := [k]) hp9
    refine lv_pop hx hb dX2_put_15 rfl ?_
    exact mm_retv hx hb hr hlk hM hS ⟨rfl, _, hB9⟩ dX2_put_16 (by (try dsimp only); omega) (by (try dsimp only); omega)
