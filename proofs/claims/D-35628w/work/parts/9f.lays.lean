/-! ===== the model: a row laid by labels ===== -/
set_option maxRecDepth 100000
theorem mt_now.ext {M M' : mm_M} (hx : mm_Ext M M') : ∀ {d a b : Nat}, mt_now M d a b → mt_now M' d a b := by
  intro d
  induction d with
  | zero => rintro a b ⟨h1, k, fr, to, rw, cm, sn, cp, h2⟩; exact ⟨h1, _, _, _, _, _, _, _, hx.at h2⟩
  | succ d ih => rintro a b ⟨q, k, fr, to, rw, cm, sn, cp, h1, h2⟩; exact ⟨q, _, _, _, _, _, _, _, hx.at h1, ih h2⟩
theorem mr_now.ext {M M' : mm_M} (hx : mm_Ext M M') : ∀ {d a b : Nat}, mr_now M d a b → mr_now M' d a b := by
  intro d
  induction d with
  | zero => rintro a b ⟨h1, k, lb, ty, rs, lk, cm, h2⟩; exact ⟨h1, _, _, _, _, _, _, hx.at h2⟩
  | succ d ih => rintro a b ⟨q, k, lb, ty, rs, lk, cm, h1, h2⟩; exact ⟨q, _, _, _, _, _, _, hx.at h1, ih h2⟩
theorem mCI.ext {M M' : mm_M} {L : List Nat} {vr : Nat → Nat} {D : Nat → Bool} {S : ts} (hC : mCI M L vr D S) (hx : mm_Ext M M') : mCI M' L vr D S :=
  hC.other hx.mK (fun q k is fr to rw cm sn cp h => (hx.at h).trans h.symm) (fun q k is lb ty rs lk cm h => (hx.at h).trans h.symm)
theorem mtp.ext {M M' : mm_M} {L : List Nat} {vr : Nat → Nat} {D : Nat → Bool} {t : ev} {m : Bool} {a : Nat} (h : mtp M L vr D t m a) (hx : mm_Ext M M') : mtp M' L vr D t m a := mtp.mono hx.mK (fun _ h => h) (fun _ h => ⟨h, rfl⟩) t m a h
theorem mtp.has {M : mm_M} {L : List Nat} {vr : Nat → Nat} {D : Nat → Bool} {t : ev} {m : Bool} {a : Nat} (h : mtp M L vr D t m a) : M a ≠ none := by
  cases m with
  | false => obtain ⟨-, k, is, fr, to, rw, cm, sn, cp, h1⟩ := h.cellT; rw [h1]; exact fun e => by cases e
  | true => obtain ⟨k, is, lb, ty, rs, lk, cm, h1, -⟩ := h.cellR; rw [h1]; exact fun e => by cases e
theorem mSt.ext {M M' : mm_M} {L : List Nat} {vr : Nat → Nat} {D : Nat → Bool} {S : ts} {n : Nat} (h : mSt M L n) (hC : mCI M L vr D S) (hx : mm_Ext M M') : mSt M' L n := h.eq fun b hb k is fr to rw cm sn cp h1 => by
  obtain ⟨m, t, h2⟩ := hC.2.2.1 b hb
  exact ⟨_, _, _, _, _, _, _, (hx b h2.has).symm.trans h1⟩
/-- the labels that are there, as bits -/
def msk {α : Type} (f : Nat → Option α) : Nat → Int32
  | 0 => 0
  | k + 1 => msk f k ||| (match f k with | none => 0 | some _ => 1 <<< (nI k &&& 31))
theorem msk_set {α : Type} {f : Nat → Option α} {k : Nat} {t : α} : ∀ n : Nat, msk (fun l => if l = k then some t else f l) n = if k < n then msk f n ||| (1 <<< (nI k &&& 31)) else msk f n := by
  intro n
  induction n with
  | zero => rw [if_neg (Nat.not_lt_zero _)]; rfl
  | succ n ih =>
    show msk _ n ||| _ = _
    rw [ih]
    by_cases h : k = n
    · subst h
      rw [if_neg (Nat.lt_irrefl _), if_pos (Nat.lt_succ_self _)]
      dsimp only
      rw [if_pos rfl]
      show msk f k ||| _ = (msk f k ||| _) ||| _
      cases f k with
      | none => dsimp only; rw [Int32.or_assoc, Int32.zero_or]
      | some y => dsimp only; rw [Int32.or_assoc, Int32.or_self]
    · dsimp only
      rw [if_neg (Ne.symm h)]
      by_cases h2 : k < n
      · rw [if_pos h2, if_pos (by omega)]
        show _ ||| _ = (msk f n ||| _) ||| _
        rw [Int32.or_assoc, Int32.or_assoc, Int32.or_comm (1 <<< (nI k &&& 31))]
      · rw [if_neg h2, if_neg (by omega)]; rfl
theorem msk_cg {α β : Type} {f : Nat → Option α} {g : Nat → Option β} : ∀ n : Nat, (∀ k, k < n → (f k = none ↔ g k = none)) → msk f n = msk g n := by
  intro n
  induction n with
  | zero => intro _; rfl
  | succ n ih =>
    intro h
    have h1 := h n (Nat.lt_succ_self _)
    show msk f n ||| _ = msk g n ||| _
    rw [ih (fun k hk => h k (by omega))]
    cases hf : f n with
    | none => rw [h1.1 hf]
    | some y => cases hg : g n with
      | none => rw [h1.2 hg] at hf; cases hf
      | some z => rfl
/-- an array of types by labels -/
def mXR (M : mm_M) (L : List Nat) (vr : Nat → Nat) (D : Nat → Bool) (S : ts) (g : Nat → Option ev) (f : Nat → Option Nat) : Prop := ∀ l, l < 10 → (g l = none ∧ f l = none) ∨ ∃ x ad, g l = some (uap S.2.1 x) ∧ f l = some ad ∧ mtp M L vr D x false ad
theorem mXR.set {M : mm_M} {L : List Nat} {vr : Nat → Nat} {D : Nat → Bool} {S : ts} {g : Nat → Option ev} {f : Nat → Option Nat} (h : mXR M L vr D S g f) {k : Nat} {x : ev} {ad : Nat} (ht : mtp M L vr D x false ad) : mXR M L vr D S (fun l => if l = k then some (uap S.2.1 x) else g l) (va_up f k (some ad)) := fun l hl => by
  by_cases e : l = k
  · subst e
    exact Or.inr ⟨x, ad, if_pos rfl, if_pos rfl, ht⟩
  · rcases h l hl with ⟨h1, h2⟩ | ⟨y, ad2, h1, h2, h3⟩
    · exact Or.inl ⟨(if_neg e).trans h1, (if_neg e).trans h2⟩
    · exact Or.inr ⟨y, ad2, (if_neg e).trans h1, (if_neg e).trans h2, h3⟩
theorem mXR.msk {M : mm_M} {L : List Nat} {vr : Nat → Nat} {D : Nat → Bool} {S : ts} {g : Nat → Option ev} {f : Nat → Option Nat} (h : mXR M L vr D S g f) : msk f 10 = msk g 10 := msk_cg 10 fun k hk => by
  rcases h k hk with ⟨h1, h2⟩ | ⟨y, ad2, h1, h2, h3⟩
  · rw [h1, h2]; simp
  · rw [h1, h2]; simp
/-- a row's end -/
def mEnd (M : mm_M) (L : List Nat) (vr : Nat → Nat) (D : Nat → Bool) (S : ts) (e : Option Nat) (b : Nat) : Prop := match e with
  | none => M b = some (mr_E 1 none 0 none none 0 false)
  | some w => D w = true ∧ S.2.1 w = .var w ∧ b = vr w ∧ b ∈ L ∧ M b = some (mr_E 0 none 0 none none (S.2.2.2.1 w) (S.2.2.1 w))
abbrev ty_A (Z : mm_G) (f : Nat → Option Nat) : va_E := .inl (Z.2.1 8, 10, .inr (.inr (.inr (.inr f))))

set_option maxHeartbeats 4000000 in
set_option maxRecDepth 100000 in
theorem c_X2_lays (l : Launch) (Z : mm_G) {M : mm_M} {B : mm_M} {L : List Nat} {vr : Nat → Nat} {D : Nat → Bool} {S : ts} {r R : ev} {a q : Nat} (hex : mm_Ext B M) (hq0 : B q = none) (hqA : M q = some (ty_A Z (fun _ => none))) (hC : mCI B L vr D S) (hR : uap S.2.1 r = R) (htp : mtp B L vr D r true a) : mm_C l Z yX2_lays (ws_ yX2_lays cX2_lays 3 (some (.object "RowenTongueModel$Row"))) { frames := 1, cells := 0, slots := 0, locals := 60 } [.ref a, .ref q] M (fun v M' => ∃ (b : Nat) (f : Nat → Option Nat), v = some (.ref b) ∧ M' = mm_U M q (ty_A Z f) ∧ mXR B L vr D S (ufl R (fun _ => none) 0).1 f ∧ mEnd B L vr D S (ufl R (fun _ => none) 0).2.2 b ∧ msk (ufl R (fun _ => none) 0).1 10 = (ufl R (fun _ => none) 0).2.1) mm_nx := by
  refine mm_ofW (cc := cX2_lays) (maxL := 3) (ret := (some (.object "RowenTongueModel$Row"))) (by decide) rfl (Nat.le_of_ble_eq_true rfl) ?_
  intro p e s m below meth c A ls hx hb hr hlk hml hown hmn hts htab hE hST hA hM hS hl
  replace hl : lv_has ls 3 [(0, .ref a), (1, .ref q)] := hl
  obtain ⟨d1, b1, hn1, hcs⟩ := hC.nowR' htp
  rw [hR] at hcs
  have hn1x := hn1.ext hex
  have htpx := htp.ext hex
  refine lv_aload_n hx hb dX2_lays_0 rfl (lv_at hl 0 rfl) ?_
  obtain ⟨k9, is9, lb9, ty9, rs9, lk9, cm9, hq9, -⟩ := (htpx).cellR
  refine mm_callV (As := []) (rest := []) ⟨hx, hb, hml, hown, hts⟩ hE hST hA (c_X27_now l Z hn1x) (cwV 0 hts (lw_V q2614 q2615 q2616 q100 q2617) rfl rfl rfl (by decide +kernel) ⟨(by (try dsimp only); omega), (by (try dsimp only); omega)⟩) hM hS mm_cX27 hq9 rfl hl.1 (Nat.le_of_ble_eq_true rfl) dX2_lays_1 rfl ⟨(by (try dsimp only); omega), (by (try dsimp only); omega)⟩ (fun _ _ _ _ _ _ h9 => h9.elim) (fun v_1 M_2 H locs hp_3 hM hS => ?_)
  obtain ⟨rfl, eM_2⟩ := hp_3
  rw [eM_2] at hM
  refine lv_astore_n hx hb dX2_lays_4 rfl hl (by decide) rfl (fun ls hl => ?_)
  replace hl : lv_has ls 3 [(2, .ref b1), (0, .ref a), (1, .ref q)] := hl
  refine mm_loopW (fun k M' ls cells slots => ∃ (T2 : ev) (b : Nat) (f : Nat → Option Nat) (fc : Nat → Option ev) (lb : Int32), k = SizeOf.sizeOf T2 ∧ lv_has ls 3 [(2, .ref b), (0, .ref a), (1, .ref q)] ∧ M' = mm_U M q (ty_A Z f) ∧ mXR B L vr D S fc f ∧ mRow B L vr D S T2 b ∧ ufl T2 fc lb = ufl R (fun _ => none) 0 ∧ msk fc 10 = lb ∧ cells = 0 ∧ slots = 0) (fun k M3 ls H locs cells slots ih hI hM hS => ?_) ⟨R, b1, fun _ => none, fun _ => none, 0, rfl, lv_sub hl [0, 1, 2] rfl, (mm_U_self hqA).symm, fun l hl => Or.inl ⟨rfl, rfl⟩, hcs, rfl, by decide, rfl, rfl⟩ hM hS
  obtain ⟨T2, b, f, fc, lb, rfl, hl, eM3, hX, hrow, hfl, hmk, rfl, rfl⟩ := hI
  have hex3 : mm_Ext B M3 := fun q9 h9 => by rw [eM3, mm_U_ne (fun e => h9 (by rw [e]; exact hq0))]; exact hex q9 h9
  have hq3 : M3 q = some (ty_A Z f) := by rw [eM3]; exact mm_U_eq
  rcases hrow with ⟨eT, hb1⟩ | ⟨u, hu, eT, hsu, hbu, hbL, hb1⟩ | ⟨x1, k1, r1, ty1, rs1, eT, hk1, hb1, hx1, hr1⟩
  · skip
    have hb2 := hex3.at hb1
    refine lv_aload_n hx hb dX2_lays_5 rfl (lv_at hl 0 rfl) ?_
    refine va_get (D := Z.1) (ci := 22) (v := .int 1) (C := RX27) (T := TX27) (N := 7) hx hb hts in_X27 hown hE.1 (hM.at hb2) 0 rfl mm_cX27 0 (by decide) (hts _ q2577) (fun _ h9 => h9) rfl dX2_lays_6 ?_
    refine lv_iconst (v := 2) hx hb dX2_lays_9 (by decide) ?_
    refine lv_icmp_ne (tgt := 34) hx hb dX2_lays_10 (by decide) (fun _ => ?_) (fun h9 => absurd h9 (by decide))
    refine lv_aload_n hx hb dX2_lays_34 rfl (lv_at hl 0 rfl) ?_
    exact mm_reta hx hb hr (Or.inl ⟨_, rfl⟩) (Or.inr ⟨_, rfl⟩) hlk hM hS ⟨b, f, rfl, eM3, by rw [← hfl, eT]; exact hX, by rw [← hfl, eT]; exact hb1, by rw [← hfl, eT]; exact hmk⟩ dX2_lays_35 (by (try dsimp only); omega) (by (try dsimp only); omega)
  · skip
    have hb2 := hex3.at hb1
    refine lv_aload_n hx hb dX2_lays_5 rfl (lv_at hl 0 rfl) ?_
    refine va_get (D := Z.1) (ci := 22) (v := .int 0) (C := RX27) (T := TX27) (N := 7) hx hb hts in_X27 hown hE.1 (hM.at hb2) 0 rfl mm_cX27 0 (by decide) (hts _ q2577) (fun _ h9 => h9) rfl dX2_lays_6 ?_
    refine lv_iconst (v := 2) hx hb dX2_lays_9 (by decide) ?_
    refine lv_icmp_ne (tgt := 34) hx hb dX2_lays_10 (by decide) (fun _ => ?_) (fun h9 => absurd h9 (by decide))
    refine lv_aload_n hx hb dX2_lays_34 rfl (lv_at hl 0 rfl) ?_
    exact mm_reta hx hb hr (Or.inl ⟨_, rfl⟩) (Or.inr ⟨_, rfl⟩) hlk hM hS ⟨b, f, rfl, eM3, by rw [← hfl, eT]; exact hX, by rw [← hfl, eT]; exact ⟨hu, hsu, hbu, hbL, hb1⟩, by rw [← hfl, eT]; exact hmk⟩ dX2_lays_35 (by (try dsimp only); omega) (by (try dsimp only); omega)
  · skip
    have hb2 := hex3.at hb1
    have hsz : SizeOf.sizeOf T2 = 1 + (1 + SizeOf.sizeOf (uap S.2.1 x1) + SizeOf.sizeOf k1) + SizeOf.sizeOf (uap S.2.1 r1) := by rw [eT, uins_size]
    obtain ⟨-, k8, is8, fr8, to8, rw8, cm8, sn8, cp8, hq8⟩ := (hx1.ext hex3).cellT
    refine lv_aload_n hx hb dX2_lays_5 rfl (lv_at hl 0 rfl) ?_
    refine va_get (D := Z.1) (ci := 22) (v := .int 2) (C := RX27) (T := TX27) (N := 7) hx hb hts in_X27 hown hE.1 (hM.at hb2) 0 rfl mm_cX27 0 (by decide) (hts _ q2577) (fun _ h9 => h9) rfl dX2_lays_6 ?_
    refine lv_iconst (v := 2) hx hb dX2_lays_9 (by decide) ?_
    refine lv_icmp_ne (tgt := 34) hx hb dX2_lays_10 (by decide) (fun h9 => absurd (by decide) h9) (fun _ => ?_)
    refine lv_aload_n hx hb dX2_lays_13 rfl (lv_at hl 2 rfl) ?_
    refine lv_aload_n hx hb dX2_lays_14 rfl (lv_at hl 0 rfl) ?_
    refine va_get (D := Z.1) (ci := 22) (v := .int (nI k1)) (C := RX27) (T := TX27) (N := 7) hx hb hts in_X27 hown hE.1 (hM.at hb2) 0 rfl mm_cX27 2 (by decide) (hts _ q2580) (fun _ h9 => h9) rfl dX2_lays_15 ?_
    refine lv_aload_n hx hb dX2_lays_18 rfl (lv_at hl 0 rfl) ?_
    refine va_get (D := Z.1) (ci := 22) (v := .ref ty1) (C := RX27) (T := TX27) (N := 7) hx hb hts in_X27 hown hE.1 (hM.at hb2) 0 rfl mm_cX27 3 (by decide) (hts _ q2581) (fun _ h9 => h9) rfl dX2_lays_19 ?_
    refine mm_aastT (k := k1) hx hb hE hM hS 8 20 hq3 rfl hq8 mm_cX25 rfl hk1 (by decide) dX2_lays_22 (fun H locs hM hS => ?_)
    have hM : mm_P Z.1 mm_cl A (mm_U M3 q (.inl (Z.2.1 8, 10, .inr (.inr (.inr (.inr (va_up f k1 (some ty1)))))))) H := hM
    have hc_4 : (mm_U M3 q (.inl (Z.2.1 8, 10, .inr (.inr (.inr (.inr (va_up f k1 (some ty1)))))))) q = some (.inl (Z.2.1 8, 10, .inr (.inr (.inr (.inr (va_up f k1 (some ty1))))))) := mm_U_eq
    have hc_5 : (mm_U M3 q (.inl (Z.2.1 8, 10, .inr (.inr (.inr (.inr (va_up f k1 (some ty1)))))))) b = some (.inr (22, [.int 2, .null, .int (nI k1), .ref ty1, .ref rs1, .int 0, .int (mm_b false)])) := (mm_U_ne (Ne.symm (mm_neA hq3 hb2))).trans hb2
    have hc_6 : (mm_U M3 q (.inl (Z.2.1 8, 10, .inr (.inr (.inr (.inr (va_up f k1 (some ty1)))))))) ty1 = some (.inr (20, [.int k8, va_rf is8, va_rf fr8, va_rf to8, va_rf rw8, .int (mm_b cm8), .long sn8, va_rf cp8])) := (mm_U_ne (Ne.symm (mm_neA hq3 hq8))).trans hq8
    obtain ⟨M_7, eM_7⟩ : ∃ z, z = mm_U M3 q (.inl (Z.2.1 8, 10, .inr (.inr (.inr (.inr (va_up f k1 (some ty1))))))) := ⟨_, rfl⟩
    rw [← eM_7] at hM hc_4 hc_5 hc_6
    obtain ⟨d2, b2, hn2, hcs2⟩ := hC.nowR' hr1
    have hex4 : mm_Ext B M_7 := fun q9 h9 => by rw [eM_7, mm_U_ne (fun e => h9 (by rw [e]; exact hq0))]; exact hex3 q9 h9
    have hn2x := hn2.ext hex4
    have hr4 := hr1.ext hex4
    refine lv_aload_n hx hb dX2_lays_23 rfl (lv_at hl 0 rfl) ?_
    refine va_get (D := Z.1) (ci := 22) (v := .ref rs1) (C := RX27) (T := TX27) (N := 7) hx hb hts in_X27 hown hE.1 (hM.at hc_5) 0 rfl mm_cX27 4 (by decide) (hts _ q2582) (fun _ h9 => h9) rfl dX2_lays_24 ?_
    obtain ⟨k9, is9, lb9, ty9, rs9, lk9, cm9, hq9, -⟩ := (hr4).cellR
    refine mm_callV (As := []) (rest := []) ⟨hx, hb, hml, hown, hts⟩ hE hST hA (c_X27_now l Z hn2x) (cwV 0 hts (lw_V q2614 q2615 q2616 q100 q2617) rfl rfl rfl (by decide +kernel) ⟨(by (try dsimp only); omega), (by (try dsimp only); omega)⟩) hM hS mm_cX27 hq9 rfl hl.1 (Nat.le_of_ble_eq_true rfl) dX2_lays_27 rfl ⟨(by (try dsimp only); omega), (by (try dsimp only); omega)⟩ (fun _ _ _ _ _ _ h9 => h9.elim) (fun v_8 M_9 H locs hp_10 hM hS => ?_)
    obtain ⟨rfl, eM_9⟩ := hp_10
    rw [eM_9] at hM
    refine lv_astore_n hx hb dX2_lays_30 rfl hl (by decide) rfl (fun ls hl => ?_)
    replace hl : lv_has ls 3 [(2, .ref b2), (0, .ref a), (1, .ref q)] := hl
    refine lv_goto (tgt := 5) hx hb dX2_lays_31 (by decide) ?_
    refine ih (SizeOf.sizeOf (uap S.2.1 r1)) (by omega) _ _ _ _ _ _ ⟨uap S.2.1 r1, b2, va_up f k1 (some ty1), (fun l => if l = k1 then some (uap S.2.1 x1) else fc l), lb ||| (1 <<< (nI k1 &&& 31)), rfl, lv_sub hl [0, 1, 2] rfl, ?_, hX.set (k := k1) hx1, hcs2, ?_, ?_, rfl, rfl⟩ hM hS
    · rw [eM_7, eM3, mm_U_U]
    · rw [← hfl, eT, ufl_ins]
    · rw [msk_set, if_pos hk1, hmk]
set_option maxHeartbeats 4000000 in
set_option maxRecDepth 100000 in
theorem c_X2_setOf (l : Launch) (Z : mm_G) {M : mm_M} {q : Nat} {f : Nat → Option Nat} (hqA : M q = some (ty_A Z f)) : mm_C l Z yX2_setOf (ws_ yX2_setOf cX2_setOf 3 (some .int)) { frames := 0, cells := 0, slots := 0, locals := 0 } [.ref q] M (fun v M' => v = some (.int (msk f 10)) ∧ M' = M) mm_nx := by
  refine mm_ofW (cc := cX2_setOf) (maxL := 3) (ret := (some .int)) (by decide) rfl (Nat.le_of_ble_eq_true rfl) ?_
  intro p e s m below meth c A ls hx hb hr hlk hml hown hmn hts htab hE hST hA hM hS hl
  replace hl : lv_has ls 3 [(0, .ref q)] := hl
  refine lv_iconst (v := 0) hx hb dX2_setOf_0 (by decide) ?_
  refine lv_istore_n hx hb dX2_setOf_1 rfl hl (by decide) rfl (fun ls hl => ?_)
  replace hl : lv_has ls 3 [(1, .int 0), (0, .ref q)] := hl
  refine lv_iconst (v := 0) hx hb dX2_setOf_2 (by decide) ?_
  refine lv_istore_n hx hb dX2_setOf_3 rfl hl (by decide) rfl (fun ls hl => ?_)
  replace hl : lv_has ls 3 [(2, .int 0), (1, .int 0), (0, .ref q)] := hl
  refine mm_loopW (fun k M' ls cells slots => ∃ (i : Nat), k = 10 - i ∧ i ≤ 10 ∧ lv_has ls 3 [(2, .int (nI i)), (1, .int (msk f i)), (0, .ref q)] ∧ M = M' ∧ cells = 0 ∧ slots = 0) (fun k M3 ls H locs cells slots ih hI hM hS => ?_) ⟨0, rfl, by omega, lv_sub hl [0, 1, 2] rfl, rfl, rfl, rfl⟩ hM hS
  obtain ⟨i, rfl, hi9, hl, rfl, rfl, rfl⟩ := hI
  refine lv_iload_n hx hb dX2_setOf_4 rfl (lv_at hl 0 rfl) ?_
  refine lv_bipush (v := 10) hx hb dX2_setOf_5 (by decide) ?_
  refine lv_icmp_ge (tgt := 32) hx hb dX2_setOf_7 (by decide) (fun c_1 => ?_) (fun c_1 => ?_)
  · skip
    obtain rfl : i = 10 := by have := (nI_leI (a := 10) (b := i) (by omega) (by omega)).1 c_1; omega
    refine lv_iload_n hx hb dX2_setOf_32 rfl (lv_at hl 1 rfl) ?_
    exact mm_reti hx hb hr hlk hM hS ⟨rfl, rfl⟩ dX2_setOf_33 (by (try dsimp only); omega) (by (try dsimp only); omega)
  · skip
    have hi : i < 10 := by have : ¬ 10 ≤ i := fun h9 => c_1 ((nI_leI (a := 10) (b := i) (by omega) (by omega)).2 h9); omega
    refine lv_iload_n hx hb dX2_setOf_10 rfl (lv_at hl 1 rfl) ?_
    refine lv_aload_n hx hb dX2_setOf_11 rfl (lv_at hl 2 rfl) ?_
    refine lv_iload_n hx hb dX2_setOf_12 rfl (lv_at hl 0 rfl) ?_
    refine mm_aald (k := i) hx hb hE hM 8 hqA rfl rfl hi (by decide) dX2_setOf_13 ?_
    cases hfi : f i with
    | none =>
      refine lv_ifnonnullN hx hb dX2_setOf_14 ?_
      refine lv_iconst (v := 0) hx hb dX2_setOf_17 (by decide) ?_
      refine lv_goto (tgt := 24) hx hb dX2_setOf_18 (by decide) ?_
      refine lv_ior hx hb dX2_setOf_24 ?_
      rw [show ((msk f i) ||| 0 : Int32) = msk f (i + 1) from (show msk f (i + 1) = msk f i ||| 0 from by simp only [msk, hfi]).symm]
      refine lv_istore_n hx hb dX2_setOf_25 rfl hl (by decide) rfl (fun ls hl => ?_)
      replace hl : lv_has ls 3 [(1, .int (msk f (i + 1))), (2, .int (nI i)), (0, .ref q)] := hl
      obtain ⟨x_2, ex_2⟩ : ∃ z : Int32, z = (nI i) + 1 := ⟨_, rfl⟩
      refine lv_iinc (v := x_2) (lv' := [(2, .int x_2), (1, .int (msk f (i + 1))), (0, .ref q)]) hx hb dX2_setOf_26 hl (k := 1) rfl (by rw [ex_2]; rfl) (by decide) rfl (fun ls hl => ?_)
      rw [show x_2 = nI (i + 1) from by rw [ex_2]; exact nI_1 i] at hl
      refine lv_goto (tgt := 4) hx hb dX2_setOf_29 (by decide) ?_
      refine ih (10 - (i + 1)) (by omega) _ _ _ _ _ _ ⟨i + 1, rfl, by omega, lv_sub hl [0, 1, 2] rfl, rfl, rfl, rfl⟩ hM hS
    | some w =>
      refine lv_ifnonnull (tgt := 21) hx hb dX2_setOf_14 (by decide) ?_
      refine lv_iconst (v := 1) hx hb dX2_setOf_21 (by decide) ?_
      refine lv_iload_n hx hb dX2_setOf_22 rfl (lv_at hl 0 rfl) ?_
      refine lv_ishl hx hb dX2_setOf_23 ?_
      refine lv_ior hx hb dX2_setOf_24 ?_
      rw [show ((msk f i) ||| ((1 : Int32) <<< ((nI i) &&& 31)) : Int32) = msk f (i + 1) from (show msk f (i + 1) = msk f i ||| (1 <<< (nI i &&& 31)) from by simp only [msk, hfi]).symm]
      refine lv_istore_n hx hb dX2_setOf_25 rfl hl (by decide) rfl (fun ls hl => ?_)
      replace hl : lv_has ls 3 [(1, .int (msk f (i + 1))), (2, .int (nI i)), (0, .ref q)] := hl
      obtain ⟨x_2, ex_2⟩ : ∃ z : Int32, z = (nI i) + 1 := ⟨_, rfl⟩
      refine lv_iinc (v := x_2) (lv' := [(2, .int x_2), (1, .int (msk f (i + 1))), (0, .ref q)]) hx hb dX2_setOf_26 hl (k := 1) rfl (by rw [ex_2]; rfl) (by decide) rfl (fun ls hl => ?_)
      rw [show x_2 = nI (i + 1) from by rw [ex_2]; exact nI_1 i] at hl
      refine lv_goto (tgt := 4) hx hb dX2_setOf_29 (by decide) ?_
      refine ih (10 - (i + 1)) (by omega) _ _ _ _ _ _ ⟨i + 1, rfl, by omega, lv_sub hl [0, 1, 2] rfl, rfl, rfl, rfl⟩ hM hS
