/-! ===== the model: the variables of a type ===== -/
set_option maxRecDepth 100000
theorem mm_Ext.mS {mark : Int64} {M M' : mm_M} (h : mm_Ext M M') : mS mark M M' := fun _ _ ha => Or.inl (h.at ha)
theorem mS.mk {mark : Int64} {M M' : mm_M} (h : mS mark M M') {b : Nat} (hb : mk M mark b) : mk M' mark b := by
  obtain ⟨k, is, fr, to, rw, cm, cp, h1⟩ := hb
  obtain ⟨sn', h2, h3⟩ := h.t h1
  rcases h3 with h3 | h3 <;> (subst h3; exact ⟨_, _, _, _, _, _, _, h2⟩)
/-- what bears the mark and is no larger than s has Q -/
def mQ (M : mm_M) (L : List Nat) (vr : Nat → Nat) (D : Nat → Bool) (S : ts) (mark : Int64) (Q : ev → Prop) (s : Nat) : Prop := ∀ b ∈ L, mk M mark b → ∀ tb, mtp M L vr D tb false b → SizeOf.sizeOf (uap S.2.1 tb) ≤ s → Q (uap S.2.1 tb)
/-- new marks stand where Q holds -/
def mQ2 (M M' : mm_M) (L : List Nat) (vr : Nat → Nat) (D : Nat → Bool) (S : ts) (mark : Int64) (Q : ev → Prop) : Prop := ∀ b ∈ L, mk M' mark b → mk M mark b ∨ ∀ tb, mtp M' L vr D tb false b → Q (uap S.2.1 tb)
theorem mQ2.rf {M : mm_M} {L : List Nat} {vr : Nat → Nat} {D : Nat → Bool} {S : ts} {mark : Int64} {Q : ev → Prop} : mQ2 M M L vr D S mark Q := fun _ _ h => Or.inl h
theorem mQ.next {M M' : mm_M} {L : List Nat} {vr : Nat → Nat} {D : Nat → Bool} {S : ts} {mark : Int64} {Q Q' : ev → Prop} {s : Nat} (hC : mCI M L vr D S) (h : mQ M L vr D S mark Q s) (h2 : mQ2 M M' L vr D S mark Q') (hL : mL mark M M') (hq : ∀ T, Q T → Q' T) : mQ M' L vr D S mark Q' s := fun b hb hm tb htb hz => by
  rcases h2 b hb hm with h3 | h3
  · obtain ⟨m, t0, h4⟩ := hC.2.2.1 b hb
    obtain ⟨rfl, rfl⟩ := mtp.uniq hC.1.2.2.1 _ _ _ _ _ htb (h4.light hL)
    exact hq _ (h b hb h3 tb h4 hz)
  · exact h3 tb htb
theorem mQ2.trans {M N O : mm_M} {L : List Nat} {vr : Nat → Nat} {D : Nat → Bool} {S : ts} {mark : Int64} {Q Q' : ev → Prop} (hC : mCI N L vr D S) (h1 : mQ2 M N L vr D S mark Q) (h2 : mQ2 N O L vr D S mark Q') (hL : mL mark N O) (hq : ∀ T, Q T → Q' T) : mQ2 M O L vr D S mark Q' := fun b hb hm => by
  rcases h2 b hb hm with h3 | h3
  · rcases h1 b hb h3 with h4 | h4
    · exact Or.inl h4
    · refine Or.inr fun tb htb => ?_
      obtain ⟨m, t0, h5⟩ := hC.2.2.1 b hb
      obtain ⟨rfl, rfl⟩ := mtp.uniq hC.1.2.2.1 _ _ _ _ _ htb (h5.light hL)
      exact hq _ (h4 tb h5)
  · exact Or.inr h3
/-- the variables of T are in the lists -/
def vQ (kd : Nat → Bool) (xt xr : List Nat) (T : ev) : Prop := ∀ u, uoc u T = true → (kd u = false → u ∈ xt) ∧ (kd u = true → u ∈ xr)
/-- the lists from before go on with the variables of T -/
def vR (kd : Nat → Bool) (T : ev) (xt xr xt' xr' : List Nat) : Prop := (∃ et, xt' = xt ++ et) ∧ (∃ er, xr' = xr ++ er) ∧ ∀ u, (u ∈ xt' ↔ u ∈ xt ∨ (uoc u T = true ∧ kd u = false)) ∧ (u ∈ xr' ↔ u ∈ xr ∨ (uoc u T = true ∧ kd u = true))
theorem vR.have {kd : Nat → Bool} {T : ev} {xt xr : List Nat} (h : vQ kd xt xr T) : vR kd T xt xr xt xr := ⟨⟨[], (List.append_nil _).symm⟩, ⟨[], (List.append_nil _).symm⟩, fun u => ⟨⟨Or.inl, fun h9 => h9.elim id fun h8 => (h u h8.1).1 h8.2⟩, ⟨Or.inl, fun h9 => h9.elim id fun h8 => (h u h8.1).2 h8.2⟩⟩⟩
theorem vQ.none {kd : Nat → Bool} {xt xr : List Nat} {T : ev} (h : ∀ u, uoc u T = false) : vQ kd xt xr T := fun u hu => by rw [h u] at hu; cases hu
theorem vR.comp {kd : Nat → Bool} {T X Y : ev} {xt xr xt1 xr1 xt2 xr2 : List Nat} (h1 : vR kd X xt xr xt1 xr1) (h2 : vR kd Y xt1 xr1 xt2 xr2) (h : ∀ u, uoc u T = (uoc u X || uoc u Y)) : vR kd T xt xr xt2 xr2 := by
  obtain ⟨⟨e1, rfl⟩, ⟨e2, rfl⟩, h3⟩ := h1
  obtain ⟨⟨e3, rfl⟩, ⟨e4, rfl⟩, h4⟩ := h2
  refine ⟨⟨e1 ++ e3, List.append_assoc _ _ _⟩, ⟨e2 ++ e4, List.append_assoc _ _ _⟩, fun u => ⟨?_, ?_⟩⟩
  · rw [(h4 u).1, (h3 u).1, h u, Bool.or_eq_true, or_and_right, or_assoc]
  · rw [(h4 u).2, (h3 u).2, h u, Bool.or_eq_true, or_and_right, or_assoc]
theorem vR.cg {kd : Nat → Bool} {T X : ev} {xt xr xt1 xr1 : List Nat} (h1 : vR kd X xt xr xt1 xr1) (h : ∀ u, uoc u T = uoc u X) : vR kd T xt xr xt1 xr1 := ⟨h1.1, h1.2.1, fun u => by rw [h u]; exact h1.2.2 u⟩
theorem vR.Q {kd : Nat → Bool} {T : ev} {xt xr xt' xr' : List Nat} (h : vR kd T xt xr xt' xr') : vQ kd xt' xr' T := fun u hu => ⟨fun hk => (h.2.2 u).1.2 (Or.inr ⟨hu, hk⟩), fun hk => (h.2.2 u).2.2 (Or.inr ⟨hu, hk⟩)⟩
theorem vR.sub {kd : Nat → Bool} {T : ev} {xt xr xt' xr' : List Nat} (h : vR kd T xt xr xt' xr') : (∀ u ∈ xt, u ∈ xt') ∧ ∀ u ∈ xr, u ∈ xr' := ⟨fun u hu => (h.2.2 u).1.2 (Or.inl hu), fun u hu => (h.2.2 u).2.2 (Or.inl hu)⟩
theorem vR.len {kd : Nat → Bool} {T : ev} {xt xr xt' xr' : List Nat} (h : vR kd T xt xr xt' xr') : xt.length ≤ xt'.length ∧ xr.length ≤ xr'.length := by
  obtain ⟨⟨e1, rfl⟩, ⟨e2, rfl⟩, -⟩ := h
  simp only [List.length_append]; omega
theorem vQ.mono {kd : Nat → Bool} {xt xr xt' xr' : List Nat} (h : (∀ u ∈ xt, u ∈ xt') ∧ ∀ u ∈ xr, u ∈ xr') (T : ev) (hq : vQ kd xt xr T) : vQ kd xt' xr' T := fun u hu => ⟨fun hk => h.1 u ((hq u hu).1 hk), fun hk => h.2 u ((hq u hu).2 hk)⟩
/-- four lists: type variables, row variables, and two more -/
def vX (vr : Nat → Nat) (xt xr : List Nat) (X2 X3 : List (Option Nat)) : Nat → List (Option Nat)
  | 0 => xt.map fun v => some (vr v)
  | 1 => xr.map fun v => some (vr v)
  | 2 => X2
  | _ => X3
/-- while variables are told: B is what was there, its marks changed -/
def VN (Z : mm_G) (B M : mm_M) (L : List Nat) (vr : Nat → Nat) (D : Nat → Bool) (S : ts) (kd : Nat → Bool) (mark : Int64) (q ar cp : Nat → Nat) (xt xr : List Nat) (X2 X3 : List (Option Nat)) : Prop :=
  mm_Ext B M ∧ mCI B L vr D S ∧ al_0 Z B ∧ RL Z B M q ar cp (vX vr xt xr X2 X3) ∧ (xt.Nodup ∧ ∀ v ∈ xt, D v = true ∧ S.2.1 v = .var v ∧ kd v = false ∧ mk B mark (vr v)) ∧ xr.Nodup ∧ ∀ v ∈ xr, D v = true ∧ S.2.1 v = .var v ∧ kd v = true ∧ B (vr v) = some (mr_E 0 none 0 none none (S.2.2.2.1 v) (S.2.2.1 v))
theorem RL.put {Z : mm_G} {B M : mm_M} {q ar cp : Nat → Nat} {X : Nat → List (Option Nat)} (h : RL Z B M q ar cp X) {b ci : Nat} {fs : List Value} {e : va_E} (hb : B b = some (.inr (ci, fs))) (hbM : M b = some (.inr (ci, fs))) (hc : ci ≠ 41) : RL Z (mm_U B b e) (mm_U M b e) q ar cp X := by
  have hn : ∀ {z : Nat}, B z = none → mm_U B b e z = none := fun {z} hz => by rw [mm_U_ne (fun e9 => by rw [e9, hb] at hz; cases hz)]; exact hz
  refine ⟨fun i hi => ?_, h.2⟩
  obtain ⟨⟨md, f, k1, k2, k3⟩, h2, h3, h4⟩ := h.1 i hi
  exact ⟨⟨md, f, by rw [mm_U_ne (mm_neC k1 hbM (Ne.symm hc))]; exact k1, by rw [mm_U_ne (mm_neA k2 hbM)]; exact k2, k3⟩, hn h2, h3.imp id hn, h4⟩
theorem al_0.put {Z : mm_G} {B : mm_M} (h : al_0 Z B) {b ci : Nat} {fs : List Value} {e : va_E} (hb : B b = some (.inr (ci, fs))) : al_0 Z (mm_U B b e) := by
  obtain ⟨f, hf⟩ := h
  exact ⟨f, by rw [mm_U_ne (mm_neA hf hb)]; exact hf⟩
theorem VN.mark {Z : mm_G} {B M : mm_M} {L : List Nat} {vr : Nat → Nat} {D : Nat → Bool} {S : ts} {kd : Nat → Bool} {mark : Int64} {q ar cp : Nat → Nat} {xt xr : List Nat} {X2 X3 : List (Option Nat)} (hV : VN Z B M L vr D S kd mark q ar cp xt xr X2 X3) {T t1 : ev} {b : Nat} (he : uap S.2.1 t1 = T) (htb : mtp B L vr D t1 false b)
    {k : Int32} {is fr to rw cp9 : Option Nat} {cm : Bool} {sn : Int64} (hb : B b = some (mt_E k is fr to rw cm sn cp9)) (hmy : mQ B L vr D S mark (vQ kd xt xr) (SizeOf.sizeOf T)) :
    ∃ B1, VN Z B1 (mm_U M b (mt_E k is fr to rw cm mark cp9)) L vr D S kd mark q ar cp xt xr X2 X3 ∧ mS mark B B1 ∧ B1 b = some (mt_E k is fr to rw cm mark cp9) ∧ (∀ s, s < SizeOf.sizeOf T → mQ B1 L vr D S mark (vQ kd xt xr) s) ∧
      ∀ B9 xt' xr', mS mark B1 B9 → vQ kd xt' xr' T → mQ2 B1 B9 L vr D S mark (vQ kd xt' xr') → mQ2 B B9 L vr D S mark (vQ kd xt' xr') := by
  obtain ⟨h1, h2, h3, h4, ⟨h5, h6⟩, h7, h8⟩ := hV
  have hS : mS mark B (mm_U B b (mt_E k is fr to rw cm mark cp9)) := mS.put hb
  refine ⟨mm_U B b (mt_E k is fr to rw cm mark cp9), ⟨h1.UUe _ _, h2.seen hS, h3.put hb, h4.put hb (h1.at hb) (by decide), ⟨h5, fun v hv => ?_⟩, h7, fun v hv => ?_⟩, hS, mm_U_eq, fun s hs b9 hb9 hm tb htb9 hz => ?_, fun B9 xt' xr' hS9 hQ h9 b9 hb9 hm => ?_⟩
  · obtain ⟨a1, a2, a3, a4⟩ := h6 v hv; exact ⟨a1, a2, a3, hS.mk a4⟩
  · obtain ⟨a1, a2, a3, a4⟩ := h8 v hv; exact ⟨a1, a2, a3, hS.r a4⟩
  · obtain ⟨m, t0, h0⟩ := h2.2.2.1 b9 hb9
    obtain ⟨rfl, rfl⟩ := mtp.uniq h2.1.2.2.1 _ _ _ _ _ htb9 (h0.light hS.L)
    rcases mk_put hm with h10 | h10
    · subst h10
      obtain ⟨rfl, -⟩ := mtp.uniq h2.1.2.2.1 _ _ _ _ _ h0 htb
      rw [he] at hz; omega
    · exact hmy b9 hb9 h10 tb h0 (by omega)
  · rcases h9 b9 hb9 hm with h10 | h10
    · rcases mk_put h10 with h11 | h11
      · subst h11
        refine Or.inr fun tb htb9 => ?_
        obtain ⟨rfl, -⟩ := mtp.uniq h2.1.2.2.1 _ _ _ _ _ htb9 ((htb.light hS.L).light hS9.L)
        rw [he]; exact hQ
      · exact Or.inl h11
    · exact Or.inr h10
theorem VN.ok {Z : mm_G} {B M : mm_M} {L : List Nat} {vr : Nat → Nat} {D : Nat → Bool} {S : ts} {kd : Nat → Bool} {mark : Int64} {q ar cp : Nat → Nat} {xt xr : List Nat} {X2 X3 : List (Option Nat)} (hV : VN Z B M L vr D S kd mark q ar cp xt xr X2 X3) : (∀ y ∈ xt.map (fun v => some (vr v)), mm_ok M y) ∧ ∀ y ∈ xr.map (fun v => some (vr v)), mm_ok M y := by
  have key : ∀ v, D v = true → mm_ok M (some (vr v)) := fun v hD z hz => by
    cases hz
    rcases (hV.2.1.2.1 v hD).2 with ⟨_, _, _, k, -⟩ | ⟨_, k, -⟩
    · exact ⟨_, _, hV.1.at k⟩
    · exact ⟨_, _, hV.1.at k⟩
  refine ⟨fun y hy => ?_, fun y hy => ?_⟩
  · obtain ⟨v, hv, rfl⟩ := List.mem_map.1 hy; exact key v (hV.2.2.2.2.1.2 v hv).1
  · obtain ⟨v, hv, rfl⟩ := List.mem_map.1 hy; exact key v (hV.2.2.2.2.2.2 v hv).1
theorem nodup_snoc {α : Type} {xs : List α} {u : α} (h : xs.Nodup) (hn : u ∉ xs) : (xs ++ [u]).Nodup := List.nodup_append.2 ⟨h, List.nodup_cons.2 ⟨List.not_mem_nil, List.nodup_nil⟩, fun a ha b hb e => by rw [List.mem_singleton] at hb; subst hb; subst e; exact hn ha⟩
theorem VN.add0 {Z : mm_G} {B M : mm_M} {L : List Nat} {vr : Nat → Nat} {D : Nat → Bool} {S : ts} {kd : Nat → Bool} {mark : Int64} {q ar cp : Nat → Nat} {xt xr : List Nat} {X2 X3 : List (Option Nat)} (hV : VN Z B M L vr D S kd mark q ar cp xt xr X2 X3) {u : Nat} (hu : D u = true ∧ S.2.1 u = .var u ∧ kd u = false ∧ mk B mark (vr u)) (hn : u ∉ xt) {Ma : mm_M} {ar' : Nat}
    (hA : AL Z Ma (q 0) ar' (al_cap xt.length (cp 0)) ((xt.map fun v => some (vr v)) ++ [some (vr u)])) (hk : ∀ z, z ≠ q 0 → z ≠ ar' → Ma z = M z) (ho : ar' = ar 0 ∧ xt.length < cp 0 ∨ M ar' = none) : VN Z B Ma L vr D S kd mark q (upf ar 0 ar') (upf cp 0 (al_cap xt.length (cp 0))) (xt ++ [u]) xr X2 X3 := by
  obtain ⟨h1, h2, h3, h4, ⟨h5, h6⟩, h7, h8⟩ := hV
  have hlm : (vX vr xt xr X2 X3 0).length = xt.length := List.length_map _
  obtain ⟨k1, k2, -⟩ := h4.add h1 h3 (i := 0) (by omega) (r := some (vr u)) (by rw [hlm]; exact hA) hk (by rw [hlm]; exact ho)
  rw [hlm] at k1
  refine ⟨k2, h2, h3, k1.cg (fun i hi => ?_), ⟨nodup_snoc h5 hn, fun v hv => ?_⟩, h7, h8⟩
  · match i, hi with
    | 0, _ => show (xt.map fun v => some (vr v)) ++ [some (vr u)] = (xt ++ [u]).map fun v => some (vr v); rw [List.map_append]; rfl
    | 1, _ => rfl
    | 2, _ => rfl
    | 3, _ => rfl
  · rcases List.mem_append.1 hv with hv | hv
    · exact h6 v hv
    · rw [List.mem_singleton] at hv; subst hv; exact hu
theorem VN.add1 {Z : mm_G} {B M : mm_M} {L : List Nat} {vr : Nat → Nat} {D : Nat → Bool} {S : ts} {kd : Nat → Bool} {mark : Int64} {q ar cp : Nat → Nat} {xt xr : List Nat} {X2 X3 : List (Option Nat)} (hV : VN Z B M L vr D S kd mark q ar cp xt xr X2 X3) {u : Nat} (hu : D u = true ∧ S.2.1 u = .var u ∧ kd u = true ∧ B (vr u) = some (mr_E 0 none 0 none none (S.2.2.2.1 u) (S.2.2.1 u))) (hn : u ∉ xr) {Ma : mm_M} {ar' : Nat}
    (hA : AL Z Ma (q 1) ar' (al_cap xr.length (cp 1)) ((xr.map fun v => some (vr v)) ++ [some (vr u)])) (hk : ∀ z, z ≠ q 1 → z ≠ ar' → Ma z = M z) (ho : ar' = ar 1 ∧ xr.length < cp 1 ∨ M ar' = none) : VN Z B Ma L vr D S kd mark q (upf ar 1 ar') (upf cp 1 (al_cap xr.length (cp 1))) xt (xr ++ [u]) X2 X3 := by
  obtain ⟨h1, h2, h3, h4, ⟨h5, h6⟩, h7, h8⟩ := hV
  have hlm : (vX vr xt xr X2 X3 1).length = xr.length := List.length_map _
  obtain ⟨k1, k2, -⟩ := h4.add h1 h3 (i := 1) (by omega) (r := some (vr u)) (by rw [hlm]; exact hA) hk (by rw [hlm]; exact ho)
  rw [hlm] at k1
  refine ⟨k2, h2, h3, k1.cg (fun i hi => ?_), ⟨h5, h6⟩, nodup_snoc h7 hn, fun v hv => ?_⟩
  · match i, hi with
    | 0, _ => rfl
    | 1, _ => show (xr.map fun v => some (vr v)) ++ [some (vr u)] = (xr ++ [u]).map fun v => some (vr v); rw [List.map_append]; rfl
    | 2, _ => rfl
    | 3, _ => rfl
  · rcases List.mem_append.1 hv with hv | hv
    · exact h8 v hv
    · rw [List.mem_singleton] at hv; subst hv; exact hu
/-- no more than K unbound variables are there -/
def vK (D : Nat → Bool) (S : ts) (K : Nat) : Prop := ∀ ys : List Nat, ys.Nodup → (∀ v ∈ ys, D v = true ∧ S.2.1 v = .var v) → ys.length ≤ K
theorem VN.len {Z : mm_G} {B M : mm_M} {L : List Nat} {vr : Nat → Nat} {D : Nat → Bool} {S : ts} {kd : Nat → Bool} {mark : Int64} {q ar cp : Nat → Nat} {xt xr : List Nat} {X2 X3 : List (Option Nat)} (hV : VN Z B M L vr D S kd mark q ar cp xt xr X2 X3) {K : Nat} (hK : vK D S K) :
    xt.length + xr.length ≤ K ∧ (xt.length ≤ cp 0 ∧ cp 0 ≤ 10 + 2 * xt.length) ∧ (xr.length ≤ cp 1 ∧ cp 1 ≤ 10 + 2 * xr.length) ∧ gl_ok (cp 0) xt.length ∧ gl_ok (cp 1) xr.length := by
  obtain ⟨h1, h2, h3, h4, ⟨h5, h6⟩, h7, h8⟩ := hV
  have l0 := h4.len (i := 0) (by omega)
  have l1 := h4.len (i := 1) (by omega)
  have g0 := (h4.1 0 (by omega)).2.2.2
  have g1 := (h4.1 1 (by omega)).2.2.2
  have e0 : (vX vr xt xr X2 X3 0).length = xt.length := List.length_map _
  have e1 : (vX vr xt xr X2 X3 1).length = xr.length := List.length_map _
  rw [e0] at l0 g0
  rw [e1] at l1 g1
  refine ⟨?_, l0, l1, g0, g1⟩
  have h9 := hK (xt ++ xr) (List.nodup_append.2 ⟨h5, h7, fun a ha b hb e => by subst e; have := (h6 a ha).2.2.1; rw [(h8 a hb).2.2.1] at this; cases this⟩) (fun v hv => by
    rcases List.mem_append.1 hv with hv | hv
    · exact ⟨(h6 v hv).1, (h6 v hv).2.1⟩
    · exact ⟨(h8 v hv).1, (h8 v hv).2.1⟩)
  rwa [List.length_append] at h9
theorem VN.more {Z : mm_G} {B M : mm_M} {L : List Nat} {vr : Nat → Nat} {D : Nat → Bool} {S : ts} {kd : Nat → Bool} {mark : Int64} {q ar cp : Nat → Nat} {xt xr : List Nat} {X2 X3 : List (Option Nat)} (hV : VN Z B M L vr D S kd mark q ar cp xt xr X2 X3) {K : Nat} (hK : vK D S K) {u : Nat} (hu : D u = true ∧ S.2.1 u = .var u) (h1u : u ∉ xt) (h2u : u ∉ xr) :
    xt.length + xr.length + 1 ≤ K := by
  obtain ⟨-, -, -, -, ⟨h5, h6⟩, h7, h8⟩ := hV
  have h9 := hK ((xt ++ xr) ++ [u]) (nodup_snoc (List.nodup_append.2 ⟨h5, h7, fun a ha b hb e => by subst e; have := (h6 a ha).2.2.1; rw [(h8 a hb).2.2.1] at this; cases this⟩) (fun h => (List.mem_append.1 h).elim h1u h2u)) (fun v hv => by
    rcases List.mem_append.1 hv with hv | hv
    · rcases List.mem_append.1 hv with hv | hv
      · exact ⟨(h6 v hv).1, (h6 v hv).2.1⟩
      · exact ⟨(h8 v hv).1, (h8 v hv).2.1⟩
    · rw [List.mem_singleton] at hv; subst hv; exact hu)
  rwa [List.length_append, List.length_append] at h9

set_option maxHeartbeats 4000000 in
set_option maxRecDepth 100000 in
theorem d_X2_variables (l : Launch) (Z : mm_G) (L : List Nat) (vr : Nat → Nat) (D : Nat → Bool) (S : ts) (kd : Nat → Bool) (mark : Int64) (q : Nat → Nat) (X2 X3 : List (Option Nat)) (K : Nat) (hK : vK D S K) (hK2 : K < 2 ^ 16) (N : Nat) : ∀ (T t : ev) (a : Nat) (B M : mm_M) (ar cp : Nat → Nat) (xt xr : List Nat), SizeOf.sizeOf T < N → uap S.2.1 t = T → VN Z B M L vr D S kd mark q ar cp xt xr X2 X3 → uwf (uG S kd) false T → mQ B L vr D S mark (vQ kd xt xr) (SizeOf.sizeOf T) → mtp B L vr D t false a → mm_D l Z yX2_variables (ws_ yX2_variables cX2_variables 7 none) { frames := uh T + 10, cells := K - (xt.length + xr.length), slots := (80 + 8 * K) - (4 * cp 0 + 4 * cp 1), locals := 30 * uh T + 400 } [.ref a, .ref (q 0), .ref (q 1), .long mark] M (fun v M' n9 k9 => v = none ∧ ∃ (B' : mm_M) (ar' cp' : Nat → Nat) (xt' xr' : List Nat), VN Z B' M' L vr D S kd mark q ar' cp' xt' xr' X2 X3 ∧ mS mark B B' ∧ vR kd T xt xr xt' xr' ∧ mQ2 B B' L vr D S mark (vQ kd xt' xr') ∧ n9 + (xt.length + xr.length) ≤ xt'.length + xr'.length ∧ k9 + (4 * cp 0 + 4 * cp 1) ≤ 4 * cp' 0 + 4 * cp' 1) mm_nx := by
  induction N with
  | zero => exact fun _ _ _ _ _ _ _ _ _ h => absurd h (Nat.not_lt_zero _)
  | succ N ih =>
  intro T t a B M ar cp xt xr hz hT hV hww hmy htpB
  refine mm_ofWD (cc := cX2_variables) (maxL := 7) (ret := none) (by decide) rfl (Nat.le_of_ble_eq_true rfl) ?_
  intro p e s m below meth c A ls hx hb hr hlk hml hown hmn hts htab hE hST hA hM hS hl
  replace hl : lv_has ls 7 [(0, .ref a), (1, .ref (q 0)), (2, .ref (q 1)), (3, .long mark)] := hl
  obtain ⟨hln1, ⟨hln2, hln3⟩, ⟨hln4, hln5⟩, hg0, hg1⟩ := hV.len hK
  have hCB := hV.2.1
  obtain ⟨d1, b1, t1, hn1, htb, he1, hbL, hcs⟩ := hCB.nowT htpB
  refine lv_aload_n hx hb dX2_variables_0 rfl (lv_at hl 0 rfl) ?_
  obtain ⟨-, k9, is9, fr9, to9, rw9, cm9, sn9, cp9, hq9⟩ := ((htpB.ext hV.1)).cellT
  refine mm_callV (As := []) (rest := []) ⟨hx, hb, hml, hown, hts⟩ hE hST hA (c_X25_now l Z (hn1.ext hV.1)) (cwV 0 hts (lw_V q2604 q2605 q2606 q98 q2607) rfl rfl rfl (by decide +kernel) ⟨(by (try dsimp only); omega), (by (try dsimp only); omega)⟩) hM hS mm_cX25 hq9 rfl hl.1 (Nat.le_of_ble_eq_true rfl) dX2_variables_1 rfl ⟨(by (try dsimp only); omega), (by (try dsimp only); omega)⟩ (fun _ _ _ _ _ _ h9 => h9.elim) (fun v_1 M_2 H locs hp_3 hM hS => ?_)
  obtain ⟨rfl, eM_2⟩ := hp_3
  rw [eM_2] at hM
  refine lv_astore hx hb dX2_variables_4 hl (by decide) rfl (fun ls hl => ?_)
  replace hl : lv_has ls 7 [(5, .ref b1), (0, .ref a), (1, .ref (q 0)), (2, .ref (q 1)), (3, .long mark)] := hl
  rcases hcs with ⟨eT, cm1, sn1, cp1, hb1⟩ | ⟨u, hu, eT, hsu, hbu, sn1, cp1, hb1⟩ | ⟨x1, y1, f1, g1, cm1, sn1, cp1, eT, hb1, hf1, hg1⟩ | ⟨r1, iv1, w1, cm1, sn1, cp1, eT, hb1, hw1⟩
  · skip
    rw [hT] at eT
    have hbM := hV.1.at hb1
    refine lv_aload hx hb dX2_variables_6 (lv_at hl 0 rfl) ?_
    refine va_get (D := Z.1) (ci := 20) (v := .long sn1) (C := RX25) (T := TX25) (N := 8) hx hb hts in_X25 hown hE.1 (hM.at hbM) 0 rfl mm_cX25 6 (by decide) (hts _ q2511) (fun _ h9 => h9) rfl dX2_variables_8 ?_
    refine lv_lload_n hx hb dX2_variables_11 rfl (lv_at hl 4 rfl) ?_
    refine W.lcmp hx hb dX2_variables_12 ?_
    refine lv_if_ne (tgt := 17) hx hb dX2_variables_13 (by decide) (fun c_4 => ?_) (fun c_4 => ?_)
    · skip
      have hsn : sn1 ≠ mark := fun e9 => c_4 (lg_cmp_0.2 e9)
      refine lv_aload hx hb dX2_variables_17 (lv_at hl 0 rfl) ?_
      refine lv_lload_n hx hb dX2_variables_19 rfl (lv_at hl 4 rfl) ?_
      refine mm_put (D := Z.1) (ci := 20) (v := .long mark) (ty := .long) (C := RX25) (T := TX25) (N := 8) hx hb hts in_X25 tyX25 tyX25_ok nmX25 hown hE.1 hM hS hbM mm_cX25 6 (by decide) (hts _ q2511) (fun _ h9 => h9) rfl (by decide +kernel) rfl rfl (Nat.le_of_ble_eq_true rfl) dX2_variables_20 (fun H locs hM hS => ?_)
      have hM : mm_P Z.1 mm_cl A (mm_U M b1 (.inr (20, [.int 1, .null, .null, .null, .null, .int (mm_b cm1), .long mark, va_rf cp1]))) H := hM
      have hc_5 : (mm_U M b1 (.inr (20, [.int 1, .null, .null, .null, .null, .int (mm_b cm1), .long mark, va_rf cp1]))) b1 = some (.inr (20, [.int 1, .null, .null, .null, .null, .int (mm_b cm1), .long mark, va_rf cp1])) := mm_U_eq
      obtain ⟨M_6, eM_6⟩ : ∃ z, z = mm_U M b1 (.inr (20, [.int 1, .null, .null, .null, .null, .int (mm_b cm1), .long mark, va_rf cp1])) := ⟨_, rfl⟩
      rw [← eM_6] at hM hc_5
      obtain ⟨B1, hV1, hS1, hb2, hbig, hlast⟩ := hV.mark (he1.trans hT) htb hb1 hmy
      replace hV1 : VN Z B1 M_6 L vr D S kd mark q ar cp xt xr X2 X3 := by rw [eM_6]; exact hV1
      have hbM2 := hV1.1.at hb2
      have hno : vQ kd xt xr T := vQ.none (fun u => by rw [eT]; rfl)
      refine lv_aload hx hb dX2_variables_23 (lv_at hl 0 rfl) ?_
      refine va_get (D := Z.1) (ci := 20) (v := .int 1) (C := RX25) (T := TX25) (N := 8) hx hb hts in_X25 hown hE.1 (hM.at hbM2) 0 rfl mm_cX25 0 (by decide) (hts _ q2504) (fun _ h9 => h9) rfl dX2_variables_25 ?_
      refine lv_if_ne (tgt := 41) hx hb dX2_variables_28 (by decide) (fun _ => ?_) (fun h9 => absurd h9 (by decide))
      refine lv_aload hx hb dX2_variables_41 (lv_at hl 0 rfl) ?_
      refine va_get (D := Z.1) (ci := 20) (v := .int 1) (C := RX25) (T := TX25) (N := 8) hx hb hts in_X25 hown hE.1 (hM.at hbM2) 0 rfl mm_cX25 0 (by decide) (hts _ q2504) (fun _ h9 => h9) rfl dX2_variables_43 ?_
      refine lv_iconst (v := 2) hx hb dX2_variables_46 (by decide) ?_
      refine lv_icmp_ne (tgt := 75) hx hb dX2_variables_47 (by decide) (fun _ => ?_) (fun h9 => absurd h9 (by decide))
      refine lv_aload hx hb dX2_variables_75 (lv_at hl 0 rfl) ?_
      refine va_get (D := Z.1) (ci := 20) (v := .int 1) (C := RX25) (T := TX25) (N := 8) hx hb hts in_X25 hown hE.1 (hM.at hbM2) 0 rfl mm_cX25 0 (by decide) (hts _ q2504) (fun _ h9 => h9) rfl dX2_variables_77 ?_
      refine lv_iconst (v := 1) hx hb dX2_variables_80 (by decide) ?_
      refine lv_icmp_eq (tgt := 151) hx hb dX2_variables_81 (by decide) (fun _ => ?_) (fun h9 => absurd (by decide) h9)
      exact mm_retvD hx hb hr hlk hM hS ⟨rfl, B1, ar, cp, xt, xr, hV1, hS1, vR.have hno, hlast B1 xt xr (mS.rf _) hno mQ2.rf, by (try dsimp only); omega, by (try dsimp only); omega⟩ dX2_variables_151 (by (try dsimp only); omega) (by (try dsimp only); omega)
    · skip
      have hsn : sn1 = mark := lg_cmp_0.1 (by first | exact c_4 | exact Classical.not_not.1 c_4)
      subst hsn
      have hm1 := hmy _ hbL ⟨_, _, _, _, _, _, _, hb1⟩ t1 htb (by rw [he1, hT]; exact Nat.le_refl _)
      rw [he1, hT] at hm1
      exact mm_retvD hx hb hr hlk hM hS ⟨rfl, B, ar, cp, xt, xr, hV, mS.rf _, vR.have hm1, mQ2.rf, by (try dsimp only); omega, by (try dsimp only); omega⟩ dX2_variables_16 (by (try dsimp only); omega) (by (try dsimp only); omega)
  · skip
    rw [hT] at eT
    subst hbu
    have hbM := hV.1.at hb1
    refine lv_aload hx hb dX2_variables_6 (lv_at hl 0 rfl) ?_
    refine va_get (D := Z.1) (ci := 20) (v := .long sn1) (C := RX25) (T := TX25) (N := 8) hx hb hts in_X25 hown hE.1 (hM.at hbM) 0 rfl mm_cX25 6 (by decide) (hts _ q2511) (fun _ h9 => h9) rfl dX2_variables_8 ?_
    refine lv_lload_n hx hb dX2_variables_11 rfl (lv_at hl 4 rfl) ?_
    refine W.lcmp hx hb dX2_variables_12 ?_
    refine lv_if_ne (tgt := 17) hx hb dX2_variables_13 (by decide) (fun c_4 => ?_) (fun c_4 => ?_)
    · skip
      have hsn : sn1 ≠ mark := fun e9 => c_4 (lg_cmp_0.2 e9)
      refine lv_aload hx hb dX2_variables_17 (lv_at hl 0 rfl) ?_
      refine lv_lload_n hx hb dX2_variables_19 rfl (lv_at hl 4 rfl) ?_
      refine mm_put (D := Z.1) (ci := 20) (v := .long mark) (ty := .long) (C := RX25) (T := TX25) (N := 8) hx hb hts in_X25 tyX25 tyX25_ok nmX25 hown hE.1 hM hS hbM mm_cX25 6 (by decide) (hts _ q2511) (fun _ h9 => h9) rfl (by decide +kernel) rfl rfl (Nat.le_of_ble_eq_true rfl) dX2_variables_20 (fun H locs hM hS => ?_)
      have hM : mm_P Z.1 mm_cl A (mm_U M (vr u) (.inr (20, [.int 0, .null, .null, .null, .null, .int (mm_b (S.2.2.1 u)), .long mark, va_rf cp1]))) H := hM
      have hc_5 : (mm_U M (vr u) (.inr (20, [.int 0, .null, .null, .null, .null, .int (mm_b (S.2.2.1 u)), .long mark, va_rf cp1]))) (vr u) = some (.inr (20, [.int 0, .null, .null, .null, .null, .int (mm_b (S.2.2.1 u)), .long mark, va_rf cp1])) := mm_U_eq
      obtain ⟨M_6, eM_6⟩ : ∃ z, z = mm_U M (vr u) (.inr (20, [.int 0, .null, .null, .null, .null, .int (mm_b (S.2.2.1 u)), .long mark, va_rf cp1])) := ⟨_, rfl⟩
      rw [← eM_6] at hM hc_5
      obtain ⟨B1, hV1, hS1, hb2, hbig, hlast⟩ := hV.mark (he1.trans hT) htb hb1 hmy
      replace hV1 : VN Z B1 M_6 L vr D S kd mark q ar cp xt xr X2 X3 := by rw [eM_6]; exact hV1
      have hbM2 := hV1.1.at hb2
      have hkd : kd u = false := by rw [eT] at hww; exact hww.2
      have hun : u ∉ xt := fun h9 => by
        obtain ⟨k9, is9, fr9, to9, rw9, cm9, cp9, h8⟩ := (hV.2.2.2.2.1.2 u h9).2.2.2
        rw [hb1] at h8
        exact hsn (mt_inj (Option.some.inj h8)).2.2.2.2.2.2.1
      have hA1 : AL Z M_6 (q 0) (ar 0) (cp 0) (xt.map (fun v => some (vr v))) := (hV1.2.2.2.1.1 0 (by omega)).1
      obtain ⟨mdq, fq, hpq, -⟩ := id hA1
      have hlm : (xt.map (fun v => some (vr v))).length = xt.length := List.length_map _
      have hKu := hV.more hK ⟨hu, hsu⟩ hun (fun h9 => by have h8 := (hV.2.2.2.2.2.2 u h9).2.2.1; rw [hkd] at h8; cases h8)
      have hAdd := c_J2_add l Z hA1 (r := some (vr u)) (by omega) hV1.ok.1 (fun v h8 => by cases h8; exact ⟨_, _, hbM2⟩)
      rw [hlm] at hAdd
      obtain ⟨hg2, hg3, hg4, hg5, hg6⟩ := gl_step hg0 hln2
      unfold gl_ok at hg2
      refine lv_aload hx hb dX2_variables_23 (lv_at hl 0 rfl) ?_
      refine va_get (D := Z.1) (ci := 20) (v := .int 0) (C := RX25) (T := TX25) (N := 8) hx hb hts in_X25 hown hE.1 (hM.at hbM2) 0 rfl mm_cX25 0 (by decide) (hts _ q2504) (fun _ h9 => h9) rfl dX2_variables_25 ?_
      refine lv_if_ne (tgt := 41) hx hb dX2_variables_28 (by decide) (fun h9 => absurd (by decide) h9) (fun _ => ?_)
      refine lv_aload_n hx hb dX2_variables_31 rfl (lv_at hl 2 rfl) ?_
      refine lv_aload hx hb dX2_variables_32 (lv_at hl 0 rfl) ?_
      refine mm_callV (As := [.ref (vr u)]) (rest := []) ⟨hx, hb, hml, hown, hts⟩ hE hST hA hAdd (cwV 1 hts (lw_V q2702 q335 q336 q53 q337) rfl rfl rfl (by decide +kernel) ⟨(by (try dsimp only); omega), (by (try dsimp only); omega)⟩) hM hS mm_cJ2 hpq rfl hl.1 (Nat.le_of_ble_eq_true rfl) dX2_variables_34 rfl ⟨(by (try dsimp only); omega), (by (try dsimp only); omega)⟩ (fun _ _ _ _ _ _ h9 => h9.elim) (fun v_7 M_8 H locs hp_9 hM hS => ?_)
      obtain ⟨rfl, ar2, hA9, hk9, ho9⟩ := hp_9
      have hV2 := hV1.add0 ⟨hu, hsu, hkd, ⟨_, _, _, _, _, _, _, hb2⟩⟩ hun hA9 hk9 ho9
      refine lv_pop hx hb dX2_variables_37 rfl ?_
      refine lv_goto (tgt := 151) hx hb dX2_variables_38 (by decide) ?_
      have hR : vR kd T xt xr (xt ++ [u]) xr := ⟨⟨_, rfl⟩, ⟨[], (List.append_nil _).symm⟩, fun w => by rw [eT]; simp only [List.mem_append, List.mem_singleton, uoc, beq_iff_eq]; refine ⟨⟨fun h9 => h9.imp id (fun h8 => ⟨h8.symm, by rw [h8]; exact hkd⟩), fun h9 => h9.imp id (fun h8 => h8.1.symm)⟩, ⟨Or.inl, fun h9 => h9.elim id (fun h8 => by rw [← h8.1, hkd] at h8; exact absurd h8.2 (by decide))⟩⟩⟩
      exact mm_retvD hx hb hr hlk hM hS ⟨rfl, B1, upf ar 0 ar2, upf cp 0 (al_cap xt.length (cp 0)), xt ++ [u], xr, hV2, hS1, hR, hlast B1 _ _ (mS.rf _) hR.Q mQ2.rf, by rw [List.length_append, List.length_singleton]; (try dsimp only); omega, by show _ ≤ 4 * al_cap xt.length (cp 0) + 4 * cp 1; (try dsimp only); omega⟩ dX2_variables_151 (by (try dsimp only); omega) (by (try dsimp only); omega)
    · skip
      have hsn : sn1 = mark := lg_cmp_0.1 (by first | exact c_4 | exact Classical.not_not.1 c_4)
      subst hsn
      have hm1 := hmy _ hbL ⟨_, _, _, _, _, _, _, hb1⟩ t1 htb (by rw [he1, hT]; exact Nat.le_refl _)
      rw [he1, hT] at hm1
      exact mm_retvD hx hb hr hlk hM hS ⟨rfl, B, ar, cp, xt, xr, hV, mS.rf _, vR.have hm1, mQ2.rf, by (try dsimp only); omega, by (try dsimp only); omega⟩ dX2_variables_16 (by (try dsimp only); omega) (by (try dsimp only); omega)
  · skip
    rw [hT] at eT
    have hsz : SizeOf.sizeOf T = 1 + SizeOf.sizeOf (uap S.2.1 x1) + SizeOf.sizeOf (uap S.2.1 y1) := by rw [eT]; rfl
    have huh : uh T = max (uh (uap S.2.1 x1)) (uh (uap S.2.1 y1)) + 1 := by rw [eT]; rfl
    have hor : ∀ u, uoc u T = (uoc u (uap S.2.1 x1) || uoc u (uap S.2.1 y1)) := fun u => by rw [eT]; rfl
    have hwx : uwf (uG S kd) false (uap S.2.1 x1) ∧ uwf (uG S kd) false (uap S.2.1 y1) := by rw [eT] at hww; exact hww
    have hbM := hV.1.at hb1
    refine lv_aload hx hb dX2_variables_6 (lv_at hl 0 rfl) ?_
    refine va_get (D := Z.1) (ci := 20) (v := .long sn1) (C := RX25) (T := TX25) (N := 8) hx hb hts in_X25 hown hE.1 (hM.at hbM) 0 rfl mm_cX25 6 (by decide) (hts _ q2511) (fun _ h9 => h9) rfl dX2_variables_8 ?_
    refine lv_lload_n hx hb dX2_variables_11 rfl (lv_at hl 4 rfl) ?_
    refine W.lcmp hx hb dX2_variables_12 ?_
    refine lv_if_ne (tgt := 17) hx hb dX2_variables_13 (by decide) (fun c_4 => ?_) (fun c_4 => ?_)
    · skip
      have hsn : sn1 ≠ mark := fun e9 => c_4 (lg_cmp_0.2 e9)
      refine lv_aload hx hb dX2_variables_17 (lv_at hl 0 rfl) ?_
      refine lv_lload_n hx hb dX2_variables_19 rfl (lv_at hl 4 rfl) ?_
      refine mm_put (D := Z.1) (ci := 20) (v := .long mark) (ty := .long) (C := RX25) (T := TX25) (N := 8) hx hb hts in_X25 tyX25 tyX25_ok nmX25 hown hE.1 hM hS hbM mm_cX25 6 (by decide) (hts _ q2511) (fun _ h9 => h9) rfl (by decide +kernel) rfl rfl (Nat.le_of_ble_eq_true rfl) dX2_variables_20 (fun H locs hM hS => ?_)
      have hM : mm_P Z.1 mm_cl A (mm_U M b1 (.inr (20, [.int 2, .null, .ref f1, .ref g1, .null, .int (mm_b cm1), .long mark, va_rf cp1]))) H := hM
      have hc_5 : (mm_U M b1 (.inr (20, [.int 2, .null, .ref f1, .ref g1, .null, .int (mm_b cm1), .long mark, va_rf cp1]))) b1 = some (.inr (20, [.int 2, .null, .ref f1, .ref g1, .null, .int (mm_b cm1), .long mark, va_rf cp1])) := mm_U_eq
      obtain ⟨M_6, eM_6⟩ : ∃ z, z = mm_U M b1 (.inr (20, [.int 2, .null, .ref f1, .ref g1, .null, .int (mm_b cm1), .long mark, va_rf cp1])) := ⟨_, rfl⟩
      rw [← eM_6] at hM hc_5
      obtain ⟨B1, hV1, hS1, hb2, hbig, hlast⟩ := hV.mark (he1.trans hT) htb hb1 hmy
      replace hV1 : VN Z B1 M_6 L vr D S kd mark q ar cp xt xr X2 X3 := by rw [eM_6]; exact hV1
      have hbM2 := hV1.1.at hb2
      refine lv_aload hx hb dX2_variables_23 (lv_at hl 0 rfl) ?_
      refine va_get (D := Z.1) (ci := 20) (v := .int 2) (C := RX25) (T := TX25) (N := 8) hx hb hts in_X25 hown hE.1 (hM.at hbM2) 0 rfl mm_cX25 0 (by decide) (hts _ q2504) (fun _ h9 => h9) rfl dX2_variables_25 ?_
      refine lv_if_ne (tgt := 41) hx hb dX2_variables_28 (by decide) (fun _ => ?_) (fun h9 => absurd h9 (by decide))
      refine lv_aload hx hb dX2_variables_41 (lv_at hl 0 rfl) ?_
      refine va_get (D := Z.1) (ci := 20) (v := .int 2) (C := RX25) (T := TX25) (N := 8) hx hb hts in_X25 hown hE.1 (hM.at hbM2) 0 rfl mm_cX25 0 (by decide) (hts _ q2504) (fun _ h9 => h9) rfl dX2_variables_43 ?_
      refine lv_iconst (v := 2) hx hb dX2_variables_46 (by decide) ?_
      refine lv_icmp_ne (tgt := 75) hx hb dX2_variables_47 (by decide) (fun h9 => absurd (by decide) h9) (fun _ => ?_)
      refine lv_aload hx hb dX2_variables_50 (lv_at hl 0 rfl) ?_
      refine va_get (D := Z.1) (ci := 20) (v := .ref f1) (C := RX25) (T := TX25) (N := 8) hx hb hts in_X25 hown hE.1 (hM.at hbM2) 0 rfl mm_cX25 2 (by decide) (hts _ q2507) (fun _ h9 => h9) rfl dX2_variables_52 ?_
      refine lv_aload_n hx hb dX2_variables_55 rfl (lv_at hl 2 rfl) ?_
      refine lv_aload_n hx hb dX2_variables_56 rfl (lv_at hl 3 rfl) ?_
      refine lv_lload_n hx hb dX2_variables_57 rfl (lv_at hl 4 rfl) ?_
      refine mm_callSD (As := [.ref f1, .ref (q 0), .ref (q 1), .long mark]) (rest := []) ⟨hx, hb, hml, hown, hts⟩ hE hST hA (ih (uap S.2.1 x1) x1 f1 B1 _ ar cp xt xr (by omega) rfl hV1 hwx.1 (hbig _ (by omega)) (hf1.light hS1.L)) (va_cwS 4 hts (lw_S q2699 q2700 q54 q2701) rfl rfl rfl (by decide +kernel) ⟨(by (try dsimp only); omega), (by (try dsimp only); omega)⟩) hM hS rfl hl.1 (Nat.le_of_ble_eq_true rfl) dX2_variables_58 rfl ⟨(by (try dsimp only); omega), (by (try dsimp only); omega)⟩ (fun _ _ _ _ _ _ h9 => h9.elim) (fun v_7 M_8 n_10 k_11 H locs hp_9 hM hS => ?_)
      obtain ⟨rfl, B2, ar2, cp2, xt2, xr2, hV2, hS2, hR2, hq2, hn2, hk2⟩ := hp_9
      obtain ⟨hln12, ⟨hln22, hln32⟩, ⟨hln42, hln52⟩, -⟩ := hV2.len hK
      obtain ⟨hle12, hle22⟩ := hR2.len
      obtain ⟨sn2, hb3, -⟩ := hS2.t (k := 2) (is := none) (fr := some f1) (to := some g1) (rw := none) (cm := cm1) (sn := mark) (cp := cp1) hb2
      have hbM3 := hV2.1.at hb3
      refine lv_aload hx hb dX2_variables_61 (lv_at hl 0 rfl) ?_
      refine va_get (D := Z.1) (ci := 20) (v := .ref g1) (C := RX25) (T := TX25) (N := 8) hx hb hts in_X25 hown hE.1 (hM.at hbM3) 0 rfl mm_cX25 3 (by decide) (hts _ q2508) (fun _ h9 => h9) rfl dX2_variables_63 ?_
      refine lv_aload_n hx hb dX2_variables_66 rfl (lv_at hl 2 rfl) ?_
      refine lv_aload_n hx hb dX2_variables_67 rfl (lv_at hl 3 rfl) ?_
      refine lv_lload_n hx hb dX2_variables_68 rfl (lv_at hl 4 rfl) ?_
      refine mm_callSD (As := [.ref g1, .ref (q 0), .ref (q 1), .long mark]) (rest := []) ⟨hx, hb, hml, hown, hts⟩ hE hST hA (ih (uap S.2.1 y1) y1 g1 B2 _ ar2 cp2 xt2 xr2 (by omega) rfl hV2 hwx.2 ((hbig _ (by omega)).next hV1.2.1 hq2 hS2.L (vQ.mono hR2.sub)) ((hg1.light hS1.L).light hS2.L)) (va_cwS 4 hts (lw_S q2699 q2700 q54 q2701) rfl rfl rfl (by decide +kernel) ⟨(by (try dsimp only); omega), (by (try dsimp only); omega)⟩) hM hS rfl hl.1 (Nat.le_of_ble_eq_true rfl) dX2_variables_69 rfl ⟨(by (try dsimp only); omega), (by (try dsimp only); omega)⟩ (fun _ _ _ _ _ _ h9 => h9.elim) (fun v_12 M_13 n_15 k_16 H locs hp_14 hM hS => ?_)
      obtain ⟨rfl, B3, ar3, cp3, xt3, xr3, hV3, hS3, hR3, hq3, hn3, hk3⟩ := hp_14
      obtain ⟨hln13, ⟨hln23, hln33⟩, ⟨hln43, hln53⟩, -⟩ := hV3.len hK
      obtain ⟨hle13, hle23⟩ := hR3.len
      refine lv_goto (tgt := 151) hx hb dX2_variables_72 (by decide) ?_
      have hR := hR2.comp hR3 hor
      exact mm_retvD hx hb hr hlk hM hS ⟨rfl, B3, ar3, cp3, xt3, xr3, hV3, hS1.trans (hS2.trans hS3), hR, hlast B3 _ _ (hS2.trans hS3) hR.Q (hq2.trans hV2.2.1 hq3 hS3.L (vQ.mono hR3.sub)), by (try dsimp only); omega, by (try dsimp only); omega⟩ dX2_variables_151 (by (try dsimp only); omega) (by (try dsimp only); omega)
    · skip
      have hsn : sn1 = mark := lg_cmp_0.1 (by first | exact c_4 | exact Classical.not_not.1 c_4)
      subst hsn
      have hm1 := hmy _ hbL ⟨_, _, _, _, _, _, _, hb1⟩ t1 htb (by rw [he1, hT]; exact Nat.le_refl _)
      rw [he1, hT] at hm1
      exact mm_retvD hx hb hr hlk hM hS ⟨rfl, B, ar, cp, xt, xr, hV, mS.rf _, vR.have hm1, mQ2.rf, by (try dsimp only); omega, by (try dsimp only); omega⟩ dX2_variables_16 (by (try dsimp only); omega) (by (try dsimp only); omega)
  · skip
    rw [hT] at eT
    have hsz : SizeOf.sizeOf (uap S.2.1 r1) < SizeOf.sizeOf T := by rw [eT]; simp <;> omega
    have huh : uh T = uh (uap S.2.1 r1) + 1 := by rw [eT]; rfl
    have hor : ∀ u, uoc u T = uoc u (uap S.2.1 r1) := fun u => by rw [eT]; rfl
    have hwx : uwf (uG S kd) true (uap S.2.1 r1) := by rw [eT] at hww; exact hww
    cases iv1
    · skip
      replace hb1 : B b1 = some (mt_E 3 none none none (some w1) cm1 sn1 cp1) := hb1
      have hbM := hV.1.at hb1
      refine lv_aload hx hb dX2_variables_6 (lv_at hl 0 rfl) ?_
      refine va_get (D := Z.1) (ci := 20) (v := .long sn1) (C := RX25) (T := TX25) (N := 8) hx hb hts in_X25 hown hE.1 (hM.at hbM) 0 rfl mm_cX25 6 (by decide) (hts _ q2511) (fun _ h9 => h9) rfl dX2_variables_8 ?_
      refine lv_lload_n hx hb dX2_variables_11 rfl (lv_at hl 4 rfl) ?_
      refine W.lcmp hx hb dX2_variables_12 ?_
      refine lv_if_ne (tgt := 17) hx hb dX2_variables_13 (by decide) (fun c_4 => ?_) (fun c_4 => ?_)
      · skip
        have hsn : sn1 ≠ mark := fun e9 => c_4 (lg_cmp_0.2 e9)
        refine lv_aload hx hb dX2_variables_17 (lv_at hl 0 rfl) ?_
        refine lv_lload_n hx hb dX2_variables_19 rfl (lv_at hl 4 rfl) ?_
        refine mm_put (D := Z.1) (ci := 20) (v := .long mark) (ty := .long) (C := RX25) (T := TX25) (N := 8) hx hb hts in_X25 tyX25 tyX25_ok nmX25 hown hE.1 hM hS hbM mm_cX25 6 (by decide) (hts _ q2511) (fun _ h9 => h9) rfl (by decide +kernel) rfl rfl (Nat.le_of_ble_eq_true rfl) dX2_variables_20 (fun H locs hM hS => ?_)
        have hM : mm_P Z.1 mm_cl A (mm_U M b1 (.inr (20, [.int 3, .null, .null, .null, .ref w1, .int (mm_b cm1), .long mark, va_rf cp1]))) H := hM
        have hc_5 : (mm_U M b1 (.inr (20, [.int 3, .null, .null, .null, .ref w1, .int (mm_b cm1), .long mark, va_rf cp1]))) b1 = some (.inr (20, [.int 3, .null, .null, .null, .ref w1, .int (mm_b cm1), .long mark, va_rf cp1])) := mm_U_eq
        obtain ⟨M_6, eM_6⟩ : ∃ z, z = mm_U M b1 (.inr (20, [.int 3, .null, .null, .null, .ref w1, .int (mm_b cm1), .long mark, va_rf cp1])) := ⟨_, rfl⟩
        rw [← eM_6] at hM hc_5
        obtain ⟨B1, hV1, hS1, hb2, hbig, hlast⟩ := hV.mark (he1.trans hT) htb hb1 hmy
        replace hV1 : VN Z B1 M_6 L vr D S kd mark q ar cp xt xr X2 X3 := by rw [eM_6]; exact hV1
        have hbM2 := hV1.1.at hb2
        refine lv_aload hx hb dX2_variables_23 (lv_at hl 0 rfl) ?_
        refine va_get (D := Z.1) (ci := 20) (v := .int 3) (C := RX25) (T := TX25) (N := 8) hx hb hts in_X25 hown hE.1 (hM.at hbM2) 0 rfl mm_cX25 0 (by decide) (hts _ q2504) (fun _ h9 => h9) rfl dX2_variables_25 ?_
        refine lv_if_ne (tgt := 41) hx hb dX2_variables_28 (by decide) (fun _ => ?_) (fun h9 => absurd h9 (by decide))
        refine lv_aload hx hb dX2_variables_41 (lv_at hl 0 rfl) ?_
        refine va_get (D := Z.1) (ci := 20) (v := .int 3) (C := RX25) (T := TX25) (N := 8) hx hb hts in_X25 hown hE.1 (hM.at hbM2) 0 rfl mm_cX25 0 (by decide) (hts _ q2504) (fun _ h9 => h9) rfl dX2_variables_43 ?_
        refine lv_iconst (v := 2) hx hb dX2_variables_46 (by decide) ?_
        refine lv_icmp_ne (tgt := 75) hx hb dX2_variables_47 (by decide) (fun _ => ?_) (fun h9 => absurd h9 (by decide))
        refine lv_aload hx hb dX2_variables_75 (lv_at hl 0 rfl) ?_
        refine va_get (D := Z.1) (ci := 20) (v := .int 3) (C := RX25) (T := TX25) (N := 8) hx hb hts in_X25 hown hE.1 (hM.at hbM2) 0 rfl mm_cX25 0 (by decide) (hts _ q2504) (fun _ h9 => h9) rfl dX2_variables_77 ?_
        refine lv_iconst (v := 1) hx hb dX2_variables_80 (by decide) ?_
        refine lv_icmp_eq (tgt := 151) hx hb dX2_variables_81 (by decide) (fun h9 => absurd h9 (by decide)) (fun _ => ?_)
        refine lv_aload hx hb dX2_variables_84 (lv_at hl 0 rfl) ?_
        refine va_get (D := Z.1) (ci := 20) (v := .ref w1) (C := RX25) (T := TX25) (N := 8) hx hb hts in_X25 hown hE.1 (hM.at hbM2) 0 rfl mm_cX25 4 (by decide) (hts _ q2509) (fun _ h9 => h9) rfl dX2_variables_86 ?_
        have hw2 := hw1.light hS1.L
        obtain ⟨d3, b3, hn3, hcs3⟩ := hV1.2.1.nowR' hw2
        obtain ⟨k9, is9, lb9, ty9, rs9, lk9, cm9, hq9, -⟩ := ((hw2.ext hV1.1)).cellR
        refine mm_callV (As := []) (rest := []) ⟨hx, hb, hml, hown, hts⟩ hE hST hA (c_X27_now l Z (hn3.ext hV1.1)) (cwV 0 hts (lw_V q2614 q2615 q2616 q100 q2617) rfl rfl rfl (by decide +kernel) ⟨(by (try dsimp only); omega), (by (try dsimp only); omega)⟩) hM hS mm_cX27 hq9 rfl hl.1 (Nat.le_of_ble_eq_true rfl) dX2_variables_89 rfl ⟨(by (try dsimp only); omega), (by (try dsimp only); omega)⟩ (fun _ _ _ _ _ _ h9 => h9.elim) (fun v_7 M_8 H locs hp_9 hM hS => ?_)
        obtain ⟨rfl, eM_8⟩ := hp_9
        rw [eM_8] at hM
        refine lv_astore hx hb dX2_variables_92 hl (by decide) rfl (fun ls hl => ?_)
        replace hl : lv_has ls 7 [(6, .ref b3), (5, .ref b1), (0, .ref a), (1, .ref (q 0)), (2, .ref (q 1)), (3, .long mark)] := hl
        refine mm_loopW (fun k M' ls cells slots => ∃ (T2 : ev) (b : Nat) (B2 : mm_M) (ar2 cp2 : Nat → Nat) (xt2 xr2 : List Nat), k = SizeOf.sizeOf T2 ∧ SizeOf.sizeOf T2 ≤ SizeOf.sizeOf (uap S.2.1 r1) ∧ uh T2 ≤ uh (uap S.2.1 r1) ∧ lv_has ls 7 [(6, .ref b), (0, .ref a), (1, .ref (q 0)), (2, .ref (q 1)), (3, .long mark)] ∧ VN Z B2 M' L vr D S kd mark q ar2 cp2 xt2 xr2 X2 X3 ∧ mS mark B1 B2 ∧ mRow B2 L vr D S T2 b ∧ uwf (uG S kd) true T2 ∧ mQ2 B1 B2 L vr D S mark (vQ kd xt2 xr2) ∧ (∀ xt9 xr9, vR kd T2 xt2 xr2 xt9 xr9 → vR kd (uap S.2.1 r1) xt xr xt9 xr9) ∧ ((∀ u ∈ xt, u ∈ xt2) ∧ ∀ u ∈ xr, u ∈ xr2) ∧ cells + (xt.length + xr.length) ≤ xt2.length + xr2.length ∧ slots + (4 * cp 0 + 4 * cp 1) ≤ 4 * cp2 0 + 4 * cp2 1) (fun k M3 ls H locs cells slots ih9 hI hM hS => ?_) ⟨uap S.2.1 r1, b3, B1, ar, cp, xt, xr, rfl, Nat.le_refl _, Nat.le_refl _, lv_sub hl [0, 2, 3, 4, 5] rfl, hV1, mS.rf _, hcs3, hwx, mQ2.rf, (fun _ _ h => h), ⟨fun _ h => h, fun _ h => h⟩, by (try dsimp only); omega, by (try dsimp only); omega⟩ hM hS
        obtain ⟨T2, b, B2, ar2, cp2, xt2, xr2, rfl, hz2, hh2, hl, hV2, hS2, hrow, hw9, hq2, hGo, hsub, hc9, hs9⟩ := hI
        obtain ⟨hlm1, ⟨hlm2, hlm3⟩, ⟨hlm4, hlm5⟩, hgm0, hgm1⟩ := hV2.len hK
        rcases hrow with ⟨eR, hb4⟩ | ⟨u, hu, eR, hsu, hbu, hbL4, hb4⟩ | ⟨x1, k1, r2, ty1, rs1, eR, hk1, hb4, hx1, hr1⟩
        · skip
          have hbM4 := hV2.1.at hb4
          refine lv_aload hx hb dX2_variables_94 (lv_at hl 0 rfl) ?_
          refine va_get (D := Z.1) (ci := 22) (v := .int 1) (C := RX27) (T := TX27) (N := 7) hx hb hts in_X27 hown hE.1 (hM.at hbM4) 0 rfl mm_cX27 0 (by decide) (hts _ q2577) (fun _ h9 => h9) rfl dX2_variables_96 ?_
          refine lv_iconst (v := 2) hx hb dX2_variables_99 (by decide) ?_
          refine lv_icmp_ne (tgt := 127) hx hb dX2_variables_100 (by decide) (fun _ => ?_) (fun h9 => absurd h9 (by decide))
          refine lv_aload hx hb dX2_variables_127 (lv_at hl 0 rfl) ?_
          refine va_get (D := Z.1) (ci := 22) (v := .int 1) (C := RX27) (T := TX27) (N := 7) hx hb hts in_X27 hown hE.1 (hM.at hbM4) 0 rfl mm_cX27 0 (by decide) (hts _ q2577) (fun _ h9 => h9) rfl dX2_variables_129 ?_
          refine lv_if_ne (tgt := 151) hx hb dX2_variables_132 (by decide) (fun _ => ?_) (fun h9 => absurd h9 (by decide))
          have hR : vR kd T xt xr xt2 xr2 := (hGo _ _ (vR.have (vQ.none (fun u => by rw [eR]; rfl)))).cg hor
          exact mm_retvD hx hb hr hlk hM hS ⟨rfl, B2, ar2, cp2, xt2, xr2, hV2, hS1.trans hS2, hR, hlast B2 _ _ hS2 hR.Q hq2, hc9, hs9⟩ dX2_variables_151 (by (try dsimp only); omega) (by (try dsimp only); omega)
        · skip
          subst hbu
          have hbM4 := hV2.1.at hb4
          have hkd : kd u = true := by rw [eR] at hw9; exact hw9.2
          have hA1 : AL Z M3 (q 1) (ar2 1) (cp2 1) (xr2.map (fun v => some (vr v))) := (hV2.2.2.2.1.1 1 (by omega)).1
          obtain ⟨mdq, fq, hpq, -⟩ := id hA1
          have hlm : (xr2.map (fun v => some (vr v))).length = xr2.length := List.length_map _
          refine lv_aload hx hb dX2_variables_94 (lv_at hl 0 rfl) ?_
          refine va_get (D := Z.1) (ci := 22) (v := .int 0) (C := RX27) (T := TX27) (N := 7) hx hb hts in_X27 hown hE.1 (hM.at hbM4) 0 rfl mm_cX27 0 (by decide) (hts _ q2577) (fun _ h9 => h9) rfl dX2_variables_96 ?_
          refine lv_iconst (v := 2) hx hb dX2_variables_99 (by decide) ?_
          refine lv_icmp_ne (tgt := 127) hx hb dX2_variables_100 (by decide) (fun _ => ?_) (fun h9 => absurd h9 (by decide))
          refine lv_aload hx hb dX2_variables_127 (lv_at hl 0 rfl) ?_
          refine va_get (D := Z.1) (ci := 22) (v := .int 0) (C := RX27) (T := TX27) (N := 7) hx hb hts in_X27 hown hE.1 (hM.at hbM4) 0 rfl mm_cX27 0 (by decide) (hts _ q2577) (fun _ h9 => h9) rfl dX2_variables_129 ?_
          refine lv_if_ne (tgt := 151) hx hb dX2_variables_132 (by decide) (fun h9 => absurd (by decide) h9) (fun _ => ?_)
          refine lv_aload_n hx hb dX2_variables_135 rfl (lv_at hl 3 rfl) ?_
          refine lv_aload hx hb dX2_variables_136 (lv_at hl 0 rfl) ?_
          refine mm_callV (As := [.ref (vr u)]) (rest := []) ⟨hx, hb, hml, hown, hts⟩ hE hST hA (c_J2_contains_X27 l Z hA1 hbM4) (cwV 1 hts (lw_V q2703 q2704 q2705 q53 q2706) rfl rfl rfl (by decide +kernel) ⟨(by (try dsimp only); omega), (by (try dsimp only); omega)⟩) hM hS mm_cJ2 hpq rfl hl.1 (Nat.le_of_ble_eq_true rfl) dX2_variables_138 rfl ⟨(by (try dsimp only); omega), (by (try dsimp only); omega)⟩ (fun _ _ _ _ _ _ h9 => h9.elim) (fun v_10 M_11 H locs hp_12 hM hS => ?_)
          obtain ⟨rfl, eM_11⟩ := hp_12
          rw [eM_11] at hM
          have hin : some (vr u) ∈ xr2.map (fun v => some (vr v)) ↔ u ∈ xr2 := ⟨fun h9 => by obtain ⟨w, h8, h7⟩ := List.mem_map.1 h9; have h6 := hV2.2.1.1.2.2.1 w u (hV2.2.2.2.2.2.2 w h8).1 hu (Option.some.inj h7); rw [← h6]; exact h8, fun h9 => List.mem_map.2 ⟨u, h9, rfl⟩⟩
          refine lv_if_ne (tgt := 151) hx hb dX2_variables_141 (by decide) (fun c_13 => ?_) (fun c_13 => ?_)
          · skip
            have hux : u ∈ xr2 := hin.1 (by cases h8 : decide (some (vr u) ∈ xr2.map (fun v => some (vr v))) with | true => exact of_decide_eq_true h8 | false => exact absurd ((mm_b_0 _).2 h8) c_13)
            have hR : vR kd T xt xr xt2 xr2 := (hGo _ _ (vR.have (fun w hw => by rw [eR] at hw; simp only [uoc, beq_iff_eq] at hw; subst hw; exact ⟨fun h9 => by (rw [hkd] at h9; cases h9), fun _ => hux⟩))).cg hor
            exact mm_retvD hx hb hr hlk hM hS ⟨rfl, B2, ar2, cp2, xt2, xr2, hV2, hS1.trans hS2, hR, hlast B2 _ _ hS2 hR.Q hq2, hc9, hs9⟩ dX2_variables_151 (by (try dsimp only); omega) (by (try dsimp only); omega)
          · skip
            have hux : u ∉ xr2 := fun h9 => by have h8 := (mm_b_0 _).1 (by first | exact c_13 | exact Classical.not_not.1 c_13); exact of_decide_eq_false h8 (hin.2 h9)
            have hKu := hV2.more hK ⟨hu, hsu⟩ (fun h9 => by have h8 := (hV2.2.2.2.2.1.2 u h9).2.2.1; rw [hkd] at h8; cases h8) hux
            have hAdd := c_J2_add l Z hA1 (r := some (vr u)) (by omega) hV2.ok.2 (fun v h8 => by cases h8; exact ⟨_, _, hbM4⟩)
            rw [hlm] at hAdd
            obtain ⟨hg2, hg3, hg4, hg5, hg6⟩ := gl_step hgm1 hlm4
            unfold gl_ok at hg2
            refine lv_aload_n hx hb dX2_variables_144 rfl (lv_at hl 3 rfl) ?_
            refine lv_aload hx hb dX2_variables_145 (lv_at hl 0 rfl) ?_
            refine mm_callV (As := [.ref (vr u)]) (rest := []) ⟨hx, hb, hml, hown, hts⟩ hE hST hA hAdd (cwV 1 hts (lw_V q2702 q335 q336 q53 q337) rfl rfl rfl (by decide +kernel) ⟨(by (try dsimp only); omega), (by (try dsimp only); omega)⟩) hM hS mm_cJ2 hpq rfl hl.1 (Nat.le_of_ble_eq_true rfl) dX2_variables_147 rfl ⟨(by (try dsimp only); omega), (by (try dsimp only); omega)⟩ (fun _ _ _ _ _ _ h9 => h9.elim) (fun v_14 M_15 H locs hp_16 hM hS => ?_)
            obtain ⟨rfl, ar3, hA9, hk9, ho9⟩ := hp_16
            have hV3 := hV2.add1 ⟨hu, hsu, hkd, hb4⟩ hux hA9 hk9 ho9
            refine lv_pop hx hb dX2_variables_150 rfl ?_
            have hR0 : vR kd T2 xt2 xr2 xt2 (xr2 ++ [u]) := ⟨⟨[], (List.append_nil _).symm⟩, ⟨_, rfl⟩, fun w => by rw [eR]; simp only [List.mem_append, List.mem_singleton, uoc, beq_iff_eq]; refine ⟨⟨Or.inl, fun h9 => h9.elim id (fun h8 => by rw [← h8.1, hkd] at h8; exact absurd h8.2 (by decide))⟩, ⟨fun h9 => h9.imp id (fun h8 => ⟨h8.symm, by rw [h8]; exact hkd⟩), fun h9 => h9.imp id (fun h8 => h8.1.symm)⟩⟩⟩
            have hR : vR kd T xt xr xt2 (xr2 ++ [u]) := (hGo _ _ hR0).cg hor
            exact mm_retvD hx hb hr hlk hM hS ⟨rfl, B2, upf ar2 1 ar3, upf cp2 1 (al_cap xr2.length (cp2 1)), xt2, xr2 ++ [u], hV3, hS1.trans hS2, hR, hlast B2 _ _ hS2 hR.Q (hq2.trans hV2.2.1 mQ2.rf (mL.rf _) (vQ.mono hR0.sub)), by rw [List.length_append, List.length_singleton]; (try dsimp only); omega, by show _ ≤ 4 * cp2 0 + 4 * al_cap xr2.length (cp2 1); (try dsimp only); omega⟩ dX2_variables_151 (by (try dsimp only); omega) (by (try dsimp only); omega)
        · skip
          have hbM4 := hV2.1.at hb4
          have hsz2 : SizeOf.sizeOf T2 = 1 + (1 + SizeOf.sizeOf (uap S.2.1 x1) + SizeOf.sizeOf k1) + SizeOf.sizeOf (uap S.2.1 r2) := by rw [eR, uins_size]
          have huh2 : uh T2 = max (uh (uap S.2.1 x1) + 1) (uh (uap S.2.1 r2)) := by rw [eR, uins_h]
          have hwi := uwf_ins_inv _ (eR ▸ hw9)
          refine lv_aload hx hb dX2_variables_94 (lv_at hl 0 rfl) ?_
          refine va_get (D := Z.1) (ci := 22) (v := .int 2) (C := RX27) (T := TX27) (N := 7) hx hb hts in_X27 hown hE.1 (hM.at hbM4) 0 rfl mm_cX27 0 (by decide) (hts _ q2577) (fun _ h9 => h9) rfl dX2_variables_96 ?_
          refine lv_iconst (v := 2) hx hb dX2_variables_99 (by decide) ?_
          refine lv_icmp_ne (tgt := 127) hx hb dX2_variables_100 (by decide) (fun h9 => absurd (by decide) h9) (fun _ => ?_)
          refine lv_aload hx hb dX2_variables_103 (lv_at hl 0 rfl) ?_
          refine va_get (D := Z.1) (ci := 22) (v := .ref ty1) (C := RX27) (T := TX27) (N := 7) hx hb hts in_X27 hown hE.1 (hM.at hbM4) 0 rfl mm_cX27 3 (by decide) (hts _ q2581) (fun _ h9 => h9) rfl dX2_variables_105 ?_
          refine lv_aload_n hx hb dX2_variables_108 rfl (lv_at hl 2 rfl) ?_
          refine lv_aload_n hx hb dX2_variables_109 rfl (lv_at hl 3 rfl) ?_
          refine lv_lload_n hx hb dX2_variables_110 rfl (lv_at hl 4 rfl) ?_
          refine mm_callSD (As := [.ref ty1, .ref (q 0), .ref (q 1), .long mark]) (rest := []) ⟨hx, hb, hml, hown, hts⟩ hE hST hA (ih (uap S.2.1 x1) x1 ty1 B2 _ ar2 cp2 xt2 xr2 (by omega) rfl hV2 hwi.1 ((hbig _ (by omega)).next hV1.2.1 hq2 hS2.L (vQ.mono hsub)) hx1) (va_cwS 4 hts (lw_S q2699 q2700 q54 q2701) rfl rfl rfl (by decide +kernel) ⟨(by (try dsimp only); omega), (by (try dsimp only); omega)⟩) hM hS rfl hl.1 (Nat.le_of_ble_eq_true rfl) dX2_variables_111 rfl ⟨(by (try dsimp only); omega), (by (try dsimp only); omega)⟩ (fun _ _ _ _ _ _ h9 => h9.elim) (fun v_10 M_11 n_13 k_14 H locs hp_12 hM hS => ?_)
          obtain ⟨rfl, B5, ar5, cp5, xt5, xr5, hV5, hS5, hR5, hq5, hn5, hk5⟩ := hp_12
          obtain ⟨hln15, ⟨hln25, hln35⟩, ⟨hln45, hln55⟩, -⟩ := hV5.len hK
          obtain ⟨hle15, hle25⟩ := hR5.len
          have hb5 := hS5.r hb4
          have hbM5 := hV5.1.at hb5
          refine lv_aload hx hb dX2_variables_114 (lv_at hl 0 rfl) ?_
          refine va_get (D := Z.1) (ci := 22) (v := .ref rs1) (C := RX27) (T := TX27) (N := 7) hx hb hts in_X27 hown hE.1 (hM.at hbM5) 0 rfl mm_cX27 4 (by decide) (hts _ q2582) (fun _ h9 => h9) rfl dX2_variables_116 ?_
          have hr5 := hr1.light hS5.L
          obtain ⟨d6, b6, hn6, hcs6⟩ := hV5.2.1.nowR' hr5
          obtain ⟨k9, is9, lb9, ty9, rs9, lk9, cm9, hq9, -⟩ := ((hr5.ext hV5.1)).cellR
          refine mm_callV (As := []) (rest := []) ⟨hx, hb, hml, hown, hts⟩ hE hST hA (c_X27_now l Z (hn6.ext hV5.1)) (cwV 0 hts (lw_V q2614 q2615 q2616 q100 q2617) rfl rfl rfl (by decide +kernel) ⟨(by (try dsimp only); omega), (by (try dsimp only); omega)⟩) hM hS mm_cX27 hq9 rfl hl.1 (Nat.le_of_ble_eq_true rfl) dX2_variables_119 rfl ⟨(by (try dsimp only); omega), (by (try dsimp only); omega)⟩ (fun _ _ _ _ _ _ h9 => h9.elim) (fun v_15 M_16 H locs hp_17 hM hS => ?_)
          obtain ⟨rfl, eM_16⟩ := hp_17
          rw [eM_16] at hM
          refine lv_astore hx hb dX2_variables_122 hl (by decide) rfl (fun ls hl => ?_)
          replace hl : lv_has ls 7 [(6, .ref b6), (0, .ref a), (1, .ref (q 0)), (2, .ref (q 1)), (3, .long mark)] := hl
          refine lv_goto (tgt := 94) hx hb dX2_variables_124 (by decide) ?_
          refine ih9 (SizeOf.sizeOf (uap S.2.1 r2)) (by omega) _ _ _ _ _ _ ⟨uap S.2.1 r2, b6, B5, ar5, cp5, xt5, xr5, rfl, by omega, by omega, lv_sub hl [0, 1, 2, 3, 4] rfl, hV5, hS2.trans hS5, hcs6, hwi.2, hq2.trans hV2.2.1 hq5 hS5.L (vQ.mono hR5.sub), (fun xt9 xr9 h9 => hGo _ _ (hR5.comp h9 (fun u => by rw [eR]; exact uins_oc _))), ⟨fun u h9 => hR5.sub.1 u (hsub.1 u h9), fun u h9 => hR5.sub.2 u (hsub.2 u h9)⟩, by (try dsimp only); omega, by (try dsimp only); omega⟩ hM hS
      · skip
        have hsn : sn1 = mark := lg_cmp_0.1 (by first | exact c_4 | exact Classical.not_not.1 c_4)
        subst hsn
        have hm1 := hmy _ hbL ⟨_, _, _, _, _, _, _, hb1⟩ t1 htb (by rw [he1, hT]; exact Nat.le_refl _)
        rw [he1, hT] at hm1
        exact mm_retvD hx hb hr hlk hM hS ⟨rfl, B, ar, cp, xt, xr, hV, mS.rf _, vR.have hm1, mQ2.rf, by (try dsimp only); omega, by (try dsimp only); omega⟩ dX2_variables_16 (by (try dsimp only); omega) (by (try dsimp only); omega)
    · skip
      replace hb1 : B b1 = some (mt_E 4 none none none (some w1) cm1 sn1 cp1) := hb1
      have hbM := hV.1.at hb1
      refine lv_aload hx hb dX2_variables_6 (lv_at hl 0 rfl) ?_
      refine va_get (D := Z.1) (ci := 20) (v := .long sn1) (C := RX25) (T := TX25) (N := 8) hx hb hts in_X25 hown hE.1 (hM.at hbM) 0 rfl mm_cX25 6 (by decide) (hts _ q2511) (fun _ h9 => h9) rfl dX2_variables_8 ?_
      refine lv_lload_n hx hb dX2_variables_11 rfl (lv_at hl 4 rfl) ?_
      refine W.lcmp hx hb dX2_variables_12 ?_
      refine lv_if_ne (tgt := 17) hx hb dX2_variables_13 (by decide) (fun c_4 => ?_) (fun c_4 => ?_)
      · skip
        have hsn : sn1 ≠ mark := fun e9 => c_4 (lg_cmp_0.2 e9)
        refine lv_aload hx hb dX2_variables_17 (lv_at hl 0 rfl) ?_
        refine lv_lload_n hx hb dX2_variables_19 rfl (lv_at hl 4 rfl) ?_
        refine mm_put (D := Z.1) (ci := 20) (v := .long mark) (ty := .long) (C := RX25) (T := TX25) (N := 8) hx hb hts in_X25 tyX25 tyX25_ok nmX25 hown hE.1 hM hS hbM mm_cX25 6 (by decide) (hts _ q2511) (fun _ h9 => h9) rfl (by decide +kernel) rfl rfl (Nat.le_of_ble_eq_true rfl) dX2_variables_20 (fun H locs hM hS => ?_)
        have hM : mm_P Z.1 mm_cl A (mm_U M b1 (.inr (20, [.int 4, .null, .null, .null, .ref w1, .int (mm_b cm1), .long mark, va_rf cp1]))) H := hM
        have hc_5 : (mm_U M b1 (.inr (20, [.int 4, .null, .null, .null, .ref w1, .int (mm_b cm1), .long mark, va_rf cp1]))) b1 = some (.inr (20, [.int 4, .null, .null, .null, .ref w1, .int (mm_b cm1), .long mark, va_rf cp1])) := mm_U_eq
        obtain ⟨M_6, eM_6⟩ : ∃ z, z = mm_U M b1 (.inr (20, [.int 4, .null, .null, .null, .ref w1, .int (mm_b cm1), .long mark, va_rf cp1])) := ⟨_, rfl⟩
        rw [← eM_6] at hM hc_5
        obtain ⟨B1, hV1, hS1, hb2, hbig, hlast⟩ := hV.mark (he1.trans hT) htb hb1 hmy
        replace hV1 : VN Z B1 M_6 L vr D S kd mark q ar cp xt xr X2 X3 := by rw [eM_6]; exact hV1
        have hbM2 := hV1.1.at hb2
        refine lv_aload hx hb dX2_variables_23 (lv_at hl 0 rfl) ?_
        refine va_get (D := Z.1) (ci := 20) (v := .int 4) (C := RX25) (T := TX25) (N := 8) hx hb hts in_X25 hown hE.1 (hM.at hbM2) 0 rfl mm_cX25 0 (by decide) (hts _ q2504) (fun _ h9 => h9) rfl dX2_variables_25 ?_
        refine lv_if_ne (tgt := 41) hx hb dX2_variables_28 (by decide) (fun _ => ?_) (fun h9 => absurd h9 (by decide))
        refine lv_aload hx hb dX2_variables_41 (lv_at hl 0 rfl) ?_
        refine va_get (D := Z.1) (ci := 20) (v := .int 4) (C := RX25) (T := TX25) (N := 8) hx hb hts in_X25 hown hE.1 (hM.at hbM2) 0 rfl mm_cX25 0 (by decide) (hts _ q2504) (fun _ h9 => h9) rfl dX2_variables_43 ?_
        refine lv_iconst (v := 2) hx hb dX2_variables_46 (by decide) ?_
        refine lv_icmp_ne (tgt := 75) hx hb dX2_variables_47 (by decide) (fun _ => ?_) (fun h9 => absurd h9 (by decide))
        refine lv_aload hx hb dX2_variables_75 (lv_at hl 0 rfl) ?_
        refine va_get (D := Z.1) (ci := 20) (v := .int 4) (C := RX25) (T := TX25) (N := 8) hx hb hts in_X25 hown hE.1 (hM.at hbM2) 0 rfl mm_cX25 0 (by decide) (hts _ q2504) (fun _ h9 => h9) rfl dX2_variables_77 ?_
        refine lv_iconst (v := 1) hx hb dX2_variables_80 (by decide) ?_
        refine lv_icmp_eq (tgt := 151) hx hb dX2_variables_81 (by decide) (fun h9 => absurd h9 (by decide)) (fun _ => ?_)
        refine lv_aload hx hb dX2_variables_84 (lv_at hl 0 rfl) ?_
        refine va_get (D := Z.1) (ci := 20) (v := .ref w1) (C := RX25) (T := TX25) (N := 8) hx hb hts in_X25 hown hE.1 (hM.at hbM2) 0 rfl mm_cX25 4 (by decide) (hts _ q2509) (fun _ h9 => h9) rfl dX2_variables_86 ?_
        have hw2 := hw1.light hS1.L
        obtain ⟨d3, b3, hn3, hcs3⟩ := hV1.2.1.nowR' hw2
        obtain ⟨k9, is9, lb9, ty9, rs9, lk9, cm9, hq9, -⟩ := ((hw2.ext hV1.1)).cellR
        refine mm_callV (As := []) (rest := []) ⟨hx, hb, hml, hown, hts⟩ hE hST hA (c_X27_now l Z (hn3.ext hV1.1)) (cwV 0 hts (lw_V q2614 q2615 q2616 q100 q2617) rfl rfl rfl (by decide +kernel) ⟨(by (try dsimp only); omega), (by (try dsimp only); omega)⟩) hM hS mm_cX27 hq9 rfl hl.1 (Nat.le_of_ble_eq_true rfl) dX2_variables_89 rfl ⟨(by (try dsimp only); omega), (by (try dsimp only); omega)⟩ (fun _ _ _ _ _ _ h9 => h9.elim) (fun v_7 M_8 H locs hp_9 hM hS => ?_)
        obtain ⟨rfl, eM_8⟩ := hp_9
        rw [eM_8] at hM
        refine lv_astore hx hb dX2_variables_92 hl (by decide) rfl (fun ls hl => ?_)
        replace hl : lv_has ls 7 [(6, .ref b3), (5, .ref b1), (0, .ref a), (1, .ref (q 0)), (2, .ref (q 1)), (3, .long mark)] := hl
        refine mm_loopW (fun k M' ls cells slots => ∃ (T2 : ev) (b : Nat) (B2 : mm_M) (ar2 cp2 : Nat → Nat) (xt2 xr2 : List Nat), k = SizeOf.sizeOf T2 ∧ SizeOf.sizeOf T2 ≤ SizeOf.sizeOf (uap S.2.1 r1) ∧ uh T2 ≤ uh (uap S.2.1 r1) ∧ lv_has ls 7 [(6, .ref b), (0, .ref a), (1, .ref (q 0)), (2, .ref (q 1)), (3, .long mark)] ∧ VN Z B2 M' L vr D S kd mark q ar2 cp2 xt2 xr2 X2 X3 ∧ mS mark B1 B2 ∧ mRow B2 L vr D S T2 b ∧ uwf (uG S kd) true T2 ∧ mQ2 B1 B2 L vr D S mark (vQ kd xt2 xr2) ∧ (∀ xt9 xr9, vR kd T2 xt2 xr2 xt9 xr9 → vR kd (uap S.2.1 r1) xt xr xt9 xr9) ∧ ((∀ u ∈ xt, u ∈ xt2) ∧ ∀ u ∈ xr, u ∈ xr2) ∧ cells + (xt.length + xr.length) ≤ xt2.length + xr2.length ∧ slots + (4 * cp 0 + 4 * cp 1) ≤ 4 * cp2 0 + 4 * cp2 1) (fun k M3 ls H locs cells slots ih9 hI hM hS => ?_) ⟨uap S.2.1 r1, b3, B1, ar, cp, xt, xr, rfl, Nat.le_refl _, Nat.le_refl _, lv_sub hl [0, 2, 3, 4, 5] rfl, hV1, mS.rf _, hcs3, hwx, mQ2.rf, (fun _ _ h => h), ⟨fun _ h => h, fun _ h => h⟩, by (try dsimp only); omega, by (try dsimp only); omega⟩ hM hS
        obtain ⟨T2, b, B2, ar2, cp2, xt2, xr2, rfl, hz2, hh2, hl, hV2, hS2, hrow, hw9, hq2, hGo, hsub, hc9, hs9⟩ := hI
        obtain ⟨hlm1, ⟨hlm2, hlm3⟩, ⟨hlm4, hlm5⟩, hgm0, hgm1⟩ := hV2.len hK
        rcases hrow with ⟨eR, hb4⟩ | ⟨u, hu, eR, hsu, hbu, hbL4, hb4⟩ | ⟨x1, k1, r2, ty1, rs1, eR, hk1, hb4, hx1, hr1⟩
        · skip
          have hbM4 := hV2.1.at hb4
          refine lv_aload hx hb dX2_variables_94 (lv_at hl 0 rfl) ?_
          refine va_get (D := Z.1) (ci := 22) (v := .int 1) (C := RX27) (T := TX27) (N := 7) hx hb hts in_X27 hown hE.1 (hM.at hbM4) 0 rfl mm_cX27 0 (by decide) (hts _ q2577) (fun _ h9 => h9) rfl dX2_variables_96 ?_
          refine lv_iconst (v := 2) hx hb dX2_variables_99 (by decide) ?_
          refine lv_icmp_ne (tgt := 127) hx hb dX2_variables_100 (by decide) (fun _ => ?_) (fun h9 => absurd h9 (by decide))
          refine lv_aload hx hb dX2_variables_127 (lv_at hl 0 rfl) ?_
          refine va_get (D := Z.1) (ci := 22) (v := .int 1) (C := RX27) (T := TX27) (N := 7) hx hb hts in_X27 hown hE.1 (hM.at hbM4) 0 rfl mm_cX27 0 (by decide) (hts _ q2577) (fun _ h9 => h9) rfl dX2_variables_129 ?_
          refine lv_if_ne (tgt := 151) hx hb dX2_variables_132 (by decide) (fun _ => ?_) (fun h9 => absurd h9 (by decide))
          have hR : vR kd T xt xr xt2 xr2 := (hGo _ _ (vR.have (vQ.none (fun u => by rw [eR]; rfl)))).cg hor
          exact mm_retvD hx hb hr hlk hM hS ⟨rfl, B2, ar2, cp2, xt2, xr2, hV2, hS1.trans hS2, hR, hlast B2 _ _ hS2 hR.Q hq2, hc9, hs9⟩ dX2_variables_151 (by (try dsimp only); omega) (by (try dsimp only); omega)
        · skip
          subst hbu
          have hbM4 := hV2.1.at hb4
          have hkd : kd u = true := by rw [eR] at hw9; exact hw9.2
          have hA1 : AL Z M3 (q 1) (ar2 1) (cp2 1) (xr2.map (fun v => some (vr v))) := (hV2.2.2.2.1.1 1 (by omega)).1
          obtain ⟨mdq, fq, hpq, -⟩ := id hA1
          have hlm : (xr2.map (fun v => some (vr v))).length = xr2.length := List.length_map _
          refine lv_aload hx hb dX2_variables_94 (lv_at hl 0 rfl) ?_
          refine va_get (D := Z.1) (ci := 22) (v := .int 0) (C := RX27) (T := TX27) (N := 7) hx hb hts in_X27 hown hE.1 (hM.at hbM4) 0 rfl mm_cX27 0 (by decide) (hts _ q2577) (fun _ h9 => h9) rfl dX2_variables_96 ?_
          refine lv_iconst (v := 2) hx hb dX2_variables_99 (by decide) ?_
          refine lv_icmp_ne (tgt := 127) hx hb dX2_variables_100 (by decide) (fun _ => ?_) (fun h9 => absurd h9 (by decide))
          refine lv_aload hx hb dX2_variables_127 (lv_at hl 0 rfl) ?_
          refine va_get (D := Z.1) (ci := 22) (v := .int 0) (C := RX27) (T := TX27) (N := 7) hx hb hts in_X27 hown hE.1 (hM.at hbM4) 0 rfl mm_cX27 0 (by decide) (hts _ q2577) (fun _ h9 => h9) rfl dX2_variables_129 ?_
          refine lv_if_ne (tgt := 151) hx hb dX2_variables_132 (by decide) (fun h9 => absurd (by decide) h9) (fun _ => ?_)
          refine lv_aload_n hx hb dX2_variables_135 rfl (lv_at hl 3 rfl) ?_
          refine lv_aload hx hb dX2_variables_136 (lv_at hl 0 rfl) ?_
          refine mm_callV (As := [.ref (vr u)]) (rest := []) ⟨hx, hb, hml, hown, hts⟩ hE hST hA (c_J2_contains_X27 l Z hA1 hbM4) (cwV 1 hts (lw_V q2703 q2704 q2705 q53 q2706) rfl rfl rfl (by decide +kernel) ⟨(by (try dsimp only); omega), (by (try dsimp only); omega)⟩) hM hS mm_cJ2 hpq rfl hl.1 (Nat.le_of_ble_eq_true rfl) dX2_variables_138 rfl ⟨(by (try dsimp only); omega), (by (try dsimp only); omega)⟩ (fun _ _ _ _ _ _ h9 => h9.elim) (fun v_10 M_11 H locs hp_12 hM hS => ?_)
          obtain ⟨rfl, eM_11⟩ := hp_12
          rw [eM_11] at hM
          have hin : some (vr u) ∈ xr2.map (fun v => some (vr v)) ↔ u ∈ xr2 := ⟨fun h9 => by obtain ⟨w, h8, h7⟩ := List.mem_map.1 h9; have h6 := hV2.2.1.1.2.2.1 w u (hV2.2.2.2.2.2.2 w h8).1 hu (Option.some.inj h7); rw [← h6]; exact h8, fun h9 => List.mem_map.2 ⟨u, h9, rfl⟩⟩
          refine lv_if_ne (tgt := 151) hx hb dX2_variables_141 (by decide) (fun c_13 => ?_) (fun c_13 => ?_)
          · skip
            have hux : u ∈ xr2 := hin.1 (by cases h8 : decide (some (vr u) ∈ xr2.map (fun v => some (vr v))) with | true => exact of_decide_eq_true h8 | false => exact absurd ((mm_b_0 _).2 h8) c_13)
            have hR : vR kd T xt xr xt2 xr2 := (hGo _ _ (vR.have (fun w hw => by rw [eR] at hw; simp only [uoc, beq_iff_eq] at hw; subst hw; exact ⟨fun h9 => by (rw [hkd] at h9; cases h9), fun _ => hux⟩))).cg hor
            exact mm_retvD hx hb hr hlk hM hS ⟨rfl, B2, ar2, cp2, xt2, xr2, hV2, hS1.trans hS2, hR, hlast B2 _ _ hS2 hR.Q hq2, hc9, hs9⟩ dX2_variables_151 (by (try dsimp only); omega) (by (try dsimp only); omega)
          · skip
            have hux : u ∉ xr2 := fun h9 => by have h8 := (mm_b_0 _).1 (by first | exact c_13 | exact Classical.not_not.1 c_13); exact of_decide_eq_false h8 (hin.2 h9)
            have hKu := hV2.more hK ⟨hu, hsu⟩ (fun h9 => by have h8 := (hV2.2.2.2.2.1.2 u h9).2.2.1; rw [hkd] at h8; cases h8) hux
            have hAdd := c_J2_add l Z hA1 (r := some (vr u)) (by omega) hV2.ok.2 (fun v h8 => by cases h8; exact ⟨_, _, hbM4⟩)
            rw [hlm] at hAdd
            obtain ⟨hg2, hg3, hg4, hg5, hg6⟩ := gl_step hgm1 hlm4
            unfold gl_ok at hg2
            refine lv_aload_n hx hb dX2_variables_144 rfl (lv_at hl 3 rfl) ?_
            refine lv_aload hx hb dX2_variables_145 (lv_at hl 0 rfl) ?_
            refine mm_callV (As := [.ref (vr u)]) (rest := []) ⟨hx, hb, hml, hown, hts⟩ hE hST hA hAdd (cwV 1 hts (lw_V q2702 q335 q336 q53 q337) rfl rfl rfl (by decide +kernel) ⟨(by (try dsimp only); omega), (by (try dsimp only); omega)⟩) hM hS mm_cJ2 hpq rfl hl.1 (Nat.le_of_ble_eq_true rfl) dX2_variables_147 rfl ⟨(by (try dsimp only); omega), (by (try dsimp only); omega)⟩ (fun _ _ _ _ _ _ h9 => h9.elim) (fun v_14 M_15 H locs hp_16 hM hS => ?_)
            obtain ⟨rfl, ar3, hA9, hk9, ho9⟩ := hp_16
            have hV3 := hV2.add1 ⟨hu, hsu, hkd, hb4⟩ hux hA9 hk9 ho9
            refine lv_pop hx hb dX2_variables_150 rfl ?_
            have hR0 : vR kd T2 xt2 xr2 xt2 (xr2 ++ [u]) := ⟨⟨[], (List.append_nil _).symm⟩, ⟨_, rfl⟩, fun w => by rw [eR]; simp only [List.mem_append, List.mem_singleton, uoc, beq_iff_eq]; refine ⟨⟨Or.inl, fun h9 => h9.elim id (fun h8 => by rw [← h8.1, hkd] at h8; exact absurd h8.2 (by decide))⟩, ⟨fun h9 => h9.imp id (fun h8 => ⟨h8.symm, by rw [h8]; exact hkd⟩), fun h9 => h9.imp id (fun h8 => h8.1.symm)⟩⟩⟩
            have hR : vR kd T xt xr xt2 (xr2 ++ [u]) := (hGo _ _ hR0).cg hor
            exact mm_retvD hx hb hr hlk hM hS ⟨rfl, B2, upf ar2 1 ar3, upf cp2 1 (al_cap xr2.length (cp2 1)), xt2, xr2 ++ [u], hV3, hS1.trans hS2, hR, hlast B2 _ _ hS2 hR.Q (hq2.trans hV2.2.1 mQ2.rf (mL.rf _) (vQ.mono hR0.sub)), by rw [List.length_append, List.length_singleton]; (try dsimp only); omega, by show _ ≤ 4 * cp2 0 + 4 * al_cap xr2.length (cp2 1); (try dsimp only); omega⟩ dX2_variables_151 (by (try dsimp only); omega) (by (try dsimp only); omega)
        · skip
          have hbM4 := hV2.1.at hb4
          have hsz2 : SizeOf.sizeOf T2 = 1 + (1 + SizeOf.sizeOf (uap S.2.1 x1) + SizeOf.sizeOf k1) + SizeOf.sizeOf (uap S.2.1 r2) := by rw [eR, uins_size]
          have huh2 : uh T2 = max (uh (uap S.2.1 x1) + 1) (uh (uap S.2.1 r2)) := by rw [eR, uins_h]
          have hwi := uwf_ins_inv _ (eR ▸ hw9)
          refine lv_aload hx hb dX2_variables_94 (lv_at hl 0 rfl) ?_
          refine va_get (D := Z.1) (ci := 22) (v := .int 2) (C := RX27) (T := TX27) (N := 7) hx hb hts in_X27 hown hE.1 (hM.at hbM4) 0 rfl mm_cX27 0 (by decide) (hts _ q2577) (fun _ h9 => h9) rfl dX2_variables_96 ?_
          refine lv_iconst (v := 2) hx hb dX2_variables_99 (by decide) ?_
          refine lv_icmp_ne (tgt := 127) hx hb dX2_variables_100 (by decide) (fun h9 => absurd (by decide) h9) (fun _ => ?_)
          refine lv_aload hx hb dX2_variables_103 (lv_at hl 0 rfl) ?_
          refine va_get (D := Z.1) (ci := 22) (v := .ref ty1) (C := RX27) (T := TX27) (N := 7) hx hb hts in_X27 hown hE.1 (hM.at hbM4) 0 rfl mm_cX27 3 (by decide) (hts _ q2581) (fun _ h9 => h9) rfl dX2_variables_105 ?_
          refine lv_aload_n hx hb dX2_variables_108 rfl (lv_at hl 2 rfl) ?_
          refine lv_aload_n hx hb dX2_variables_109 rfl (lv_at hl 3 rfl) ?_
          refine lv_lload_n hx hb dX2_variables_110 rfl (lv_at hl 4 rfl) ?_
          refine mm_callSD (As := [.ref ty1, .ref (q 0), .ref (q 1), .long mark]) (rest := []) ⟨hx, hb, hml, hown, hts⟩ hE hST hA (ih (uap S.2.1 x1) x1 ty1 B2 _ ar2 cp2 xt2 xr2 (by omega) rfl hV2 hwi.1 ((hbig _ (by omega)).next hV1.2.1 hq2 hS2.L (vQ.mono hsub)) hx1) (va_cwS 4 hts (lw_S q2699 q2700 q54 q2701) rfl rfl rfl (by decide +kernel) ⟨(by (try dsimp only); omega), (by (try dsimp only); omega)⟩) hM hS rfl hl.1 (Nat.le_of_ble_eq_true rfl) dX2_variables_111 rfl ⟨(by (try dsimp only); omega), (by (try dsimp only); omega)⟩ (fun _ _ _ _ _ _ h9 => h9.elim) (fun v_10 M_11 n_13 k_14 H locs hp_12 hM hS => ?_)
          obtain ⟨rfl, B5, ar5, cp5, xt5, xr5, hV5, hS5, hR5, hq5, hn5, hk5⟩ := hp_12
          obtain ⟨hln15, ⟨hln25, hln35⟩, ⟨hln45, hln55⟩, -⟩ := hV5.len hK
          obtain ⟨hle15, hle25⟩ := hR5.len
          have hb5 := hS5.r hb4
          have hbM5 := hV5.1.at hb5
          refine lv_aload hx hb dX2_variables_114 (lv_at hl 0 rfl) ?_
          refine va_get (D := Z.1) (ci := 22) (v := .ref rs1) (C := RX27) (T := TX27) (N := 7) hx hb hts in_X27 hown hE.1 (hM.at hbM5) 0 rfl mm_cX27 4 (by decide) (hts _ q2582) (fun _ h9 => h9) rfl dX2_variables_116 ?_
          have hr5 := hr1.light hS5.L
          obtain ⟨d6, b6, hn6, hcs6⟩ := hV5.2.1.nowR' hr5
          obtain ⟨k9, is9, lb9, ty9, rs9, lk9, cm9, hq9, -⟩ := ((hr5.ext hV5.1)).cellR
          refine mm_callV (As := []) (rest := []) ⟨hx, hb, hml, hown, hts⟩ hE hST hA (c_X27_now l Z (hn6.ext hV5.1)) (cwV 0 hts (lw_V q2614 q2615 q2616 q100 q2617) rfl rfl rfl (by decide +kernel) ⟨(by (try dsimp only); omega), (by (try dsimp only); omega)⟩) hM hS mm_cX27 hq9 rfl hl.1 (Nat.le_of_ble_eq_true rfl) dX2_variables_119 rfl ⟨(by (try dsimp only); omega), (by (try dsimp only); omega)⟩ (fun _ _ _ _ _ _ h9 => h9.elim) (fun v_15 M_16 H locs hp_17 hM hS => ?_)
          obtain ⟨rfl, eM_16⟩ := hp_17
          rw [eM_16] at hM
          refine lv_astore hx hb dX2_variables_122 hl (by decide) rfl (fun ls hl => ?_)
          replace hl : lv_has ls 7 [(6, .ref b6), (0, .ref a), (1, .ref (q 0)), (2, .ref (q 1)), (3, .long mark)] := hl
          refine lv_goto (tgt := 94) hx hb dX2_variables_124 (by decide) ?_
          refine ih9 (SizeOf.sizeOf (uap S.2.1 r2)) (by omega) _ _ _ _ _ _ ⟨uap S.2.1 r2, b6, B5, ar5, cp5, xt5, xr5, rfl, by omega, by omega, lv_sub hl [0, 1, 2, 3, 4] rfl, hV5, hS2.trans hS5, hcs6, hwi.2, hq2.trans hV2.2.1 hq5 hS5.L (vQ.mono hR5.sub), (fun xt9 xr9 h9 => hGo _ _ (hR5.comp h9 (fun u => by rw [eR]; exact uins_oc _))), ⟨fun u h9 => hR5.sub.1 u (hsub.1 u h9), fun u h9 => hR5.sub.2 u (hsub.2 u h9)⟩, by (try dsimp only); omega, by (try dsimp only); omega⟩ hM hS
      · skip
        have hsn : sn1 = mark := lg_cmp_0.1 (by first | exact c_4 | exact Classical.not_not.1 c_4)
        subst hsn
        have hm1 := hmy _ hbL ⟨_, _, _, _, _, _, _, hb1⟩ t1 htb (by rw [he1, hT]; exact Nat.le_refl _)
        rw [he1, hT] at hm1
        exact mm_retvD hx hb hr hlk hM hS ⟨rfl, B, ar, cp, xt, xr, hV, mS.rf _, vR.have hm1, mQ2.rf, by (try dsimp only); omega, by (try dsimp only); omega⟩ dX2_variables_16 (by (try dsimp only); omega) (by (try dsimp only); omega)
