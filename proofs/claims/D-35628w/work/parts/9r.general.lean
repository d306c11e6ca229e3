/-! ===== the model: names with their types, and what is general in them ===== -/
set_option maxRecDepth 100000
/-- a name, its type, its general type and row variables -/
abbrev mg : Type := Nat × ev × List Nat × List Nat
abbrev mn_E (nm : Nat) (ty lt lr : Nat) (nx : Option Nat) : va_E := .inr (23, [.int (nI nm), .ref ty, .ref lt, .ref lr, va_rf nx])
/-- the names that are known, in memory -/
def mKn (Z : mm_G) (M : mm_M) (L : List Nat) (vr : Nat → Nat) (D : Nat → Bool) : List mg → Option Nat → Prop
  | [], k => k = none
  | e :: G, k => ∃ (a ty lt lr : Nat) (nx : Option Nat), k = some a ∧ M a = some (mn_E e.1 ty lt lr nx) ∧ mtp M L vr D e.2.1 false ty ∧ (∃ ar cp, AL Z M lt ar cp (e.2.2.1.map fun v => some (vr v))) ∧ (∃ ar cp, AL Z M lr ar cp (e.2.2.2.map fun v => some (vr v))) ∧ (∀ v ∈ e.2.2.1 ++ e.2.2.2, D v = true) ∧ mKn Z M L vr D G nx
theorem AL.mK {Z : mm_G} {M M' : mm_M} {a ar cap : Nat} {xs : List (Option Nat)} (h : AL Z M a ar cap xs) (hK : mK M M') : AL Z M' a ar cap xs := by
  obtain ⟨md, f, k1, k2, k3⟩ := h
  exact ⟨md, f, hK.atC k1 (by decide), hK.atA k2, k3⟩
theorem mKn.mono {Z : mm_G} {M M' : mm_M} {L L' : List Nat} {vr vr' : Nat → Nat} {D D' : Nat → Bool} (hK : mK M M') (hL : ∀ a ∈ L, a ∈ L') (hv : ∀ v, D v = true → D' v = true ∧ vr' v = vr v) : ∀ (G : List mg) (k : Option Nat), mKn Z M L vr D G k → mKn Z M' L' vr' D' G k
  | [], k, h => h
  | e :: G, k, h => by
    obtain ⟨a, ty, lt, lr, nx, h1, h2, h3, ⟨ar1, cp1, h4⟩, ⟨ar2, cp2, h5⟩, h6, h7⟩ := h
    have key : ∀ xs : List Nat, (∀ v ∈ xs, D v = true) → (xs.map fun v => some (vr' v)) = xs.map fun v => some (vr v) := fun xs hx => List.map_congr_left fun v hv9 => by rw [(hv v (hx v hv9)).2]
    refine ⟨a, ty, lt, lr, nx, h1, hK.atC h2 (by decide), mtp.mono hK hL hv _ _ _ h3, ⟨ar1, cp1, ?_⟩, ⟨ar2, cp2, ?_⟩, fun v hv9 => (hv v (h6 v hv9)).1, mKn.mono hK hL hv G nx h7⟩
    · rw [key _ (fun v hv9 => h6 v (List.mem_append_left _ hv9))]; exact h4.mK hK
    · rw [key _ (fun v hv9 => h6 v (List.mem_append_right _ hv9))]; exact h5.mK hK
/-- four lists that are new -/
theorem RL.new {Z : mm_G} {B M : mm_M} {q : Nat → Nat} (h0 : al_0 Z M) (hq : ∀ i, i < 4 → M (q i) = some (.inr (41, [.int 0, .ref (Z.2.2.1 2), .int 0])) ∧ B (q i) = none) (hd : ∀ i j, i < 4 → j < 4 → i ≠ j → q i ≠ q j) : RL Z B M q (fun _ => Z.2.2.1 2) (fun _ => 0) (fun _ => []) := by
  obtain ⟨f, hf⟩ := h0
  refine ⟨fun i hi => ⟨⟨0, f, (hq i hi).1, hf, Nat.le_refl _, (show (0 : Nat) < 2 ^ 20 by decide), fun _ => rfl, fun j hj => absurd hj (Nat.not_lt_zero _)⟩, (hq i hi).2, Or.inl rfl, Or.inl rfl, by simp⟩, fun i j hi hj hij => ⟨hd i j hi hj hij, Or.inl rfl⟩⟩
/-- a memory without the cell p -/
def mm_Wo (M : mm_M) (p : Nat) : mm_M := fun z => if z = p then none else M z
theorem mm_Wo_ne {M : mm_M} {p z : Nat} (h : z ≠ p) : mm_Wo M p z = M z := if_neg h
/-- the labels that rows lack, counted -/
def mny (S : ts) (gr : List Nat) : Int32 := gr.foldl (fun n v => n + bcn (S.2.2.2.1 v)) 0
theorem mny_snoc {S : ts} {gr : List Nat} {v : Nat} : mny S (gr ++ [v]) = mny S gr + bcn (S.2.2.2.1 v) := by
  unfold mny; rw [List.foldl_append]; rfl

theorem RL.adX2 {Z : mm_G} {B M Ma : mm_M} {q ar cp : Nat → Nat} {vr : Nat → Nat} {xt xr : List Nat} {X2 X3 : List (Option Nat)} (h : RL Z B M q ar cp (vX vr xt xr X2 X3)) (hx : mm_Ext B M) (h0 : al_0 Z B) {ar' : Nat} {r : Option Nat}
    (hA : AL Z Ma (q 2) ar' (al_cap X2.length (cp 2)) (X2 ++ [r])) (hk : ∀ z, z ≠ q 2 → z ≠ ar' → Ma z = M z) (ho : ar' = ar 2 ∧ X2.length < cp 2 ∨ M ar' = none) : RL Z B Ma q (upf ar 2 ar') (upf cp 2 (al_cap X2.length (cp 2))) (vX vr xt xr (X2 ++ [r]) X3) ∧ mm_Ext B Ma := by
  obtain ⟨k1, k2, -⟩ := h.add hx h0 (i := 2) (by omega) (r := r) hA hk ho
  refine ⟨k1.cg (fun i hi => ?_), k2⟩
  match i, hi with
  | 0, _ => rfl
  | 1, _ => rfl
  | 2, _ => rfl
  | 3, _ => rfl
theorem RL.adX3 {Z : mm_G} {B M Ma : mm_M} {q ar cp : Nat → Nat} {vr : Nat → Nat} {xt xr : List Nat} {X2 X3 : List (Option Nat)} (h : RL Z B M q ar cp (vX vr xt xr X2 X3)) (hx : mm_Ext B M) (h0 : al_0 Z B) {ar' : Nat} {r : Option Nat}
    (hA : AL Z Ma (q 3) ar' (al_cap X3.length (cp 3)) (X3 ++ [r])) (hk : ∀ z, z ≠ q 3 → z ≠ ar' → Ma z = M z) (ho : ar' = ar 3 ∧ X3.length < cp 3 ∨ M ar' = none) : RL Z B Ma q (upf ar 3 ar') (upf cp 3 (al_cap X3.length (cp 3))) (vX vr xt xr X2 (X3 ++ [r])) ∧ mm_Ext B Ma := by
  obtain ⟨k1, k2, -⟩ := h.add hx h0 (i := 3) (by omega) (r := r) hA hk ho
  refine ⟨k1.cg (fun i hi => ?_), k2⟩
  match i, hi with
  | 0, _ => rfl
  | 1, _ => rfl
  | 2, _ => rfl
  | 3, _ => rfl
/-- what is general in T, among names with the types of G -/
def mGen (S : ts) (kk : Nat → Bool) (G : List mg) (T : ev) (gt gr : List Nat) : Prop := gt.Nodup ∧ gr.Nodup ∧ ∀ v, (v ∈ gt ↔ uoc v T = true ∧ kk v = false ∧ ∀ e ∈ G, uoc v (uap S.2.1 e.2.1) = false) ∧ (v ∈ gr ↔ uoc v T = true ∧ kk v = true ∧ ∀ e ∈ G, uoc v (uap S.2.1 e.2.1) = false)
/-- the lists hold the variables of the names G -/
def mHold (S : ts) (kk : Nat → Bool) (G : List mg) (xt xr : List Nat) : Prop := ∀ v, (v ∈ xt ↔ kk v = false ∧ ∃ e ∈ G, uoc v (uap S.2.1 e.2.1) = true) ∧ (v ∈ xr ↔ kk v = true ∧ ∃ e ∈ G, uoc v (uap S.2.1 e.2.1) = true)
theorem mHold.nil {S : ts} {kk : Nat → Bool} : mHold S kk [] [] [] := fun v => by simp
theorem mHold.snoc {S : ts} {kk : Nat → Bool} {G : List mg} {e : mg} {xt xr xt' xr' : List Nat} (h : mHold S kk G xt xr) (hR : vR kk (uap S.2.1 e.2.1) xt xr xt' xr') : mHold S kk (G ++ [e]) xt' xr' := fun v => by
  obtain ⟨-, -, h3⟩ := hR
  rw [(h3 v).1, (h3 v).2, (h v).1, (h v).2]
  simp only [List.mem_append, List.mem_singleton]
  constructor
  · constructor
    · rintro (⟨a, e1, b, c⟩ | ⟨a, b⟩)
      · exact ⟨a, e1, Or.inl b, c⟩
      · exact ⟨b, e, Or.inr rfl, a⟩
    · rintro ⟨a, e1, b | rfl, c⟩
      · exact Or.inl ⟨a, e1, b, c⟩
      · exact Or.inr ⟨c, a⟩
  · constructor
    · rintro (⟨a, e1, b, c⟩ | ⟨a, b⟩)
      · exact ⟨a, e1, Or.inl b, c⟩
      · exact ⟨b, e, Or.inr rfl, a⟩
    · rintro ⟨a, e1, b | rfl, c⟩
      · exact Or.inl ⟨a, e1, b, c⟩
      · exact Or.inr ⟨c, a⟩
theorem mHold.gen {S : ts} {kk : Nat → Bool} {G : List mg} {T : ev} {xt xr et er : List Nat} (h : mHold S kk G xt xr) (hR : vR kk T xt xr (xt ++ et) (xr ++ er)) (n1 : (xt ++ et).Nodup) (n2 : (xr ++ er).Nodup) : mGen S kk G T et er := by
  obtain ⟨-, a2, a3⟩ := List.nodup_append.1 n1
  obtain ⟨-, b2, b3⟩ := List.nodup_append.1 n2
  have hno : ∀ v, (¬ ∃ e ∈ G, uoc v (uap S.2.1 e.2.1) = true) ↔ ∀ e ∈ G, uoc v (uap S.2.1 e.2.1) = false := fun v => by
    constructor
    · intro h9 e he
      cases h8 : uoc v (uap S.2.1 e.2.1) with
      | false => rfl
      | true => exact absurd ⟨e, he, h8⟩ h9
    · rintro h9 ⟨e, he, h8⟩
      rw [h9 e he] at h8; cases h8
  refine ⟨a2, b2, fun v => ⟨?_, ?_⟩⟩
  · have h1 := (hR.2.2 v).1
    rw [List.mem_append] at h1
    constructor
    · intro hv
      have hnx : v ∉ xt := fun h9 => a3 v h9 v hv rfl
      rcases h1.1 (Or.inr hv) with h9 | ⟨h9, h8⟩
      · exact absurd h9 hnx
      · exact ⟨h9, h8, (hno v).1 (fun h7 => hnx ((h v).1.2 ⟨h8, h7⟩))⟩
    · rintro ⟨h9, h8, h7⟩
      rcases h1.2 (Or.inr ⟨h9, h8⟩) with h6 | h6
      · exact absurd ((h v).1.1 h6).2 ((hno v).2 h7)
      · exact h6
  · have h1 := (hR.2.2 v).2
    rw [List.mem_append] at h1
    constructor
    · intro hv
      have hnx : v ∉ xr := fun h9 => b3 v h9 v hv rfl
      rcases h1.1 (Or.inr hv) with h9 | ⟨h9, h8⟩
      · exact absurd h9 hnx
      · exact ⟨h9, h8, (hno v).1 (fun h7 => hnx ((h v).2.2 ⟨h8, h7⟩))⟩
    · rintro ⟨h9, h8, h7⟩
      rcases h1.2 (Or.inr ⟨h9, h8⟩) with h6 | h6
      · exact absurd ((h v).2.1 h6).2 ((hno v).2 h7)
      · exact h6
theorem idx_app {xs ys : List Nat} {j g : Nat} (f : Nat → Nat) (hg : ys[j]? = some g) {r : Option Nat} (h : ((xs ++ ys).map fun v => some (f v))[xs.length + j]? = some r) : r = some (f g) := by
  rw [List.getElem?_map, List.getElem?_append_right (by omega), show xs.length + j - xs.length = j from by omega, hg] at h
  exact (Option.some.inj h).symm
theorem take_1 {ys : List Nat} {j g : Nat} (hg : ys[j]? = some g) : ys.take (j + 1) = ys.take j ++ [g] := by rw [List.take_add_one, hg]; rfl
theorem take_len {ys : List Nat} {j : Nat} (f : Nat → Option Nat) (hj : j ≤ ys.length) : ((ys.take j).map f).length = j := by rw [List.length_map, List.length_take]; omega
/-- objects stay -/
def mO (M M' : mm_M) : Prop := ∀ (a ci : Nat) (fs : List Value), M a = some (.inr (ci, fs)) → M' a = some (.inr (ci, fs))
theorem mO.put {M : mm_M} {p : Nat} {x : ClassId × vp_A} {e : va_E} (h : M p = some (.inl x)) : mO M (mm_U M p e) := fun a ci fs ha => by rw [mm_U_ne (fun e9 => by rw [e9, h] at ha; cases ha)]; exact ha
theorem mtp.obj {M M' : mm_M} {L : List Nat} {vr : Nat → Nat} {D : Nat → Bool} (hO : mO M M') (t : ev) (m : Bool) (a : Nat) (h : mtp M L vr D t m a) : mtp M' L vr D t m a := by
  unfold mtp at h
  split at h
  · obtain ⟨h1, h2, is, cm, sn, cp, h3⟩ := h; simp only [mtp]; exact ⟨h1, h2, _, _, _, _, hO _ _ _ h3⟩
  · obtain ⟨h1, h2, h3, is, cm, sn, cp, h4⟩ := h
    simp only [mtp]
    exact ⟨h1, h2, h3, _, _, _, _, hO _ _ _ h4⟩
  · rename_i x y
    obtain ⟨f, g, h1, ⟨is, cm, sn, cp, h2⟩, h3, h4⟩ := h
    simp only [mtp]
    exact ⟨f, g, h1, ⟨_, _, _, _, hO _ _ _ h2⟩, mtp.obj hO x _ _ h3, mtp.obj hO y _ _ h4⟩
  · rename_i r j
    obtain ⟨iv, w, h1, h0, ⟨is, cm, sn, cp, h2⟩, h3⟩ := h
    simp only [mtp]
    exact ⟨iv, w, h1, h0, ⟨_, _, _, _, hO _ _ _ h2⟩, mtp.obj hO r _ _ h3⟩
  · obtain ⟨h1, h2⟩ := h; simp only [mtp]; exact ⟨h1, hO _ _ _ h2⟩
  · obtain ⟨h1, h2, h3, is, lk, cm, h4⟩ := h
    simp only [mtp]
    exact ⟨h1, h2, h3, _, _, _, hO _ _ _ h4⟩
  · rename_i x k r
    obtain ⟨ty, rs, h0, h1, h2, h3⟩ := h
    simp only [mtp]
    exact ⟨ty, rs, h0, hO _ _ _ h1, mtp.obj hO x _ _ h2, mtp.obj hO r _ _ h3⟩
  · exact h.elim
termination_by SizeOf.sizeOf t
decreasing_by all_goals (subst_vars; simp_all; try omega)
theorem mtp.cell {M : mm_M} {L : List Nat} {vr : Nat → Nat} {D : Nat → Bool} {t : ev} {m : Bool} {a : Nat} (h : mtp M L vr D t m a) : ∃ ci fs, M a = Option.some (.inr (ci, fs)) := by
  cases m with
  | false => obtain ⟨-, k, is, fr, to, rw, cm, sn, cp, h1⟩ := h.cellT; exact ⟨_, _, h1⟩
  | true => obtain ⟨k, is, lb, ty, rs, lk, cm, h1, -⟩ := h.cellR; exact ⟨_, _, h1⟩
theorem mCI.obj {M M' : mm_M} {L : List Nat} {vr : Nat → Nat} {D : Nat → Bool} {S : ts} (hC : mCI M L vr D S) (hO : mO M M') : mCI M' L vr D S := by
  obtain ⟨c, d1, d2, ⟨rk, d3⟩⟩ := hC
  have mono : ∀ t m a, mtp M L vr D t m a → mtp M' L vr D t m a := fun t m a h => mtp.obj hO t m a h
  have hat : ∀ t m a, mtp M L vr D t m a → M' a = M a := fun t m a h => by obtain ⟨ci, fs, h1⟩ := h.cell; rw [hO _ _ _ h1, h1]
  have hnx : ∀ a ∈ L, mnext M' a = mnext M a := fun a ha => by obtain ⟨m, t, h⟩ := d2 a ha; unfold mnext; rw [hat _ _ _ h]
  have hphi : mPhi M' L = mPhi M L := by unfold mPhi; exact List.countP_congr fun a ha => by rw [hnx a ha]
  refine ⟨c, fun v hD => ⟨(d1 v hD).1, ?_⟩, fun a ha => by obtain ⟨m, t, h⟩ := d2 a ha; exact ⟨m, t, mono _ _ _ h⟩, ⟨rk, fun a ha => ?_⟩⟩
  · rcases (d1 v hD).2 with ⟨is, sn, cp, h1, h2⟩ | ⟨is, h1, h2⟩
    · exact Or.inl ⟨is, sn, cp, hO _ _ _ h1, h2⟩
    · exact Or.inr ⟨is, hO _ _ _ h1, h2⟩
  · rw [hphi]
    refine ⟨(d3 a ha).1, fun o ho => ?_⟩
    rw [hnx a ha] at ho
    obtain ⟨e1, m2, t2, t3, e2, e3, e4⟩ := (d3 a ha).2 o ho
    exact ⟨e1, m2, t2, t3, mono _ _ _ e2, mono _ _ _ e3, e4⟩
theorem mSt.obj {M M' : mm_M} {L : List Nat} {vr : Nat → Nat} {D : Nat → Bool} {S : ts} {n : Nat} (h : mSt M L n) (hC : mCI M L vr D S) (hO : mO M M') : mSt M' L n := h.eq fun b hb k is fr to rw cm sn cp h1 => by
  obtain ⟨m, t, h2⟩ := hC.2.2.1 b hb
  obtain ⟨ci, fs, h3⟩ := h2.cell
  rw [hO _ _ _ h3] at h1
  exact ⟨_, _, _, _, _, _, _, h3.trans h1⟩
theorem AL.putI {Z : mm_G} {M : mm_M} {a ar cap : Nat} {xs : List (Option Nat)} (h : AL Z M a ar cap xs) {p n : Nat} {f : Nat → Int32} {e : va_E} (hp : M p = some (ia_E Z n f)) : AL Z (mm_U M p e) a ar cap xs := by
  obtain ⟨md, g, k1, k2, k3⟩ := h
  refine ⟨md, g, mO.put hp _ _ _ k1, ?_, k3⟩
  rw [mm_U_ne (fun e9 => ?_)]
  · exact k2
  · rw [e9, hp] at k2
    have h2 := (Prod.mk.inj (Prod.mk.inj (Sum.inl.inj (Option.some.inj k2))).2).2
    cases h2
theorem mKn.putI {Z : mm_G} {M : mm_M} {L : List Nat} {vr : Nat → Nat} {D : Nat → Bool} {p n : Nat} {f : Nat → Int32} {e : va_E} (hp : M p = some (ia_E Z n f)) : ∀ (G : List mg) (k : Option Nat), mKn Z M L vr D G k → mKn Z (mm_U M p e) L vr D G k
  | [], k, h => h
  | e0 :: G, k, h => by
    obtain ⟨a, ty, lt, lr, nx, h1, h2, h3, ⟨ar1, cp1, h4⟩, ⟨ar2, cp2, h5⟩, h6, h7⟩ := h
    exact ⟨a, ty, lt, lr, nx, h1, mO.put hp _ _ _ h2, mtp.obj (mO.put hp) _ _ _ h3, ⟨ar1, cp1, h4.putI hp⟩, ⟨ar2, cp2, h5.putI hp⟩, h6, mKn.putI hp G nx h7⟩
theorem mK.XU {M M' : mm_M} (h : mK M M') {p : Nat} {e : va_E} : mK (mm_Wo M p) (mm_U M' p e) := fun a e9 ha => by
  by_cases hp : a = p
  · subst hp; unfold mm_Wo at ha; rw [if_pos rfl] at ha; cases ha
  · rw [mm_Wo_ne hp] at ha
    rw [mm_U_ne hp]
    exact h a e9 ha

set_option maxHeartbeats 4000000 in
set_option maxRecDepth 100000 in
theorem d_X2_general (l : Launch) (Z : mm_G) {M : mm_M} {md ka wh f1 f2 f3 wg pl : Nat} {tm ea sp th ak wr tk : Int32} {rt : Option Nat} {fa : Bool} {L : List Nat} {vr : Nat → Nat} {D : Nat → Bool} {S : ts} {kk : Nat → Bool} {t : ev} {a t9 nm st K Hh : Nat} {G : List mg} {k0 : Option Nat} {gw gp : Nat → Int32} (hmd : M md = some (md_E tm ka wh f1 f2 f3 wg ea sp rt th ak wr pl tk fa (nJ st))) (hwh : M wh = some (ia_E Z 120 gw)) (ht9 : t9 < 120) (hgw : gw t9 = nI nm) (hpl : M pl = some (ia_E Z 120 gp)) (h0 : al_0 Z M) (hC : mCI M L vr D S) (hSt : mSt M L st) (hst : st + 1 < 2 ^ 62) (htp : mtp M L vr D t false a) (hww : uwf (uG S kk) false (uap S.2.1 t)) (hG : mKn Z M L vr D G k0) (hGw : ∀ e ∈ G, uwf (uG S kk) false (uap S.2.1 e.2.1)) (hK : vK D S K) (hK2 : K < 2 ^ 15) (hHt : uh (uap S.2.1 t) ≤ Hh) (hHG : ∀ e ∈ G, uh (uap S.2.1 e.2.1) ≤ Hh) : mm_D l Z yX2_general (ws_ yX2_general cX2_general 13 (some (.object "RowenTongueModel$Known"))) { frames := Hh + 30, cells := 5 + 2 * K, slots := 200 + 20 * K, locals := 30 * Hh + 800 } [.ref md, .int (nI t9), .ref a, va_rf k0] M (fun v M' n9 k9 => ∃ (a' : Nat) (gt gr : List Nat), v = some (.ref a') ∧ mGen S kk G (uap S.2.1 t) gt gr ∧ mKn Z M' L vr D ((nm, t, gt, gr) :: G) (some a') ∧ mCI M' L vr D S ∧ mSt M' L (st + 1) ∧ M' md = some (md_E tm ka wh f1 f2 f3 wg ea sp rt th ak wr pl tk fa (nJ (st + 1))) ∧ (M' pl = some (ia_E Z 120 (upd gp t9 (if gp t9 < mny S gr then mny S gr else gp t9)))) ∧ mK (mm_Wo M pl) M') mm_nx := by
  refine mm_ofWD (cc := cX2_general) (maxL := 13) (ret := (some (.object "RowenTongueModel$Known"))) (by decide) rfl (by simp [lg_sl, mm_cat_o, mm_cat_r, mm_cat_i, mm_cat_l, mm_cat_n]) ?_
  intro p e s m below meth c A ls hx hb hr hlk hml hown hmn hts htab hE hST hA hM hS hl
  replace hl : lv_has ls 13 [(0, .ref md), (1, .int (nI t9)), (2, .ref a), (3, va_rf k0)] := by simpa [lv_args, mm_cat_o, mm_cat_r, mm_cat_i, mm_cat_l, mm_cat_n] using hl
  refine mm_new (D := Z.1) (ci := 23) (fs := mm_f0X28) (C := RX28) (T := TX28) (N := 5) hx hb hts in_X28 tyX28 tyX28_ok hown (hts _ q2625) (hts _ q2626) (hts _ q101) hE.1 hM hS hA mm_cX28 mm_dfX28 (by (try dsimp only); omega) (by (try dsimp only); omega) dX2_general_0 (fun q_2 H nq_1 hM hS => ?_)
  have hM : mm_P Z.1 mm_cl A (mm_U M q_2 (.inr (23, [.int 0, .null, .null, .null, .null]))) H := hM
  have ne_3 : md ≠ q_2 := (mm_neN hmd nq_1)
  have ne_4 : wh ≠ q_2 := (mm_neN hwh nq_1)
  have hc_5 : (mm_U M q_2 (.inr (23, [.int 0, .null, .null, .null, .null]))) q_2 = some (.inr (23, [.int 0, .null, .null, .null, .null])) := mm_U_eq
  have hc_6 : (mm_U M q_2 (.inr (23, [.int 0, .null, .null, .null, .null]))) md = some (.inr (1, [.int tm, .ref ka, .ref wh, .ref f1, .ref f2, .ref f3, .ref wg, .int ea, .int sp, va_rf rt, .int th, .int ak, .int wr, .ref pl, .int tk, .int (mm_b fa), .long (nJ st)])) := (mm_U_ne ne_3).trans hmd
  have hc_7 : (mm_U M q_2 (.inr (23, [.int 0, .null, .null, .null, .null]))) wh = some (.inl (Z.2.1 0, 120, .inl gw)) := (mm_U_ne ne_4).trans hwh
  obtain ⟨M_8, eM_8⟩ : ∃ z, z = mm_U M q_2 (.inr (23, [.int 0, .null, .null, .null, .null])) := ⟨_, rfl⟩
  rw [← eM_8] at hM hc_6 hc_7 hc_5
  refine lv_dup hx hb dX2_general_3 rfl ?_
  refine lv_aload_n hx hb dX2_general_4 rfl (lv_at hl 0 rfl) ?_
  refine va_get (D := Z.1) (ci := 1) (v := .ref wh) (C := RX2) (T := TX2) (N := 17) hx hb hts in_X2 hown hE.1 (hM.at hc_6) 0 rfl mm_cX2 2 (by decide) (hts _ q2380) (fun _ h9 => h9) rfl dX2_general_5 ?_
  refine lv_iload_n hx hb dX2_general_8 rfl (lv_at hl 1 rfl) ?_
  refine mm_ialdK (k := t9) hx hb hE hM hc_7 rfl ht9 (by decide) dX2_general_9 ?_
  rw [show (gw t9 : Int32) = nI nm from hgw]
  refine lv_aload_n hx hb dX2_general_10 rfl (lv_at hl 2 rfl) ?_
  refine mm_aload_n hx hb dX2_general_11 rfl (lv_at hl 3 rfl) ?_
  refine mm_callI (As := [.int (nI nm), .ref a, va_rf k0]) (rest := [.ref q_2]) ⟨hx, hb, hml, hown, hts⟩ hE hST hA (c_X28_init l Z (M := M_8) (h0 := q_2) (x1 := (nI nm)) (x2 := (some a)) (x3 := k0) hc_5) (cwI (maxL := 4) 3 hts (lw_meth q2629) rfl rfl rfl (hts _ q101) (hts _ q2627) (hts _ q2628) rfl (by decide +kernel) ⟨(by (try dsimp only); omega), (by (try dsimp only); omega)⟩) hM hS rfl hl.1 (Nat.le_of_ble_eq_true rfl) dX2_general_12 rfl ⟨(by (try dsimp only); omega), (by (try dsimp only); omega)⟩ (fun _ _ _ _ _ _ h9 => h9.elim) (fun v_9 M_10 H locs hp_11 hM hS => ?_)
  obtain ⟨q_12, q_14, nq_13, nq_15, ne_16, rfl, eM_10⟩ := hp_11
  rw [eM_10] at hM
  have ne_17 : md ≠ q_12 := (mm_neN hc_6 nq_13)
  have ne_18 : wh ≠ q_12 := (mm_neN hc_7 nq_13)
  have ne_19 : q_2 ≠ q_12 := (mm_neN hc_5 nq_13)
  have ne_20 : md ≠ q_14 := (mm_neN hc_6 nq_15)
  have ne_21 : wh ≠ q_14 := (mm_neN hc_7 nq_15)
  have ne_22 : q_2 ≠ q_14 := (mm_neN hc_5 nq_15)
  have nn_23 := (mm_U_none (eM_8 ▸ nq_13)).2
  have nn_24 := (mm_U_none (eM_8 ▸ nq_15)).2
  replace hM : mm_P Z.1 mm_cl A (mm_U (mm_U (mm_U M_8 q_12 (.inr (41, [.int 0, .ref (Z.2.2.1 2), .int 0]))) q_14 (.inr (41, [.int 0, .ref (Z.2.2.1 2), .int 0]))) q_2 (.inr (23, [.int (nI nm), .ref a, .ref q_12, .ref q_14, va_rf k0]))) H := hM
  have hc_25 : (mm_U M_8 q_12 (.inr (41, [.int 0, .ref (Z.2.2.1 2), .int 0]))) q_12 = some (.inr (41, [.int 0, .ref (Z.2.2.1 2), .int 0])) := mm_U_eq
  have hc_26 : (mm_U M_8 q_12 (.inr (41, [.int 0, .ref (Z.2.2.1 2), .int 0]))) md = some (.inr (1, [.int tm, .ref ka, .ref wh, .ref f1, .ref f2, .ref f3, .ref wg, .int ea, .int sp, va_rf rt, .int th, .int ak, .int wr, .ref pl, .int tk, .int (mm_b fa), .long (nJ st)])) := (mm_U_ne ne_17).trans hc_6
  have hc_27 : (mm_U M_8 q_12 (.inr (41, [.int 0, .ref (Z.2.2.1 2), .int 0]))) wh = some (.inl (Z.2.1 0, 120, .inl gw)) := (mm_U_ne ne_18).trans hc_7
  have hc_28 : (mm_U M_8 q_12 (.inr (41, [.int 0, .ref (Z.2.2.1 2), .int 0]))) q_2 = some (.inr (23, [.int 0, .null, .null, .null, .null])) := (mm_U_ne ne_19).trans hc_5
  obtain ⟨M_29, eM_29⟩ : ∃ z, z = mm_U M_8 q_12 (.inr (41, [.int 0, .ref (Z.2.2.1 2), .int 0])) := ⟨_, rfl⟩
  rw [← eM_29] at hM hc_26 hc_27 hc_28 hc_25
  have hc_30 : (mm_U M_29 q_14 (.inr (41, [.int 0, .ref (Z.2.2.1 2), .int 0]))) q_14 = some (.inr (41, [.int 0, .ref (Z.2.2.1 2), .int 0])) := mm_U_eq
  have hc_31 : (mm_U M_29 q_14 (.inr (41, [.int 0, .ref (Z.2.2.1 2), .int 0]))) md = some (.inr (1, [.int tm, .ref ka, .ref wh, .ref f1, .ref f2, .ref f3, .ref wg, .int ea, .int sp, va_rf rt, .int th, .int ak, .int wr, .ref pl, .int tk, .int (mm_b fa), .long (nJ st)])) := (mm_U_ne ne_20).trans hc_26
  have hc_32 : (mm_U M_29 q_14 (.inr (41, [.int 0, .ref (Z.2.2.1 2), .int 0]))) wh = some (.inl (Z.2.1 0, 120, .inl gw)) := (mm_U_ne ne_21).trans hc_27
  have hc_33 : (mm_U M_29 q_14 (.inr (41, [.int 0, .ref (Z.2.2.1 2), .int 0]))) q_2 = some (.inr (23, [.int 0, .null, .null, .null, .null])) := (mm_U_ne ne_22).trans hc_28
  have hc_34 : (mm_U M_29 q_14 (.inr (41, [.int 0, .ref (Z.2.2.1 2), .int 0]))) q_12 = some (.inr (41, [.int 0, .ref (Z.2.2.1 2), .int 0])) := (mm_U_ne (Ne.symm ne_16)).trans hc_25
  obtain ⟨M_35, eM_35⟩ : ∃ z, z = mm_U M_29 q_14 (.inr (41, [.int 0, .ref (Z.2.2.1 2), .int 0])) := ⟨_, rfl⟩
  rw [← eM_35] at hM hc_31 hc_32 hc_33 hc_34 hc_30
  have hc_36 : (mm_U M_35 q_2 (.inr (23, [.int (nI nm), .ref a, .ref q_12, .ref q_14, va_rf k0]))) q_2 = some (.inr (23, [.int (nI nm), .ref a, .ref q_12, .ref q_14, va_rf k0])) := mm_U_eq
  have hc_37 : (mm_U M_35 q_2 (.inr (23, [.int (nI nm), .ref a, .ref q_12, .ref q_14, va_rf k0]))) md = some (.inr (1, [.int tm, .ref ka, .ref wh, .ref f1, .ref f2, .ref f3, .ref wg, .int ea, .int sp, va_rf rt, .int th, .int ak, .int wr, .ref pl, .int tk, .int (mm_b fa), .long (nJ st)])) := (mm_U_ne ne_3).trans hc_31
  have hc_38 : (mm_U M_35 q_2 (.inr (23, [.int (nI nm), .ref a, .ref q_12, .ref q_14, va_rf k0]))) wh = some (.inl (Z.2.1 0, 120, .inl gw)) := (mm_U_ne ne_4).trans hc_32
  have hc_39 : (mm_U M_35 q_2 (.inr (23, [.int (nI nm), .ref a, .ref q_12, .ref q_14, va_rf k0]))) q_12 = some (.inr (41, [.int 0, .ref (Z.2.2.1 2), .int 0])) := (mm_U_ne (Ne.symm ne_19)).trans hc_34
  have hc_40 : (mm_U M_35 q_2 (.inr (23, [.int (nI nm), .ref a, .ref q_12, .ref q_14, va_rf k0]))) q_14 = some (.inr (41, [.int 0, .ref (Z.2.2.1 2), .int 0])) := (mm_U_ne (Ne.symm ne_22)).trans hc_30
  obtain ⟨M_41, eM_41⟩ : ∃ z, z = mm_U M_35 q_2 (.inr (23, [.int (nI nm), .ref a, .ref q_12, .ref q_14, va_rf k0])) := ⟨_, rfl⟩
  rw [← eM_41] at hM hc_37 hc_38 hc_36 hc_39 hc_40
  refine lv_astore (lv' := [(4, .ref q_2), (0, .ref md), (1, .int (nI t9)), (2, .ref a), (3, va_rf k0)]) hx hb dX2_general_15 hl (by decide) (by simp [mm_cat_o, mm_cat_r, mm_cat_i, mm_cat_n, mm_cat_l] <;> decide) (fun ls hl => ?_)
  refine mm_new (D := Z.1) (ci := 41) (fs := mm_f0J2) (C := RJ2) (T := TJ2) (N := 3) hx hb hts in_J2 tyJ2 tyJ2_ok hown (hts _ q2697) (hts _ q130) (hts _ q53) hE.1 hM hS hA mm_cJ2 mm_dfJ2 (by (try dsimp only); omega) (by (try dsimp only); omega) dX2_general_17 (fun q_43 H nq_42 hM hS => ?_)
  have hM : mm_P Z.1 mm_cl A (mm_U M_41 q_43 (.inr (41, [.int 0, .null, .int 0]))) H := hM
  have ne_44 : md ≠ q_43 := (mm_neN hc_37 nq_42)
  have ne_45 : wh ≠ q_43 := (mm_neN hc_38 nq_42)
  have ne_46 : q_2 ≠ q_43 := (mm_neN hc_36 nq_42)
  have ne_47 : q_12 ≠ q_43 := (mm_neN hc_39 nq_42)
  have ne_48 : q_14 ≠ q_43 := (mm_neN hc_40 nq_42)
  have nn_49 := (mm_U_none (eM_41 ▸ nq_42)).2
  have nn_50 := (mm_U_none (eM_35 ▸ nn_49)).2
  have nn_51 := (mm_U_none (eM_29 ▸ nn_50)).2
  have nn_52 := (mm_U_none (eM_8 ▸ nn_51)).2
  have hc_53 : (mm_U M_41 q_43 (.inr (41, [.int 0, .null, .int 0]))) q_43 = some (.inr (41, [.int 0, .null, .int 0])) := mm_U_eq
  have hc_54 : (mm_U M_41 q_43 (.inr (41, [.int 0, .null, .int 0]))) md = some (.inr (1, [.int tm, .ref ka, .ref wh, .ref f1, .ref f2, .ref f3, .ref wg, .int ea, .int sp, va_rf rt, .int th, .int ak, .int wr, .ref pl, .int tk, .int (mm_b fa), .long (nJ st)])) := (mm_U_ne ne_44).trans hc_37
  have hc_55 : (mm_U M_41 q_43 (.inr (41, [.int 0, .null, .int 0]))) wh = some (.inl (Z.2.1 0, 120, .inl gw)) := (mm_U_ne ne_45).trans hc_38
  have hc_56 : (mm_U M_41 q_43 (.inr (41, [.int 0, .null, .int 0]))) q_2 = some (.inr (23, [.int (nI nm), .ref a, .ref q_12, .ref q_14, va_rf k0])) := (mm_U_ne ne_46).trans hc_36
  have hc_57 : (mm_U M_41 q_43 (.inr (41, [.int 0, .null, .int 0]))) q_12 = some (.inr (41, [.int 0, .ref (Z.2.2.1 2), .int 0])) := (mm_U_ne ne_47).trans hc_39
  have hc_58 : (mm_U M_41 q_43 (.inr (41, [.int 0, .null, .int 0]))) q_14 = some (.inr (41, [.int 0, .ref (Z.2.2.1 2), .int 0])) := (mm_U_ne ne_48).trans hc_40
  obtain ⟨M_59, eM_59⟩ : ∃ z, z = mm_U M_41 q_43 (.inr (41, [.int 0, .null, .int 0])) := ⟨_, rfl⟩
  rw [← eM_59] at hM hc_54 hc_55 hc_56 hc_57 hc_58 hc_53
  refine lv_dup hx hb dX2_general_20 rfl ?_
  refine mm_callI (As := []) (rest := [.ref q_43]) ⟨hx, hb, hml, hown, hts⟩ hE hST hA (c_J2_init l Z (M := M_59) (h0 := q_43) hc_53) (cwI (maxL := 1) 0 hts (lw_meth q133) rfl rfl rfl (hts _ q53) (hts _ q2698) (hts _ q132) rfl (by decide +kernel) ⟨(by (try dsimp only); omega), (by (try dsimp only); omega)⟩) hM hS rfl hl.1 (Nat.le_of_ble_eq_true rfl) dX2_general_21 rfl ⟨(by (try dsimp only); omega), (by (try dsimp only); omega)⟩ (fun _ _ _ _ _ _ h9 => h9.elim) (fun v_60 M_61 H locs hp_62 hM hS => ?_)
  obtain ⟨rfl, eM_61⟩ := hp_62
  rw [eM_61] at hM
  replace hM : mm_P Z.1 mm_cl A (mm_U M_59 q_43 (.inr (41, [.int 0, .ref (Z.2.2.1 2), .int 0]))) H := hM
  have hc_63 : (mm_U M_59 q_43 (.inr (41, [.int 0, .ref (Z.2.2.1 2), .int 0]))) q_43 = some (.inr (41, [.int 0, .ref (Z.2.2.1 2), .int 0])) := mm_U_eq
  have hc_64 : (mm_U M_59 q_43 (.inr (41, [.int 0, .ref (Z.2.2.1 2), .int 0]))) md = some (.inr (1, [.int tm, .ref ka, .ref wh, .ref f1, .ref f2, .ref f3, .ref wg, .int ea, .int sp, va_rf rt, .int th, .int ak, .int wr, .ref pl, .int tk, .int (mm_b fa), .long (nJ st)])) := (mm_U_ne ne_44).trans hc_54
  have hc_65 : (mm_U M_59 q_43 (.inr (41, [.int 0, .ref (Z.2.2.1 2), .int 0]))) wh = some (.inl (Z.2.1 0, 120, .inl gw)) := (mm_U_ne ne_45).trans hc_55
  have hc_66 : (mm_U M_59 q_43 (.inr (41, [.int 0, .ref (Z.2.2.1 2), .int 0]))) q_2 = some (.inr (23, [.int (nI nm), .ref a, .ref q_12, .ref q_14, va_rf k0])) := (mm_U_ne ne_46).trans hc_56
  have hc_67 : (mm_U M_59 q_43 (.inr (41, [.int 0, .ref (Z.2.2.1 2), .int 0]))) q_12 = some (.inr (41, [.int 0, .ref (Z.2.2.1 2), .int 0])) := (mm_U_ne ne_47).trans hc_57
  have hc_68 : (mm_U M_59 q_43 (.inr (41, [.int 0, .ref (Z.2.2.1 2), .int 0]))) q_14 = some (.inr (41, [.int 0, .ref (Z.2.2.1 2), .int 0])) := (mm_U_ne ne_48).trans hc_58
  obtain ⟨M_69, eM_69⟩ : ∃ z, z = mm_U M_59 q_43 (.inr (41, [.int 0, .ref (Z.2.2.1 2), .int 0])) := ⟨_, rfl⟩
  rw [← eM_69] at hM hc_64 hc_65 hc_66 hc_67 hc_68 hc_63
  refine lv_astore hx hb dX2_general_24 hl (by decide) rfl (fun ls hl => ?_)
  replace hl : lv_has ls 13 [(5, .ref q_43), (4, .ref q_2), (0, .ref md), (1, .int (nI t9)), (2, .ref a), (3, va_rf k0)] := hl
  refine mm_new (D := Z.1) (ci := 41) (fs := mm_f0J2) (C := RJ2) (T := TJ2) (N := 3) hx hb hts in_J2 tyJ2 tyJ2_ok hown (hts _ q2697) (hts _ q130) (hts _ q53) hE.1 hM hS hA mm_cJ2 mm_dfJ2 (by (try dsimp only); omega) (by (try dsimp only); omega) dX2_general_26 (fun q_71 H nq_70 hM hS => ?_)
  have hM : mm_P Z.1 mm_cl A (mm_U M_69 q_71 (.inr (41, [.int 0, .null, .int 0]))) H := hM
  have ne_72 : md ≠ q_71 := (mm_neN hc_64 nq_70)
  have ne_73 : wh ≠ q_71 := (mm_neN hc_65 nq_70)
  have ne_74 : q_2 ≠ q_71 := (mm_neN hc_66 nq_70)
  have ne_75 : q_12 ≠ q_71 := (mm_neN hc_67 nq_70)
  have ne_76 : q_14 ≠ q_71 := (mm_neN hc_68 nq_70)
  have ne_77 : q_43 ≠ q_71 := (mm_neN hc_63 nq_70)
  have nn_78 := (mm_U_none (eM_69 ▸ nq_70)).2
  have nn_79 := (mm_U_none (eM_59 ▸ nn_78)).2
  have nn_80 := (mm_U_none (eM_41 ▸ nn_79)).2
  have nn_81 := (mm_U_none (eM_35 ▸ nn_80)).2
  have nn_82 := (mm_U_none (eM_29 ▸ nn_81)).2
  have nn_83 := (mm_U_none (eM_8 ▸ nn_82)).2
  have hc_84 : (mm_U M_69 q_71 (.inr (41, [.int 0, .null, .int 0]))) q_71 = some (.inr (41, [.int 0, .null, .int 0])) := mm_U_eq
  have hc_85 : (mm_U M_69 q_71 (.inr (41, [.int 0, .null, .int 0]))) md = some (.inr (1, [.int tm, .ref ka, .ref wh, .ref f1, .ref f2, .ref f3, .ref wg, .int ea, .int sp, va_rf rt, .int th, .int ak, .int wr, .ref pl, .int tk, .int (mm_b fa), .long (nJ st)])) := (mm_U_ne ne_72).trans hc_64
  have hc_86 : (mm_U M_69 q_71 (.inr (41, [.int 0, .null, .int 0]))) wh = some (.inl (Z.2.1 0, 120, .inl gw)) := (mm_U_ne ne_73).trans hc_65
  have hc_87 : (mm_U M_69 q_71 (.inr (41, [.int 0, .null, .int 0]))) q_2 = some (.inr (23, [.int (nI nm), .ref a, .ref q_12, .ref q_14, va_rf k0])) := (mm_U_ne ne_74).trans hc_66
  have hc_88 : (mm_U M_69 q_71 (.inr (41, [.int 0, .null, .int 0]))) q_12 = some (.inr (41, [.int 0, .ref (Z.2.2.1 2), .int 0])) := (mm_U_ne ne_75).trans hc_67
  have hc_89 : (mm_U M_69 q_71 (.inr (41, [.int 0, .null, .int 0]))) q_14 = some (.inr (41, [.int 0, .ref (Z.2.2.1 2), .int 0])) := (mm_U_ne ne_76).trans hc_68
  have hc_90 : (mm_U M_69 q_71 (.inr (41, [.int 0, .null, .int 0]))) q_43 = some (.inr (41, [.int 0, .ref (Z.2.2.1 2), .int 0])) := (mm_U_ne ne_77).trans hc_63
  obtain ⟨M_91, eM_91⟩ : ∃ z, z = mm_U M_69 q_71 (.inr (41, [.int 0, .null, .int 0])) := ⟨_, rfl⟩
  rw [← eM_91] at hM hc_85 hc_86 hc_87 hc_88 hc_89 hc_90 hc_84
  refine lv_dup hx hb dX2_general_29 rfl ?_
  refine mm_callI (As := []) (rest := [.ref q_71]) ⟨hx, hb, hml, hown, hts⟩ hE hST hA (c_J2_init l Z (M := M_91) (h0 := q_71) hc_84) (cwI (maxL := 1) 0 hts (lw_meth q133) rfl rfl rfl (hts _ q53) (hts _ q2698) (hts _ q132) rfl (by decide +kernel) ⟨(by (try dsimp only); omega), (by (try dsimp only); omega)⟩) hM hS rfl hl.1 (Nat.le_of_ble_eq_true rfl) dX2_general_30 rfl ⟨(by (try dsimp only); omega), (by (try dsimp only); omega)⟩ (fun _ _ _ _ _ _ h9 => h9.elim) (fun v_92 M_93 H locs hp_94 hM hS => ?_)
  obtain ⟨rfl, eM_93⟩ := hp_94
  rw [eM_93] at hM
  replace hM : mm_P Z.1 mm_cl A (mm_U M_91 q_71 (.inr (41, [.int 0, .ref (Z.2.2.1 2), .int 0]))) H := hM
  have hc_95 : (mm_U M_91 q_71 (.inr (41, [.int 0, .ref (Z.2.2.1 2), .int 0]))) q_71 = some (.inr (41, [.int 0, .ref (Z.2.2.1 2), .int 0])) := mm_U_eq
  have hc_96 : (mm_U M_91 q_71 (.inr (41, [.int 0, .ref (Z.2.2.1 2), .int 0]))) md = some (.inr (1, [.int tm, .ref ka, .ref wh, .ref f1, .ref f2, .ref f3, .ref wg, .int ea, .int sp, va_rf rt, .int th, .int ak, .int wr, .ref pl, .int tk, .int (mm_b fa), .long (nJ st)])) := (mm_U_ne ne_72).trans hc_85
  have hc_97 : (mm_U M_91 q_71 (.inr (41, [.int 0, .ref (Z.2.2.1 2), .int 0]))) wh = some (.inl (Z.2.1 0, 120, .inl gw)) := (mm_U_ne ne_73).trans hc_86
  have hc_98 : (mm_U M_91 q_71 (.inr (41, [.int 0, .ref (Z.2.2.1 2), .int 0]))) q_2 = some (.inr (23, [.int (nI nm), .ref a, .ref q_12, .ref q_14, va_rf k0])) := (mm_U_ne ne_74).trans hc_87
  have hc_99 : (mm_U M_91 q_71 (.inr (41, [.int 0, .ref (Z.2.2.1 2), .int 0]))) q_12 = some (.inr (41, [.int 0, .ref (Z.2.2.1 2), .int 0])) := (mm_U_ne ne_75).trans hc_88
  have hc_100 : (mm_U M_91 q_71 (.inr (41, [.int 0, .ref (Z.2.2.1 2), .int 0]))) q_14 = some (.inr (41, [.int 0, .ref (Z.2.2.1 2), .int 0])) := (mm_U_ne ne_76).trans hc_89
  have hc_101 : (mm_U M_91 q_71 (.inr (41, [.int 0, .ref (Z.2.2.1 2), .int 0]))) q_43 = some (.inr (41, [.int 0, .ref (Z.2.2.1 2), .int 0])) := (mm_U_ne ne_77).trans hc_90
  obtain ⟨M_102, eM_102⟩ : ∃ z, z = mm_U M_91 q_71 (.inr (41, [.int 0, .ref (Z.2.2.1 2), .int 0])) := ⟨_, rfl⟩
  rw [← eM_102] at hM hc_96 hc_97 hc_98 hc_99 hc_100 hc_101 hc_95
  refine lv_astore hx hb dX2_general_33 hl (by decide) rfl (fun ls hl => ?_)
  replace hl : lv_has ls 13 [(6, .ref q_71), (5, .ref q_43), (4, .ref q_2), (0, .ref md), (1, .int (nI t9)), (2, .ref a), (3, va_rf k0)] := hl
  refine lv_aload_n hx hb dX2_general_35 rfl (lv_at hl 3 rfl) ?_
  have hpt : ∀ z, z ≠ q_2 → z ≠ q_43 → z ≠ q_71 → z ≠ q_12 → z ≠ q_14 → M_102 z = M z := fun z h1 h2 h3 h4 h5 => by simp only [eM_102, eM_91, eM_69, eM_59, eM_41, eM_35, eM_29, eM_8, mm_U, h1, h2, h3, h4, h5, if_false]
  have hx0 : mm_Ext M M_102 := fun z hz => hpt z (fun e => hz (e ▸ nq_1)) (fun e => hz (e ▸ nn_52)) (fun e => hz (e ▸ nn_83)) (fun e => hz (e ▸ nn_23)) (fun e => hz (e ▸ nn_24))
  have hC0 := hC.ext hx0
  have hSt0 := hSt.ext hC hx0
  refine mm_callV (As := []) (rest := []) ⟨hx, hb, hml, hown, hts⟩ hE hST hA (c_X2_nextStamp l Z (f0 := tm) (f1 := some ka) (f2 := some wh) (f3 := some f1) (f4 := some f2) (f5 := some f3) (f6 := some wg) (f7 := ea) (f8 := sp) (f9 := rt) (f10 := th) (f11 := ak) (f12 := wr) (f13 := some pl) (f14 := tk) (f15 := fa) (f16 := nJ st) hc_96) (cwV 0 hts (lw_V q2563 q2565 qs37 q54 q2566) rfl rfl rfl (by decide +kernel) ⟨(by (try dsimp only); omega), (by (try dsimp only); omega)⟩) hM hS mm_cX2 hc_96 rfl hl.1 (Nat.le_of_ble_eq_true rfl) dX2_general_36 rfl ⟨(by (try dsimp only); omega), (by (try dsimp only); omega)⟩ (fun _ _ _ _ _ _ h9 => h9.elim) (fun v_103 M_104 H locs hp_105 hM hS => ?_)
  obtain ⟨rfl, eM_104⟩ := hp_105
  rw [nJ_1] at eM_104
  rw [nJ_1]
  have hs_106C : mCI M_104 L vr D S := by rw [eM_104]; exact mCI.putM hC0 hc_96
  have hs_106S : mSt M_104 L st := by rw [eM_104]; exact mSt.putM hSt0 hc_96
  have hs_106M : M_104 md = some (md_E tm ka wh f1 f2 f3 wg ea sp rt th ak wr pl tk fa (nJ (st + 1))) := by rw [eM_104]; exact mm_U_eq
  have hs_106q : ∀ q, q ≠ md → M_104 q = M_102 q := fun q h => by rw [eM_104]; exact mm_U_ne h
  obtain ⟨B, hB⟩ : ∃ B, B = mm_U (mm_U M q_2 (mn_E nm a q_12 q_14 k0)) md (md_E tm ka wh f1 f2 f3 wg ea sp rt th ak wr pl tk fa (nJ (st + 1))) := ⟨_, rfl⟩
  have hneM : md ≠ q_2 := fun e => by rw [e, nq_1] at hmd; cases hmd
  have hmdI : mm_U M q_2 (mn_E nm a q_12 q_14 k0) md = some (md_E tm ka wh f1 f2 f3 wg ea sp rt th ak wr pl tk fa (nJ st)) := (mm_U_ne hneM).trans hmd
  have hxI : mm_Ext M (mm_U M q_2 (mn_E nm a q_12 q_14 k0)) := mm_Ext.U nq_1
  have hKB : mK M B := by rw [hB]; exact hxI.mK.trans (mK.putM hmdI)
  have hCB : mCI B L vr D S := by rw [hB]; exact mCI.putM (hC.ext hxI) hmdI
  have hSB : mSt B L st := by rw [hB]; exact mSt.putM (hSt.ext hC hxI) hmdI
  have h0B : al_0 Z B := by rw [hB]; exact (h0.ext hxI).put hmdI
  have hGB : mKn Z B L vr D G k0 := mKn.mono hKB (fun _ h => h) (fun _ h => ⟨h, rfl⟩) G k0 hG
  have htB : mtp B L vr D t false a := mtp.mono hKB (fun _ h => h) (fun _ h => ⟨h, rfl⟩) t false a htp
  have hplB : B pl = some (ia_E Z 120 gp) := hKB.atA hpl
  have hmdB : B md = some (md_E tm ka wh f1 f2 f3 wg ea sp rt th ak wr pl tk fa (nJ (st + 1))) := by rw [hB]; exact mm_U_eq
  have hitB : B q_2 = some (mn_E nm a q_12 q_14 k0) := by rw [hB, mm_U_ne (Ne.symm hneM)]; exact mm_U_eq
  have hBn : ∀ z, M z = none → z ≠ q_2 → B z = none := fun z h1 h2 => by rw [hB, mm_U_ne (fun e => by rw [e, hmd] at h1; cases h1), mm_U_ne h2]; exact h1
  have hBq0 : B q_43 = none := hBn _ nn_52 (Ne.symm ne_46)
  have hMq0 : M_104 q_43 = some (.inr (41, [.int 0, .ref (Z.2.2.1 2), .int 0])) := (hs_106q _ (mm_neC hc_101 hc_96 (by decide))).trans hc_101
  have hBq1 : B q_71 = none := hBn _ nn_83 (Ne.symm ne_74)
  have hMq1 : M_104 q_71 = some (.inr (41, [.int 0, .ref (Z.2.2.1 2), .int 0])) := (hs_106q _ (mm_neC hc_95 hc_96 (by decide))).trans hc_95
  have hBq2 : B q_12 = none := hBn _ nn_23 (Ne.symm ne_19)
  have hMq2 : M_104 q_12 = some (.inr (41, [.int 0, .ref (Z.2.2.1 2), .int 0])) := (hs_106q _ (mm_neC hc_99 hc_96 (by decide))).trans hc_99
  have hBq3 : B q_14 = none := hBn _ nn_24 (Ne.symm ne_22)
  have hMq3 : M_104 q_14 = some (.inr (41, [.int 0, .ref (Z.2.2.1 2), .int 0])) := (hs_106q _ (mm_neC hc_100 hc_96 (by decide))).trans hc_100
  have hn01 : q_43 ≠ q_71 := ne_77
  have hn02 : q_43 ≠ q_12 := (Ne.symm ne_47)
  have hn03 : q_43 ≠ q_14 := (Ne.symm ne_48)
  have hn12 : q_71 ≠ q_12 := (Ne.symm ne_75)
  have hn13 : q_71 ≠ q_14 := (Ne.symm ne_76)
  have hn23 : q_12 ≠ q_14 := (Ne.symm ne_16)
  have hxB : mm_Ext B M_104 := fun z hz => by
    by_cases e1 : z = md
    · rw [e1, hs_106M, hmdB]
    · rw [hs_106q z e1]
      by_cases e2 : z = q_2
      · rw [e2, hitB]; exact hc_98
      · rw [hpt z e2 (fun e => hz (e ▸ hBq0)) (fun e => hz (e ▸ hBq1)) (fun e => hz (e ▸ hBq2)) (fun e => hz (e ▸ hBq3)), hB, mm_U_ne e1, mm_U_ne e2]
  clear hpt hx0 hC0 hSt0
  obtain ⟨qf, e0, e1, e2, e3⟩ : ∃ qf : Nat → Nat, qf 0 = q_43 ∧ qf 1 = q_71 ∧ qf 2 = q_12 ∧ qf 3 = q_14 := ⟨fun i => if i = 0 then q_43 else if i = 1 then q_71 else if i = 2 then q_12 else q_14, rfl, rfl, rfl, rfl⟩
  have hRL : RL Z B M_104 qf (fun _ => Z.2.2.1 2) (fun _ => 0) (vX vr [] [] [] []) := by
    refine RL.cg (RL.new (h0B.ext hxB) (fun i hi => ?_) (fun i j hi hj hij => ?_)) (fun i hi => ?_)
    · rcases (show i = 0 ∨ i = 1 ∨ i = 2 ∨ i = 3 by omega) with rfl | rfl | rfl | rfl
      · rw [e0]; exact ⟨hMq0, hBq0⟩
      · rw [e1]; exact ⟨hMq1, hBq1⟩
      · rw [e2]; exact ⟨hMq2, hBq2⟩
      · rw [e3]; exact ⟨hMq3, hBq3⟩
    · rcases (show i = 0 ∨ i = 1 ∨ i = 2 ∨ i = 3 by omega) with rfl | rfl | rfl | rfl <;> rcases (show j = 0 ∨ j = 1 ∨ j = 2 ∨ j = 3 by omega) with rfl | rfl | rfl | rfl <;> simp only [e0, e1, e2, e3] <;> first | exact absurd rfl hij | exact hn01 | exact Ne.symm hn01 | exact hn02 | exact Ne.symm hn02 | exact hn03 | exact Ne.symm hn03 | exact hn12 | exact Ne.symm hn12 | exact hn13 | exact Ne.symm hn13 | exact hn23 | exact Ne.symm hn23
    · rcases (show i = 0 ∨ i = 1 ∨ i = 2 ∨ i = 3 by omega) with rfl | rfl | rfl | rfl <;> rfl
  have hM8 := hM
  have hS8 := hS
  have hl8 := hl
  subst e0
  subst e1
  subst e2
  subst e3
  have hM := hM8
  have hS := hS8
  have hl := hl8
  have hV : VN Z B M_104 L vr D S kk (nJ (st + 1)) qf (fun _ => Z.2.2.1 2) (fun _ => 0) [] [] [] [] := ⟨hxB, hCB, h0B, hRL, ⟨List.nodup_nil, fun v hv => absurd hv List.not_mem_nil⟩, List.nodup_nil, fun v hv => absurd hv List.not_mem_nil⟩
  have hQ0 : ∀ s, mQ B L vr D S (nJ (st + 1)) (vQ kk [] []) s := fun s b hb hm => (hSB.no hst hb hm).elim
  refine lv_lstore hx hb dX2_general_39 hl (by decide) rfl (fun ls hl => ?_)
  replace hl : lv_has ls 13 [(7, .long (nJ (st + 1))), (6, .ref (qf 1)), (5, .ref (qf 0)), (4, .ref q_2), (0, .ref md), (1, .int (nI t9)), (2, .ref a), (3, va_rf k0)] := hl
  refine mm_aload_n hx hb dX2_general_41 rfl (lv_at hl 7 rfl) ?_
  refine mm_astore hx hb dX2_general_42 hl (by decide) rfl (fun ls hl => ?_)
  replace hl : lv_has ls 13 [(9, va_rf k0), (7, .long (nJ (st + 1))), (6, .ref (qf 1)), (5, .ref (qf 0)), (4, .ref q_2), (0, .ref md), (1, .int (nI t9)), (2, .ref a), (3, va_rf k0)] := hl
  refine mm_loopW (fun k M' ls cells slots => ∃ (G2 : List mg) (kx : Option Nat) (B2 : mm_M) (ar cp : Nat → Nat) (xt xr : List Nat), k = G2.length ∧ (∃ G1, G = G1 ++ G2 ∧ mHold S kk G1 xt xr) ∧ lv_has ls 13 [(9, va_rf kx), (0, .ref md), (1, .int (nI t9)), (2, .ref a), (4, .ref q_2), (5, .ref (qf 0)), (6, .ref (qf 1)), (7, .long (nJ (st + 1)))] ∧ VN Z B2 M' L vr D S kk (nJ (st + 1)) qf ar cp xt xr [] [] ∧ mS (nJ (st + 1)) B B2 ∧ mKn Z B2 L vr D G2 kx ∧ (∀ s, mQ B2 L vr D S (nJ (st + 1)) (vQ kk xt xr) s) ∧ cells ≤ 5 + (xt.length + xr.length) ∧ slots ≤ 30 + (4 * cp 0 + 4 * cp 1)) (fun k M3 ls H locs cells slots ih hI hM hS => ?_) ⟨G, k0, B, _, _, [], [], rfl, ⟨[], rfl, mHold.nil⟩, lv_sub hl [0, 5, 6, 7, 4, 3, 2, 1] rfl, hV, mS.rf _, hGB, hQ0, by simp, by simp⟩ hM hS
  clear hRL hV hQ0
  obtain ⟨G2, kx, B2, ar, cp, xt, xr, rfl, ⟨G1, hG12, hH⟩, hl, hV, hS2, hKn, hQ, hc9, hs9⟩ := hI
  obtain ⟨hln1, ⟨hln2, hln3⟩, ⟨hln4, hln5⟩, hg0, hg1⟩ := hV.len hK
  rcases G2 with _ | ⟨e9, G2⟩
  · skip
    have hkx : kx = none := hKn
    subst hkx
    have hG1 : G = G1 := hG12.trans (List.append_nil _)
    subst hG1
    refine lv_aloadN hx hb dX2_general_44 (lv_at hl 0 rfl) ?_
    refine lv_ifnullN (tgt := 73) hx hb dX2_general_46 (by decide) ?_
    have hA0 : AL Z M3 (qf 0) (ar 0) (cp 0) (xt.map fun v => some (vr v)) := (hV.2.2.2.1.1 0 (by omega)).1
    have hA1 : AL Z M3 (qf 1) (ar 1) (cp 1) (xr.map fun v => some (vr v)) := (hV.2.2.2.1.1 1 (by omega)).1
    obtain ⟨mdp, fp, hp0, -⟩ := id hA0
    obtain ⟨mdr, fr9, hp1, -⟩ := id hA1
    rw [List.length_map] at hp0 hp1
    refine lv_aload hx hb dX2_general_73 (lv_at hl 5 rfl) ?_
    refine mm_callV (As := []) (rest := []) ⟨hx, hb, hml, hown, hts⟩ hE hST hA (c_J2_size l Z (M := M3) (h0 := (qf 0)) (f0 := mdp) (f1 := (some (ar 0))) (f2 := (nI xt.length)) hp0) (cwV 0 hts (lw_V q2560 q178 q179 q53 q180) rfl rfl rfl (by decide +kernel) ⟨(by (try dsimp only); omega), (by (try dsimp only); omega)⟩) hM hS mm_cJ2 hp0 rfl hl.1 (Nat.le_of_ble_eq_true rfl) dX2_general_75 rfl ⟨(by (try dsimp only); omega), (by (try dsimp only); omega)⟩ (fun _ _ _ _ _ _ h9 => h9.elim) (fun v_107 M_108 H locs hp_109 hM hS => ?_)
    obtain ⟨rfl, eM_108⟩ := hp_109
    rw [eM_108] at hM
    refine lv_istore hx hb dX2_general_78 hl (by decide) rfl (fun ls hl => ?_)
    replace hl : lv_has ls 13 [(9, .int (nI xt.length)), (0, .ref md), (1, .int (nI t9)), (2, .ref a), (4, .ref q_2), (5, .ref (qf 0)), (6, .ref (qf 1)), (7, .long (nJ (st + 1)))] := hl
    refine lv_aload hx hb dX2_general_80 (lv_at hl 6 rfl) ?_
    refine mm_callV (As := []) (rest := []) ⟨hx, hb, hml, hown, hts⟩ hE hST hA (c_J2_size l Z (M := M3) (h0 := (qf 1)) (f0 := mdr) (f1 := (some (ar 1))) (f2 := (nI xr.length)) hp1) (cwV 0 hts (lw_V q2560 q178 q179 q53 q180) rfl rfl rfl (by decide +kernel) ⟨(by (try dsimp only); omega), (by (try dsimp only); omega)⟩) hM hS mm_cJ2 hp1 rfl hl.1 (Nat.le_of_ble_eq_true rfl) dX2_general_82 rfl ⟨(by (try dsimp only); omega), (by (try dsimp only); omega)⟩ (fun _ _ _ _ _ _ h9 => h9.elim) (fun v_110 M_111 H locs hp_112 hM hS => ?_)
    obtain ⟨rfl, eM_111⟩ := hp_112
    rw [eM_111] at hM
    refine lv_istore hx hb dX2_general_85 hl (by decide) rfl (fun ls hl => ?_)
    replace hl : lv_has ls 13 [(10, .int (nI xr.length)), (9, .int (nI xt.length)), (0, .ref md), (1, .int (nI t9)), (2, .ref a), (4, .ref q_2), (5, .ref (qf 0)), (6, .ref (qf 1)), (7, .long (nJ (st + 1)))] := hl
    refine lv_aload_n hx hb dX2_general_87 rfl (lv_at hl 4 rfl) ?_
    refine lv_aload hx hb dX2_general_88 (lv_at hl 6 rfl) ?_
    refine lv_aload hx hb dX2_general_90 (lv_at hl 7 rfl) ?_
    refine lv_lload hx hb dX2_general_92 (lv_at hl 8 rfl) ?_
    have htB2 := htB.light hS2.L
    refine mm_callSD (As := [.ref a, .ref (qf 0), .ref (qf 1), .long (nJ (st + 1))]) (rest := []) ⟨hx, hb, hml, hown, hts⟩ hE hST hA (d_X2_variables l Z L vr D S kk (nJ (st + 1)) qf [] [] K hK (by omega) (SizeOf.sizeOf (uap S.2.1 t) + 1) (uap S.2.1 t) t a B2 M3 ar cp xt xr (Nat.lt_succ_self _) rfl hV hww (hQ _) htB2) (va_cwS 4 hts (lw_S q2699 q2700 q54 q2701) rfl rfl rfl (by decide +kernel) ⟨(by (try dsimp only); omega), (by (try dsimp only); omega)⟩) hM hS rfl hl.1 (Nat.le_of_ble_eq_true rfl) dX2_general_94 rfl ⟨(by (try dsimp only); omega), (by (try dsimp only); omega)⟩ (fun _ _ _ _ _ _ h9 => h9.elim) (fun v_113 M_114 n_116 k_117 H locs hp_115 hM hS => ?_)
    obtain ⟨rfl, B3, ar3, cp3, xt3, xr3, hV3, hS3, hR3, hq3, hn3, hk3⟩ := hp_115
    obtain ⟨hln13, ⟨hln23, hln33⟩, ⟨hln43, hln53⟩, -⟩ := hV3.len hK
    obtain ⟨hle13, hle23⟩ := hR3.len
    obtain ⟨⟨et, eet⟩, ⟨er, eer⟩, -⟩ := id hR3
    subst eet
    subst eer
    simp only [List.length_append] at hle13 hle23 hln13 hln23 hln33 hln43 hln53 hn3
    have hgen := hH.gen hR3 hV3.2.2.2.2.1.1 hV3.2.2.2.2.2.1
    have hSB3 := hS2.trans hS3
    have hit3 : B3 q_2 = some (mn_E nm a (qf 2) (qf 3) k0) := hSB3.atC hitB (by decide)
    refine lv_iconst (v := 0) hx hb dX2_general_97 (by decide) ?_
    refine lv_istore hx hb dX2_general_98 hl (by decide) rfl (fun ls hl => ?_)
    replace hl : lv_has ls 13 [(11, .int 0), (10, .int (nI xr.length)), (9, .int (nI xt.length)), (0, .ref md), (1, .int (nI t9)), (2, .ref a), (4, .ref q_2), (5, .ref (qf 0)), (6, .ref (qf 1)), (7, .long (nJ (st + 1)))] := hl
    refine lv_iload hx hb dX2_general_100 (lv_at hl 2 rfl) ?_
    refine lv_istore hx hb dX2_general_102 hl (by decide) rfl (fun ls hl => ?_)
    replace hl : lv_has ls 13 [(12, .int (nI xt.length)), (11, .int 0), (10, .int (nI xr.length)), (9, .int (nI xt.length)), (0, .ref md), (1, .int (nI t9)), (2, .ref a), (4, .ref q_2), (5, .ref (qf 0)), (6, .ref (qf 1)), (7, .long (nJ (st + 1)))] := hl
    refine mm_loopW (fun k M' ls cells slots => ∃ (j : Nat) (ar9 cp9 : Nat → Nat), k = et.length - j ∧ j ≤ et.length ∧ lv_has ls 13 [(12, .int (nI (xt.length + j))), (0, .ref md), (1, .int (nI t9)), (4, .ref q_2), (5, .ref (qf 0)), (6, .ref (qf 1)), (10, .int (nI xr.length)), (11, .int 0)] ∧ RL Z B3 M' qf ar9 cp9 (vX vr (xt ++ et) (xr ++ er) ((et.take j).map fun v => some (vr v)) []) ∧ mm_Ext B3 M' ∧ cells ≤ 5 + (xt.length + et.length + (xr.length + er.length)) + j ∧ slots ≤ 30 + (4 * cp9 0 + 4 * cp9 1 + 4 * cp9 2)) (fun k M4 ls H locs cells slots ih hI hM hS => ?_) ⟨0, ar3, cp3, rfl, Nat.zero_le _, lv_sub hl [0, 4, 5, 7, 8, 9, 2, 1] rfl, hV3.2.2.2.1, hV3.1, by (try dsimp only); omega, by (try dsimp only); omega⟩ hM hS
    obtain ⟨j, ar9, cp9, rfl, hj9, hl, hRL9, hx9, hc10, hs10⟩ := hI
    have hA0 : AL Z M4 (qf 0) (ar9 0) (cp9 0) ((xt ++ et).map fun v => some (vr v)) := (hRL9.1 0 (by omega)).1
    have lA := hRL9.len (i := 0) (by omega)
    have lB := hRL9.len (i := 1) (by omega)
    have lC := hRL9.len (i := 2) (by omega)
    simp only [vX, List.length_map, List.length_append, List.length_take] at lA lB lC
    obtain ⟨mdp, fp, hp0, -⟩ := id hA0
    rw [List.length_map, List.length_append] at hp0
    refine lv_iload hx hb dX2_general_104 (lv_at hl 0 rfl) ?_
    refine lv_aload hx hb dX2_general_106 (lv_at hl 4 rfl) ?_
    refine mm_callV (As := []) (rest := [.int (nI (xt.length + j))]) ⟨hx, hb, hml, hown, hts⟩ hE hST hA (c_J2_size l Z (M := M4) (h0 := (qf 0)) (f0 := mdp) (f1 := (some (ar9 0))) (f2 := (nI (xt.length + et.length))) hp0) (cwV 0 hts (lw_V q2560 q178 q179 q53 q180) rfl rfl rfl (by decide +kernel) ⟨(by (try dsimp only); omega), (by (try dsimp only); omega)⟩) hM hS mm_cJ2 hp0 rfl hl.1 (Nat.le_of_ble_eq_true rfl) dX2_general_108 rfl ⟨(by (try dsimp only); omega), (by (try dsimp only); omega)⟩ (fun _ _ _ _ _ _ h9 => h9.elim) (fun v_118 M_119 H locs hp_120 hM hS => ?_)
    obtain ⟨rfl, eM_119⟩ := hp_120
    rw [eM_119] at hM
    refine lv_icmp_ge (tgt := 139) hx hb dX2_general_111 (by decide) (fun c_121 => ?_) (fun c_121 => ?_)
    · skip
      obtain rfl : j = et.length := by have := (nI_leI (by omega) (by omega)).1 c_121; omega
      refine lv_iload hx hb dX2_general_139 (lv_at hl 6 rfl) ?_
      refine lv_istore hx hb dX2_general_141 hl (by decide) rfl (fun ls hl => ?_)
      replace hl : lv_has ls 13 [(12, .int (nI xr.length)), (0, .ref md), (1, .int (nI t9)), (4, .ref q_2), (5, .ref (qf 0)), (6, .ref (qf 1)), (10, .int (nI xr.length)), (11, .int 0)] := hl
      refine mm_loopW (fun k M' ls cells slots => ∃ (i : Nat) (ar8 cp8 : Nat → Nat), k = er.length - i ∧ i ≤ er.length ∧ lv_has ls 13 [(12, .int (nI (xr.length + i))), (0, .ref md), (1, .int (nI t9)), (4, .ref q_2), (6, .ref (qf 1)), (11, .int (mny S (er.take i)))] ∧ RL Z B3 M' qf ar8 cp8 (vX vr (xt ++ et) (xr ++ er) ((et.take et.length).map fun v => some (vr v)) ((er.take i).map fun v => some (vr v))) ∧ mm_Ext B3 M' ∧ cells ≤ 5 + (xt.length + et.length + (xr.length + er.length)) + et.length + i ∧ slots ≤ 30 + (4 * cp8 0 + 4 * cp8 1 + 4 * cp8 2 + 4 * cp8 3)) (fun k M5 ls H locs cells slots ih8 hI hM hS => ?_) ⟨0, ar9, cp9, rfl, Nat.zero_le _, lv_sub hl [0, 1, 2, 3, 5, 7] rfl, hRL9, hx9, by (try dsimp only); omega, by (try dsimp only); omega⟩ hM hS
      obtain ⟨i, ar8, cp8, rfl, hi9, hl, hRL8, hx8, hc11, hs11⟩ := hI
      have hA1 : AL Z M5 (qf 1) (ar8 1) (cp8 1) ((xr ++ er).map fun v => some (vr v)) := (hRL8.1 1 (by omega)).1
      have lA := hRL8.len (i := 0) (by omega)
      have lB := hRL8.len (i := 1) (by omega)
      have lC := hRL8.len (i := 2) (by omega)
      have lD := hRL8.len (i := 3) (by omega)
      simp only [vX, List.length_map, List.length_append, List.length_take] at lA lB lC lD
      obtain ⟨mdr, fr9, hp1, -⟩ := id hA1
      rw [List.length_map, List.length_append] at hp1
      refine lv_iload hx hb dX2_general_143 (lv_at hl 0 rfl) ?_
      refine lv_aload hx hb dX2_general_145 (lv_at hl 4 rfl) ?_
      refine mm_callV (As := []) (rest := [.int (nI (xr.length + i))]) ⟨hx, hb, hml, hown, hts⟩ hE hST hA (c_J2_size l Z (M := M5) (h0 := (qf 1)) (f0 := mdr) (f1 := (some (ar8 1))) (f2 := (nI (xr.length + er.length))) hp1) (cwV 0 hts (lw_V q2560 q178 q179 q53 q180) rfl rfl rfl (by decide +kernel) ⟨(by (try dsimp only); omega), (by (try dsimp only); omega)⟩) hM hS mm_cJ2 hp1 rfl hl.1 (Nat.le_of_ble_eq_true rfl) dX2_general_147 rfl ⟨(by (try dsimp only); omega), (by (try dsimp only); omega)⟩ (fun _ _ _ _ _ _ h9 => h9.elim) (fun v_122 M_123 H locs hp_124 hM hS => ?_)
      obtain ⟨rfl, eM_123⟩ := hp_124
      rw [eM_123] at hM
      refine lv_icmp_ge (tgt := 199) hx hb dX2_general_150 (by decide) (fun c_125 => ?_) (fun c_125 => ?_)
      · skip
        obtain rfl : i = er.length := by have := (nI_leI (by omega) (by omega)).1 c_125; omega
        rw [List.take_length] at hl hRL8
        rw [List.take_length] at hRL8
        have hmd5 : M5 md = some (md_E tm ka wh f1 f2 f3 wg ea sp rt th ak wr pl tk fa (nJ (st + 1))) := hx8.at (hSB3.atC hmdB (by decide))
        have hpl3 := hSB3.atA hplB
        have hpl5 : M5 pl = some (ia_E Z 120 gp) := hx8.at hpl3
        refine lv_aload_n hx hb dX2_general_199 rfl (lv_at hl 1 rfl) ?_
        refine va_get (D := Z.1) (ci := 1) (v := .ref pl) (C := RX2) (T := TX2) (N := 17) hx hb hts in_X2 hown hE.1 (hM.at hmd5) 0 rfl mm_cX2 13 (by decide) (hts _ q2391) (fun _ h9 => h9) rfl dX2_general_200 ?_
        refine lv_iload_n hx hb dX2_general_203 rfl (lv_at hl 2 rfl) ?_
        refine lv_iload hx hb dX2_general_204 (lv_at hl 5 rfl) ?_
        refine lv_aload_n hx hb dX2_general_206 rfl (lv_at hl 1 rfl) ?_
        refine va_get (D := Z.1) (ci := 1) (v := .ref pl) (C := RX2) (T := TX2) (N := 17) hx hb hts in_X2 hown hE.1 (hM.at hmd5) 0 rfl mm_cX2 13 (by decide) (hts _ q2391) (fun _ h9 => h9) rfl dX2_general_207 ?_
        refine lv_iload_n hx hb dX2_general_210 rfl (lv_at hl 2 rfl) ?_
        refine mm_ialdK (k := t9) hx hb hE hM hpl5 rfl ht9 (by decide) dX2_general_211 ?_
        have hK9 : mK M M5 := (hKB.trans hSB3.L.K).trans hx8.mK
        have hC9 : mCI M5 L vr D S := hV3.2.1.ext hx8
        have hS9 : mSt M5 L (st + 1) := (hSB.light hCB hSB3.L hst).ext hV3.2.1 hx8
        have hG9 : mKn Z M5 L vr D ((nm, t, et, er) :: G) (some q_2) := ⟨q_2, a, qf 2, qf 3, k0, rfl, hx8.at hit3, (htB.light hSB3.L).ext hx8, ⟨ar8 2, cp8 2, (hRL8.1 2 (by omega)).1⟩, ⟨ar8 3, cp8 3, (hRL8.1 3 (by omega)).1⟩, fun v hv => by
          rcases List.mem_append.1 hv with hv | hv
          · exact (hV3.2.2.2.2.1.2 v (List.mem_append_right _ hv)).1
          · exact (hV3.2.2.2.2.2.2 v (List.mem_append_right _ hv)).1
          , mKn.mono (hSB3.L.K.trans hx8.mK) (fun _ h => h) (fun _ h => ⟨h, rfl⟩) G k0 hGB⟩
        refine lv_icmp_le (tgt := 220) hx hb dX2_general_212 (by decide) (fun c_126 => ?_) (fun c_126 => ?_)
        · skip
          refine lv_aload_n hx hb dX2_general_220 rfl (lv_at hl 1 rfl) ?_
          refine va_get (D := Z.1) (ci := 1) (v := .ref pl) (C := RX2) (T := TX2) (N := 17) hx hb hts in_X2 hown hE.1 (hM.at hmd5) 0 rfl mm_cX2 13 (by decide) (hts _ q2391) (fun _ h9 => h9) rfl dX2_general_221 ?_
          refine lv_iload_n hx hb dX2_general_224 rfl (lv_at hl 2 rfl) ?_
          refine mm_ialdK (k := t9) hx hb hE hM hpl5 rfl ht9 (by decide) dX2_general_225 ?_
          have hif : (if gp t9 < mny S er then mny S er else gp t9) = gp t9 := if_neg (Int32.not_lt.2 c_126)
          refine mm_iastK (k := t9) hx hb hE hM hS hpl5 rfl ht9 (by decide) dX2_general_226 (fun H locs hM hS => ?_)
          have hM : mm_P Z.1 mm_cl A (mm_U M5 pl (.inl (Z.2.1 0, 120, .inl (upd gp t9 (gp t9))))) H := hM
          have hc_127 : (mm_U M5 pl (.inl (Z.2.1 0, 120, .inl (upd gp t9 (gp t9))))) pl = some (.inl (Z.2.1 0, 120, .inl (upd gp t9 (gp t9)))) := mm_U_eq
          have hc_128 : (mm_U M5 pl (.inl (Z.2.1 0, 120, .inl (upd gp t9 (gp t9))))) md = some (.inr (1, [.int tm, .ref ka, .ref wh, .ref f1, .ref f2, .ref f3, .ref wg, .int ea, .int sp, va_rf rt, .int th, .int ak, .int wr, .ref pl, .int tk, .int (mm_b fa), .long (nJ (st + 1))])) := (mm_U_ne (Ne.symm (mm_neA hpl5 hmd5))).trans hmd5
          obtain ⟨M_129, eM_129⟩ : ∃ z, z = mm_U M5 pl (.inl (Z.2.1 0, 120, .inl (upd gp t9 (gp t9)))) := ⟨_, rfl⟩
          rw [← eM_129] at hM hc_128 hc_127
          rw [← hif] at eM_129
          refine lv_aload hx hb dX2_general_227 (lv_at hl 3 rfl) ?_
          subst eM_129
          exact mm_retaD hx hb hr (Or.inl ⟨_, rfl⟩) (Or.inr ⟨_, rfl⟩) hlk hM hS ⟨q_2, et, er, rfl, hgen, mKn.putI hpl5 _ _ hG9, hC9.obj (mO.put hpl5), hS9.obj hC9 (mO.put hpl5), mO.put hpl5 _ _ _ hmd5, mm_U_eq, hK9.XU⟩ dX2_general_229 (by (try dsimp only); omega) (by (try dsimp only); omega)
        · skip
          refine lv_iload hx hb dX2_general_215 (lv_at hl 5 rfl) ?_
          refine lv_goto (tgt := 226) hx hb dX2_general_217 (by decide) ?_
          have hif : (if gp t9 < mny S er then mny S er else gp t9) = mny S er := if_pos (Int32.not_le.1 c_126)
          refine mm_iastK (k := t9) hx hb hE hM hS hpl5 rfl ht9 (by decide) dX2_general_226 (fun H locs hM hS => ?_)
          have hM : mm_P Z.1 mm_cl A (mm_U M5 pl (.inl (Z.2.1 0, 120, .inl (upd gp t9 (mny S er))))) H := hM
          have hc_127 : (mm_U M5 pl (.inl (Z.2.1 0, 120, .inl (upd gp t9 (mny S er))))) pl = some (.inl (Z.2.1 0, 120, .inl (upd gp t9 (mny S er)))) := mm_U_eq
          have hc_128 : (mm_U M5 pl (.inl (Z.2.1 0, 120, .inl (upd gp t9 (mny S er))))) md = some (.inr (1, [.int tm, .ref ka, .ref wh, .ref f1, .ref f2, .ref f3, .ref wg, .int ea, .int sp, va_rf rt, .int th, .int ak, .int wr, .ref pl, .int tk, .int (mm_b fa), .long (nJ (st + 1))])) := (mm_U_ne (Ne.symm (mm_neA hpl5 hmd5))).trans hmd5
          obtain ⟨M_129, eM_129⟩ : ∃ z, z = mm_U M5 pl (.inl (Z.2.1 0, 120, .inl (upd gp t9 (mny S er)))) := ⟨_, rfl⟩
          rw [← eM_129] at hM hc_128 hc_127
          rw [← hif] at eM_129
          refine lv_aload hx hb dX2_general_227 (lv_at hl 3 rfl) ?_
          subst eM_129
          exact mm_retaD hx hb hr (Or.inl ⟨_, rfl⟩) (Or.inr ⟨_, rfl⟩) hlk hM hS ⟨q_2, et, er, rfl, hgen, mKn.putI hpl5 _ _ hG9, hC9.obj (mO.put hpl5), hS9.obj hC9 (mO.put hpl5), mO.put hpl5 _ _ _ hmd5, mm_U_eq, hK9.XU⟩ dX2_general_229 (by (try dsimp only); omega) (by (try dsimp only); omega)
      · skip
        have hi : i < er.length := by have := (nI_ltI (by omega) (by omega)).1 (Int32.not_le.1 c_125); omega
        obtain ⟨g9, hg9⟩ : ∃ g, er[i]? = some g := ⟨er[i], List.getElem?_eq_getElem hi⟩
        have hgx : B3 (vr g9) = some (mr_E 0 none 0 none none (S.2.2.2.1 g9) (S.2.2.1 g9)) := (hV3.2.2.2.2.2.2 g9 (List.mem_append_right _ (List.mem_of_getElem? hg9))).2.2.2
        have hgM := hx8.at hgx
        have hitM := hx8.at hit3
        refine lv_aload hx hb dX2_general_153 (lv_at hl 3 rfl) ?_
        refine va_get (D := Z.1) (ci := 23) (v := .ref (qf 3)) (C := RX28) (T := TX28) (N := 5) hx hb hts in_X28 hown hE.1 (hM.at hitM) 0 rfl mm_cX28 3 (by decide) (hts _ q2640) (fun _ h9 => h9) rfl dX2_general_155 ?_
        refine lv_aload hx hb dX2_general_158 (lv_at hl 4 rfl) ?_
        refine lv_iload hx hb dX2_general_160 (lv_at hl 0 rfl) ?_
        refine mm_callV (As := [.int (nI (xr.length + i))]) (rest := [.ref (qf 3)]) ⟨hx, hb, hml, hown, hts⟩ hE hST hA (c_J2_get l Z hA1 (i := xr.length + i) (by rw [List.length_map, List.length_append]; omega)) (cwV 1 hts (lw_V q2567 q500 q501 q53 q502) rfl rfl rfl (by decide +kernel) ⟨(by (try dsimp only); omega), (by (try dsimp only); omega)⟩) hM hS mm_cJ2 hp1 rfl hl.1 (Nat.le_of_ble_eq_true rfl) dX2_general_162 rfl ⟨(by (try dsimp only); omega), (by (try dsimp only); omega)⟩ (fun _ _ _ _ _ _ h9 => h9.elim) (fun v_126 M_127 H locs hp_128 hM hS => ?_)
        obtain ⟨⟨r9, hr9, rfl⟩, eM_127⟩ := hp_128
        rw [eM_127] at hM
        obtain rfl := idx_app vr hg9 hr9
        refine va_castS hx hb hown (hts _ q2561) (hE.1.1 22 _ mm_cX27).2 (mm_recv hE hM mm_cX27 hgM) dX2_general_165 ?_
        have hAX : AL Z M5 (qf 3) (ar8 3) (cp8 3) ((er.take i).map fun v => some (vr v)) := (hRL8.1 3 (by omega)).1
        obtain ⟨mdx, fx, hpx, -⟩ := id hAX
        rw [take_len (fun v => some (vr v)) hi9] at hpx
        have hAdd := c_J2_add l Z hAX (r := some (vr g9)) (by omega) (fun y hy => by obtain ⟨w9, hw9, rfl⟩ := List.mem_map.1 hy; exact (fun z hz => by cases hz; rcases (hV3.2.1.2.1 w9 (hV3.2.2.2.2.2.2 w9 (List.mem_append_right _ (List.mem_of_mem_take hw9))).1).2 with ⟨_, _, _, k, -⟩ | ⟨_, k, -⟩ <;> exact ⟨_, _, hx8.at k⟩)) (fun v h8 => by cases h8; exact ⟨_, _, hgM⟩)
        rw [take_len (fun v => some (vr v)) hi9] at hAdd
        obtain ⟨hg2, hg3, hg4, hg5, hg6⟩ := gl_step (show gl_ok (cp8 3) i from by have h9 := (hRL8.1 3 (by omega)).2.2.2; simp only [vX] at h9; rw [take_len (fun v => some (vr v)) hi9] at h9; exact h9) (by omega)
        unfold gl_ok at hg2
        refine mm_callV (As := [.ref (vr g9)]) (rest := []) ⟨hx, hb, hml, hown, hts⟩ hE hST hA hAdd (cwV 1 hts (lw_V q2702 q335 q336 q53 q337) rfl rfl rfl (by decide +kernel) ⟨(by (try dsimp only); omega), (by (try dsimp only); omega)⟩) hM hS mm_cJ2 hpx rfl hl.1 (Nat.le_of_ble_eq_true rfl) dX2_general_168 rfl ⟨(by (try dsimp only); omega), (by (try dsimp only); omega)⟩ (fun _ _ _ _ _ _ h9 => h9.elim) (fun v_129 M_130 H locs hp_131 hM hS => ?_)
        obtain ⟨rfl, ar7, hA7, hk7, ho7⟩ := hp_131
        obtain ⟨hRL7, hx7⟩ := hRL8.adX3 hx8 hV3.2.2.1 (ar' := ar7) (r := some (vr g9)) (by rw [take_len (fun v => some (vr v)) hi9]; exact hA7) hk7 (by rw [take_len (fun v => some (vr v)) hi9]; exact ho7)
        rw [take_len (fun v => some (vr v)) hi9] at hRL7
        have hA1' : AL Z M_130 (qf 1) (upf ar8 3 ar7 1) (upf cp8 3 (al_cap i (cp8 3)) 1) ((xr ++ er).map fun v => some (vr v)) := (hRL7.1 1 (by omega)).1
        obtain ⟨mdr2, fr92, hp12, -⟩ := id hA1'
        have hgM2 := hx7.at hgx
        refine lv_pop hx hb dX2_general_171 rfl ?_
        refine lv_iload hx hb dX2_general_172 (lv_at hl 5 rfl) ?_
        refine lv_aload hx hb dX2_general_174 (lv_at hl 4 rfl) ?_
        refine lv_iload hx hb dX2_general_176 (lv_at hl 0 rfl) ?_
        refine mm_callV (As := [.int (nI (xr.length + i))]) (rest := [.int (mny S (er.take i))]) ⟨hx, hb, hml, hown, hts⟩ hE hST hA (c_J2_get l Z hA1' (i := xr.length + i) (by rw [List.length_map, List.length_append]; omega)) (cwV 1 hts (lw_V q2567 q500 q501 q53 q502) rfl rfl rfl (by decide +kernel) ⟨(by (try dsimp only); omega), (by (try dsimp only); omega)⟩) hM hS mm_cJ2 hp12 rfl hl.1 (Nat.le_of_ble_eq_true rfl) dX2_general_178 rfl ⟨(by (try dsimp only); omega), (by (try dsimp only); omega)⟩ (fun _ _ _ _ _ _ h9 => h9.elim) (fun v_132 M_133 H locs hp_134 hM hS => ?_)
        obtain ⟨⟨r9, hr9, rfl⟩, eM_133⟩ := hp_134
        rw [eM_133] at hM
        obtain rfl := idx_app vr hg9 hr9
        refine va_castS hx hb hown (hts _ q2561) (hE.1.1 22 _ mm_cX27).2 (mm_recv hE hM mm_cX27 hgM2) dX2_general_181 ?_
        refine va_get (D := Z.1) (ci := 22) (v := .int (S.2.2.2.1 g9)) (C := RX27) (T := TX27) (N := 7) hx hb hts in_X27 hown hE.1 (hM.at hgM2) 0 rfl mm_cX27 5 (by decide) (hts _ q2583) (fun _ h9 => h9) rfl dX2_general_184 ?_
        refine mm_callS (As := [.int (S.2.2.2.1 g9)]) (rest := [.int (mny S (er.take i))]) ⟨hx, hb, hml, hown, hts⟩ hE hST hA (c_J21_bitCount l Z (i := S.2.2.2.1 g9)) (va_cwS 1 hts (lw_S q2708 q2709 q96 q2710) rfl rfl rfl (by decide +kernel) ⟨(by (try dsimp only); omega), (by (try dsimp only); omega)⟩) hM hS rfl hl.1 (Nat.le_of_ble_eq_true rfl) dX2_general_187 rfl ⟨(by (try dsimp only); omega), (by (try dsimp only); omega)⟩ (fun _ _ _ _ _ _ h9 => h9.elim) (fun v_135 M_136 H locs hp_137 hM hS => ?_)
        obtain ⟨rfl, eM_136⟩ := hp_137
        rw [eM_136] at hM
        refine lv_iadd hx hb dX2_general_190 ?_
        refine lv_istore hx hb dX2_general_191 hl (by decide) rfl (fun ls hl => ?_)
        replace hl : lv_has ls 13 [(11, .int ((mny S (er.take i)) + (bcn (S.2.2.2.1 g9)))), (12, .int (nI (xr.length + i))), (0, .ref md), (1, .int (nI t9)), (4, .ref q_2), (6, .ref (qf 1))] := hl
        obtain ⟨x_138, ex_138⟩ : ∃ z : Int32, z = (nI (xr.length + i)) + 1 := ⟨_, rfl⟩
        refine lv_iinc (v := x_138) (lv' := [(12, .int x_138), (11, .int ((mny S (er.take i)) + (bcn (S.2.2.2.1 g9)))), (0, .ref md), (1, .int (nI t9)), (4, .ref q_2), (6, .ref (qf 1))]) hx hb dX2_general_193 hl (k := 1) rfl (by rw [ex_138]; rfl) (by decide) rfl (fun ls hl => ?_)
        rw [show x_138 = nI (xr.length + (i + 1)) from by rw [ex_138]; exact nI_1 _] at hl
        rw [show (mny S (er.take i)) + (bcn (S.2.2.2.1 g9)) = mny S (er.take (i + 1)) from by rw [take_1 hg9, mny_snoc]] at hl
        refine lv_goto (tgt := 143) hx hb dX2_general_196 (by decide) ?_
        refine ih8 (er.length - (i + 1)) (by omega) _ _ _ _ _ _ ⟨i + 1, _, _, rfl, hi, lv_sub hl [0, 2, 3, 4, 5, 1] rfl, by rw [take_1 hg9, List.map_append]; exact hRL7, hx7, by (try dsimp only); omega, by show _ ≤ 30 + (4 * cp8 0 + 4 * cp8 1 + 4 * cp8 2 + 4 * al_cap i (cp8 3)); (try dsimp only); omega⟩ hM hS
    · skip
      have hj : j < et.length := by have := (nI_ltI (by omega) (by omega)).1 (Int32.not_le.1 c_121); omega
      obtain ⟨g9, hg9⟩ : ∃ g, et[j]? = some g := ⟨et[j], List.getElem?_eq_getElem hj⟩
      obtain ⟨k7, is7, fr7, to7, rw7, cm7, cp7, hgx⟩ := (hV3.2.2.2.2.1.2 g9 (List.mem_append_right _ (List.mem_of_getElem? hg9))).2.2.2
      have hgM := hx9.at hgx
      have hitM := hx9.at hit3
      refine lv_aload hx hb dX2_general_114 (lv_at hl 3 rfl) ?_
      refine va_get (D := Z.1) (ci := 23) (v := .ref (qf 2)) (C := RX28) (T := TX28) (N := 5) hx hb hts in_X28 hown hE.1 (hM.at hitM) 0 rfl mm_cX28 2 (by decide) (hts _ q2638) (fun _ h9 => h9) rfl dX2_general_116 ?_
      refine lv_aload hx hb dX2_general_119 (lv_at hl 4 rfl) ?_
      refine lv_iload hx hb dX2_general_121 (lv_at hl 0 rfl) ?_
      refine mm_callV (As := [.int (nI (xt.length + j))]) (rest := [.ref (qf 2)]) ⟨hx, hb, hml, hown, hts⟩ hE hST hA (c_J2_get l Z hA0 (i := xt.length + j) (by rw [List.length_map, List.length_append]; omega)) (cwV 1 hts (lw_V q2567 q500 q501 q53 q502) rfl rfl rfl (by decide +kernel) ⟨(by (try dsimp only); omega), (by (try dsimp only); omega)⟩) hM hS mm_cJ2 hp0 rfl hl.1 (Nat.le_of_ble_eq_true rfl) dX2_general_123 rfl ⟨(by (try dsimp only); omega), (by (try dsimp only); omega)⟩ (fun _ _ _ _ _ _ h9 => h9.elim) (fun v_122 M_123 H locs hp_124 hM hS => ?_)
      obtain ⟨⟨r9, hr9, rfl⟩, eM_123⟩ := hp_124
      rw [eM_123] at hM
      obtain rfl := idx_app vr hg9 hr9
      refine va_castS hx hb hown (hts _ q2497) (hE.1.1 20 _ mm_cX25).2 (mm_recv hE hM mm_cX25 hgM) dX2_general_126 ?_
      have hAX : AL Z M4 (qf 2) (ar9 2) (cp9 2) ((et.take j).map fun v => some (vr v)) := (hRL9.1 2 (by omega)).1
      obtain ⟨mdx, fx, hpx, -⟩ := id hAX
      rw [take_len (fun v => some (vr v)) hj9] at hpx
      have hAdd := c_J2_add l Z hAX (r := some (vr g9)) (by omega) (fun y hy => by obtain ⟨w9, hw9, rfl⟩ := List.mem_map.1 hy; exact (fun z hz => by cases hz; rcases (hV3.2.1.2.1 w9 (hV3.2.2.2.2.1.2 w9 (List.mem_append_right _ (List.mem_of_mem_take hw9))).1).2 with ⟨_, _, _, k, -⟩ | ⟨_, k, -⟩ <;> exact ⟨_, _, hx9.at k⟩)) (fun v h8 => by cases h8; exact ⟨_, _, hgM⟩)
      rw [take_len (fun v => some (vr v)) hj9] at hAdd
      obtain ⟨hg2, hg3, hg4, hg5, hg6⟩ := gl_step (show gl_ok (cp9 2) j from by have h9 := (hRL9.1 2 (by omega)).2.2.2; simp only [vX] at h9; rw [take_len (fun v => some (vr v)) hj9] at h9; exact h9) (by omega)
      unfold gl_ok at hg2
      refine mm_callV (As := [.ref (vr g9)]) (rest := []) ⟨hx, hb, hml, hown, hts⟩ hE hST hA hAdd (cwV 1 hts (lw_V q2702 q335 q336 q53 q337) rfl rfl rfl (by decide +kernel) ⟨(by (try dsimp only); omega), (by (try dsimp only); omega)⟩) hM hS mm_cJ2 hpx rfl hl.1 (Nat.le_of_ble_eq_true rfl) dX2_general_129 rfl ⟨(by (try dsimp only); omega), (by (try dsimp only); omega)⟩ (fun _ _ _ _ _ _ h9 => h9.elim) (fun v_125 M_126 H locs hp_127 hM hS => ?_)
      obtain ⟨rfl, ar7, hA7, hk7, ho7⟩ := hp_127
      obtain ⟨hRL7, hx7⟩ := hRL9.adX2 hx9 hV3.2.2.1 (ar' := ar7) (r := some (vr g9)) (by rw [take_len (fun v => some (vr v)) hj9]; exact hA7) hk7 (by rw [take_len (fun v => some (vr v)) hj9]; exact ho7)
      rw [take_len (fun v => some (vr v)) hj9] at hRL7
      refine lv_pop hx hb dX2_general_132 rfl ?_
      obtain ⟨x_128, ex_128⟩ : ∃ z : Int32, z = (nI (xt.length + j)) + 1 := ⟨_, rfl⟩
      refine lv_iinc (v := x_128) (lv' := [(12, .int x_128), (0, .ref md), (1, .int (nI t9)), (4, .ref q_2), (5, .ref (qf 0)), (6, .ref (qf 1)), (10, .int (nI xr.length)), (11, .int 0)]) hx hb dX2_general_133 hl (k := 0) rfl (by rw [ex_128]; rfl) (by decide) rfl (fun ls hl => ?_)
      rw [show x_128 = nI (xt.length + (j + 1)) from by rw [ex_128]; exact nI_1 _] at hl
      refine lv_goto (tgt := 104) hx hb dX2_general_136 (by decide) ?_
      refine ih (et.length - (j + 1)) (by omega) _ _ _ _ _ _ ⟨j + 1, _, _, rfl, hj, lv_sub hl [0, 1, 2, 3, 4, 5, 6, 7] rfl, by rw [take_1 hg9, List.map_append]; exact hRL7, hx7, by (try dsimp only); omega, by show _ ≤ 30 + (4 * cp9 0 + 4 * cp9 1 + 4 * al_cap j (cp9 2)); (try dsimp only); omega⟩ hM hS
  · skip
    obtain ⟨a2, ty2, lt2, lr2, nx2, rfl, hb2, ht2, -, -, -, hG2⟩ := hKn
    have hbM := hV.1.at hb2
    have hin : e9 ∈ G := by rw [hG12]; exact List.mem_append_right _ List.mem_cons_self
    have hHe := hHG e9 hin
    refine lv_aload hx hb dX2_general_44 (lv_at hl 0 rfl) ?_
    refine lv_ifnull hx hb dX2_general_46 ?_
    refine lv_aload hx hb dX2_general_49 (lv_at hl 0 rfl) ?_
    refine va_get (D := Z.1) (ci := 23) (v := .ref ty2) (C := RX28) (T := TX28) (N := 5) hx hb hts in_X28 hown hE.1 (hM.at hbM) 0 rfl mm_cX28 1 (by decide) (hts _ q2636) (fun _ h9 => h9) rfl dX2_general_51 ?_
    refine lv_aload hx hb dX2_general_54 (lv_at hl 5 rfl) ?_
    refine lv_aload hx hb dX2_general_56 (lv_at hl 6 rfl) ?_
    refine lv_lload hx hb dX2_general_58 (lv_at hl 7 rfl) ?_
    refine mm_callSD (As := [.ref ty2, .ref (qf 0), .ref (qf 1), .long (nJ (st + 1))]) (rest := []) ⟨hx, hb, hml, hown, hts⟩ hE hST hA (d_X2_variables l Z L vr D S kk (nJ (st + 1)) qf [] [] K hK (by omega) (SizeOf.sizeOf (uap S.2.1 e9.2.1) + 1) (uap S.2.1 e9.2.1) e9.2.1 ty2 B2 M3 ar cp xt xr (Nat.lt_succ_self _) rfl hV (hGw e9 hin) (hQ _) ht2) (va_cwS 4 hts (lw_S q2699 q2700 q54 q2701) rfl rfl rfl (by decide +kernel) ⟨(by (try dsimp only); omega), (by (try dsimp only); omega)⟩) hM hS rfl hl.1 (Nat.le_of_ble_eq_true rfl) dX2_general_60 rfl ⟨(by (try dsimp only); omega), (by (try dsimp only); omega)⟩ (fun _ _ _ _ _ _ h9 => h9.elim) (fun v_107 M_108 n_110 k_111 H locs hp_109 hM hS => ?_)
    obtain ⟨rfl, B5, ar5, cp5, xt5, xr5, hV5, hS5, hR5, hq5, hn5, hk5⟩ := hp_109
    obtain ⟨hln15, ⟨hln25, hln35⟩, ⟨hln45, hln55⟩, -⟩ := hV5.len hK
    obtain ⟨hle15, hle25⟩ := hR5.len
    have hb5 := hS5.atC hb2 (by decide)
    have hbM5 := hV5.1.at hb5
    refine lv_aload hx hb dX2_general_63 (lv_at hl 0 rfl) ?_
    refine va_get (D := Z.1) (ci := 23) (v := va_rf nx2) (C := RX28) (T := TX28) (N := 5) hx hb hts in_X28 hown hE.1 (hM.at hbM5) 0 rfl mm_cX28 4 (by decide) (hts _ q2642) (fun _ h9 => h9) rfl dX2_general_65 ?_
    refine mm_astore hx hb dX2_general_68 hl (by decide) rfl (fun ls hl => ?_)
    replace hl : lv_has ls 13 [(9, va_rf nx2), (0, .ref md), (1, .int (nI t9)), (2, .ref a), (4, .ref q_2), (5, .ref (qf 0)), (6, .ref (qf 1)), (7, .long (nJ (st + 1)))] := hl
    refine lv_goto (tgt := 44) hx hb dX2_general_70 (by decide) ?_
    refine ih G2.length (by simp) _ _ _ _ _ _ ⟨G2, nx2, B5, ar5, cp5, xt5, xr5, rfl, ⟨G1 ++ [e9], by rw [hG12, List.append_assoc]; rfl, hH.snoc hR5⟩, lv_sub hl [0, 1, 2, 3, 4, 5, 6, 7] rfl, hV5, hS2.trans hS5, mKn.mono hS5.L.K (fun _ h => h) (fun _ h => ⟨h, rfl⟩) _ _ hG2, (fun s => (hQ s).next hV.2.1 hq5 hS5.L (vQ.mono hR5.sub)), by omega, by omega⟩ hM hS
