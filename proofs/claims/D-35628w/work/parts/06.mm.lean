/-! ===== A WHOLE MEMORY AS A FUNCTION: M a = some e where the cell a is known; contracts hand the whole of it on ===== -/
abbrev mm_M : Type := Nat → Option va_E
def mm_U (M : mm_M) (a : Nat) (e : va_E) : mm_M := fun q => if q = a then some e else M q
theorem mm_U_eq {M : mm_M} {a : Nat} {e : va_E} : mm_U M a e a = some e := by simp [mm_U]
theorem mm_U_ne {M : mm_M} {a b : Nat} {e : va_E} (h : b ≠ a) : mm_U M a e b = M b := by simp [mm_U, h]
def mm_A (M : mm_M) (sz : Nat) : Nat → Prop := fun q => (∃ e, M q = some e) ∨ sz ≤ q
def mm_P (D : va_G) (cl : List vw_C) (A : Nat → Prop) (M : mm_M) (H : Heap) : Prop := ∃ ws : va_W, va_P D cl ws H ∧ va_D A ws ∧ ∀ a e, M a = some e ↔ ∃ k : Nat, ws[k]? = some (a, e)
section MM0
variable {D : va_G} {cl : List vw_C} {A B : Nat → Prop} {M : mm_M} {H : Heap} {a : Nat} {e : va_E}
theorem mm_P.at (h : mm_P D cl A M H) (ha : M a = some e) : va_P D cl [(a, e)] H := by
  obtain ⟨ws, hP, -, hI⟩ := h
  obtain ⟨k, hk⟩ := (hI a e).1 ha
  intro j q hj
  match j, hj with
  | 0, hj =>
    cases hj
    exact hP k _ hk
  | j + 1, hj => simp at hj
theorem mm_P.inA (h : mm_P D cl A M H) (ha : M a = some e) : A a := by
  obtain ⟨ws, -, hD, hI⟩ := h
  obtain ⟨k, hk⟩ := (hI a e).1 ha
  exact hD.2 k _ hk
theorem mm_P.lt (h : mm_P D cl A M H) (ha : M a = some e) : a < H.size := by
  obtain ⟨ws, hP, -, hI⟩ := h
  obtain ⟨k, hk⟩ := (hI a e).1 ha
  exact (hP k _ hk).lt
theorem mm_P.weaken (h : mm_P D cl A M H) (hAB : ∀ q, (∃ e, M q = some e) → A q → B q) : mm_P D cl B M H := by
  obtain ⟨ws, hP, hD, hI⟩ := h
  exact ⟨ws, hP, hD.weaken (fun k q hk hA => hAB q.1 ⟨q.2, (hI _ _).2 ⟨k, hk⟩⟩ hA), hI⟩
theorem mm_P.self {sz : Nat} (h : mm_P D cl A M H) : mm_P D cl (mm_A M sz) M H := h.weaken (fun _ h _ => Or.inl h)
theorem mm_idx_set {ws : va_W} {q0 : Nat} {e0 : va_E} (hD : va_D A ws) (h0 : ws[q0]? = some (a, e0)) (hI : ∀ a e, M a = some e ↔ ∃ k : Nat, ws[k]? = some (a, e)) (e : va_E) : ∀ b e1, mm_U M a e b = some e1 ↔ ∃ k : Nat, (ws.set q0 (a, e))[k]? = some (b, e1) := by
  intro b e1
  have hl : q0 < ws.length := (List.getElem?_eq_some_iff.mp h0).1
  constructor
  · intro h
    by_cases hb : b = a
    · subst hb
      rw [mm_U_eq] at h
      cases h
      exact ⟨q0, by simp [hl]⟩
    · rw [mm_U_ne hb] at h
      obtain ⟨k, hk⟩ := (hI b e1).1 h
      refine ⟨k, ?_⟩
      have hkq : q0 ≠ k := by
        intro hq
        subst hq
        rw [h0] at hk
        cases hk
        exact hb rfl
      rw [List.getElem?_set_ne hkq]
      exact hk
  · rintro ⟨k, hk⟩
    by_cases hkq : q0 = k
    · subst hkq
      simp [hl] at hk
      obtain ⟨rfl, rfl⟩ := hk
      exact mm_U_eq
    · rw [List.getElem?_set_ne hkq] at hk
      have hb : b ≠ a := by
        intro hb
        subst hb
        exact hkq (hD.1 q0 k _ _ h0 hk rfl)
      rw [mm_U_ne hb]
      exact (hI b e1).2 ⟨k, hk⟩
theorem mm_idx_push {ws : va_W} {e : va_E} (hD : va_D A (ws ++ [(a, e)])) (hI : ∀ a e, M a = some e ↔ ∃ k : Nat, ws[k]? = some (a, e)) : M a = none ∧ ∀ b e1, mm_U M a e b = some e1 ↔ ∃ k : Nat, (ws ++ [(a, e)])[k]? = some (b, e1) := by
  have hn : ∀ e0, M a ≠ some e0 := by
    intro e0 h
    obtain ⟨k, hk⟩ := (hI a e0).1 h
    have hl : k < ws.length := (List.getElem?_eq_some_iff.mp hk).1
    have h1 : (ws ++ [(a, e)])[k]? = some (a, e0) := by rw [List.getElem?_append_left hl]; exact hk
    have h2 : (ws ++ [(a, e)])[ws.length]? = some (a, e) := by simp
    have := hD.1 k ws.length _ _ h1 h2 rfl
    omega
  have hn0 : M a = none := by
    cases h : M a with
    | none => rfl
    | some e0 => exact absurd h (hn e0)
  refine ⟨hn0, fun b e1 => ?_⟩
  constructor
  · intro h
    by_cases hb : b = a
    · subst hb
      rw [mm_U_eq] at h
      cases h
      exact ⟨ws.length, by simp⟩
    · rw [mm_U_ne hb] at h
      obtain ⟨k, hk⟩ := (hI b e1).1 h
      have hl : k < ws.length := (List.getElem?_eq_some_iff.mp hk).1
      exact ⟨k, by rw [List.getElem?_append_left hl]; exact hk⟩
  · rintro ⟨k, hk⟩
    by_cases hl : k < ws.length
    · rw [List.getElem?_append_left hl] at hk
      have h1 := (hI b e1).2 ⟨k, hk⟩
      have hb : b ≠ a := by
        intro hb
        subst hb
        rw [hn0] at h1
        cases h1
      rw [mm_U_ne hb]
      exact h1
    · rw [List.getElem?_append_right (by omega)] at hk
      have hz : k - ws.length < 1 := (List.getElem?_eq_some_iff.mp hk).1
      rw [show k - ws.length = 0 by omega] at hk
      cases hk
      exact mm_U_eq
theorem mm_P.nil (D : va_G) (cl : List vw_C) (A : Nat → Prop) (H : Heap) : mm_P D cl A (fun _ => none) H :=
  ⟨[], fun k q h => by simp at h, ⟨fun i j p q h => by simp at h, fun k q h => by simp at h⟩, fun a e => ⟨fun h => (by cases h), fun ⟨k, h⟩ => by simp at h⟩⟩
end MM0
section MM1
variable {p : Program} {l : Launch} {e : Env} {R : Room} {s : State} {m : MethodId} {args : Array Value} {below : List Frame} {meth : Method} {c : Code} {H : Heap} {locs : List Loc} {cells slots : Nat} {Q : State → Prop}
variable {cc : ByteArray} {pc : Nat} {ls : Array Slot} {rest : List Value} {D : va_G} {cl : List vw_C} {A : Nat → Prop} {a : Nat} {tys : List (ClassId × FieldType)} {M : mm_M} {H0 : Heap}
theorem mm_put (hexec : p.tables.exec = Jvm.exec) (hb : c.code = cc) {own ref C : String} {T : u_T} {N ci index : Nat} {Ts : List Cond} (hts : ∀ w ∈ Ts, w.before args s = true) (hin : ∀ w ∈ u_ws C T N, w ∈ Ts) (ty0 : Nat → FieldType) (hty : ∀ k, k < N → parseFieldDescriptor (T k).2.2.1 = some (ty0 k)) (hnm : ∀ a, a < N → ∀ b, b < N → a ≠ b → (T a).2.1 ≠ (T b).2.1) (hown : s.vm.findClass own = some m.cls) (hK : va_K D cl tys s) (hM : mm_P D cl A M H) (hS0 : va_S A H0 H locs) {fs : List Value} (he : M a = some (.inr (ci, fs))) (hc : cl[ci]? = some (C, T, N)) (k : Nat) (hk : k < N) (hlink : (Cond.fieldLink own index ref (T k).2.1 (T k).2.2.1).before args s = true) (hsame : ∀ x, s.fieldFound? (T k).1 (T k).2.1 (T k).2.2.1 = some x → s.fieldFound? ref (T k).2.1 (T k).2.2.1 = some x) (hfin : (T k).2.2.2 = false) {ty : FieldType} {v : Value} (hd : parseFieldDescriptor (T k).2.2.1 = some ty) (hn : narrow ty v = v) (hfit : fits ty v = true) (hl : k < fs.length)
    (hdg : decode cc pc = .ok (.putfield index, 3)) (kk : ∀ (H1 : Heap) (locs1 : List Loc), mm_P D cl A (mm_U M a (.inr (ci, fs.set k v))) H1 → va_S A H0 H1 locs1 → W p l e R s m args below meth c H1 locs1 cells slots Q (F0 m (pc + 3) ls rest)) : W p l e R s m args below meth c H locs cells slots Q (F0 m pc ls (v :: .ref a :: rest)) := by
  obtain ⟨ws, hP, hD, hI⟩ := hM
  obtain ⟨q0, h0⟩ := (hI _ _).1 he
  exact va_put hexec hb hts hin ty0 hty hnm hown hK hP hD hS0 q0 h0 hc k hk hlink hsame hfin hd hn hfit hl hdg (fun H1 locs1 p1 d1 s1 => kk H1 locs1 ⟨_, p1, d1, mm_idx_set hD h0 hI _⟩ s1)
theorem mm_putF (hexec : p.tables.exec = Jvm.exec) (hb : c.code = cc) {own ref C : String} {T : u_T} {N ci index : Nat} {Ts : List Cond} (hts : ∀ w ∈ Ts, w.before args s = true) (hin : ∀ w ∈ u_ws C T N, w ∈ Ts) (ty0 : Nat → FieldType) (hty : ∀ k, k < N → parseFieldDescriptor (T k).2.2.1 = some (ty0 k)) (hnm : ∀ a, a < N → ∀ b, b < N → a ≠ b → (T a).2.1 ≠ (T b).2.1) (hown : s.vm.findClass own = some m.cls) (hK : va_K D cl tys s) (hM : mm_P D cl A M H) (hS0 : va_S A H0 H locs) {fs : List Value} (he : M a = some (.inr (ci, fs))) (hc : cl[ci]? = some (C, T, N)) (k : Nat) (hk : k < N) (hlink : (Cond.fieldLink own index ref (T k).2.1 (T k).2.2.1).before args s = true) (hsame : ∀ x, s.fieldFound? (T k).1 (T k).2.1 (T k).2.2.1 = some x → s.fieldFound? ref (T k).2.1 (T k).2.2.1 = some x) (hfin : (T k).2.2.2 = true) (hin2 : meth.name = "<init>") (hdecl : (T k).1 = own) {ty : FieldType} {v : Value} (hd : parseFieldDescriptor (T k).2.2.1 = some ty) (hn : narrow ty v = v) (hfit : fits ty v = true) (hl : k < fs.length)
    (hdg : decode cc pc = .ok (.putfield index, 3)) (kk : ∀ (H1 : Heap) (locs1 : List Loc), mm_P D cl A (mm_U M a (.inr (ci, fs.set k v))) H1 → va_S A H0 H1 locs1 → W p l e R s m args below meth c H1 locs1 cells slots Q (F0 m (pc + 3) ls rest)) : W p l e R s m args below meth c H locs cells slots Q (F0 m pc ls (v :: .ref a :: rest)) := by
  obtain ⟨ws, hP, hD, hI⟩ := hM
  obtain ⟨q0, h0⟩ := (hI _ _).1 he
  exact va_putF hexec hb hts hin ty0 hty hnm hown hK hP hD hS0 q0 h0 hc k hk hlink hsame hfin hin2 hdecl hd hn hfit hl hdg (fun H1 locs1 p1 d1 s1 => kk H1 locs1 ⟨_, p1, d1, mm_idx_set hD h0 hI _⟩ s1)
theorem mm_putN (hexec : p.tables.exec = Jvm.exec) (hb : c.code = cc) {own ref C host : String} {T : u_T} {N ci index : Nat} {Ts : List Cond} (hts : ∀ w ∈ Ts, w.before args s = true) (hin : ∀ w ∈ u_ws C T N, w ∈ Ts) (ty0 : Nat → FieldType) (hty : ∀ k, k < N → parseFieldDescriptor (T k).2.2.1 = some (ty0 k)) (hnm : ∀ a, a < N → ∀ b, b < N → a ≠ b → (T a).2.1 ≠ (T b).2.1) (hown : s.vm.findClass own = some m.cls) (hK : va_K D cl tys s) (hM : mm_P D cl A M H) (hS0 : va_S A H0 H locs) {fs : List Value} (he : M a = some (.inr (ci, fs))) (hc : cl[ci]? = some (C, T, N)) (k : Nat) (hk : k < N) (hlink : (Cond.fieldLinkNest own index ref (T k).2.1 (T k).2.2.1 host).before args s = true) (hsame : ∀ x, s.fieldFound? (T k).1 (T k).2.1 (T k).2.2.1 = some x → s.fieldFound? ref (T k).2.1 (T k).2.2.1 = some x) (hfin : (T k).2.2.2 = false) {ty : FieldType} {v : Value} (hd : parseFieldDescriptor (T k).2.2.1 = some ty) (hn : narrow ty v = v) (hfit : fits ty v = true) (hl : k < fs.length)
    (hdg : decode cc pc = .ok (.putfield index, 3)) (kk : ∀ (H1 : Heap) (locs1 : List Loc), mm_P D cl A (mm_U M a (.inr (ci, fs.set k v))) H1 → va_S A H0 H1 locs1 → W p l e R s m args below meth c H1 locs1 cells slots Q (F0 m (pc + 3) ls rest)) : W p l e R s m args below meth c H locs cells slots Q (F0 m pc ls (v :: .ref a :: rest)) := by
  obtain ⟨ws, hP, hD, hI⟩ := hM
  obtain ⟨q0, h0⟩ := (hI _ _).1 he
  exact va_putN hexec hb hts hin ty0 hty hnm hown hK hP hD hS0 q0 h0 hc k hk hlink hsame hfin hd hn hfit hl hdg (fun H1 locs1 p1 d1 s1 => kk H1 locs1 ⟨_, p1, d1, mm_idx_set hD h0 hI _⟩ s1)
theorem mm_new {c0 : Code} (hexec : p.tables.exec = Jvm.exec) (hb : c0.code = cc) {own C : String} {T : u_T} {N ci index : Nat} {Ts : List Cond} (hts : ∀ w ∈ Ts, w.before args s = true) (hin : ∀ w ∈ u_ws C T N, w ∈ Ts) (ty : Nat → FieldType) (hty : ∀ k, k < N → parseFieldDescriptor (T k).2.2.1 = some (ty k)) (hown : s.vm.findClass own = some m.cls) (hcl : (Cond.classLink own index C).before args s = true) (hinst : (Cond.instantiable C N).before args s = true) (hini : (Cond.initialized C).before args s = true)
    (hK : va_K D cl tys s) (hM : mm_P D cl A M H) (hS : va_S A H0 H locs) (hA : ∀ q, H0.size ≤ q → A q) (hc : cl[ci]? = some (C, T, N)) {fs : List Value} (hfs : ∀ j, j < N → defaultValue (ty j) = vp_V fs j) (hcells : cells + 1 ≤ R.cells) (hslots : slots + N ≤ R.slots) (hdg : decode cc pc = .ok (.new index, 3))
    (kk : ∀ (q : Nat) (H1 : Heap), M q = none → mm_P D cl A (mm_U M q (.inr (ci, fs))) H1 → va_S A H0 H1 locs →
      W p l e R s m args below meth c0 H1 locs (cells + 1) (slots + N) Q (F0 m (pc + 3) ls (.ref q :: rest))) : W p l e R s m args below meth c0 H locs cells slots Q (F0 m pc ls rest) := by
  obtain ⟨ws, hP, hD, hI⟩ := hM
  exact va_new hexec hb hts hin ty hty hown hcl hinst hini hK hP hD hS hA hc hfs hcells hslots hdg (fun q H1 p1 d1 s1 => kk q H1 (mm_idx_push d1 hI).1 ⟨_, p1, d1, (mm_idx_push d1 hI).2⟩ s1)
theorem mm_newa (hexec : p.tables.exec = Jvm.exec) (hb : c.code = cc) {atype : ArrayType} (harr : (Cond.arrayClass (newarray.typeOf atype)).before args s = true) {ty : FieldType} (hty : newarray.typeOf atype = ty) (hno : ∀ C, ty ≠ .object C) (hK : va_K D cl tys s) (hM : mm_P D cl A M H) (hS : va_S A H0 H locs) (hA : ∀ q, H0.size ≤ q → A q) (t0 : Nat) {cA : ClassId} (ht : tys[t0]? = some (cA, ty))
    {n : Int32} {N' : Nat} {a0 : vp_A} (ha : ∀ cA : ClassId, vp_cell cA a0 = arrV cA N' (fun _ => defaultValue ty)) (hn : ¬ n < 0) (hN : n.toNatClampNeg = N') (hbytes : N' * componentBytes ty ≤ 536870912) (hcells : cells + 1 ≤ R.cells) (hslots : slots + N' ≤ R.slots) (hdg : decode cc pc = .ok (.newarray atype, 2))
    (kk : ∀ (q : Nat) (H1 : Heap), M q = none → mm_P D cl A (mm_U M q (.inl (cA, a0))) H1 → va_S A H0 H1 locs →
      W p l e R s m args below meth c H1 locs (cells + 1) (slots + N') Q (F0 m (pc + 2) ls (.ref q :: rest))) : W p l e R s m args below meth c H locs cells slots Q (F0 m pc ls (.int n :: rest)) := by
  obtain ⟨ws, hP, hD, hI⟩ := hM
  refine va_newa hexec hb harr hty hK hP hD hS hA ha hn hN hbytes hcells hslots hdg (fun q cA1 H1 k1 p1 d1 s1 => ?_)
  have e1 : cA1 = cA := by
    have h1 := (hK.2 t0 _ ht).2
    have h2 := (k1.2 tys.length (cA1, ty) (by simp)).2
    cases ty with
    | object C => exact absurd rfl (hno C)
    | _ => exact Option.some.inj (h2.symm.trans h1)
  subst e1
  exact kk q H1 (mm_idx_push d1 hI).1 ⟨_, p1, d1, (mm_idx_push d1 hI).2⟩ s1
theorem mm_newq (hexec : p.tables.exec = Jvm.exec) (hb : c.code = cc) {own C : String} {index : Nat} (hown : s.vm.findClass own = some m.cls) (hclink : (Cond.classLink own index C).before args s = true) (hover : va_AO C s) (hK : va_K D cl tys s) (hM : mm_P D cl A M H) (hS : va_S A H0 H locs) (hA : ∀ q, H0.size ≤ q → A q) (t0 : Nat) {cA : ClassId} (ht : tys[t0]? = some (cA, .object C))
    {n : Int32} {N' : Nat} (hn : ¬ n < 0) (hN : n.toNatClampNeg = N') (hbytes : N' * 4 ≤ 536870912) (hcells : cells + 1 ≤ R.cells) (hslots : slots + N' ≤ R.slots) (hdg : decode cc pc = .ok (.anewarray index, 3))
    (kk : ∀ (q : Nat) (H1 : Heap), M q = none → mm_P D cl A (mm_U M q (.inl (cA, N', .inr (.inr (.inr (.inr (fun _ => none))))))) H1 → va_S A H0 H1 locs →
      W p l e R s m args below meth c H1 locs (cells + 1) (slots + N') Q (F0 m (pc + 3) ls (.ref q :: rest))) : W p l e R s m args below meth c H locs cells slots Q (F0 m pc ls (.int n :: rest)) := by
  obtain ⟨ws, hP, hD, hI⟩ := hM
  refine va_newq hexec hb hown hclink hover hK hP hD hS hA hn hN hbytes hcells hslots hdg (fun q cA1 H1 k1 p1 d1 s1 => ?_)
  have e1 : cA1 = cA := by
    obtain ⟨_, _, -, -, -, h1⟩ := (hK.2 t0 _ ht).2
    obtain ⟨_, _, -, -, -, h2⟩ := (k1.2 tys.length (cA1, .object C) (by simp)).2
    exact Option.some.inj (h2.symm.trans h1)
  subst e1
  exact kk q H1 (mm_idx_push d1 hI).1 ⟨_, p1, d1, (mm_idx_push d1 hI).2⟩ s1
theorem mm_iast (hexec : p.tables.exec = Jvm.exec) (hb : c.code = cc) (hK : va_K D cl tys s) (hM : mm_P D cl A M H) (hS : va_S A H0 H locs) (t0 : Nat) {cA : ClassId} {n : Nat} {f : Nat → Int32} (ha : M a = some (.inl (cA, n, .inl f))) (ht : tys[t0]? = some (cA, .int)) {i : Int32} {x : Int32} (hin : vp_in i n) (hdg : decode cc pc = .ok (.iastore, 1))
    (kk : ∀ (H1 : Heap) (locs1 : List Loc), mm_P D cl A (mm_U M a (.inl (cA, n, .inl (upd f i.toNatClampNeg x)))) H1 → va_S A H0 H1 locs1 → W p l e R s m args below meth c H1 locs1 cells slots Q (F0 m (pc + 1) ls rest)) : W p l e R s m args below meth c H locs cells slots Q (F0 m pc ls (.int x :: .int i :: .ref a :: rest)) := by
  obtain ⟨ws, hP, hD, hI⟩ := hM
  obtain ⟨q0, h0⟩ := (hI _ _).1 ha
  exact va_iast hexec hb hK hP hD hS q0 t0 h0 ht hin hdg (fun H1 locs1 p1 d1 s1 => kk H1 locs1 ⟨_, p1, d1, mm_idx_set hD h0 hI _⟩ s1)
theorem mm_bast (hexec : p.tables.exec = Jvm.exec) (hb : c.code = cc) (hK : va_K D cl tys s) (hM : mm_P D cl A M H) (hS : va_S A H0 H locs) (t0 : Nat) {cA : ClassId} {n : Nat} {f : Nat → Int32} (ha : M a = some (.inl (cA, n, .inl f))) (ht : tys[t0]? = some (cA, .byte)) {i : Int32} {x : Int32} (hin : vp_in i n) (hdg : decode cc pc = .ok (.bastore, 1))
    (kk : ∀ (H1 : Heap) (locs1 : List Loc), mm_P D cl A (mm_U M a (.inl (cA, n, .inl (upd f i.toNatClampNeg (vp_nar .byte x))))) H1 → va_S A H0 H1 locs1 → W p l e R s m args below meth c H1 locs1 cells slots Q (F0 m (pc + 1) ls rest)) : W p l e R s m args below meth c H locs cells slots Q (F0 m pc ls (.int x :: .int i :: .ref a :: rest)) := by
  obtain ⟨ws, hP, hD, hI⟩ := hM
  obtain ⟨q0, h0⟩ := (hI _ _).1 ha
  exact va_bast hexec hb hK hP hD hS q0 t0 h0 ht hin hdg (fun H1 locs1 p1 d1 s1 => kk H1 locs1 ⟨_, p1, d1, mm_idx_set hD h0 hI _⟩ s1)
theorem mm_astqN (hexec : p.tables.exec = Jvm.exec) (hb : c.code = cc) (hK : va_K D cl tys s) (hM : mm_P D cl A M H) (hS : va_S A H0 H locs) (t0 : Nat) {cA : ClassId} {C : String} {n : Nat} {f : Nat → Option Nat} (ha : M a = some (.inl (cA, n, .inr (.inr (.inr (.inr f)))))) (ht : tys[t0]? = some (cA, .object C)) {i : Int32} (hin : vp_in i n) (hdg : decode cc pc = .ok (.aastore, 1))
    (kk : ∀ (H1 : Heap) (locs1 : List Loc), mm_P D cl A (mm_U M a (.inl (cA, n, .inr (.inr (.inr (.inr (va_up f i.toNatClampNeg none))))))) H1 → va_S A H0 H1 locs1 → W p l e R s m args below meth c H1 locs1 cells slots Q (F0 m (pc + 1) ls rest)) : W p l e R s m args below meth c H locs cells slots Q (F0 m pc ls (.null :: .int i :: .ref a :: rest)) := by
  obtain ⟨ws, hP, hD, hI⟩ := hM
  obtain ⟨q0, h0⟩ := (hI _ _).1 ha
  exact va_astqN hexec hb hK hP hD hS q0 t0 h0 ht hin hdg (fun H1 locs1 p1 d1 s1 => kk H1 locs1 ⟨_, p1, d1, mm_idx_set hD h0 hI _⟩ s1)
theorem mm_astq (hexec : p.tables.exec = Jvm.exec) (hb : c.code = cc) (hK : va_K D cl tys s) (hM : mm_P D cl A M H) (hS : va_S A H0 H locs) (t0 ci : Nat) {cA : ClassId} {r : vw_C} {n v : Nat} {vs : List Value} {f : Nat → Option Nat} (ha : M a = some (.inl (cA, n, .inr (.inr (.inr (.inr f)))))) (ht : tys[t0]? = some (cA, .object r.1)) (hv : M v = some (.inr (ci, vs))) (hc : cl[ci]? = some r) {i : Int32} (hin : vp_in i n) (hdg : decode cc pc = .ok (.aastore, 1))
    (kk : ∀ (H1 : Heap) (locs1 : List Loc), mm_P D cl A (mm_U M a (.inl (cA, n, .inr (.inr (.inr (.inr (va_up f i.toNatClampNeg (some v)))))))) H1 → va_S A H0 H1 locs1 → W p l e R s m args below meth c H1 locs1 cells slots Q (F0 m (pc + 1) ls rest)) : W p l e R s m args below meth c H locs cells slots Q (F0 m pc ls (.ref v :: .int i :: .ref a :: rest)) := by
  obtain ⟨ws, hP, hD, hI⟩ := hM
  obtain ⟨q0, h0⟩ := (hI _ _).1 ha
  obtain ⟨qk, hk⟩ := (hI _ _).1 hv
  exact va_astq hexec hb hK hP hD hS q0 t0 qk ci h0 ht hk hc hin hdg (fun H1 locs1 p1 d1 s1 => kk H1 locs1 ⟨_, p1, d1, mm_idx_set hD h0 hI _⟩ s1)
theorem mm_astqO (hexec : p.tables.exec = Jvm.exec) (hb : c.code = cc) (hK : va_K D cl tys s) (hM : mm_P D cl A M H) (hS : va_S A H0 H locs) (t0 ci : Nat) {E : String} {cA : ClassId} {r : vw_C} {n v : Nat} {vs : List Value} {f : Nat → Option Nat} (ha : M a = some (.inl (cA, n, .inr (.inr (.inr (.inr f)))))) (ht : tys[t0]? = some (cA, .object E)) (hca : va_Nw (.castable r.1 E) s) (hv : M v = some (.inr (ci, vs))) (hc : cl[ci]? = some r) {i : Int32} (hin : vp_in i n) (hdg : decode cc pc = .ok (.aastore, 1))
    (kk : ∀ (H1 : Heap) (locs1 : List Loc), mm_P D cl A (mm_U M a (.inl (cA, n, .inr (.inr (.inr (.inr (va_up f i.toNatClampNeg (some v)))))))) H1 → va_S A H0 H1 locs1 → W p l e R s m args below meth c H1 locs1 cells slots Q (F0 m (pc + 1) ls rest)) : W p l e R s m args below meth c H locs cells slots Q (F0 m pc ls (.ref v :: .int i :: .ref a :: rest)) := by
  obtain ⟨ws, hP, hD, hI⟩ := hM
  obtain ⟨q0, h0⟩ := (hI _ _).1 ha
  obtain ⟨qk, hk⟩ := (hI _ _).1 hv
  exact va_astqO hexec hb hK hP hD hS q0 t0 qk ci h0 ht hca hk hc hin hdg (fun H1 locs1 p1 d1 s1 => kk H1 locs1 ⟨_, p1, d1, mm_idx_set hD h0 hI _⟩ s1)
end MM1
