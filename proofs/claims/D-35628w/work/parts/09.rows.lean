/-! ===== more rows over a whole memory: arrays of references, copies, class objects ===== -/
theorem mm_castO : ∀ (ci : Nat) (r : vw_C), mm_cl[ci]? = some r → Cond.castable r.1 "java/lang/Object" ∈ lw_tbl := by
  intro ci r hr
  match ci, hr with
  | 0, hr => cases hr; exact q2887
  | 1, hr => cases hr; exact q2889
  | 2, hr => cases hr; exact q2881
  | 3, hr => cases hr; exact q2894
  | 4, hr => cases hr; exact q2895
  | 5, hr => cases hr; exact q2882
  | 6, hr => cases hr; exact q2897
  | 7, hr => cases hr; exact q2899
  | 8, hr => cases hr; exact q2900
  | 9, hr => cases hr; exact q2901
  | 10, hr => cases hr; exact q2902
  | 11, hr => cases hr; exact q2903
  | 12, hr => cases hr; exact q2904
  | 13, hr => cases hr; exact q2906
  | 14, hr => cases hr; exact q2907
  | 15, hr => cases hr; exact q2908
  | 16, hr => cases hr; exact q2909
  | 17, hr => cases hr; exact q2911
  | 18, hr => cases hr; exact q2912
  | 19, hr => cases hr; exact q2915
  | 20, hr => cases hr; exact q2885
  | 21, hr => cases hr; exact q2916
  | 22, hr => cases hr; exact q2884
  | 23, hr => cases hr; exact q2917
  | 24, hr => cases hr; exact q2918
  | 25, hr => cases hr; exact q2919
  | 26, hr => cases hr; exact q2920
  | 27, hr => cases hr; exact q2921
  | 28, hr => cases hr; exact q2922
  | 29, hr => cases hr; exact q2923
  | 30, hr => cases hr; exact q2924
  | 31, hr => cases hr; exact q2925
  | 32, hr => cases hr; exact q2886
  | 33, hr => cases hr; exact q2926
  | 34, hr => cases hr; exact q2927
  | 35, hr => cases hr; exact q2929
  | 36, hr => cases hr; exact q2930
  | 37, hr => cases hr; exact q2931
  | 38, hr => cases hr; exact q2932
  | 39, hr => cases hr; exact q2933
  | 40, hr => cases hr; exact q2934
  | 41, hr => cases hr; exact q2888
  | 42, hr => cases hr; exact q2935
  | 43, hr => cases hr; exact q2890
  | 44, hr => cases hr; exact q2891
  | 45, hr => cases hr; exact q2893
  | 46, hr => cases hr; exact q2892
  | 47, hr => cases hr; exact q2914
  | 48, hr => cases hr; exact q2905
  | 49, hr => cases hr; exact q2913
  | 50, hr => cases hr; exact q2910
  | 51, hr => cases hr; exact q2896
  | 52, hr => cases hr; exact q2898
  | 53, hr => cases hr; exact q2928
  | ci + 54, hr => simp [mm_cl] at hr
section MR9
variable {p : Program} {l : Launch} {e : Env} {R : Room} {s : State} {m : MethodId} {args : Array Value} {below : List Frame} {meth : Method} {c : Code} {H : Heap} {locs : List Loc} {cells slots : Nat} {Q : State → Prop}
variable {cc : ByteArray} {pc : Nat} {ls : Array Slot} {rest : List Value} {D : va_G} {cl : List vw_C} {A : Nat → Prop} {a : Nat} {tys : List (ClassId × FieldType)} {M : mm_M} {H0 : Heap} {Z : mm_G}
/-- an object of the memory can stand where a class is wanted that its own is castable to -/
theorem mm_any {y ci : Nat} {fs : List Value} {r : vw_C} {E : String} (hE : mm_E Z s) (hM : mm_P Z.1 mm_cl A M H) (hy : M y = some (.inr (ci, fs))) (hc : mm_cl[ci]? = some r) (hq : Cond.castable r.1 E ∈ lw_tbl) : va_Any E s H y := by
  refine va_rAny hE.1 (hM.at hy) (q0 := 0) rfl hc (fun comp c0 h1 h2 => ?_)
  have h := hE.2.1 _ hq rfl
  obtain ⟨c3, c4, hc3, hc4, hasg⟩ := Cond.castable_spec h
  cases Option.some.inj (hc3.symm.trans h2)
  cases Option.some.inj (hc4.symm.trans h1)
  exact hasg
theorem mm_anyO {y ci : Nat} {fs : List Value} (hE : mm_E Z s) (hM : mm_P Z.1 mm_cl A M H) (hy : M y = some (.inr (ci, fs))) : va_Any "java/lang/Object" s H y := by
  have h := hM.at hy 0 _ rfl
  obtain ⟨r, hr, -⟩ := h
  exact mm_any hE hM hy hr (mm_castO ci r hr)
theorem mm_astqM (hexec : p.tables.exec = Jvm.exec) (hb : c.code = cc) (hK : va_K D cl tys s) (hM : mm_P D cl A M H) (hS : va_S A H0 H locs) (t0 : Nat) {E : String} {cA : ClassId} {n v : Nat} {f : Nat → Option Nat} (ha : M a = some (.inl (cA, n, .inr (.inr (.inr (.inr f)))))) (ht : tys[t0]? = some (cA, .object E)) (hr : va_Any E s H v) {i : Int32} (hin : vp_in i n) (hdg : decode cc pc = .ok (.aastore, 1))
    (kk : ∀ (H1 : Heap) (locs1 : List Loc), mm_P D cl A (mm_U M a (.inl (cA, n, .inr (.inr (.inr (.inr (va_up f i.toNatClampNeg (some v)))))))) H1 → va_S A H0 H1 locs1 → W p l e R s m args below meth c H1 locs1 cells slots Q (F0 m (pc + 1) ls rest)) : W p l e R s m args below meth c H locs cells slots Q (F0 m pc ls (.ref v :: .int i :: .ref a :: rest)) := by
  obtain ⟨ws, hP, hD, hI⟩ := hM
  obtain ⟨q0, h0⟩ := (hI _ _).1 ha
  exact va_astqM hexec hb hK hP hD hS q0 t0 h0 ht hr hin hdg (fun H1 locs1 p1 d1 s1 => kk H1 locs1 ⟨_, p1, d1, mm_idx_set hD h0 hI _⟩ s1)
/-- a reference or null stored into an array of objects -/
theorem mm_aastO (hexec : p.tables.exec = Jvm.exec) (hb : c.code = cc) (hE : mm_E Z s) (hM : mm_P Z.1 mm_cl A M H) (hS : va_S A H0 H locs) {n : Nat} {r : Option Nat} {f : Nat → Option Nat} (ha : M a = some (.inl (Z.2.1 3, n, .inr (.inr (.inr (.inr f)))))) (hr : ∀ v, r = some v → ∃ ci fs, M v = some (.inr (ci, fs))) {i : Int32} (hin : vp_in i n) (hdg : decode cc pc = .ok (.aastore, 1))
    (kk : ∀ (H1 : Heap) (locs1 : List Loc), mm_P Z.1 mm_cl A (mm_U M a (.inl (Z.2.1 3, n, .inr (.inr (.inr (.inr (va_up f i.toNatClampNeg r))))))) H1 → va_S A H0 H1 locs1 → W p l e R s m args below meth c H1 locs1 cells slots Q (F0 m (pc + 1) ls rest)) : W p l e R s m args below meth c H locs cells slots Q (F0 m pc ls (va_rf r :: .int i :: .ref a :: rest)) := by
  cases r with
  | none => exact mm_astqN hexec hb hE.1 hM hS 3 ha rfl hin hdg kk
  | some v =>
    obtain ⟨ci, fs, hv⟩ := hr v rfl
    exact mm_astqM hexec hb hE.1 hM hS 3 ha rfl (mm_anyO hE hM hv) hin hdg kk
/-- System.arraycopy between arrays of objects (one array may be the other) -/
theorem mm_copyO {cc : ByteArray} (hexec : p.tables.exec = Jvm.exec) (hb : c.code = cc) (hml : c.maxLocals = ls.size) {own : String} {index : Nat} (hown : s.vm.findClass own = some m.cls) (hlink : (Cond.methodLink own index arraycopyName).before args s = true) (hnat : (Cond.native arraycopyName).before args s = true) (hstat : (Cond.static arraycopyName).before args s = true) (hini : (Cond.initialized "java/lang/System").before args s = true)
    (hE : mm_E Z s) (hM : mm_P Z.1 mm_cl A M H) (hS : va_S A H0 H locs) {a0 : Nat} {n0 n1 : Nat} {f g : Nat → Option Nat} (ha0 : M a0 = some (.inl (Z.2.1 3, n0, .inr (.inr (.inr (.inr f)))))) (ha1 : M a = some (.inl (Z.2.1 3, n1, .inr (.inr (.inr (.inr g))))))
    {sp dp n : Int32} (h1 : ¬ sp < 0) (h2 : ¬ dp < 0) (h3 : ¬ n < 0) (h4 : sp.toNatClampNeg + n.toNatClampNeg ≤ n0) (h5 : dp.toNatClampNeg + n.toNatClampNeg ≤ n1) (hel : ∀ i : Nat, i < n.toNatClampNeg → ∀ y : Nat, f (sp.toNatClampNeg + i) = some y → ∃ ci fs, M y = some (.inr (ci, fs)))
    (hframes : 1 ≤ R.frames) (hlocals : (rest.map fun v => v.category).sum + (nativeFrameWords "java/lang/System" "arraycopy" 5 + 11) ≤ R.locals) (hdg : decode cc pc = .ok (.invokestatic index, 3))
    (kk : ∀ (H1 : Heap) (locs1 : List Loc), mm_P Z.1 mm_cl A (mm_U M a (.inl (Z.2.1 3, n1, .inr (.inr (.inr (.inr (va_cpy f g sp.toNatClampNeg dp.toNatClampNeg n.toNatClampNeg))))))) H1 → va_S A H0 H1 locs1 → W p l e R s m args below meth c H1 locs1 cells slots Q (F0 m (pc + 3) ls rest)) : W p l e R s m args below meth c H locs cells slots Q (F0 m pc ls (.int n :: .int dp :: .ref a :: .int sp :: .ref a0 :: rest)) := by
  have hM0 := hM
  obtain ⟨ws, hP, hD, hI⟩ := hM
  obtain ⟨q0, e0⟩ := (hI _ _).1 ha0
  obtain ⟨q1, e1⟩ := (hI _ _).1 ha1
  exact va_copyM hexec hb hml hown hlink hnat hstat hini hE.1 hP hD hS q0 q1 3 3 e0 e1 rfl rfl h1 h2 h3 h4 h5 (fun i hi y hy => by
    obtain ⟨ci, fs, hv⟩ := hel i hi y hy
    exact mm_anyO hE hM0 hv) hframes hlocals hdg (fun H1 locs1 p1 d1 s1 => kk H1 locs1 ⟨_, p1, d1, mm_idx_set hD e1 hI _⟩ s1)
/-- getClass() of an array of objects -/
theorem mm_getCO (hexec : p.tables.exec = Jvm.exec) (hb : c.code = cc) (hml : c.maxLocals = ls.size) {own : String} {index : Nat} (hown : s.vm.findClass own = some m.cls) (hlink : (Cond.methodLink own index ⟨"java/lang/Object", "getClass", "()Ljava/lang/Class;"⟩).before args s = true) (hdecl : Cond.declares ⟨"java/lang/Object", "getClass", "()Ljava/lang/Class;"⟩ ∈ lw_tbl)
    (hsel : (Cond.selects "[Ljava/lang/Object;" ⟨"java/lang/Object", "getClass", "()Ljava/lang/Class;"⟩ ⟨"java/lang/Object", "getClass", "()Ljava/lang/Class;"⟩).before args s = true) (hinst : (Cond.instanceMethod ⟨"java/lang/Object", "getClass", "()Ljava/lang/Class;"⟩).before args s = true) (hnat : (Cond.native ⟨"java/lang/Object", "getClass", "()Ljava/lang/Class;"⟩).before args s = true)
    (hE : mm_E Z s) (hM : mm_P Z.1 mm_cl A M H) {n : Nat} {f : Nat → Option Nat} (ha : M a = some (.inl (Z.2.1 3, n, .inr (.inr (.inr (.inr f)))))) (hframes : 1 ≤ R.frames) (hlocals : (rest.map fun v => v.category).sum + 14 ≤ R.locals) (hdg : decode cc pc = .ok (.invokevirtual index, 3))
    (k : W p l e R s m args below meth c H locs cells slots Q (F0 m (pc + 3) ls (.ref (Z.2.2.1 6) :: rest))) : W p l e R s m args below meth c H locs cells slots Q (F0 m pc ls (.ref a :: rest)) := by
  refine va_getC hexec hb hml hown hlink (va_Nw.use rfl (hE.2.1 _ hdecl rfl)) hsel hinst hnat hE.2.2.2.2.2.2.1 ?_ hframes hlocals hdg k
  have h1 := hM.at ha 0 _ rfl
  obtain ⟨kA, comp, -, -, -, h2⟩ := (hE.1.2 3 _ rfl).2
  exact ⟨_, h1, rfl, h2⟩
end MR9
section MRK
variable {p : Program} {l : Launch} {e : Env} {R : Room} {s : State} {m : MethodId} {args : Array Value} {below : List Frame} {meth : Method} {c : Code} {H : Heap} {locs : List Loc} {cells slots : Nat} {Q : State → Prop}
variable {cc : ByteArray} {pc : Nat} {ls : Array Slot} {rest : List Value} {A : Nat → Prop} {a : Nat} {M : mm_M} {H0 : Heap} {Z : mm_G}
/-- places as numbers -/
theorem mm_ix {i : Int32} {k n : Nat} (hi : i = nI k) (hk : k < n) (hn : n < 2 ^ 31) : vp_in i n ∧ i.toNatClampNeg = k := by
  subst hi
  exact ⟨vp_in_nI hk hn, nI_clamp (by omega)⟩
theorem mm_aald (hexec : p.tables.exec = Jvm.exec) (hb : c.code = cc) (hE : mm_E Z s) (hM : mm_P Z.1 mm_cl A M H) (t0 : Nat) {cA : ClassId} {C : String} {n : Nat} {f : Nat → Option Nat} (ha : M a = some (.inl (cA, n, .inr (.inr (.inr (.inr f)))))) (ht : (mm_tys Z)[t0]? = some (cA, .object C)) {i : Int32} {k : Nat} (hi : i = nI k) (hk : k < n) (hn : n < 2 ^ 31) (hdg : decode cc pc = .ok (.aaload, 1))
    (kk : W p l e R s m args below meth c H locs cells slots Q (F0 m (pc + 1) ls (va_rf (f k) :: rest))) : W p l e R s m args below meth c H locs cells slots Q (F0 m pc ls (.int i :: .ref a :: rest)) := by
  obtain ⟨h1, h2⟩ := mm_ix hi hk hn
  refine va_aldq hexec hb hE.1 (hM.at ha) 0 t0 rfl ht h1 hdg ?_
  rw [h2]
  exact kk
theorem mm_alen (hexec : p.tables.exec = Jvm.exec) (hb : c.code = cc) (hE : mm_E Z s) (hM : mm_P Z.1 mm_cl A M H) (t0 : Nat) {cA : ClassId} {n : Nat} {g : (Nat → Int32) ⊕ (Nat → Int64) ⊕ (Nat → UInt32) ⊕ (Nat → UInt64) ⊕ (Nat → Option Nat)} (ha : M a = some (.inl (cA, n, g))) {ty : FieldType} (ht : (mm_tys Z)[t0]? = some (cA, ty)) (hdg : decode cc pc = .ok (.arraylength, 1))
    (kk : W p l e R s m args below meth c H locs cells slots Q (F0 m (pc + 1) ls (.int (nI n) :: rest))) : W p l e R s m args below meth c H locs cells slots Q (F0 m pc ls (.ref a :: rest)) :=
  va_alen (v := nI n) hexec hb hE.1 (hM.at ha) 0 t0 rfl ht rfl hdg kk
theorem mm_aastK (hexec : p.tables.exec = Jvm.exec) (hb : c.code = cc) (hE : mm_E Z s) (hM : mm_P Z.1 mm_cl A M H) (hS : va_S A H0 H locs) {n : Nat} {r : Option Nat} {f : Nat → Option Nat} (ha : M a = some (.inl (Z.2.1 3, n, .inr (.inr (.inr (.inr f)))))) (hr : ∀ v, r = some v → ∃ ci fs, M v = some (.inr (ci, fs))) {i : Int32} {k : Nat} (hi : i = nI k) (hk : k < n) (hn : n < 2 ^ 31) (hdg : decode cc pc = .ok (.aastore, 1))
    (kk : ∀ (H1 : Heap) (locs1 : List Loc), mm_P Z.1 mm_cl A (mm_U M a (.inl (Z.2.1 3, n, .inr (.inr (.inr (.inr (va_up f k r))))))) H1 → va_S A H0 H1 locs1 → W p l e R s m args below meth c H1 locs1 cells slots Q (F0 m (pc + 1) ls rest)) : W p l e R s m args below meth c H locs cells slots Q (F0 m pc ls (va_rf r :: .int i :: .ref a :: rest)) := by
  obtain ⟨h1, h2⟩ := mm_ix hi hk hn
  refine mm_aastO hexec hb hE hM hS ha hr h1 hdg ?_
  rw [h2]
  exact kk
/-- System.arraycopy, places as numbers -/
theorem mm_copyK {cc : ByteArray} (hexec : p.tables.exec = Jvm.exec) (hb : c.code = cc) (hml : c.maxLocals = ls.size) {own : String} {index : Nat} (hown : s.vm.findClass own = some m.cls) (hlink : (Cond.methodLink own index arraycopyName).before args s = true) (hnat : (Cond.native arraycopyName).before args s = true) (hstat : (Cond.static arraycopyName).before args s = true) (hini : (Cond.initialized "java/lang/System").before args s = true)
    (hE : mm_E Z s) (hM : mm_P Z.1 mm_cl A M H) (hS : va_S A H0 H locs) {a0 : Nat} {n0 n1 : Nat} {f g : Nat → Option Nat} (ha0 : M a0 = some (.inl (Z.2.1 3, n0, .inr (.inr (.inr (.inr f)))))) (ha1 : M a = some (.inl (Z.2.1 3, n1, .inr (.inr (.inr (.inr g))))))
    {sp dp n : Int32} {kS kD kN : Nat} (e1 : sp = nI kS) (e2 : dp = nI kD) (e3 : n = nI kN) (h4 : kS + kN ≤ n0) (h5 : kD + kN ≤ n1) (hn0 : n0 < 2 ^ 31) (hn1 : n1 < 2 ^ 31) (hel : ∀ i : Nat, i < kN → ∀ y : Nat, f (kS + i) = some y → ∃ ci fs, M y = some (.inr (ci, fs)))
    (hframes : 1 ≤ R.frames) (hlocals : (rest.map fun v => v.category).sum + (nativeFrameWords "java/lang/System" "arraycopy" 5 + 11) ≤ R.locals) (hdg : decode cc pc = .ok (.invokestatic index, 3))
    (kk : ∀ (H1 : Heap) (locs1 : List Loc), mm_P Z.1 mm_cl A (mm_U M a (.inl (Z.2.1 3, n1, .inr (.inr (.inr (.inr (va_cpy f g kS kD kN))))))) H1 → va_S A H0 H1 locs1 → W p l e R s m args below meth c H1 locs1 cells slots Q (F0 m (pc + 3) ls rest)) : W p l e R s m args below meth c H locs cells slots Q (F0 m pc ls (.int n :: .int dp :: .ref a :: .int sp :: .ref a0 :: rest)) := by
  subst e1; subst e2; subst e3
  have c1 : (nI kS).toNatClampNeg = kS := nI_clamp (by omega)
  have c2 : (nI kD).toNatClampNeg = kD := nI_clamp (by omega)
  have c3 : (nI kN).toNatClampNeg = kN := nI_clamp (by omega)
  refine mm_copyO hexec hb hml hown hlink hnat hstat hini hE hM hS ha0 ha1 (nI_pos (by omega)) (nI_pos (by omega)) (nI_pos (by omega)) (by rw [c1, c3]; exact h4) (by rw [c2, c3]; exact h5) (by rw [c1, c3]; exact hel) hframes hlocals hdg ?_
  rw [c1, c2, c3]
  exact kk
end MRK
section MRB
variable {p : Program} {l : Launch} {e : Env} {R : Room} {s : State} {m : MethodId} {args : Array Value} {below : List Frame} {meth : Method} {c : Code} {H : Heap} {locs : List Loc} {cells slots : Nat} {Q : State → Prop}
variable {cc : ByteArray} {pc : Nat} {ls : Array Slot} {rest : List Value} {A : Nat → Prop} {a : Nat} {M : mm_M} {H0 : Heap} {Z : mm_G}
theorem mm_baldK (hexec : p.tables.exec = Jvm.exec) (hb : c.code = cc) (hE : mm_E Z s) (hM : mm_P Z.1 mm_cl A M H) {n : Nat} {f : Nat → Int32} (ha : M a = some (.inl (Z.2.1 1, n, .inl f))) {i : Int32} {k : Nat} (hi : i = nI k) (hk : k < n) (hn : n < 2 ^ 31) (hdg : decode cc pc = .ok (.baload, 1))
    (kk : W p l e R s m args below meth c H locs cells slots Q (F0 m (pc + 1) ls (.int (f k) :: rest))) : W p l e R s m args below meth c H locs cells slots Q (F0 m pc ls (.int i :: .ref a :: rest)) := by
  obtain ⟨h1, h2⟩ := mm_ix hi hk hn
  refine va_bald hexec hb hE.1 (hM.at ha) 0 1 rfl rfl h1 hdg ?_
  rw [h2]
  exact kk
theorem mm_ialdK (hexec : p.tables.exec = Jvm.exec) (hb : c.code = cc) (hE : mm_E Z s) (hM : mm_P Z.1 mm_cl A M H) {n : Nat} {f : Nat → Int32} (ha : M a = some (.inl (Z.2.1 0, n, .inl f))) {i : Int32} {k : Nat} (hi : i = nI k) (hk : k < n) (hn : n < 2 ^ 31) (hdg : decode cc pc = .ok (.iaload, 1))
    (kk : W p l e R s m args below meth c H locs cells slots Q (F0 m (pc + 1) ls (.int (f k) :: rest))) : W p l e R s m args below meth c H locs cells slots Q (F0 m pc ls (.int i :: .ref a :: rest)) := by
  obtain ⟨h1, h2⟩ := mm_ix hi hk hn
  refine va_iald hexec hb hE.1 (hM.at ha) 0 0 rfl rfl h1 hdg ?_
  rw [h2]
  exact kk
theorem mm_bastK (hexec : p.tables.exec = Jvm.exec) (hb : c.code = cc) (hE : mm_E Z s) (hM : mm_P Z.1 mm_cl A M H) (hS : va_S A H0 H locs) {n : Nat} {f : Nat → Int32} (ha : M a = some (.inl (Z.2.1 1, n, .inl f))) {i x : Int32} {k : Nat} (hi : i = nI k) (hk : k < n) (hn : n < 2 ^ 31) (hx9 : vp_nar .byte x = x) (hdg : decode cc pc = .ok (.bastore, 1))
    (kk : ∀ (H1 : Heap) (locs1 : List Loc), mm_P Z.1 mm_cl A (mm_U M a (.inl (Z.2.1 1, n, .inl (upd f k x)))) H1 → va_S A H0 H1 locs1 → W p l e R s m args below meth c H1 locs1 cells slots Q (F0 m (pc + 1) ls rest)) : W p l e R s m args below meth c H locs cells slots Q (F0 m pc ls (.int x :: .int i :: .ref a :: rest)) := by
  obtain ⟨h1, h2⟩ := mm_ix hi hk hn
  refine mm_bast hexec hb hE.1 hM hS 1 ha rfl h1 hdg ?_
  rw [h2, hx9]
  exact kk
theorem mm_iastK (hexec : p.tables.exec = Jvm.exec) (hb : c.code = cc) (hE : mm_E Z s) (hM : mm_P Z.1 mm_cl A M H) (hS : va_S A H0 H locs) {n : Nat} {f : Nat → Int32} (ha : M a = some (.inl (Z.2.1 0, n, .inl f))) {i x : Int32} {k : Nat} (hi : i = nI k) (hk : k < n) (hn : n < 2 ^ 31) (hdg : decode cc pc = .ok (.iastore, 1))
    (kk : ∀ (H1 : Heap) (locs1 : List Loc), mm_P Z.1 mm_cl A (mm_U M a (.inl (Z.2.1 0, n, .inl (upd f k x)))) H1 → va_S A H0 H1 locs1 → W p l e R s m args below meth c H1 locs1 cells slots Q (F0 m (pc + 1) ls rest)) : W p l e R s m args below meth c H locs cells slots Q (F0 m pc ls (.int x :: .int i :: .ref a :: rest)) := by
  obtain ⟨h1, h2⟩ := mm_ix hi hk hn
  refine mm_iast hexec hb hE.1 hM hS 0 ha rfl h1 hdg ?_
  rw [h2]
  exact kk
/-- System.arraycopy between arrays of bytes -/
theorem mm_copyB {cc : ByteArray} (hexec : p.tables.exec = Jvm.exec) (hb : c.code = cc) (hml : c.maxLocals = ls.size) {own : String} {index : Nat} (hown : s.vm.findClass own = some m.cls) (hlink : (Cond.methodLink own index arraycopyName).before args s = true) (hnat : (Cond.native arraycopyName).before args s = true) (hstat : (Cond.static arraycopyName).before args s = true) (hini : (Cond.initialized "java/lang/System").before args s = true)
    (hE : mm_E Z s) (hM : mm_P Z.1 mm_cl A M H) (hS : va_S A H0 H locs) {a0 : Nat} {n0 n1 : Nat} {f g : Nat → Int32} (ha0 : M a0 = some (.inl (Z.2.1 1, n0, .inl f))) (ha1 : M a = some (.inl (Z.2.1 1, n1, .inl g)))
    {sp dp n : Int32} {kS kD kN : Nat} (e1 : sp = nI kS) (e2 : dp = nI kD) (e3 : n = nI kN) (h4 : kS + kN ≤ n0) (h5 : kD + kN ≤ n1) (hn0 : n0 < 2 ^ 31) (hn1 : n1 < 2 ^ 31) (hel : ∀ i : Nat, i < kN → fits .byte (.int (f (kS + i))) = true)
    (hframes : 1 ≤ R.frames) (hlocals : (rest.map fun v => v.category).sum + (nativeFrameWords "java/lang/System" "arraycopy" 5 + 11) ≤ R.locals) (hdg : decode cc pc = .ok (.invokestatic index, 3))
    (kk : ∀ (H1 : Heap) (locs1 : List Loc), mm_P Z.1 mm_cl A (mm_U M a (.inl (Z.2.1 1, n1, .inl (va_cpy f g kS kD kN)))) H1 → va_S A H0 H1 locs1 → W p l e R s m args below meth c H1 locs1 cells slots Q (F0 m (pc + 3) ls rest)) : W p l e R s m args below meth c H locs cells slots Q (F0 m pc ls (.int n :: .int dp :: .ref a :: .int sp :: .ref a0 :: rest)) := by
  subst e1; subst e2; subst e3
  have c1 : (nI kS).toNatClampNeg = kS := nI_clamp (by omega)
  have c2 : (nI kD).toNatClampNeg = kD := nI_clamp (by omega)
  have c3 : (nI kN).toNatClampNeg = kN := nI_clamp (by omega)
  obtain ⟨ws, hP, hD, hI⟩ := hM
  obtain ⟨q0, f0⟩ := (hI _ _).1 ha0
  obtain ⟨q1, f1⟩ := (hI _ _).1 ha1
  refine va_copyi hexec hb hml hown hlink hnat hstat hini hE.1 hP hD hS q0 q1 1 1 f0 f1 rfl rfl rfl (nI_pos (by omega)) (nI_pos (by omega)) (nI_pos (by omega)) (by rw [c1, c3]; exact h4) (by rw [c2, c3]; exact h5) (by rw [c1, c3]; exact hel) hframes hlocals hdg (fun H1 locs1 p1 d1 s1 => ?_)
  rw [c1, c2, c3] at p1 d1
  exact kk H1 locs1 ⟨_, p1, d1, mm_idx_set hD f1 hI _⟩ s1
end MRB

section MRP
variable {R : Room} {s : State} {args : Array Value}
def mm_wsP (own : String) (idx : Nat) (owner : String) (x y : MethodName) (ws : List Cond) : List Cond := ([.methodLink own idx x, .sameMethod x.cls owner x.name x.desc, .instanceMethod y, .initialized y.cls] : List Cond) ++ ws
/-- a private method of a class above the receiver's -/
theorem mm_cwP {own C owner : String} {index maxL mc ms : Nat} {x y : MethodName} {bytes : ByteArray} {ret : Option FieldType} {Ts ws ws' : List Cond} {rm : Room} (n : Nat) (ht : ∀ w ∈ Ts, w.before args s = true) (hT : GoodIn Ts (mm_wsP own index owner x y ws)) (hsel : va_Nw (.selects C x y) s) (hw : ws = Cond.code y bytes maxL ret :: ws') (hrc : rm.cells = mc) (hrs : rm.slots = ms)
    (hyx : y = ⟨owner, x.name, x.desc⟩) (hd : owner ≠ "java/lang/invoke/MethodHandle" ∧ owner ≠ "java/lang/invoke/VarHandle" ∧ (parseMethodDescriptor x.desc).map (fun d => d.parameters.length) = some n) (hR : rm.frames + 1 ≤ R.frames ∧ 8 + (maxL + 11) + rm.locals ≤ R.locals) : va_CU R s args own C owner index x y bytes maxL ret ws rm mc ms n := by
  have ok : ∀ w ∈ mm_wsP own index owner x y ws, w.before args s = true := fun w h => ht w (hT w h).1
  have hG : GoodIn Ts ws := fun w h => hT w (by unfold mm_wsP; exact List.mem_append_right _ h)
  have hc : Cond.code y bytes maxL ret ∈ ws := by rw [hw]; exact List.mem_cons_self
  refine ⟨⟨hrc, hrs, hR.1, hR.2, pay_in ht hG, hc⟩, ht _ (hG _ hc).1, ok _ (by simp [mm_wsP]), ⟨hd.1, hd.2.1⟩, fun sig h => ?_, ok _ (by simp [mm_wsP]), ok _ (by simp [mm_wsP]), by rw [← hyx]; exact va_Decl.of (ok _ (by simp [mm_wsP])) (ht _ (hG _ hc).1), va_Nw.use rfl hsel, ok _ (by simp [mm_wsP])⟩
  have h2 := hd.2.2
  rw [h] at h2
  exact (Option.some.inj h2).symm
end MRP
section MRCL
variable {p : Program} {l : Launch} {e : Env} {R : Room} {s : State} {m : MethodId} {args : Array Value} {below : List Frame} {meth : Method} {c : Code} {H : Heap} {locs : List Loc} {cells slots : Nat} {Q : State → Prop}
variable {cc : ByteArray} {pc : Nat} {ls : Array Slot} {rest : List Value} {A : Nat → Prop} {a : Nat} {M : mm_M} {H0 : Heap} {Z : mm_G}
theorem mm_cloneB (hexec : p.tables.exec = Jvm.exec) (hb : c.code = cc) (hml : c.maxLocals = ls.size) {own : String} {index : Nat} (hown : s.vm.findClass own = some m.cls) (hts : ∀ w ∈ lw_all, w.before args s = true)
    (hlink : (Cond.methodLink own index ⟨"[B", "clone", "()Ljava/lang/Object;"⟩).before args s = true) (hE : mm_E Z s) (hM : mm_P Z.1 mm_cl A M H) (hS : va_S A H0 H locs) (hA : ∀ q, H0.size ≤ q → A q)
    {n : Nat} {f : Nat → Int32} (ha : M a = some (.inl (Z.2.1 1, n, .inl f))) (hfit : ∀ i : Nat, i < n → fits .byte (.int (f i)) = true)
    (hframes : 1 ≤ R.frames) (hlocals : (rest.map fun v => v.category).sum + 14 ≤ R.locals) (hcells : cells + 1 ≤ R.cells) (hslots : slots + n ≤ R.slots) (hdg : decode cc pc = .ok (.invokevirtual index, 3))
    (kk : ∀ (q : Nat) (H1 : Heap), M q = none → mm_P Z.1 mm_cl A (mm_U M q (.inl (Z.2.1 1, n, .inl f))) H1 → va_S A H0 H1 locs →
      W p l e R s m args below meth c H1 locs (cells + 1) (slots + n) Q (F0 m (pc + 3) ls (.ref q :: rest))) : W p l e R s m args below meth c H locs cells slots Q (F0 m pc ls (.ref a :: rest)) := by
  obtain ⟨ws, hP, hD, hI⟩ := hM
  obtain ⟨q0, f0⟩ := (hI _ _).1 ha
  have hnm := va_nm_byte (hE.1.2 1 _ rfl).2
  exact va_clone hexec hb hml hown hlink (hts _ q1357) (hts _ q1358) (hts _ q1359) (hts _ q1360) (hE.2.1 _ q1361 rfl) hE.1 hP hD hS hA q0 1 f0 rfl hnm (va_fit (ty := .byte) (F := fun i => .int (f i)) hfit) hframes hlocals hcells hslots hdg (fun q H1 k1 p1 d1 s1 => kk q H1 (mm_idx_push d1 hI).1 ⟨_, p1, d1, (mm_idx_push d1 hI).2⟩ s1)
theorem mm_castB (hexec : p.tables.exec = Jvm.exec) (hb : c.code = cc) {own : String} {index : Nat} (hown : s.vm.findClass own = some m.cls) (hlink : (Cond.classLink own index "[B").before args s = true) (hE : mm_E Z s) (hM : mm_P Z.1 mm_cl A M H)
    {n : Nat} {f : Nat → Int32} (ha : M a = some (.inl (Z.2.1 1, n, .inl f))) (hdg : decode cc pc = .ok (.checkcast index, 3))
    (k : W p l e R s m args below meth c H locs cells slots Q (F0 m (pc + 3) ls (.ref a :: rest))) : W p l e R s m args below meth c H locs cells slots Q (F0 m pc ls (.ref a :: rest)) := by
  obtain ⟨ws, hP, hD, hI⟩ := hM
  obtain ⟨q0, f0⟩ := (hI _ _).1 ha
  exact va_castA hexec hb hown hlink hP q0 f0 (va_nm_byte (hE.1.2 1 _ rfl).2) hdg k
end MRCL
