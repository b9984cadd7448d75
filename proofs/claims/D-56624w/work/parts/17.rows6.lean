/-! rows of the natives and of the constant arrays, over world lists -/
section DZF6
variable {D : va_G} {cl : List vw_C} {A : Nat → Prop} {H0 H : Heap} {ww : dz_W} {locs : List Loc}
theorem dz_O.flat (h : dz_O D cl A H0 ww H locs) : va_P D cl ww.flatten H ∧ va_D A ww.flatten ∧ va_S A H0 H locs := by
  refine ⟨fun k q hk => h.1 q (List.mem_of_getElem? hk), ⟨fun i j p q hi hj e => ?_, fun k q hk => h.2.1.2 q (List.mem_of_getElem? hk)⟩, h.2.2⟩
  have g1 : (ww.flatten.map (·.1))[i]? = some p.1 := by rw [List.getElem?_map, hi]; rfl
  have g2 : (ww.flatten.map (·.1))[j]? = some q.1 := by rw [List.getElem?_map, hj]; rfl
  exact (List.getElem?_inj (List.getElem?_eq_some_iff.mp g1).1 h.2.1.1).mp (g1.trans (by rw [e]; exact g2.symm))
theorem dz_unflat {v : dz_W} {ws : va_W} (e : v.flatten = ws) (hP : va_P D cl ws H) (hD : va_D A ws) (hS : va_S A H0 H locs) : dz_O D cl A H0 v H locs := by
  subst e
  refine ⟨fun q hq => ?_, ⟨?_, fun q hq => ?_⟩, hS⟩
  · obtain ⟨k, hk⟩ := List.mem_iff_getElem?.mp hq
    exact hP k q hk
  · rw [List.Nodup, List.pairwise_iff_getElem]
    intro i j hi hj hij e
    rw [List.length_map] at hi hj
    rw [List.getElem_map, List.getElem_map] at e
    have := hD.1 i j _ _ (List.getElem?_eq_getElem hi) (List.getElem?_eq_getElem hj) e
    omega
  · obtain ⟨k, hk⟩ := List.mem_iff_getElem?.mp hq
    exact hD.2 k q hk
end DZF6
section DZR6
variable {p : Program} {l : Launch} {e : Env} {R : Room} {s : State} {m : MethodId} {args : Array Value} {below : List Frame} {meth : Method} {c : Code} {H : Heap} {locs : List Loc} {cells slots : Nat} {Q : State → Prop} {pc : Nat} {ls : Array Slot} {rest : List Value} {G : dz_G} {nL : Nat} {y0 : MethodName} {cc : ByteArray} {ret : Option FieldType} {tb : List ExceptionTableEntry} {A : Nat → Prop} {ww : dz_W} {lv : List (Nat × Value)} {a : Nat}
theorem dz_copyO (X : dz_X p s m args meth c G y0 cc nL ret tb A) (hl : lv_has ls nL lv) {index a0 n0 n1 i j k : Nat} {f g : Nat → Option Nat} (hlink : Cond.methodLink y0.cls index arraycopyName ∈ lw_all) (h : dz_O G.1 dz_CL A s.heap ([(a0, dzO G n0 f)] :: [(a, dzO G n1 g)] :: ww) H locs) {sp dp n : Int32} (h1 : sp = nI i) (h2 : dp = nI j) (h3 : n = nI k) (h4 : i + k ≤ n0) (h5 : j + k ≤ n1) (h6 : n0 < 1000000 ∧ n1 < 1000000) (hel : ∀ x, x < k → ∀ y, f (i + x) = some y → va_Any "java/lang/Object" s H y)
    (hframes : 1 ≤ R.frames) (hcat : (rest.map fun v => v.category).sum ≤ 8) (hlocals : 40 ≤ R.locals) (hdg : decode cc pc = .ok (.invokestatic index, 3))
    (kk : ∀ (H1 : Heap) (locs1 : List Loc), dz_O G.1 dz_CL A s.heap ([(a0, dzO G n0 f)] :: [(a, dzO G n1 (va_cpy f g i j k))] :: ww) H1 locs1 → W p l e R s m args below meth c H1 locs1 cells slots Q (F0 m (pc + 3) ls rest)) : W p l e R s m args below meth c H locs cells slots Q (F0 m pc ls (.int n :: .int dp :: .ref a :: .int sp :: .ref a0 :: rest)) := by
  subst h1 h2 h3
  have c1 : (nI i).toNatClampNeg = i := nI_clamp (by omega)
  have c2 : (nI j).toNatClampNeg = j := nI_clamp (by omega)
  have c3 : (nI k).toNatClampNeg = k := nI_clamp (by omega)
  obtain ⟨hP, hD, hS⟩ := h.flat
  refine va_copyM X.x X.b (hl.1.trans X.1.2.2.1.symm).symm X.own (X.ts _ hlink) (X.ts _ q281) (X.ts _ q280) (X.ts _ q64) X.K hP hD hS 0 1 5 5 (E0 := "java/lang/Object") (E1 := "java/lang/Object") rfl rfl rfl rfl (nI_pos (by omega)) (nI_pos (by omega)) (nI_pos (by omega)) (by rw [c1, c3]; exact h4) (by rw [c2, c3]; exact h5) (by rw [c1, c3]; exact hel) hframes ?_ hdg (fun H1 locs1 g1 g2 g3 => ?_)
  · rw [show nativeFrameWords "java/lang/System" "arraycopy" 5 = nativeFrameWords "java/lang/System" "arraycopy" 5 from rfl]
    have hw : nativeFrameWords "java/lang/System" "arraycopy" 5 ≤ 21 := by decide
    omega
  · rw [c1, c2, c3] at g1 g2
    exact kk H1 locs1 (dz_unflat rfl g1 g2 g3)
theorem dz_copyB (X : dz_X p s m args meth c G y0 cc nL ret tb A) (hl : lv_has ls nL lv) {index a0 n0 n1 i j k : Nat} {f g : Nat → Int32} (hlink : Cond.methodLink y0.cls index arraycopyName ∈ lw_all) (h : dz_O G.1 dz_CL A s.heap ([(a0, dzB G n0 f)] :: [(a, dzB G n1 g)] :: ww) H locs) {sp dp n : Int32} (h1 : sp = nI i) (h2 : dp = nI j) (h3 : n = nI k) (h4 : i + k ≤ n0) (h5 : j + k ≤ n1) (h6 : n0 < 1000000 ∧ n1 < 1000000) (hel : ∀ x, x < k → fits .byte (.int (f (i + x))) = true)
    (hframes : 1 ≤ R.frames) (hcat : (rest.map fun v => v.category).sum ≤ 8) (hlocals : 40 ≤ R.locals) (hdg : decode cc pc = .ok (.invokestatic index, 3))
    (kk : ∀ (H1 : Heap) (locs1 : List Loc), dz_O G.1 dz_CL A s.heap ([(a0, dzB G n0 f)] :: [(a, dzB G n1 (va_cpy f g i j k))] :: ww) H1 locs1 → W p l e R s m args below meth c H1 locs1 cells slots Q (F0 m (pc + 3) ls rest)) : W p l e R s m args below meth c H locs cells slots Q (F0 m pc ls (.int n :: .int dp :: .ref a :: .int sp :: .ref a0 :: rest)) := by
  subst h1 h2 h3
  have c1 : (nI i).toNatClampNeg = i := nI_clamp (by omega)
  have c2 : (nI j).toNatClampNeg = j := nI_clamp (by omega)
  have c3 : (nI k).toNatClampNeg = k := nI_clamp (by omega)
  obtain ⟨hP, hD, hS⟩ := h.flat
  refine va_copyi X.x X.b (hl.1.trans X.1.2.2.1.symm).symm X.own (X.ts _ hlink) (X.ts _ q281) (X.ts _ q280) (X.ts _ q64) X.K hP hD hS 0 1 4 4 rfl rfl rfl rfl (ty := .byte) rfl (nI_pos (by omega)) (nI_pos (by omega)) (nI_pos (by omega)) (by rw [c1, c3]; exact h4) (by rw [c2, c3]; exact h5) (by rw [c1, c3]; exact hel) hframes ?_ hdg (fun H1 locs1 g1 g2 g3 => ?_)
  · have hw : nativeFrameWords "java/lang/System" "arraycopy" 5 ≤ 21 := by decide
    omega
  · rw [c1, c2, c3] at g1 g2
    exact kk H1 locs1 (dz_unflat rfl g1 g2 g3)
/-- the length of a constant array -/
theorem dz_tlen (X : dz_X p s m args meth c G y0 cc nL ret tb A) (h : dz_O G.1 dz_CL A s.heap ww H locs) {ty : FieldType} {t N : Nat} {f : Nat → Value} (hT : va_T ty t N f (fun q => G.2.2.2 ≤ q) s s.heap) {v : Int32} (hv : Int32.ofNat N = v) (hdg : decode cc pc = .ok (.arraylength, 1))
    (kk : W p l e R s m args below meth c H locs cells slots Q (F0 m (pc + 1) ls (.int v :: rest))) : W p l e R s m args below meth c H locs cells slots Q (F0 m pc ls (.ref t :: rest)) := va_tlen X.x X.b hT (dz_S2 X h) hv hdg kk
/-- a constant array of bytes read -/
theorem dz_tb (X : dz_X p s m args meth c G y0 cc nL ret tb A) (h : dz_O G.1 dz_CL A s.heap ww H locs) {t N : Nat} {f : Nat → Value} (hT : va_T .byte t N f (fun q => G.2.2.2 ≤ q) s s.heap) {i : Int32} {j : Nat} (hi : i = nI j) (hj : j < N) (hN : N < 1000000) {v : Value} (hv : f j = v) (hdg : decode cc pc = .ok (.baload, 1))
    (kk : W p l e R s m args below meth c H locs cells slots Q (F0 m (pc + 1) ls (v :: rest))) : W p l e R s m args below meth c H locs cells slots Q (F0 m pc ls (.int i :: .ref t :: rest)) := by
  obtain ⟨h1, h2⟩ := dz_ix hi hj (show N < 2147483648 by omega)
  exact va_tb X.x X.b hT (dz_S2 X h) h1 (by rw [h2]; exact hv) hdg kk
/-- the class object of an array of objects: a constant of the code, and asked of an array -/
theorem dz_ldcM (X : dz_X p s m args meth c G y0 cc nL ret tb A) {index : Nat} (hlink : Cond.classLink y0.cls index "[Ljava/lang/Object;" ∈ lw_all) (hdg : decode cc pc = .ok (.ldc index, 2))
    (kk : W p l e R s m args below meth c H locs cells slots Q (F0 m (pc + 2) ls (.ref (G.2.2.1 10) :: rest))) : W p l e R s m args below meth c H locs cells slots Q (F0 m pc ls rest) := va_ldcM X.x X.b X.own (X.ts _ hlink) X.ev.2.2.2.2.2.2.1 hdg kk
theorem dz_getC (X : dz_X p s m args meth c G y0 cc nL ret tb A) (hl : lv_has ls nL lv) {index n : Nat} {f : Nat → Option Nat} (hlink : Cond.methodLink y0.cls index ⟨"java/lang/Object", "getClass", "()Ljava/lang/Class;"⟩ ∈ lw_all) (hat : va_at G.1 dz_CL (a, dzO G n f) H) (hframes : 1 ≤ R.frames) (hcat : (rest.map fun v => v.category).sum ≤ 8) (hlocals : 40 ≤ R.locals) (hdg : decode cc pc = .ok (.invokevirtual index, 3))
    (kk : W p l e R s m args below meth c H locs cells slots Q (F0 m (pc + 3) ls (.ref (G.2.2.1 10) :: rest))) : W p l e R s m args below meth c H locs cells slots Q (F0 m pc ls (.ref a :: rest)) :=
  va_getC X.x X.b (hl.1.trans X.1.2.2.1.symm).symm X.own (X.ts _ hlink) (va_Nw.use (A := args) rfl (X.nw q2598 rfl)) (X.ts _ q2597) (X.ts _ q819) (X.ts _ q859) X.ev.2.2.2.2.2.2.1 ⟨_, hat, rfl, va_nmO (X.K.2 5 _ rfl).2 rfl⟩ hframes (by omega) hdg kk
end DZR6
