/-! calls of constants' own methods, whose classes are nowhere said to be initialised: the callee is walked within the caller's run -/
section DZLEAF
variable {l : Launch} {R : Room} {p : Program} {e : Env} {below : List Frame} {s : State} {sargs : Array Value} {y : MethodName} {len W : Nat}
theorem dz_leafI (hexec : p.tables.exec = Jvm.exec) {bytes : ByteArray} {k : Int} {v : Int32} (hy : plainName y.cls = true) (hd0 : decode bytes 0 = .ok (.iconst k, 1)) (hd1 : decode bytes 1 = .ok (.ireturn, 1)) (hk : Int32.ofInt k = v) (hnar : narrow .boolean (.int v) = .int v) (hf : 1 ≤ R.frames) (hW : W + 12 ≤ R.locals) :
    Back l R p e below s sargs y len W (fun A a => (Cond.code y bytes 1 (some .boolean)).before a A.U = true) (fun A a r B => B = A ∧ r = some (.int v)) := by
  intro m meth c A g ig mk a X hg hsize hdg hw hn hp
  obtain ⟨methY, cY, hmY, hcY, hbY, hlY, hrY, hlkY, -, -⟩ := Cond.code_spec hn hp
  obtain ⟨U, Ls, c0, s0⟩ := A
  dsimp only [Pt.U, Pt.locs, Pt.cells, Pt.slots] at X hn hp hmY ⊢
  subst hg
  have h : At U g.method c below := X.here
  have hfull := X.notFull (g := g) hsize (vars := cY.maxLocals) hf (by rw [hlY]; omega)
  have hE := doInvoke_enter (e := e) (g := g) (args := a) h.top [] hmY hcY hlkY hfull
  have h2 := h.enter (g := g) a hmY hcY (State.plainMethod.of_named (s := U) (plainFor_of_name hy) hn hmY)
  have hfr := frames_entered (g := g) h.top (.java (entryFrame mk a cY.maxLocals))
  refine ⟨some (.int v), (U, Ls, c0, s0), X, ⟨rfl, rfl⟩, ?_⟩
  show Steps p.tables e below (doInvoke e (U.setTop g) [] mk a).1 (U.setTop { g with pc := g.pc + len, stack := .int v :: g.stack })
  rw [hE]
  have hm2 : ((U.setTop g).pushFrame (.java (entryFrame mk a cY.maxLocals))).vm.method? mk = some methY := hmY
  have hcg : ((U.setTop g).pushFrame (.java (entryFrame mk a cY.maxLocals))).code? g.method = some c := by
    have := h.code
    rw [State.code?_eq] at this ⊢
    exact this
  have hret := fun (f : JFrame) (acts : List Action) (h1 : f.method = mk) (h3 : f.locked = none) (h4 : f.entered = []) => doReturn_leave (e := e) (u := (U.setTop g).pushFrame (.java (entryFrame mk a cY.maxLocals))) (f := f) (v := some (.int v)) acts hfr (by rw [h1]; exact hm2) hlkY h3 h4 hcg hdg
  generalize hV : (U.setTop g).pushFrame (.java (entryFrame mk a cY.maxLocals)) = V at h2 hm2 hret
  have hfin : (V.setFrames (.java g :: U.frames.tail)).setTop { g with pc := g.pc + len, stack := .int v :: g.stack } = U.setTop { g with pc := g.pc + len, stack := .int v :: g.stack } := by
    obtain ⟨g₀, hg0⟩ := Option.isSome_iff_exists.mp h.top
    obtain ⟨r, hr⟩ := State.topJava?_eq_some.mp hg0
    subst hV
    have hc := State.cur_lt_of_frames hr
    rw [State.setTop_of_frames _ hr, State.setTop_of_frames _ hr]
    simp only [State.pushFrame, State.setFrames_setFrames]
    rw [State.setTop_of_frames _ (State.frames_setFrames _ hc), State.setFrames_setFrames, hr]
    rfl
  unfold entryFrame
  jvm_step h2 [hexec, hbY, hd0, hk]
  jvm_step h2 [hexec, hbY, hd1, hm2, hrY, hnar, hk]
  intro acts
  rw [hret _ acts rfl rfl rfl]
  show Steps p.tables e below ((V.setFrames (.java g :: U.frames.tail)).setTop { g with pc := g.pc + len, stack := .int v :: g.stack }) _
  rw [hfin]
  exact Steps.refl _
end DZLEAF
section DZBARS
variable {p : Program} {l : Launch} {e : Env} {R : Room} {s : State} {m : MethodId} {args : Array Value} {below : List Frame} {meth : Method} {c : Code} {H : Heap} {locs : List Loc} {cells slots : Nat} {Q : State → Prop} {pc : Nat} {ls : Array Slot} {rest : List Value} {G : dz_G} {nL : Nat} {y0 : MethodName} {cc : ByteArray} {ret : Option FieldType} {tb : List ExceptionTableEntry} {A : Nat → Prop} {ww : dz_W} {lv : List (Nat × Value)}
theorem dz_bars1 (X : dz_X p s m args meth c G y0 cc nL ret tb A) (hl : lv_has ls nL lv) (hO : dz_O G.1 dz_CL A s.heap ww H locs) {index : Nat} (hlink : Cond.methodLink y0.cls index ⟨"Dredgeledger$Side", "bars", "()Z"⟩ ∈ lw_all) (hframes : 1 ≤ R.frames) (hcat : (rest.map fun v => v.category).sum ≤ 8) (hlocals : 40 ≤ R.locals) (hdg : decode cc pc = .ok (.invokevirtual index, 3))
    (kk : W p l e R s m args below meth c H locs cells slots Q (F0 m (pc + 3) ls (.int 1 :: rest))) : W p l e R s m args below meth c H locs cells slots Q (F0 m pc ls (.ref (G.2.2.1 6) :: rest)) := by
  intro T hT XS
  obtain ⟨cell, h1, h2, h3⟩ := dz_rO X hO X.st.2.2.1
  have hcode := X.ts _ q989
  have hK := dz_leafI (l := l) (R := R) (p := p) (e := e) (below := below) (s := s) (sargs := args) (y := yX14_bars) (len := 3) (W := 8) X.x (bytes := cX14_bars) (k := 1) (v := 1) (by decide) dX14_bars_0 dX14_bars_1 (by decide) rfl hframes (by omega)
  obtain ⟨v, vm₁, B, hW1, X', ⟨hB, hv⟩, st⟩ := va_callVU XS X.x (own := y0.cls) (C := "Dredgeledger$Side$1") (owner := "Dredgeledger$Side") (x := ⟨"Dredgeledger$Side", "bars", "()Z"⟩) (y := yX14_bars) (bytes := cX14_bars) (maxL := 1) (ret := some .boolean) X.own (X.ts _ hlink) (X.ts _ q986) (va_Decl.abs (X.nw q985 rfl)) (by decide) (X.ts _ q987) (X.ts _ q988) hcode hK (b := G.2.2.1 6) (cellB := cell) (by rw [hT]; exact h1) h2 h3 (g := F0 m pc ls (.ref (G.2.2.1 6) :: rest)) rfl (hl.1.trans X.1.2.2.1.symm) (argsL := []) (rest := rest) (fun sig h => by have h9 : parseMethodDescriptor "()Z" = some sig := h; have h8 : (parseMethodDescriptor "()Z").map (fun d => d.parameters.length) = some 0 := (by decide +kernel); rw [h9] at h8; exact (Option.some.inj h8).symm) rfl (lv_room hcat) (by rw [X.b]; exact hdg) (fun vm₁ hW => word_at (U := T.setVm vm₁) hW (Or.inl (by first | rfl | simp [Cond.onTables, Cond.keeps, Cond.steady])) hcode)
  subst hB; subst hv
  obtain ⟨t, a1, b1⟩ := kk (T.setVm vm₁) hT X'
  exact ⟨t, st t a1, b1⟩
theorem dz_bars2 (X : dz_X p s m args meth c G y0 cc nL ret tb A) (hl : lv_has ls nL lv) (hO : dz_O G.1 dz_CL A s.heap ww H locs) {index : Nat} (hlink : Cond.methodLink y0.cls index ⟨"Dredgeledger$Side", "bars", "()Z"⟩ ∈ lw_all) (hframes : 1 ≤ R.frames) (hcat : (rest.map fun v => v.category).sum ≤ 8) (hlocals : 40 ≤ R.locals) (hdg : decode cc pc = .ok (.invokevirtual index, 3))
    (kk : W p l e R s m args below meth c H locs cells slots Q (F0 m (pc + 3) ls (.int 0 :: rest))) : W p l e R s m args below meth c H locs cells slots Q (F0 m pc ls (.ref (G.2.2.1 7) :: rest)) := by
  intro T hT XS
  obtain ⟨cell, h1, h2, h3⟩ := dz_rO X hO X.st.2.2.2.2.1
  have hcode := X.ts _ q992
  have hK := dz_leafI (l := l) (R := R) (p := p) (e := e) (below := below) (s := s) (sargs := args) (y := yX15_bars) (len := 3) (W := 8) X.x (bytes := cX15_bars) (k := 0) (v := 0) (by decide) dX15_bars_0 dX15_bars_1 (by decide) rfl hframes (by omega)
  obtain ⟨v, vm₁, B, hW1, X', ⟨hB, hv⟩, st⟩ := va_callVU XS X.x (own := y0.cls) (C := "Dredgeledger$Side$2") (owner := "Dredgeledger$Side") (x := ⟨"Dredgeledger$Side", "bars", "()Z"⟩) (y := yX15_bars) (bytes := cX15_bars) (maxL := 1) (ret := some .boolean) X.own (X.ts _ hlink) (X.ts _ q986) (va_Decl.abs (X.nw q985 rfl)) (by decide) (X.ts _ q990) (X.ts _ q991) hcode hK (b := G.2.2.1 7) (cellB := cell) (by rw [hT]; exact h1) h2 h3 (g := F0 m pc ls (.ref (G.2.2.1 7) :: rest)) rfl (hl.1.trans X.1.2.2.1.symm) (argsL := []) (rest := rest) (fun sig h => by have h9 : parseMethodDescriptor "()Z" = some sig := h; have h8 : (parseMethodDescriptor "()Z").map (fun d => d.parameters.length) = some 0 := (by decide +kernel); rw [h9] at h8; exact (Option.some.inj h8).symm) rfl (lv_room hcat) (by rw [X.b]; exact hdg) (fun vm₁ hW => word_at (U := T.setVm vm₁) hW (Or.inl (by first | rfl | simp [Cond.onTables, Cond.keeps, Cond.steady])) hcode)
  subst hB; subst hv
  obtain ⟨t, a1, b1⟩ := kk (T.setVm vm₁) hT X'
  exact ⟨t, st t a1, b1⟩
theorem dz_bars (X : dz_X p s m args meth c G y0 cc nL ret tb A) (hl : lv_has ls nL lv) (hO : dz_O G.1 dz_CL A s.heap ww H locs) (b : Bool) {index : Nat} (hlink : Cond.methodLink y0.cls index ⟨"Dredgeledger$Side", "bars", "()Z"⟩ ∈ lw_all) (hframes : 1 ≤ R.frames) (hcat : (rest.map fun v => v.category).sum ≤ 8) (hlocals : 40 ≤ R.locals) (hdg : decode cc pc = .ok (.invokevirtual index, 3))
    (kk : W p l e R s m args below meth c H locs cells slots Q (F0 m (pc + 3) ls (.int (if b = true then 1 else 0) :: rest))) : W p l e R s m args below meth c H locs cells slots Q (F0 m pc ls (.ref (G.2.2.1 (if b then 6 else 7)) :: rest)) := by
  cases b with
  | true => exact dz_bars1 X hl hO hlink hframes hcat hlocals hdg kk
  | false => exact dz_bars2 X hl hO hlink hframes hcat hlocals hdg kk
end DZBARS
