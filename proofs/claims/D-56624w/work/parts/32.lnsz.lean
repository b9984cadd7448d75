/-! a callee that leaves the heap as it is, whose class is nowhere said to be initialised -/
section DZBN
variable {l : Launch} {R : Room} {p : Program} {e : Env} {below : List Frame} {s : State} {sargs : Array Value} {y : MethodName} {len wt : Nat}
theorem dz_backN {Pre : Pt → Array Value → Prop} {bytes : ByteArray} {maxL : Nat} {ret : Option FieldType} {rm : Room} {r : Option Value} (hy : plainName y.cls = true) (hframes : rm.frames + 1 ≤ R.frames) (hlocals : wt + (maxL + 11) + rm.locals ≤ R.locals) (hrc : rm.cells = 0) (hrs : rm.slots = 0)
    (hpre : ∀ (A : Pt) a, s.WarmedH A.U.vm → Pre A a → (Cond.code y bytes maxL ret).before a A.U = true ∧ A.cells ≤ R.cells ∧ A.slots ≤ R.slots)
    (body : ∀ (A : Pt) (a : Array Value) (bl : List Frame) (mk : MethodId) (methY : Method) (cY : Code) (s1 : State), s.WarmedH A.U.vm → Pre A a → s1.vm = A.U.vm → s1.heap = A.U.heap → s1.methodNamed? y = some mk → cY.code = bytes → cY.maxLocals = maxL → methY.sig.returnType = ret → methY.locks = false →
      W p l e rm s1 mk a bl methY cY A.U.heap [] 0 0 (MQ bl (fun _ _ o t => o = .returned r ∧ t.heap = A.U.heap) a s1 0 0 (fun _ => False)) (entryFrame mk a maxL)) :
    Back l R p e below s sargs y len wt Pre (fun A a v B => v = r ∧ B.U.heap = A.U.heap ∧ B.locs = A.locs ∧ B.cells = A.cells ∧ B.slots = A.slots) := by
  intro m meth c A g ig mk a X hg hsize hdg hw hn hp
  obtain ⟨h2, h4, h5⟩ := hpre A a X.warmed hp
  obtain ⟨U, Ls, c0, s0⟩ := A
  dsimp only [Pt.U, Pt.locs, Pt.cells, Pt.slots] at h2 h4 h5 X hn ⊢
  obtain ⟨methY, cY, hmY, hcY, hbY, hlY, hrY, hlkY, -, -⟩ := Cond.code_spec hn h2
  subst hg
  have h : At U g.method c below := X.here
  have hs1 : (U.calling g mk a).frames = .invoking mk a :: .java g :: U.frames.tail := State.frames_calling h.top g mk a
  have hcur := State.cur_lt_of_frames hs1
  have hfull := X.notFull (g := g) hsize (vars := cY.maxLocals) (by omega) (by rw [hlY]; omega)
  have hE := doInvoke_enter (e := e) (g := g) (args := a) h.top [] hmY hcY hlkY hfull
  have hAt0 := h.enter (g := g) a hmY hcY (State.plainMethod.of_named (s := U) (plainFor_of_name hy) hn hmY)
  have hfV := frames_entered (g := g) h.top (.java (entryFrame mk a cY.maxLocals))
  have hV : (U.setTop g).pushFrame (.java (entryFrame mk a cY.maxLocals)) = (U.calling g mk a).setFrames (.java (entryFrame mk a cY.maxLocals) :: .java g :: U.frames.tail) := by
    rw [State.calling, State.pushFrame, State.pushFrame, State.setFrames_setFrames, State.frames_setTop' g h.top]
  rw [hlY] at hE hAt0 hfV hV
  generalize hVe : (U.setTop g).pushFrame (.java (entryFrame mk a maxL)) = V at hE hAt0 hfV hV
  have XS : Stand p l e rm (U.calling g mk a) mk a (.java g :: U.frames.tail) methY cY V [] 0 0 := by
    obtain ⟨t, ht, -⟩ := State.frames_cons hs1
    have hcode : (U.calling g mk a).code? g.method = some c := by
      have := h.code
      rw [State.code?_eq] at this ⊢
      exact this
    refine ⟨X.admits, X.cas, X.clock, hs1, X.room_calling (g := g) (R' := rm) hsize hmY hcY hframes (by rw [hlY]; omega) (by omega) (by omega), by simp [State.hears, hcode, hdg, Except.toOption], hmY, hcY,
      ⟨hAt0.top, ⟨[], by rw [hfV]; rfl⟩, hAt0.running, hAt0.runnable, hAt0.alone, hAt0.code, hAt0.plain⟩, by rw [hfV]; rfl, by rw [hV]; exact State.WarmedH.refl _, by rw [hV, State.stackLimits_setFrames], by rw [hV, State.stackBytes_setFrames], ?_⟩
    have h9 := (State.sameButNew.refl (U.calling g mk a) ht).setFrames (.java (entryFrame mk a maxL) :: .java g :: U.frames.tail) hcur
    rw [hV]
    exact h9
  have hheap : V.heap = U.heap := by rw [hV]; rfl
  obtain ⟨t, a1, o, b1, b2, ⟨b3, b3h⟩, L, b4, b5⟩ := body (U, Ls, c0, s0) a (.java g :: U.frames.tail) mk methY cY (U.calling g mk a) X.warmed hp rfl rfl hn hbY hlY hrY hlkY V hheap XS
  subst b3
  have hL : L = [] := List.eq_nil_iff_forall_not_mem.mpr (fun q hq => b5 q hq)
  subst hL
  obtain ⟨-, hW₂, e2, q2, q3, q4, q5, q6⟩ := id b4
  have e3 : t = ({ (U.calling g mk a).setFrames t.frames with heap := t.heap, slotsUsed := t.slotsUsed } : State).setVm t.vm := by
    have : t = ({ t with vm := (U.calling g mk a).vm } : State).setVm t.vm := rfl
    rw [e2] at this
    exact this
  obtain ⟨c₂, i₂, len₂, hc₂, hd₂, hf₂⟩ := b2
  have hW' : U.WarmedH t.vm := hW₂
  have hcc : c₂ = c := by
    have h1 : t.code? g.method = U.code? g.method := by
      rw [State.code?_eq, State.code?_eq, hW'.alike.method?]
    exact Option.some.inj (hc₂.symm.trans (h1.trans h.code))
  subst hcc
  have hlen : len₂ = len := by rw [hdg] at hd₂; cases hd₂; rfl
  subst hlen
  obtain ⟨g₀, hg0⟩ := Option.isSome_iff_exists.mp h.top
  obtain ⟨r0, hr⟩ := State.topJava?_eq_some.mp hg0
  have hs₂ : t = (({ U with heap := t.heap, slotsUsed := t.slotsUsed } : State).setVm t.vm).setTop { g with pc := g.pc + len₂, stack := r.toList ++ g.stack } := by
    have hr' : (({ U with heap := t.heap, slotsUsed := t.slotsUsed } : State).setVm t.vm).frames = .java g₀ :: r0 := hr
    refine e3.trans ?_
    rw [hf₂, State.calling_eq h.top, State.setFrames_setFrames, State.setTop_of_frames _ hr', hr]
    rfl
  have hsame : U.sameButNew ({ U with heap := t.heap, slotsUsed := t.slotsUsed } : State) [] 0 0 := by
    refine ⟨?_, q2, q3, q4, q5, q6⟩
    obtain ⟨t9, ht9, -⟩ := State.frames_cons hr
    show ({ U with heap := t.heap, slotsUsed := t.slotsUsed } : State) = { U.setFrames U.frames with heap := t.heap, slotsUsed := t.slotsUsed }
    rw [State.setFrames_self ht9]
  have X' : Stand p l e R s g.method sargs below meth c₂ (({ U with heap := t.heap, slotsUsed := t.slotsUsed } : State).setVm t.vm) (Ls ++ []) (c0 + 0) (s0 + 0) :=
    ⟨X.admits, X.cas, X.clock, X.frames, X.room, X.hears, X.method, X.code, (X.here.setHeapUsed t.heap t.slotsUsed).setVm hW'.alike, X.tail, State.WarmedH.trans X.warmed hW', X.limits, X.bytes, X.same.trans (hsame.setVm s.vm)⟩
  rw [List.append_nil] at X'
  refine ⟨r, ((({ U with heap := t.heap, slotsUsed := t.slotsUsed } : State).setVm t.vm), Ls, c0, s0), X', ⟨rfl, b3h, rfl, rfl, rfl⟩, ?_⟩
  show Steps p.tables e below (doInvoke e (U.setTop g) [] mk a).1 ((({ U with heap := t.heap, slotsUsed := t.slotsUsed } : State).setVm t.vm).setTop { g with pc := g.pc + len₂, stack := r.toList ++ g.stack })
  rw [hE, ← hs₂]
  obtain ⟨n9, hn9, hw9⟩ := a1
  obtain ⟨mid, hmid⟩ := h.above
  refine ⟨n9, hn9, fun j hj => ?_⟩
  have h8 := hw9 j hj
  rw [hmid] at h8
  exact Within.weaken (mid := .java g :: mid) h8
end DZBN
section DZLN
variable {p : Program} {l : Launch} {e : Env} {R : Room} {s : State} {m : MethodId} {args : Array Value} {below : List Frame} {meth : Method} {c : Code} {H : Heap} {locs : List Loc} {cells slots : Nat} {Q : State → Prop} {pc : Nat} {ls : Array Slot} {rest : List Value} {G : dz_G} {nL : Nat} {y0 : MethodName} {cc : ByteArray} {ret : Option FieldType} {tb : List ExceptionTableEntry} {A : Nat → Prop} {ww : dz_W} {lv : List (Nat × Value)}
theorem dz_lnsz (X : dz_X p s m args meth c G y0 cc nL ret tb A) (hl : lv_has ls nL lv) (hO : dz_O G.1 dz_CL A s.heap ww H locs) {index count : Nat} (hlink : Cond.methodLink y0.cls index ⟨"java/util/List", "size", "()I"⟩ ∈ lw_all) (hframes : 1 ≤ R.frames) (hcat : (rest.map fun v => v.category).sum ≤ 8) (hlocals : 40 ≤ R.locals) (hc : cells ≤ R.cells) (hs : slots ≤ R.slots) (hdg : decode cc pc = .ok (.invokeinterface index count, 5))
    (kk : W p l e R s m args below meth c H locs cells slots Q (F0 m (pc + 5) ls (.int 0 :: rest))) : W p l e R s m args below meth c H locs cells slots Q (F0 m pc ls (.ref (G.2.2.1 8) :: rest)) := by
  intro T hT XS
  obtain ⟨cell, h1, h2, h3⟩ := dz_rO X hO X.st.2.2.2.2.2.2.1
  have hF := X.ev.2.2.2.1 ("java/util/ImmutableCollections$ListN", dz_m "java/util/List" "size" "()I", dz_m "java/util/ImmutableCollections$ListN" "size" "()I") (by decide)
  obtain ⟨mk0, methM, hnamed, -⟩ := Cond.instanceMethod_spec (X.ts _ q1784)
  obtain ⟨kB, hkB, -⟩ := className_of_methodNamed hnamed
  have hcl := h3.symm.trans (findClass_of_methodNamed hnamed)
  have hkB' : s.vm.classes[cell.cls]? = some kB := by rw [Option.some.inj hcl]; exact hkB
  have hcode := X.ts _ q1786
  have hS2 := dz_S2 X hO
  have hK := dz_backN (l := l) (R := R) (p := p) (e := e) (below := below) (s := s) (sargs := args) (y := yJ44_size) (len := 5) (wt := 8) (bytes := cJ44_size) (maxL := 1) (ret := some .int) (rm := {}) (r := some (.int 0))
    (Pre := fun A a => (Cond.code yJ44_size cJ44_size 1 (some .int)).before a A.U = true ∧ A.cells ≤ R.cells ∧ A.slots ≤ R.slots ∧ a = #[.ref (G.2.2.1 8)] ∧ A.U.heap = H) (by decide) hframes (by show 8 + (1 + 11) + 0 ≤ R.locals; omega) rfl rfl
    (fun A a _ hp => ⟨hp.1, hp.2.1, hp.2.2.1⟩) (by
      intro A9 a bl mk methY cY s1 hW hp e1 e2 hn hb hml hret hlk
      obtain ⟨-, -, -, rfl, hH⟩ := hp
      have hW1 : s.WarmedH s1.vm := by rw [e1]; exact hW
      have hvm : s.vm.Alike s1.vm := hW1.alike
      have hE := va_OF.moved hvm (va_OF.kept X.st.2.2.2.2.2.2.2.1 hS2.2.1)
      obtain ⟨cellA, t1, t2, t3, t4, t5, t6, t7⟩ := va_T.moved hvm (va_T.kept X.st.2.2.2.2.2.2.2.2.1 hS2.2.1)
      have hH1 : s1.heap = H := e2.trans hH
      rw [← hH1] at hE
      rw [hH, lg_entry_eq]
      have hl1 := lv_entry (n := 1) [Value.ref (G.2.2.1 8)] (Nat.le_of_ble_eq_true rfl)
      refine lv_aload_n X.x hb dJ44_size_0 rfl (lv_at hl1 0 rfl) ?_
      refine vk_getf (A := fun q => G.2.2.2 ≤ q) (own := "java/util/ImmutableCollections$ListN") X.x hb hE ⟨by rw [hH1]; exact Nat.le_refl _, fun q _ _ => by rw [hH1], fun q hq => absurd hq List.not_mem_nil⟩ (findClass_of_methodNamed hn) (word_at (U := s1) hW1 (Or.inl (by first | rfl | simp [Cond.onTables, Cond.keeps, Cond.steady])) (X.ts _ q2614)) (fun _ z => z) dJ44_size_1 ?_
      refine W.alen (n := 0) X.x hb t1 t2 t5 rfl rfl dJ44_size_4 ?_
      exact W.iret X.x hb hret (fun t ht _ => ⟨rfl, ht⟩) (fun q hq => absurd hq List.not_mem_nil) dJ44_size_5 hlk)
  obtain ⟨v, vm₁, B, hW1, X', ⟨hv, hBh, hBl, hBc, hBs⟩, st⟩ := va_callIF XS X.x (own := y0.cls) (C := "java/util/ImmutableCollections$ListN") (x := ⟨"java/util/List", "size", "()I"⟩) (y := yJ44_size) (bytes := cJ44_size) (maxL := 1) (ret := some .int) X.own (X.ts _ hlink) (va_any rfl hF.1) (va_any rfl hF.2.1) (X.ts _ q1782) (X.ts _ q1784) (va_any rfl hF.2.2.1) (va_any rfl hF.2.2.2.1) (va_any rfl hF.2.2.2.2) hcode (by decide) hK (b := G.2.2.1 8) (cellB := cell) (by rw [hT]; exact h1) h2 h3 hkB' (g := F0 m pc ls (.ref (G.2.2.1 8) :: rest)) rfl (hl.1.trans X.1.2.2.1.symm) (argsL := []) (rest := rest) (fun sig h => by have h9 : parseMethodDescriptor "()I" = some sig := h; have h8 : (parseMethodDescriptor "()I").map (fun d => d.parameters.length) = some 0 := (by decide +kernel); rw [h9] at h8; exact (Option.some.inj h8).symm) rfl (lv_room hcat) (by rw [X.b]; exact hdg)
    (fun vm₁ hW => ⟨word_at (U := T.setVm vm₁) hW (Or.inl (by first | rfl | simp [Cond.onTables, Cond.keeps, Cond.steady])) hcode, hc, hs, rfl, hT⟩)
  obtain ⟨BU, Bl, Bc, Bs⟩ := B
  dsimp only [Pt.U, Pt.locs, Pt.cells, Pt.slots] at X' hBh hBl hBc hBs st
  subst hBl; subst hBc; subst hBs; subst hv
  obtain ⟨t, a1, b1⟩ := kk BU (hBh.trans hT) X'
  exact ⟨t, st t a1, b1⟩
end DZLN
