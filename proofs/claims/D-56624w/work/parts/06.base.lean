/-! THE WHOLE SYSTEM'S TABLES: the kinds of objects by number, the kinds of arrays by number, what holds all through a run -/
set_option maxRecDepth 100000
def isNw : Cond → Bool
  | .castable .. => true
  | .declares .. => true
  | .fieldLinkNest .. => true
  | .methodLinkNest .. => true
  | .privateMethod _ => true
  | _ => false
theorem dz_warmP {x : MethodName} {s U : State} (hW : s.WarmedH U.vm) (hZ : va_Nw (.privateMethod x) s) : va_Nw (.privateMethod x) U := va_tabs rfl (rfl : (s.setVm U.vm).vm = U.vm) (by rw [Cond.privateMethod_setVm hW.alike]; exact hZ)
theorem isNw_tab {w : Cond} (h : isNw w = true) : w.onTables = true := by
  cases w <;> first | rfl | (simp [isNw] at h)
theorem isNw_warm {w : Cond} (h : isNw w = true) {s U : State} (hW : s.WarmedH U.vm) (hZ : va_Nw w s) : va_Nw w U := by
  cases w <;> first | exact va_Nw.warmC hW hZ | exact va_Nw.warmD hW hZ | exact va_Nw.warmF hW hZ | exact va_Nw.warmM hW hZ | exact dz_warmP hW hZ | (simp [isNw] at h)
abbrev dz_CL : List vw_C := [(RX1, TX1, 21), (RX2, TX2, 2), (RX3, TX3, 35), (RX4, TX4, 3), (RX5, TX5, 2), (RX6, TX6, 2), (RX7, TX7, 3), (RX8, TX8, 3), (RX9, TX9, 4), (RX10, TX10, 5), (RX11, TX11, 1), (RX12, TX12, 2), (RX13, TX13, 2), (RJ0, TJ0, 3), (RJ3, TJ3, 3), (RJ19, TJ19, 4), (RJ35, TJ35, 3), (RJ20, TJ20, 3), (RJ29, TJ29, 4), (RJ31, TJ31, 5), (RJ40, TJ40, 4), (RJ9, TJ9, 4), (RJ10, TJ10, 4)]
abbrev dz_TY (d : Nat → ClassId) : List (ClassId × FieldType) := [(d 0, .int), (d 1, .short), (d 2, .long), (d 3, .boolean), (d 4, .byte), (d 5, .object "java/lang/Object"), (d 6, .object "Deed")]
/-- D, array kinds, constants' addresses, the low boundary -/
abbrev dz_G : Type := va_G × (Nat → ClassId) × (Nat → Nat) × Nat
abbrev dz_deeds : List String := ["DREDGE", "DUMP", "SURVEY", "SETTLE", "DISPUTE", "RESOLVE"]
def dz_NC : List (String × String) := [
  ("Dredgeledger$Dispute", "Dredgeledger$Limited"), ("Dredgeledger$Settled", "Dredgeledger$Limited"), ("Dredgeledger$Settled", "Dredgeledger$Dispute"), ("Dredgeledger$Limited", "Dredgeledger$Dispute"), ("Dredgeledger$Limited", "Dredgeledger$Settled"), ("Dredgeledger$Dispute", "Dredgeledger$Settled"),
  ("java/lang/IllegalArgumentException", "java/lang/IndexOutOfBoundsException"),
  ("java/lang/IllegalStateException", "java/lang/IndexOutOfBoundsException"), ("java/lang/IllegalStateException", "java/lang/IllegalArgumentException"),
  ("java/lang/UnsupportedOperationException", "java/lang/IndexOutOfBoundsException"), ("java/lang/UnsupportedOperationException", "java/lang/IllegalArgumentException"), ("java/lang/UnsupportedOperationException", "java/lang/IllegalStateException"),
  ("java/util/NoSuchElementException", "java/lang/IndexOutOfBoundsException")]
def dz_m (C n t : String) : MethodName := ⟨C, n, t⟩
def dz_FW : List (String × MethodName × MethodName) := [
  ("java/util/ArrayList$Itr", dz_m "java/util/Iterator" "hasNext" "()Z", dz_m "java/util/ArrayList$Itr" "hasNext" "()Z"),
  ("java/util/ArrayList$Itr", dz_m "java/util/Iterator" "next" "()Ljava/lang/Object;", dz_m "java/util/ArrayList$Itr" "next" "()Ljava/lang/Object;"),
  ("java/util/LinkedList$ListItr", dz_m "java/util/Iterator" "hasNext" "()Z", dz_m "java/util/LinkedList$ListItr" "hasNext" "()Z"),
  ("java/util/LinkedList$ListItr", dz_m "java/util/Iterator" "next" "()Ljava/lang/Object;", dz_m "java/util/LinkedList$ListItr" "next" "()Ljava/lang/Object;"),
  ("java/util/LinkedList$ListItr", dz_m "java/util/Iterator" "remove" "()V", dz_m "java/util/LinkedList$ListItr" "remove" "()V"),
  ("java/util/ArrayDeque$DeqIterator", dz_m "java/util/Iterator" "hasNext" "()Z", dz_m "java/util/ArrayDeque$DeqIterator" "hasNext" "()Z"),
  ("java/util/ArrayDeque$DeqIterator", dz_m "java/util/Iterator" "next" "()Ljava/lang/Object;", dz_m "java/util/ArrayDeque$DeqIterator" "next" "()Ljava/lang/Object;"),
  ("Dredgeledger$Chain$1", dz_m "java/util/Iterator" "hasNext" "()Z", dz_m "Dredgeledger$Chain$1" "hasNext" "()Z"),
  ("Dredgeledger$Chain$1", dz_m "java/util/Iterator" "next" "()Ljava/lang/Object;", dz_m "Dredgeledger$Chain$1" "next" "()Ljava/lang/Object;"),
  ("java/util/ArrayList", dz_m "java/util/List" "size" "()I", dz_m "java/util/ArrayList" "size" "()I"),
  ("java/util/ImmutableCollections$ListN", dz_m "java/util/List" "size" "()I", dz_m "java/util/ImmutableCollections$ListN" "size" "()I"),
  ("java/util/ArrayList", dz_m "java/util/List" "get" "(I)Ljava/lang/Object;", dz_m "java/util/ArrayList" "get" "(I)Ljava/lang/Object;"),
  ("java/util/ArrayList", dz_m "java/util/List" "set" "(ILjava/lang/Object;)Ljava/lang/Object;", dz_m "java/util/ArrayList" "set" "(ILjava/lang/Object;)Ljava/lang/Object;"),
  ("java/util/ArrayList", dz_m "java/util/List" "iterator" "()Ljava/util/Iterator;", dz_m "java/util/ArrayList" "iterator" "()Ljava/util/Iterator;")]
theorem dz_FW_ok : ∀ q ∈ dz_FW, q.2.1.cls ≠ "java/lang/invoke/MethodHandle" ∧ q.2.1.cls ≠ "java/lang/invoke/VarHandle" := by decide +kernel
/-- the bytes of Integer's digit tables -/
def dz_ones : List Int32 := (List.range 100).map fun k => Int32.ofNat (48 + k % 10)
def dz_tens : List Int32 := (List.range 100).map fun k => Int32.ofNat (48 + k / 10)
/-- the constants that stand below the boundary B -/
def dz_St (ad : Nat → Nat) (B : Nat) (U : State) (H : Heap) : Prop :=
  va_En "Deed" "LDeed;" dz_deeds [] ad (fun q => B ≤ q) U H ∧
  va_Z "Dredgeledger$Side" "BEGIN" "LDredgeledger$Side;" (.ref (ad 6)) (fun q => B ≤ q) U H ∧ va_O "Dredgeledger$Side$1" (ad 6) (fun q => B ≤ q) U H ∧
  va_Z "Dredgeledger$Side" "END" "LDredgeledger$Side;" (.ref (ad 7)) (fun q => B ≤ q) U H ∧ va_O "Dredgeledger$Side$2" (ad 7) (fun q => B ≤ q) U H ∧
  va_Z "java/util/ImmutableCollections" "EMPTY_LIST" "Ljava/util/ImmutableCollections$ListN;" (.ref (ad 8)) (fun q => B ≤ q) U H ∧ va_O "java/util/ImmutableCollections$ListN" (ad 8) (fun q => B ≤ q) U H ∧
  va_OF "java/util/ImmutableCollections$ListN" "elements" "[Ljava/lang/Object;" (.ref (ad 11)) (ad 8) (fun q => B ≤ q) U H ∧ va_T (.object "java/lang/Object") (ad 11) 0 (fun _ => .null) (fun q => B ≤ q) U H ∧
  va_Z "java/util/BitSet" "$assertionsDisabled" "Z" (.int 1) (fun q => B ≤ q) U H ∧
  va_Z "java/util/ArrayList" "DEFAULTCAPACITY_EMPTY_ELEMENTDATA" "[Ljava/lang/Object;" (.ref (ad 9)) (fun q => B ≤ q) U H ∧ va_T (.object "java/lang/Object") (ad 9) 0 (fun _ => .null) (fun q => B ≤ q) U H ∧
  va_Z "java/lang/String" "COMPACT_STRINGS" "Z" (.int 1) (fun q => B ≤ q) U H ∧
  va_Z "java/lang/Integer" "DigitOnes" "[B" (.ref (ad 12)) (fun q => B ≤ q) U H ∧ va_T .byte (ad 12) 100 (fun j => .int (dz_ones.getD j 0)) (fun q => B ≤ q) U H ∧
  va_Z "java/lang/Integer" "DigitTens" "[B" (.ref (ad 13)) (fun q => B ≤ q) U H ∧ va_T .byte (ad 13) 100 (fun j => .int (dz_tens.getD j 0)) (fun q => B ≤ q) U H ∧
  vx_Zq Bundle.tN "UNASSIGNED_STACK" Bundle.steD (fun q => B ≤ q) U H ∧ vx_Zq Bundle.tN "SUPPRESSED_SENTINEL" Bundle.listD (fun q => B ≤ q) U H
theorem dz_St.moved {ad : Nat → Nat} {B : Nat} {u U : State} {H : Heap} (hvm : u.vm.Alike U.vm) (h : dz_St ad B u H) : dz_St ad B U H := by
  obtain ⟨h1, h2, h3, h4, h5, h6, h7, h8, h9, h10, h11, h12, h13, h14, h15, h16, h17, h18, h19⟩ := h
  exact ⟨va_En.moved hvm h1, va_Z.moved hvm h2, va_O.moved hvm h3, va_Z.moved hvm h4, va_O.moved hvm h5, va_Z.moved hvm h6, va_O.moved hvm h7, va_OF.moved hvm h8, va_T.moved hvm h9, va_Z.moved hvm h10, va_Z.moved hvm h11, va_T.moved hvm h12, va_Z.moved hvm h13, va_Z.moved hvm h14, va_T.moved hvm h15, va_Z.moved hvm h16, va_T.moved hvm h17, vx_Zq.moved hvm h18, vx_Zq.moved hvm h19⟩
theorem dz_St.kept {ad : Nat → Nat} {B : Nat} {U : State} {H H1 : Heap} (h : dz_St ad B U H) (hq : ∀ a : Nat, a < H.size → ¬ B ≤ a → H1[a]? = H[a]?) : dz_St ad B U H1 := by
  obtain ⟨h1, h2, h3, h4, h5, h6, h7, h8, h9, h10, h11, h12, h13, h14, h15, h16, h17, h18, h19⟩ := h
  exact ⟨h1.kept hq, h2.kept hq, h3.kept hq, h4.kept hq, h5.kept hq, h6.kept hq, h7.kept hq, h8.kept hq, h9.kept hq, h10.kept hq, h11.kept hq, h12.kept hq, h13.kept hq, h14.kept hq, h15.kept hq, h16.kept hq, h17.kept hq, h18.kept hq, h19.kept hq⟩
/-- what holds all through a run -/
def dz_Ev (G : dz_G) (U : State) (H : Heap) : Prop :=
  va_K G.1 dz_CL (dz_TY G.2.1) U ∧ (∀ w ∈ lw_tbl, isNw w = true → va_Nw w U) ∧ (∀ q ∈ dz_NC, va_Nc q.1 q.2 U) ∧ (∀ q ∈ dz_FW, va_Fw q.1 q.2.1 q.2.2 U) ∧ va_AO "java/lang/Object" U ∧ va_AO "Deed" U ∧ va_Mi "[Ljava/lang/Object;" (G.2.2.1 10) U ∧ dz_St G.2.2.1 G.2.2.2 U H
theorem dz_Ev.warm {G : dz_G} {s U : State} {H H1 : Heap} (hW : s.WarmedH U.vm) (h : dz_Ev G s H) (hq : ∀ a : Nat, a < H.size → ¬ G.2.2.2 ≤ a → H1[a]? = H[a]?) : dz_Ev G U H1 := by
  obtain ⟨h1, h2, h3, h4, h5, h6, h7, h8⟩ := h
  have hvm := hW.alike
  exact ⟨va_K.moved hvm h1, fun w a b => isNw_warm b hW (h2 w a b), fun q a => va_Nc.moved hvm (h3 q a), fun q a => va_Fw.moved (dz_FW_ok q a) hvm (h4 q a), va_AO.moved hvm h5, va_AO.moved hvm h6, va_Mi.moved hvm h7, (h8.kept hq).moved hvm⟩
/-- cells by kind -/
abbrev dzI (G : dz_G) (n : Nat) (f : Nat → Int32) : va_E := .inl (G.2.1 0, n, .inl f)
abbrev dzS (G : dz_G) (n : Nat) (f : Nat → Int32) : va_E := .inl (G.2.1 1, n, .inl f)
abbrev dzJ (G : dz_G) (n : Nat) (f : Nat → Int64) : va_E := .inl (G.2.1 2, n, .inr (.inl f))
abbrev dzZ (G : dz_G) (n : Nat) (f : Nat → Int32) : va_E := .inl (G.2.1 3, n, .inl f)
abbrev dzB (G : dz_G) (n : Nat) (f : Nat → Int32) : va_E := .inl (G.2.1 4, n, .inl f)
abbrev dzO (G : dz_G) (n : Nat) (f : Nat → Option Nat) : va_E := .inl (G.2.1 5, n, .inr (.inr (.inr (.inr f))))
abbrev dzD (G : dz_G) (n : Nat) (f : Nat → Option Nat) : va_E := .inl (G.2.1 6, n, .inr (.inr (.inr (.inr f))))
abbrev dzo (ci : Nat) (fs : List Value) : va_E := .inr (ci, fs)
/-- what a method's walk knows all along: the code, its table of handlers, the tables' words, what holds all through a run, what it may write -/
def dz_X (p : Program) (s : State) (m : MethodId) (args : Array Value) (meth : Method) (c : Code) (G : dz_G) (y : MethodName) (cc : ByteArray) (nL : Nat) (ret : Option FieldType) (tb : List ExceptionTableEntry) (A : Nat → Prop) : Prop :=
  CallFix p m c cc nL s args lw_all y.cls ∧ meth.sig.returnType = ret ∧ meth.locks = false ∧ meth.name = y.name ∧ c.exceptionTable.toList = tb ∧ dz_Ev G s s.heap ∧ (∀ q : Nat, s.heap.size ≤ q → A q) ∧ (∀ q : Nat, A q → G.2.2.2 ≤ q) ∧ G.2.2.2 ≤ s.heap.size
/-- a method's start -/
def dz_Pw (G : dz_G) (wc : dz_W) (sz : Nat) (U : State) : Prop := U.heap.size = sz ∧ G.2.2.2 ≤ sz ∧ dz_Ev G U U.heap ∧ dz_P G.1 dz_CL wc U.heap ∧ dz_D (fun q => G.2.2.2 ≤ q) wc
/-- its end -/
def dz_Q (G : dz_G) (po : Option Value → dz_W → Prop) (A : Nat → Prop) : Array Value → State → Outcome → State → Prop := fun _ st oc t => (∃ (r : Option Value) (w1 : dz_W), oc = .returned r ∧ po r w1 ∧ dz_P G.1 dz_CL w1 t.heap ∧ dz_D A w1) ∧ va_F A st t
/-- its end by an exception -/
def dz_QX (G : dz_G) (px : String → dz_W → Prop) (A : Nat → Prop) : String → State → State → Prop := fun E st t => (∃ w1 : dz_W, px E w1 ∧ dz_P G.1 dz_CL w1 t.heap ∧ dz_D A w1) ∧ va_F A st t
/-- never -/
def dz_np : String → dz_W → Prop := fun _ _ => False
/-- A CONTRACT: method y with the arguments av in the world wc (the heap has sz cells): it returns with po, or throws with px -/
def dz_M (l : Launch) (G : dz_G) (y : MethodName) (code : ByteArray) (nL : Nat) (ret : Option FieldType) (rm : Room) (av : List Value) (wc : dz_W) (sz : Nat) (po : Option Value → dz_W → Prop) (px : String → dz_W → Prop) : Prop :=
  vx_Met l y (ws_ y code nL ret) rm (va_Pc av (dz_Pw G wc sz)) (dz_Q G po (dz_A wc sz)) (dz_QX G px (dz_A wc sz)) rm.cells rm.slots (dz_A wc sz)
/-- the same of a method with handlers -/
def dz_MH (l : Launch) (G : dz_G) (y : MethodName) (code : ByteArray) (nL : Nat) (ret : Option FieldType) (hh : List (Nat × Nat × Nat × Nat)) (rm : Room) (av : List Value) (wc : dz_W) (sz : Nat) (po : Option Value → dz_W → Prop) (px : String → dz_W → Prop) : Prop :=
  vx_Met l y (wsW_ y code nL ret hh) rm (va_Pc av (dz_Pw G wc sz)) (dz_Q G po (dz_A wc sz)) (dz_QX G px (dz_A wc sz)) rm.cells rm.slots (dz_A wc sz)
theorem dz_blind {G : dz_G} {wc : dz_W} {sz : Nat} {av : List Value} : FrameBlind (va_Pc av (dz_Pw G wc sz)) := by
  intro a U g mk q
  obtain ⟨q0, q1, q2, q3, q4, q5⟩ := q
  exact ⟨q0, q1, q2, dz_Ev.warm (s := U) (U := U.calling g mk a) (State.WarmedH.refl U) q3 (fun _ _ _ => rfl), q4, q5⟩
theorem dz_start {l : Launch} {G : dz_G} {y : MethodName} {code : ByteArray} {nL : Nat} {ret : Option FieldType} {rm : Room} {av : List Value} {wc : dz_W} {sz : Nat} {po : Option Value → dz_W → Prop} {px : String → dz_W → Prop} (hy : plainName y.cls = true) (hlen : (lg_sl av).length ≤ nL)
    (body : ∀ (p : Program) (e : Env) (s : State) (m : MethodId) (below : List Frame) (meth : Method) (c : Code) (A : Nat → Prop) (ls : Array Slot), dz_X p s m av.toArray meth c G y code nL ret [] A → dz_O G.1 dz_CL A s.heap wc s.heap [] → s.heap.size = sz → lv_has ls nL (lv_args 0 av) →
      W p l e rm s m av.toArray below meth c s.heap [] 0 0 (vx_MQ below (dz_Q G po A) (dz_QX G px A) av.toArray s rm.cells rm.slots A) (F0 m 0 ls [])) : dz_M l G y code nL ret rm av wc sz po px := by
  refine vx_ofW (cc := code) (maxL := nL) (ret := ret) hy rfl ?_
  intro p e s m args below meth c s₁ B hml ht hv
  obtain ⟨rfl, hsz, hB, hE, hP, hD⟩ := hv
  have hts := atoms_spec (ws := ws_ y code nL ret) B.pre
  have hts : ∀ w ∈ lw_all, w.before _ s = true := fun w h => hts w (List.mem_cons_of_mem _ h)
  have htb : c.exceptionTable.toList = [] := List.eq_nil_iff_forall_not_mem.mpr ht
  subst hsz
  have hl := lv_entry av hlen
  rw [lg_entry_eq]
  refine body p e s m below meth c (dz_A wc s.heap.size) _ ⟨⟨B.exec, B.bytes, hml, findClass_of_methodNamed B.named, hts⟩, B.returns, B.notSynchronized, (name_of_methodNamed B.named B.method).1, htb, hE, fun q h => Or.inr h, fun q h => ?_, hB⟩ ⟨hP, hD.self, va_S.rf⟩ rfl hl
  rcases h with ⟨x, hx, rfl⟩ | h
  · exact hD.2 x hx
  · exact Nat.le_trans hB h
theorem dz_startH {l : Launch} {G : dz_G} {y : MethodName} {code : ByteArray} {nL : Nat} {ret : Option FieldType} {hh : List (Nat × Nat × Nat × Nat)} {rm : Room} {av : List Value} {wc : dz_W} {sz : Nat} {po : Option Value → dz_W → Prop} {px : String → dz_W → Prop} (hy : plainName y.cls = true) (hlen : (lg_sl av).length ≤ nL)
    (body : ∀ (p : Program) (e : Env) (s : State) (m : MethodId) (below : List Frame) (meth : Method) (c : Code) (A : Nat → Prop) (ls : Array Slot), dz_X p s m av.toArray meth c G y code nL ret (tableOf hh) A → dz_O G.1 dz_CL A s.heap wc s.heap [] → s.heap.size = sz → lv_has ls nL (lv_args 0 av) →
      W p l e rm s m av.toArray below meth c s.heap [] 0 0 (vx_MQ below (dz_Q G po A) (dz_QX G px A) av.toArray s rm.cells rm.slots A) (F0 m 0 ls [])) : dz_MH l G y code nL ret hh rm av wc sz po px := by
  refine vx_ofWH (cc := code) (maxL := nL) (ret := ret) (hh := hh) hy rfl ?_
  intro p e s m args below meth c s₁ B hml hv
  obtain ⟨rfl, hsz, hB, hE, hP, hD⟩ := hv
  have hts0 := atoms_spec (ws := wsW_ y code nL ret hh) B.pre
  have hts : ∀ w ∈ lw_all, w.before _ s = true := fun w h => hts0 w (List.mem_cons_of_mem _ h)
  have htb : c.exceptionTable.toList = tableOf hh := vx_table (x := y) B (hts0 _ List.mem_cons_self)
  subst hsz
  have hl := lv_entry av hlen
  rw [lg_entry_eq]
  refine body p e s m below meth c (dz_A wc s.heap.size) _ ⟨⟨B.exec, B.bytes, hml, findClass_of_methodNamed B.named, hts⟩, B.returns, B.notSynchronized, (name_of_methodNamed B.named B.method).1, htb, hE, fun q h => Or.inr h, fun q h => ?_, hB⟩ ⟨hP, hD.self, va_S.rf⟩ rfl hl
  rcases h with ⟨x, hx, rfl⟩ | h
  · exact hD.2 x hx
  · exact Nat.le_trans hB h
section DZR
variable {p : Program} {l : Launch} {e : Env} {R : Room} {s : State} {m : MethodId} {args : Array Value} {below : List Frame} {meth : Method} {c : Code} {H : Heap} {locs : List Loc} {cells slots : Nat} {Q : State → Prop} {pc : Nat} {ls : Array Slot} {rest : List Value} {G : dz_G} {nL : Nat} {y0 : MethodName} {cc : ByteArray} {ret : Option FieldType} {tb : List ExceptionTableEntry} {A : Nat → Prop} {ww : dz_W} {lv : List (Nat × Value)} {a : Nat}
theorem dz_X.K (X : dz_X p s m args meth c G y0 cc nL ret tb A) : va_K G.1 dz_CL (dz_TY G.2.1) s := X.2.2.2.2.2.1.1
theorem dz_X.ev (X : dz_X p s m args meth c G y0 cc nL ret tb A) : dz_Ev G s s.heap := X.2.2.2.2.2.1
theorem dz_X.new (X : dz_X p s m args meth c G y0 cc nL ret tb A) : ∀ q : Nat, s.heap.size ≤ q → A q := X.2.2.2.2.2.2.1
theorem dz_X.hB (X : dz_X p s m args meth c G y0 cc nL ret tb A) : ∀ q : Nat, A q → G.2.2.2 ≤ q := X.2.2.2.2.2.2.2.1
theorem dz_X.x (X : dz_X p s m args meth c G y0 cc nL ret tb A) : p.tables.exec = Jvm.exec := X.1.1
theorem dz_X.b (X : dz_X p s m args meth c G y0 cc nL ret tb A) : c.code = cc := X.1.2.1
theorem dz_X.own (X : dz_X p s m args meth c G y0 cc nL ret tb A) : s.vm.findClass y0.cls = some m.cls := X.1.2.2.2.1
theorem dz_X.ts (X : dz_X p s m args meth c G y0 cc nL ret tb A) : ∀ w ∈ lw_all, w.before args s = true := X.1.2.2.2.2
theorem dz_X.nw (X : dz_X p s m args meth c G y0 cc nL ret tb A) {w : Cond} (h : w ∈ lw_tbl) (g : isNw w = true) : va_Nw w s := X.ev.2.1 w h g
theorem dz_X.st (X : dz_X p s m args meth c G y0 cc nL ret tb A) : dz_St G.2.2.1 G.2.2.2 s s.heap := X.ev.2.2.2.2.2.2.2
theorem dz_S2 (X : dz_X p s m args meth c G y0 cc nL ret tb A) (h : dz_O G.1 dz_CL A s.heap ww H locs) : va_S (fun q => G.2.2.2 ≤ q) s.heap H locs := ⟨h.2.2.1, fun q h1 h2 => h.2.2.2.1 q h1 (fun z => h2 (X.hB q z)), fun q hq => X.hB _ (h.2.2.2.2 q hq)⟩
theorem dz_same (X : dz_X p s m args meth c G y0 cc nL ret tb A) {ref O n d : String} (h : ref = O ∨ Cond.sameField ref O n d ∈ lw_all) : ∀ x, s.fieldFound? O n d = some x → s.fieldFound? ref n d = some x := by
  rcases h with h | h
  · subst h; exact fun _ z => z
  · exact u_same (X.ts _ h)
theorem dz_one {D : va_G} {cl : List vw_C} {q : Nat × va_E} (h : va_at D cl q H) : va_P D cl [q] H := by
  intro k x hx
  have hz : k < 1 := (List.getElem?_eq_some_iff.mp hx).1
  rw [show k = 0 by omega] at hx
  cases hx
  exact h
theorem dz_rc (X : dz_X p s m args meth c G y0 cc nL ret tb A) {ci : Nat} {fs : List Value} (h : va_at G.1 dz_CL (a, .inr (ci, fs)) H) {r : vw_C} (hc : dz_CL[ci]? = some r) : ∃ cell : Cell, H[a]? = some cell ∧ cell.vm.isStatics = false ∧ s.vm.findClass r.1 = some cell.cls := va_recv (q0 := 0) X.K (dz_one h) hc rfl
theorem dz_rO {E : String} {t : Nat} (X : dz_X p s m args meth c G y0 cc nL ret tb A) (h : dz_O G.1 dz_CL A s.heap ww H locs) (hO : va_O E t (fun q => G.2.2.2 ≤ q) s s.heap) : ∃ cell : Cell, H[t]? = some cell ∧ cell.vm.isStatics = false ∧ s.vm.findClass E = some cell.cls := va_Orecv hO (dz_S2 X h)
/-! fields -/
theorem dz_get (X : dz_X p s m args meth c G y0 cc nL ret tb A) {ref C : String} {T : u_T} {N ci index : Nat} {fs : List Value} (hat : va_at G.1 dz_CL (a, .inr (ci, fs)) H) (hin : ∀ w ∈ u_ws C T N, w ∈ lw_all) (hc : dz_CL[ci]? = some (C, T, N)) (k : Nat) (hk : k < N) (hlink : Cond.fieldLink y0.cls index ref (T k).2.1 (T k).2.2.1 ∈ lw_all) (hsame : ref = (T k).1 ∨ Cond.sameField ref (T k).1 (T k).2.1 (T k).2.2.1 ∈ lw_all) {v : Value} (hv : fs[k]? = some v) (hdg : decode cc pc = .ok (.getfield index, 3))
    (kk : W p l e R s m args below meth c H locs cells slots Q (F0 m (pc + 3) ls (v :: rest))) : W p l e R s m args below meth c H locs cells slots Q (F0 m pc ls (.ref a :: rest)) :=
  va_get (D := G.1) (ci := ci) (v := v) X.x X.b X.ts hin X.own X.K (dz_one hat) 0 rfl hc k hk (X.ts _ hlink) (dz_same X hsame) hv hdg kk
theorem dz_getN (X : dz_X p s m args meth c G y0 cc nL ret tb A) {ref C host : String} {T : u_T} {N ci index : Nat} {fs : List Value} (hat : va_at G.1 dz_CL (a, .inr (ci, fs)) H) (hin : ∀ w ∈ u_ws C T N, w ∈ lw_all) (hc : dz_CL[ci]? = some (C, T, N)) (k : Nat) (hk : k < N) (hlink : Cond.fieldLinkNest y0.cls index ref (T k).2.1 (T k).2.2.1 host ∈ lw_tbl) (hsame : ref = (T k).1 ∨ Cond.sameField ref (T k).1 (T k).2.1 (T k).2.2.1 ∈ lw_all) {v : Value} (hv : fs[k]? = some v) (hdg : decode cc pc = .ok (.getfield index, 3))
    (kk : W p l e R s m args below meth c H locs cells slots Q (F0 m (pc + 3) ls (v :: rest))) : W p l e R s m args below meth c H locs cells slots Q (F0 m pc ls (.ref a :: rest)) :=
  va_getN (D := G.1) (ci := ci) (v := v) X.x X.b X.ts hin X.own X.K (dz_one hat) 0 rfl hc k hk (va_Nw.use rfl (X.nw hlink rfl)) (dz_same X hsame) hv hdg kk
theorem dz_putA (X : dz_X p s m args meth c G y0 cc nL ret tb A) {ref C : String} {T : u_T} {N ci index : Nat} {fs : List Value} (hat : va_at G.1 dz_CL (a, .inr (ci, fs)) H) (hin : ∀ w ∈ u_ws C T N, w ∈ lw_all) (ty0 : Nat → FieldType) (hty : ∀ k, k < N → parseFieldDescriptor (T k).2.2.1 = some (ty0 k)) (hnm : ∀ a, a < N → ∀ b, b < N → a ≠ b → (T a).2.1 ≠ (T b).2.1) (hc : dz_CL[ci]? = some (C, T, N)) (k : Nat) (hk : k < N) (hlink : Cond.fieldLink y0.cls index ref (T k).2.1 (T k).2.2.1 ∈ lw_all) (hsame : ref = (T k).1 ∨ Cond.sameField ref (T k).1 (T k).2.1 (T k).2.2.1 ∈ lw_all) (hfin : (T k).2.2.2 = false ∨ (y0.name = "<init>" ∧ (T k).1 = y0.cls ∧ (T k).2.2.2 = true)) {v : Value} (hn : narrow (ty0 k) v = v) (hfit : fits (ty0 k) v = true) (hl : k < fs.length)
    (hdg : decode cc pc = .ok (.putfield index, 3)) (kk : ∀ (H1 : Heap) (i : Nat), va_at G.1 dz_CL (a, .inr (ci, fs.set k v)) H1 → H1.size = H.size → (∀ q : Nat, q ≠ a → H1[q]? = H[q]?) → W p l e R s m args below meth c H1 (locs ++ [⟨a, i⟩]) cells slots Q (F0 m (pc + 3) ls rest)) : W p l e R s m args below meth c H locs cells slots Q (F0 m pc ls (v :: .ref a :: rest)) := by
  have hts := X.ts
  have hK := X.K
  have hd := hty k hk
  have hap := va_apart (own := y0.cls) hts hin ty0 hty hnm hK hc
  obtain ⟨r, h1, cell, q1, q2, q3, q4⟩ := hat
  have hr : r = (C, T, N) := Option.some.inj (h1.symm.trans hc)
  subst hr
  obtain ⟨hS, hfc, kC, hkC, hkind⟩ := hK.1 ci _ hc
  obtain ⟨cf, kf, fi, f, hi, hsl⟩ := hS k hk
  have hlay := hts _ (hin _ (u_in_lay hk))
  have hst := (u_facts hfc hkC (u_lays hts hin hk) hi).1
  rcases hfin with hfin | ⟨hin2, hdecl, hfin⟩
  · unfold u_lay at hlay
    rw [if_neg (by rw [hfin]; decide)] at hlay
    have h6 := u_store hfc hkC hkind hlay hi hd hn hfit
    refine W.putK X.x X.b (f := f) ⟨X.own, hts _ hlink, ⟨_, _, _, dz_same X hsame _ hi⟩, hst⟩ (by rw [q2]; exact h6) q1 q3 (by rw [hsl]; exact k2_hasslot (q4 k hk)) rfl rfl hdg fun H' e1 e2 e3 => ?_
    rw [hsl] at e1 ⊢
    exact kk H' _ ⟨_, hc, t_OB.to (V := updV (vp_V fs) k v) ⟨_, e1, q2, q3, t_set q4 hap hk v⟩ (fun j _ => vp_updV_set hl v j)⟩ e2 e3
  · unfold u_lay at hlay
    rw [if_pos hfin] at hlay
    have hcf : m.cls = cf := by
      obtain ⟨_, _, c', _, _, _, -, -, hf', -, -, -, hown2, -⟩ := Cond.laysFinal_spec hlay
      have e1 : c' = cf := by have := hi.symm.trans hf'; simp at this; exact this.1.symm
      rw [hdecl] at hown2
      rw [← e1]; exact Option.some.inj (X.own.symm.trans hown2)
    have h6 := u_fits hfc hkC hkind (Or.inr hlay) hi hd hn hfit
    refine W.putFinK X.x X.b X.own (hts _ hlink) (dz_same X hsame _ hi) hst hcf (X.2.2.2.1.trans hin2) (by rw [q2]; exact h6) q1 q3 (by rw [hsl]; exact k2_hasslot (q4 k hk)) rfl rfl hdg fun H' e1 e2 e3 => ?_
    rw [hsl] at e1 ⊢
    exact kk H' _ ⟨_, hc, t_OB.to (V := updV (vp_V fs) k v) ⟨_, e1, q2, q3, t_set q4 hap hk v⟩ (fun j _ => vp_updV_set hl v j)⟩ e2 e3
theorem dz_putNA (X : dz_X p s m args meth c G y0 cc nL ret tb A) {ref C host : String} {T : u_T} {N ci index : Nat} {fs : List Value} (hat : va_at G.1 dz_CL (a, .inr (ci, fs)) H) (hin : ∀ w ∈ u_ws C T N, w ∈ lw_all) (ty0 : Nat → FieldType) (hty : ∀ k, k < N → parseFieldDescriptor (T k).2.2.1 = some (ty0 k)) (hnm : ∀ a, a < N → ∀ b, b < N → a ≠ b → (T a).2.1 ≠ (T b).2.1) (hc : dz_CL[ci]? = some (C, T, N)) (k : Nat) (hk : k < N) (hlink : Cond.fieldLinkNest y0.cls index ref (T k).2.1 (T k).2.2.1 host ∈ lw_tbl) (hsame : ref = (T k).1 ∨ Cond.sameField ref (T k).1 (T k).2.1 (T k).2.2.1 ∈ lw_all) (hfin : (T k).2.2.2 = false) {v : Value} (hn : narrow (ty0 k) v = v) (hfit : fits (ty0 k) v = true) (hl : k < fs.length)
    (hdg : decode cc pc = .ok (.putfield index, 3)) (kk : ∀ (H1 : Heap) (i : Nat), va_at G.1 dz_CL (a, .inr (ci, fs.set k v)) H1 → H1.size = H.size → (∀ q : Nat, q ≠ a → H1[q]? = H[q]?) → W p l e R s m args below meth c H1 (locs ++ [⟨a, i⟩]) cells slots Q (F0 m (pc + 3) ls rest)) : W p l e R s m args below meth c H locs cells slots Q (F0 m pc ls (v :: .ref a :: rest)) := by
  have hts := X.ts
  have hK := X.K
  have hd := hty k hk
  have hap := va_apart (own := y0.cls) hts hin ty0 hty hnm hK hc
  obtain ⟨r, h1, cell, q1, q2, q3, q4⟩ := hat
  have hr : r = (C, T, N) := Option.some.inj (h1.symm.trans hc)
  subst hr
  obtain ⟨hS, hfc, kC, hkC, hkind⟩ := hK.1 ci _ hc
  obtain ⟨cf, kf, fi, f, hi, hsl⟩ := hS k hk
  have hlay := hts _ (hin _ (u_in_lay hk))
  have hst := (u_facts hfc hkC (u_lays hts hin hk) hi).1
  unfold u_lay at hlay
  rw [if_neg (by rw [hfin]; decide)] at hlay
  have h6 := u_store hfc hkC hkind hlay hi hd hn hfit
  refine va_WputK X.x X.b (f := f) X.own (va_Nw.use rfl (X.nw hlink rfl)) (dz_same X hsame _ hi) hst (by rw [q2]; exact h6) q1 q3 (by rw [hsl]; exact k2_hasslot (q4 k hk)) rfl rfl hdg fun H' e1 e2 e3 => ?_
  rw [hsl] at e1 ⊢
  exact kk H' _ ⟨_, hc, t_OB.to (V := updV (vp_V fs) k v) ⟨_, e1, q2, q3, t_set q4 hap hk v⟩ (fun j _ => vp_updV_set hl v j)⟩ e2 e3
/-- putfield on an object that is a part of its own -/
theorem dz_put (X : dz_X p s m args meth c G y0 cc nL ret tb A) {ref C : String} {T : u_T} {N ci index : Nat} {fs : List Value} (h : dz_O G.1 dz_CL A s.heap ww H locs) (q0 : Nat) (he : ww[q0]? = some [(a, .inr (ci, fs))]) (hin : ∀ w ∈ u_ws C T N, w ∈ lw_all) (ty0 : Nat → FieldType) (hty : ∀ k, k < N → parseFieldDescriptor (T k).2.2.1 = some (ty0 k)) (hnm : ∀ a, a < N → ∀ b, b < N → a ≠ b → (T a).2.1 ≠ (T b).2.1) (hc : dz_CL[ci]? = some (C, T, N)) (k : Nat) (hk : k < N) (hlink : Cond.fieldLink y0.cls index ref (T k).2.1 (T k).2.2.1 ∈ lw_all) (hsame : ref = (T k).1 ∨ Cond.sameField ref (T k).1 (T k).2.1 (T k).2.2.1 ∈ lw_all) (hfin : (T k).2.2.2 = false ∨ (y0.name = "<init>" ∧ (T k).1 = y0.cls ∧ (T k).2.2.2 = true)) {v : Value} (hn : narrow (ty0 k) v = v) (hfit : fits (ty0 k) v = true) (hl : k < fs.length)
    (hdg : decode cc pc = .ok (.putfield index, 3)) (kk : ∀ (H1 : Heap) (locs1 : List Loc), dz_O G.1 dz_CL A s.heap (ww.set q0 [(a, .inr (ci, fs.set k v))]) H1 locs1 → W p l e R s m args below meth c H1 locs1 cells slots Q (F0 m (pc + 3) ls rest)) : W p l e R s m args below meth c H locs cells slots Q (F0 m pc ls (v :: .ref a :: rest)) :=
  dz_putA X (h.at1 q0 he) hin ty0 hty hnm hc k hk hlink hsame hfin hn hfit hl hdg fun H1 i g z oq => kk H1 _ (h.put1 he g z oq)
theorem dz_putN (X : dz_X p s m args meth c G y0 cc nL ret tb A) {ref C host : String} {T : u_T} {N ci index : Nat} {fs : List Value} (h : dz_O G.1 dz_CL A s.heap ww H locs) (q0 : Nat) (he : ww[q0]? = some [(a, .inr (ci, fs))]) (hin : ∀ w ∈ u_ws C T N, w ∈ lw_all) (ty0 : Nat → FieldType) (hty : ∀ k, k < N → parseFieldDescriptor (T k).2.2.1 = some (ty0 k)) (hnm : ∀ a, a < N → ∀ b, b < N → a ≠ b → (T a).2.1 ≠ (T b).2.1) (hc : dz_CL[ci]? = some (C, T, N)) (k : Nat) (hk : k < N) (hlink : Cond.fieldLinkNest y0.cls index ref (T k).2.1 (T k).2.2.1 host ∈ lw_tbl) (hsame : ref = (T k).1 ∨ Cond.sameField ref (T k).1 (T k).2.1 (T k).2.2.1 ∈ lw_all) (hfin : (T k).2.2.2 = false) {v : Value} (hn : narrow (ty0 k) v = v) (hfit : fits (ty0 k) v = true) (hl : k < fs.length)
    (hdg : decode cc pc = .ok (.putfield index, 3)) (kk : ∀ (H1 : Heap) (locs1 : List Loc), dz_O G.1 dz_CL A s.heap (ww.set q0 [(a, .inr (ci, fs.set k v))]) H1 locs1 → W p l e R s m args below meth c H1 locs1 cells slots Q (F0 m (pc + 3) ls rest)) : W p l e R s m args below meth c H locs cells slots Q (F0 m pc ls (v :: .ref a :: rest)) :=
  dz_putNA X (h.at1 q0 he) hin ty0 hty hnm hc k hk hlink hsame hfin hn hfit hl hdg fun H1 i g z oq => kk H1 _ (h.put1 he g z oq)
/-! a pool: n cells by their numbers -/
def dz_pn (n : Nat) (f : Nat → Nat × va_E) : va_W := (List.range n).map f
theorem dz_pn_mem {n : Nat} {f : Nat → Nat × va_E} {i : Nat} (h : i < n) : f i ∈ dz_pn n f := List.mem_map.mpr ⟨i, List.mem_range.mpr h, rfl⟩
theorem dz_pn_cong {n : Nat} {f g : Nat → Nat × va_E} (h : ∀ i, i < n → f i = g i) : dz_pn n f = dz_pn n g := List.map_congr_left fun i hi => h i (List.mem_range.mp hi)
theorem dz_pn_succ (n : Nat) (f : Nat → Nat × va_E) : dz_pn (n + 1) f = dz_pn n f ++ [f n] := by simp [dz_pn, List.range_succ]
theorem dz_O.pn (h : dz_O G.1 dz_CL A s.heap ww H locs) (k : Nat) {n : Nat} {f : Nat → Nat × va_E} (hk : ww[k]? = some (dz_pn n f)) {i : Nat} (hi : i < n) : va_at G.1 dz_CL (f i) H := h.1 _ (dz_mem hk (dz_pn_mem hi))
theorem dz_O.inj (h : dz_O G.1 dz_CL A s.heap ww H locs) (k : Nat) {n : Nat} {f : Nat → Nat × va_E} (hk : ww[k]? = some (dz_pn n f)) {i j : Nat} (hi : i < n) (hj : j < n) (e : (f i).1 = (f j).1) : i = j := by
  have h1 := h.2.1.1
  rw [dz_split hk, List.map_append, List.map_append, List.nodup_append] at h1
  have h2 := h1.2.1
  rw [List.nodup_append] at h2
  have h3 := h2.1
  have e1 : (dz_pn n f).map (·.1) = (List.range n).map (fun i => (f i).1) := by simp [dz_pn]
  rw [e1] at h3
  have g1 : ((List.range n).map (fun i => (f i).1))[i]? = some (f i).1 := by simp [hi]
  have g2 : ((List.range n).map (fun i => (f i).1))[j]? = some (f j).1 := by simp [hj]
  exact (List.getElem?_inj (by simpa using hi) h3).mp (g1.trans (by rw [e]; exact g2.symm))
/-- an entry of a pool written -/
theorem dz_O.pnput (h : dz_O G.1 dz_CL A s.heap ww H locs) {k n : Nat} {f : Nat → Nat × va_E} (hk : ww[k]? = some (dz_pn n f)) {i j : Nat} (hi : i < n) {e : va_E} {H1 : Heap} (hat : va_at G.1 dz_CL ((f i).1, e) H1) (z : H1.size = H.size) (oq : ∀ q : Nat, q ≠ (f i).1 → H1[q]? = H[q]?) : dz_O G.1 dz_CL A s.heap (ww.set k (dz_pn n (va_up f i ((f i).1, e)))) H1 (locs ++ [⟨(f i).1, j⟩]) := by
  refine h.putL hk (a := (f i).1) (List.mem_map.mpr ⟨f i, dz_pn_mem hi, rfl⟩) ?_ ?_ z oq
  · simp only [dz_pn, List.map_map]
    refine List.map_congr_left fun t _ => ?_
    show (va_up f i ((f i).1, e) t).1 = (f t).1
    by_cases ht : t = i
    · subst ht; rw [va_up_self]
    · rw [va_up_ne _ _ ht]
  · intro q hq
    obtain ⟨t, ht, rfl⟩ := List.mem_map.mp hq
    have htn := List.mem_range.mp ht
    by_cases hti : t = i
    · subst hti
      rw [va_up_self]
      exact ⟨fun z => absurd rfl z, fun _ => hat⟩
    · rw [va_up_ne _ _ hti]
      exact ⟨fun _ => dz_pn_mem htn, fun z => absurd (h.inj k hk htn hi z) hti⟩
end DZR
theorem dz_ix {i : Int32} {j n : Nat} (hi : i = nI j) (hj : j < n) (hn : n < 2147483648) : vp_in i n ∧ i.toNatClampNeg = j := by
  subst hi
  exact ⟨vp_in_nI hj hn, nI_clamp (Nat.lt_trans hj hn)⟩
theorem dz_bytes {j k : Nat} (h : j ≤ 1000000) (hk : k ≤ 8) : j * k ≤ 536870912 := Nat.le_trans (Nat.mul_le_mul h hk) (by decide)
def dz_abs (x : Int32) : Int32 := if 0 ≤ x then x else 0 - x
def dz_max (x y : Int32) : Int32 := if x < y then y else x
def dz_min (x y : Int32) : Int32 := if y < x then y else x
section DZA
variable {p : Program} {l : Launch} {e : Env} {R : Room} {s : State} {m : MethodId} {args : Array Value} {below : List Frame} {meth : Method} {c : Code} {H : Heap} {locs : List Loc} {cells slots : Nat} {Q : State → Prop} {pc : Nat} {ls : Array Slot} {rest : List Value} {G : dz_G} {nL : Nat} {y0 : MethodName} {cc : ByteArray} {ret : Option FieldType} {tb : List ExceptionTableEntry} {A : Nat → Prop} {ww : dz_W} {lv : List (Nat × Value)} {a : Nat}
theorem dz_iald (X : dz_X p s m args meth c G y0 cc nL ret tb A) {n : Nat} {f : Nat → Int32} (hat : va_at G.1 dz_CL (a, dzI G n f) H) {i : Int32} {j : Nat} (hi : i = nI j) (hj : j < n) (hn : n < 2147483648) (hdg : decode cc pc = .ok (.iaload, 1))
    (kk : W p l e R s m args below meth c H locs cells slots Q (F0 m (pc + 1) ls (.int (f j) :: rest))) : W p l e R s m args below meth c H locs cells slots Q (F0 m pc ls (.int i :: .ref a :: rest)) := by
  obtain ⟨hin, hcl⟩ := dz_ix hi hj hn
  rw [← hcl] at kk
  exact va_iald X.x X.b X.K (dz_one hat) 0 0 rfl rfl hin hdg kk
theorem dz_sald (X : dz_X p s m args meth c G y0 cc nL ret tb A) {n : Nat} {f : Nat → Int32} (hat : va_at G.1 dz_CL (a, dzS G n f) H) {i : Int32} {j : Nat} (hi : i = nI j) (hj : j < n) (hn : n < 2147483648) (hdg : decode cc pc = .ok (.saload, 1))
    (kk : W p l e R s m args below meth c H locs cells slots Q (F0 m (pc + 1) ls (.int (f j) :: rest))) : W p l e R s m args below meth c H locs cells slots Q (F0 m pc ls (.int i :: .ref a :: rest)) := by
  obtain ⟨hin, hcl⟩ := dz_ix hi hj hn
  rw [← hcl] at kk
  exact va_sald X.x X.b X.K (dz_one hat) 0 1 rfl rfl hin hdg kk
theorem dz_lald (X : dz_X p s m args meth c G y0 cc nL ret tb A) {n : Nat} {f : Nat → Int64} (hat : va_at G.1 dz_CL (a, dzJ G n f) H) {i : Int32} {j : Nat} (hi : i = nI j) (hj : j < n) (hn : n < 2147483648) (hdg : decode cc pc = .ok (.laload, 1))
    (kk : W p l e R s m args below meth c H locs cells slots Q (F0 m (pc + 1) ls (.long (f j) :: rest))) : W p l e R s m args below meth c H locs cells slots Q (F0 m pc ls (.int i :: .ref a :: rest)) := by
  obtain ⟨hin, hcl⟩ := dz_ix hi hj hn
  rw [← hcl] at kk
  exact va_lald X.x X.b X.K (dz_one hat) 0 2 rfl rfl hin hdg kk
theorem dz_zald (X : dz_X p s m args meth c G y0 cc nL ret tb A) {n : Nat} {f : Nat → Int32} (hat : va_at G.1 dz_CL (a, dzZ G n f) H) {i : Int32} {j : Nat} (hi : i = nI j) (hj : j < n) (hn : n < 2147483648) (hdg : decode cc pc = .ok (.baload, 1))
    (kk : W p l e R s m args below meth c H locs cells slots Q (F0 m (pc + 1) ls (.int (f j) :: rest))) : W p l e R s m args below meth c H locs cells slots Q (F0 m pc ls (.int i :: .ref a :: rest)) := by
  obtain ⟨hin, hcl⟩ := dz_ix hi hj hn
  rw [← hcl] at kk
  exact va_zald X.x X.b X.K (dz_one hat) 0 3 rfl rfl hin hdg kk
theorem dz_bald (X : dz_X p s m args meth c G y0 cc nL ret tb A) {n : Nat} {f : Nat → Int32} (hat : va_at G.1 dz_CL (a, dzB G n f) H) {i : Int32} {j : Nat} (hi : i = nI j) (hj : j < n) (hn : n < 2147483648) (hdg : decode cc pc = .ok (.baload, 1))
    (kk : W p l e R s m args below meth c H locs cells slots Q (F0 m (pc + 1) ls (.int (f j) :: rest))) : W p l e R s m args below meth c H locs cells slots Q (F0 m pc ls (.int i :: .ref a :: rest)) := by
  obtain ⟨hin, hcl⟩ := dz_ix hi hj hn
  rw [← hcl] at kk
  exact va_bald X.x X.b X.K (dz_one hat) 0 4 rfl rfl hin hdg kk
theorem dz_aldO (X : dz_X p s m args meth c G y0 cc nL ret tb A) {n : Nat} {f : Nat → Option Nat} (hat : va_at G.1 dz_CL (a, dzO G n f) H) {i : Int32} {j : Nat} (hi : i = nI j) (hj : j < n) (hn : n < 2147483648) (hdg : decode cc pc = .ok (.aaload, 1))
    (kk : W p l e R s m args below meth c H locs cells slots Q (F0 m (pc + 1) ls (va_rf (f j) :: rest))) : W p l e R s m args below meth c H locs cells slots Q (F0 m pc ls (.int i :: .ref a :: rest)) := by
  obtain ⟨hin, hcl⟩ := dz_ix hi hj hn
  rw [← hcl] at kk
  exact va_aldq X.x X.b X.K (dz_one hat) 0 5 rfl rfl hin hdg kk
theorem dz_aldD (X : dz_X p s m args meth c G y0 cc nL ret tb A) {n : Nat} {f : Nat → Option Nat} (hat : va_at G.1 dz_CL (a, dzD G n f) H) {i : Int32} {j : Nat} (hi : i = nI j) (hj : j < n) (hn : n < 2147483648) (hdg : decode cc pc = .ok (.aaload, 1))
    (kk : W p l e R s m args below meth c H locs cells slots Q (F0 m (pc + 1) ls (va_rf (f j) :: rest))) : W p l e R s m args below meth c H locs cells slots Q (F0 m pc ls (.int i :: .ref a :: rest)) := by
  obtain ⟨hin, hcl⟩ := dz_ix hi hj hn
  rw [← hcl] at kk
  exact va_aldq X.x X.b X.K (dz_one hat) 0 6 rfl rfl hin hdg kk
theorem dz_alen (X : dz_X p s m args meth c G y0 cc nL ret tb A) {cA : ClassId} {x : vp_A} (hat : va_at G.1 dz_CL (a, .inl (cA, x)) H) (t0 : Nat) {ty : FieldType} (ht : (dz_TY G.2.1)[t0]? = some (cA, ty)) {v : Int32} (hv : Int32.ofNat x.1 = v) (hdg : decode cc pc = .ok (.arraylength, 1))
    (kk : W p l e R s m args below meth c H locs cells slots Q (F0 m (pc + 1) ls (.int v :: rest))) : W p l e R s m args below meth c H locs cells slots Q (F0 m pc ls (.ref a :: rest)) :=
  va_alen X.x X.b X.K (dz_one hat) 0 t0 rfl ht hv hdg kk
theorem dz_iast (X : dz_X p s m args meth c G y0 cc nL ret tb A) (h : dz_O G.1 dz_CL A s.heap ww H locs) (q0 : Nat) {n : Nat} {f : Nat → Int32} (he : ww[q0]? = some [(a, dzI G n f)]) {i : Int32} {x : Int32} {j : Nat} (hi : i = nI j) (hj : j < n) (hn : n < 2147483648) (hdg : decode cc pc = .ok (.iastore, 1))
    (kk : ∀ (H1 : Heap) (locs1 : List Loc), dz_O G.1 dz_CL A s.heap (ww.set q0 [(a, dzI G n (upd f j x))]) H1 locs1 → W p l e R s m args below meth c H1 locs1 cells slots Q (F0 m (pc + 1) ls rest)) : W p l e R s m args below meth c H locs cells slots Q (F0 m pc ls (.int x :: .int i :: .ref a :: rest)) := by
  obtain ⟨hin, hcl⟩ := dz_ix hi hj hn
  rw [← hcl] at kk
  refine W.iast X.x X.b (h.at1 q0 he) ((X.K.2 0 _ rfl).1 n (fun j => .int (f j))) (fun q => by cases q) (by show ¬ (i < 0 ∨ (arrV _ _ _).slots.size ≤ _); rw [arrV_size]; exact hin) rfl rfl hdg fun H1 e z oq => ?_
  refine kk H1 _ (h.put1 he ?_ z oq)
  show H1[a]? = some (vp_cell _ _)
  rw [e]
  rw [vp_cell_i, vp_cell_i, arrV_store]
  congr 2
  funext q
  by_cases hq : q = i.toNatClampNeg
  · subst hq
    simp [updV, upd]
    try rfl
  · simp [updV, upd, hq]
theorem dz_sast (X : dz_X p s m args meth c G y0 cc nL ret tb A) (h : dz_O G.1 dz_CL A s.heap ww H locs) (q0 : Nat) {n : Nat} {f : Nat → Int32} (he : ww[q0]? = some [(a, dzS G n f)]) {i : Int32} {x : Int32} {j : Nat} (hi : i = nI j) (hj : j < n) (hn : n < 2147483648) (hdg : decode cc pc = .ok (.sastore, 1))
    (kk : ∀ (H1 : Heap) (locs1 : List Loc), dz_O G.1 dz_CL A s.heap (ww.set q0 [(a, dzS G n (upd f j (vp_nar .short x)))]) H1 locs1 → W p l e R s m args below meth c H1 locs1 cells slots Q (F0 m (pc + 1) ls rest)) : W p l e R s m args below meth c H locs cells slots Q (F0 m pc ls (.int x :: .int i :: .ref a :: rest)) := by
  obtain ⟨hin, hcl⟩ := dz_ix hi hj hn
  rw [← hcl] at kk
  refine W.sast X.x X.b (h.at1 q0 he) ((X.K.2 1 _ rfl).1 n (fun j => .int (f j))) (fun q => by cases q) (by show ¬ (i < 0 ∨ (arrV _ _ _).slots.size ≤ _); rw [arrV_size]; exact hin) rfl rfl hdg fun H1 e z oq => ?_
  refine kk H1 _ (h.put1 he ?_ z oq)
  show H1[a]? = some (vp_cell _ _)
  rw [e]
  rw [vp_cell_i, vp_cell_i, arrV_store]
  congr 2
  funext q
  by_cases hq : q = i.toNatClampNeg
  · subst hq
    simp [updV, upd, vp_nar]
    try rfl
  · simp [updV, upd, vp_nar, hq]
theorem dz_zast (X : dz_X p s m args meth c G y0 cc nL ret tb A) (h : dz_O G.1 dz_CL A s.heap ww H locs) (q0 : Nat) {n : Nat} {f : Nat → Int32} (he : ww[q0]? = some [(a, dzZ G n f)]) {i : Int32} {x : Int32} {j : Nat} (hi : i = nI j) (hj : j < n) (hn : n < 2147483648) (hdg : decode cc pc = .ok (.bastore, 1))
    (kk : ∀ (H1 : Heap) (locs1 : List Loc), dz_O G.1 dz_CL A s.heap (ww.set q0 [(a, dzZ G n (upd f j (vp_nar .boolean x)))]) H1 locs1 → W p l e R s m args below meth c H1 locs1 cells slots Q (F0 m (pc + 1) ls rest)) : W p l e R s m args below meth c H locs cells slots Q (F0 m pc ls (.int x :: .int i :: .ref a :: rest)) := by
  obtain ⟨hin, hcl⟩ := dz_ix hi hj hn
  rw [← hcl] at kk
  refine W.zast X.x X.b (h.at1 q0 he) ((X.K.2 3 _ rfl).1 n (fun j => .int (f j))) (fun q => by cases q) (by show ¬ (i < 0 ∨ (arrV _ _ _).slots.size ≤ _); rw [arrV_size]; exact hin) rfl rfl hdg fun H1 e z oq => ?_
  refine kk H1 _ (h.put1 he ?_ z oq)
  show H1[a]? = some (vp_cell _ _)
  rw [e]
  rw [vp_cell_i, vp_cell_i, arrV_store]
  congr 2
  funext q
  by_cases hq : q = i.toNatClampNeg
  · subst hq
    simp [updV, upd, vp_nar]
    try rfl
  · simp [updV, upd, vp_nar, hq]
theorem dz_bast (X : dz_X p s m args meth c G y0 cc nL ret tb A) (h : dz_O G.1 dz_CL A s.heap ww H locs) (q0 : Nat) {n : Nat} {f : Nat → Int32} (he : ww[q0]? = some [(a, dzB G n f)]) {i : Int32} {x : Int32} {j : Nat} (hi : i = nI j) (hj : j < n) (hn : n < 2147483648) (hdg : decode cc pc = .ok (.bastore, 1))
    (kk : ∀ (H1 : Heap) (locs1 : List Loc), dz_O G.1 dz_CL A s.heap (ww.set q0 [(a, dzB G n (upd f j (vp_nar .byte x)))]) H1 locs1 → W p l e R s m args below meth c H1 locs1 cells slots Q (F0 m (pc + 1) ls rest)) : W p l e R s m args below meth c H locs cells slots Q (F0 m pc ls (.int x :: .int i :: .ref a :: rest)) := by
  obtain ⟨hin, hcl⟩ := dz_ix hi hj hn
  rw [← hcl] at kk
  refine W.bast X.x X.b (h.at1 q0 he) ((X.K.2 4 _ rfl).1 n (fun j => .int (f j))) (fun q => by cases q) (by show ¬ (i < 0 ∨ (arrV _ _ _).slots.size ≤ _); rw [arrV_size]; exact hin) rfl rfl hdg fun H1 e z oq => ?_
  refine kk H1 _ (h.put1 he ?_ z oq)
  show H1[a]? = some (vp_cell _ _)
  rw [e]
  rw [vp_cell_i, vp_cell_i, arrV_store]
  congr 2
  funext q
  by_cases hq : q = i.toNatClampNeg
  · subst hq
    simp [updV, upd, vp_nar]
    try rfl
  · simp [updV, upd, vp_nar, hq]
theorem dz_last (X : dz_X p s m args meth c G y0 cc nL ret tb A) (h : dz_O G.1 dz_CL A s.heap ww H locs) (q0 : Nat) {n : Nat} {f : Nat → Int64} (he : ww[q0]? = some [(a, dzJ G n f)]) {i : Int32} {x : Int64} {j : Nat} (hi : i = nI j) (hj : j < n) (hn : n < 2147483648) (hdg : decode cc pc = .ok (.lastore, 1))
    (kk : ∀ (H1 : Heap) (locs1 : List Loc), dz_O G.1 dz_CL A s.heap (ww.set q0 [(a, dzJ G n (vp_updL f j x))]) H1 locs1 → W p l e R s m args below meth c H1 locs1 cells slots Q (F0 m (pc + 1) ls rest)) : W p l e R s m args below meth c H locs cells slots Q (F0 m pc ls (.long x :: .int i :: .ref a :: rest)) := by
  obtain ⟨hin, hcl⟩ := dz_ix hi hj hn
  rw [← hcl] at kk
  refine W.last X.x X.b (h.at1 q0 he) ((X.K.2 2 _ rfl).1 n (fun j => .long (f j))) (fun q => by cases q) (by show ¬ (i < 0 ∨ (arrV _ _ _).slots.size ≤ _); rw [arrV_size]; exact hin) rfl rfl hdg fun H1 e z oq => ?_
  refine kk H1 _ (h.put1 he ?_ z oq)
  show H1[a]? = some (vp_cell _ _)
  rw [e]
  rw [vp_cell_l, vp_cell_l, arrV_store]
  congr 2
  funext q
  by_cases hq : q = i.toNatClampNeg
  · subst hq
    simp [updV, vp_updL]
    try rfl
  · simp [updV, vp_updL, hq]
theorem dz_anyC (X : dz_X p s m args meth c G y0 cc nL ret tb A) {ci : Nat} {fs : List Value} {E : String} {v : Nat} {r : vw_C} (hat : va_at G.1 dz_CL (v, .inr (ci, fs)) H) (hc : dz_CL[ci]? = some r) (hw : Cond.castable r.1 E ∈ lw_tbl) : va_Any E s H v := by
  refine va_rAny X.K (dz_one hat) (q0 := 0) rfl hc (fun comp c0 h1 h2 => ?_)
  obtain ⟨c1, t1, f1, f2, f3⟩ := Cond.castable_spec (va_Nw.use (A := args) rfl (X.nw hw rfl))
  cases h2.symm.trans f1
  cases h1.symm.trans f2
  exact f3
theorem dz_anyO (X : dz_X p s m args meth c G y0 cc nL ret tb A) (h : dz_O G.1 dz_CL A s.heap ww H locs) {E F : String} {v : Nat} (hO : va_O E v (fun q => G.2.2.2 ≤ q) s s.heap) (hw : E = F ∨ Cond.castable E F ∈ lw_tbl) : va_Any F s H v := by
  obtain ⟨cell, h1, h2, h3⟩ := dz_rO X h hO
  obtain ⟨kC, hkC, -⟩ := Vm.findClass_spec h3
  refine ⟨cell, h1, h2, ⟨kC, hkC⟩, fun comp h4 => ?_⟩
  rcases hw with hw | hw
  · subst hw
    cases h4.symm.trans h3
    exact va_asg _ _
  · obtain ⟨c1, t1, f1, f2, f3⟩ := Cond.castable_spec (va_Nw.use (A := args) rfl (X.nw hw rfl))
    cases h3.symm.trans f1
    cases h4.symm.trans f2
    exact f3
theorem dz_aastO (X : dz_X p s m args meth c G y0 cc nL ret tb A) (h : dz_O G.1 dz_CL A s.heap ww H locs) (q0 : Nat) {n v : Nat} {f : Nat → Option Nat} (he : ww[q0]? = some [(a, dzO G n f)]) (hr : va_Any "java/lang/Object" s H v) {i : Int32} {j : Nat} (hi : i = nI j) (hj : j < n) (hn : n < 2147483648) (hdg : decode cc pc = .ok (.aastore, 1))
    (kk : ∀ (H1 : Heap) (locs1 : List Loc), dz_O G.1 dz_CL A s.heap (ww.set q0 [(a, dzO G n (va_up f j (some v)))]) H1 locs1 → W p l e R s m args below meth c H1 locs1 cells slots Q (F0 m (pc + 1) ls rest)) : W p l e R s m args below meth c H locs cells slots Q (F0 m pc ls (.ref v :: .int i :: .ref a :: rest)) := by
  obtain ⟨hin, hcl⟩ := dz_ix hi hj hn
  rw [← hcl] at kk
  have hlt : i.toNatClampNeg < n := Nat.not_le.mp fun q => hin (Or.inr q)
  have h0 : ¬ i < 0 := fun q => hin (Or.inl q)
  obtain ⟨cellV, g1, g3, ⟨kC, hkC⟩, hasg⟩ := hr
  obtain ⟨kA, comp, k1, k2, k3, -⟩ := (X.K.2 5 _ rfl).2
  obtain ⟨kE, hkE, -⟩ := Vm.findClass_spec k3
  refine W.aast X.x X.b (h.at1 q0 he) (fun q h => by cases h) (fun h => by cases h) k1 k2 rfl hkE ⟨h0, by show _ < (arrV _ _ _).slots.size; rw [arrV_size]; exact hlt⟩ g1 (fun q h => by rw [h] at g3; cases g3) hkC (hasg _ k3) rfl rfl hdg fun H1 e z oq => ?_
  refine kk H1 _ (h.put1 he ?_ z oq)
  show H1[a]? = some (vp_cell _ _)
  rw [e]
  rw [vp_cell_q, vp_cell_q, arrV_store]
  congr 2
  funext q
  by_cases hq : q = i.toNatClampNeg
  · subst hq
    simp [updV, va_up, va_rf]
  · simp [updV, va_up, hq]
theorem dz_aastNO (X : dz_X p s m args meth c G y0 cc nL ret tb A) (h : dz_O G.1 dz_CL A s.heap ww H locs) (q0 : Nat) {n : Nat} {f : Nat → Option Nat} (he : ww[q0]? = some [(a, dzO G n f)]) {i : Int32} {j : Nat} (hi : i = nI j) (hj : j < n) (hn : n < 2147483648) (hdg : decode cc pc = .ok (.aastore, 1))
    (kk : ∀ (H1 : Heap) (locs1 : List Loc), dz_O G.1 dz_CL A s.heap (ww.set q0 [(a, dzO G n (va_up f j none))]) H1 locs1 → W p l e R s m args below meth c H1 locs1 cells slots Q (F0 m (pc + 1) ls rest)) : W p l e R s m args below meth c H locs cells slots Q (F0 m pc ls (.null :: .int i :: .ref a :: rest)) := by
  obtain ⟨hin, hcl⟩ := dz_ix hi hj hn
  rw [← hcl] at kk
  refine va_WaastN (C := "java/lang/Object") X.x X.b (h.at1 q0 he) ((X.K.2 5 _ rfl).1 n (fun j => va_rf (f j))) (fun h => by cases h) (by show ¬ (i < 0 ∨ (arrV _ _ _).slots.size ≤ _); rw [arrV_size]; exact hin) rfl rfl hdg fun H1 e z oq => ?_
  refine kk H1 _ (h.put1 he ?_ z oq)
  show H1[a]? = some (vp_cell _ _)
  rw [e]
  rw [vp_cell_q, vp_cell_q, arrV_store]
  congr 2
  funext q
  by_cases hq : q = i.toNatClampNeg
  · subst hq
    simp [updV, va_up, va_rf]
  · simp [updV, va_up, hq]
theorem dz_aastD (X : dz_X p s m args meth c G y0 cc nL ret tb A) (h : dz_O G.1 dz_CL A s.heap ww H locs) (q0 : Nat) {n v : Nat} {f : Nat → Option Nat} (he : ww[q0]? = some [(a, dzD G n f)]) (hr : va_Any "Deed" s H v) {i : Int32} {j : Nat} (hi : i = nI j) (hj : j < n) (hn : n < 2147483648) (hdg : decode cc pc = .ok (.aastore, 1))
    (kk : ∀ (H1 : Heap) (locs1 : List Loc), dz_O G.1 dz_CL A s.heap (ww.set q0 [(a, dzD G n (va_up f j (some v)))]) H1 locs1 → W p l e R s m args below meth c H1 locs1 cells slots Q (F0 m (pc + 1) ls rest)) : W p l e R s m args below meth c H locs cells slots Q (F0 m pc ls (.ref v :: .int i :: .ref a :: rest)) := by
  obtain ⟨hin, hcl⟩ := dz_ix hi hj hn
  rw [← hcl] at kk
  have hlt : i.toNatClampNeg < n := Nat.not_le.mp fun q => hin (Or.inr q)
  have h0 : ¬ i < 0 := fun q => hin (Or.inl q)
  obtain ⟨cellV, g1, g3, ⟨kC, hkC⟩, hasg⟩ := hr
  obtain ⟨kA, comp, k1, k2, k3, -⟩ := (X.K.2 6 _ rfl).2
  obtain ⟨kE, hkE, -⟩ := Vm.findClass_spec k3
  refine W.aast X.x X.b (h.at1 q0 he) (fun q h => by cases h) (fun h => by cases h) k1 k2 rfl hkE ⟨h0, by show _ < (arrV _ _ _).slots.size; rw [arrV_size]; exact hlt⟩ g1 (fun q h => by rw [h] at g3; cases g3) hkC (hasg _ k3) rfl rfl hdg fun H1 e z oq => ?_
  refine kk H1 _ (h.put1 he ?_ z oq)
  show H1[a]? = some (vp_cell _ _)
  rw [e]
  rw [vp_cell_q, vp_cell_q, arrV_store]
  congr 2
  funext q
  by_cases hq : q = i.toNatClampNeg
  · subst hq
    simp [updV, va_up, va_rf]
  · simp [updV, va_up, hq]
theorem dz_aastND (X : dz_X p s m args meth c G y0 cc nL ret tb A) (h : dz_O G.1 dz_CL A s.heap ww H locs) (q0 : Nat) {n : Nat} {f : Nat → Option Nat} (he : ww[q0]? = some [(a, dzD G n f)]) {i : Int32} {j : Nat} (hi : i = nI j) (hj : j < n) (hn : n < 2147483648) (hdg : decode cc pc = .ok (.aastore, 1))
    (kk : ∀ (H1 : Heap) (locs1 : List Loc), dz_O G.1 dz_CL A s.heap (ww.set q0 [(a, dzD G n (va_up f j none))]) H1 locs1 → W p l e R s m args below meth c H1 locs1 cells slots Q (F0 m (pc + 1) ls rest)) : W p l e R s m args below meth c H locs cells slots Q (F0 m pc ls (.null :: .int i :: .ref a :: rest)) := by
  obtain ⟨hin, hcl⟩ := dz_ix hi hj hn
  rw [← hcl] at kk
  refine va_WaastN (C := "Deed") X.x X.b (h.at1 q0 he) ((X.K.2 6 _ rfl).1 n (fun j => va_rf (f j))) (fun h => by cases h) (by show ¬ (i < 0 ∨ (arrV _ _ _).slots.size ≤ _); rw [arrV_size]; exact hin) rfl rfl hdg fun H1 e z oq => ?_
  refine kk H1 _ (h.put1 he ?_ z oq)
  show H1[a]? = some (vp_cell _ _)
  rw [e]
  rw [vp_cell_q, vp_cell_q, arrV_store]
  congr 2
  funext q
  by_cases hq : q = i.toNatClampNeg
  · subst hq
    simp [updV, va_up, va_rf]
  · simp [updV, va_up, hq]
theorem dz_newaI (X : dz_X p s m args meth c G y0 cc nL ret tb A) (h : dz_O G.1 dz_CL A s.heap ww H locs) {n : Int32} {j : Nat} (hi : n = nI j) (hj : j < 2147483648) (hbytes : j * componentBytes .int ≤ 536870912) (hcells : cells + 1 ≤ R.cells) (hslots : slots + j ≤ R.slots) (hdg : decode cc pc = .ok (.newarray .int, 2))
    (kk : ∀ (q : Nat) (H1 : Heap), dz_O G.1 dz_CL A s.heap (ww ++ [[(q, dzI G j (fun _ => 0))]]) H1 locs → W p l e R s m args below meth c H1 locs (cells + 1) (slots + j) Q (F0 m (pc + 2) ls (.ref q :: rest))) : W p l e R s m args below meth c H locs cells slots Q (F0 m pc ls (.int n :: rest)) := by
  have hn : ¬ n < 0 := by rw [hi]; exact nI_pos hj
  have hN : n.toNatClampNeg = j := by rw [hi]; exact nI_clamp hj
  refine va_newaK X.x X.b (atype := .int) (X.ts _ q1412) rfl hdg rfl hn hN hbytes hcells hslots rfl fun H1 cA e1 z1 o1 hAr hNm => ?_
  have hd : s.vm.findClass ("[" ++ (newarray.typeOf .int).toString) = some (G.2.1 0) := (X.K.2 0 _ rfl).2
  cases hNm.symm.trans hd
  exact kk H.size H1 (h.push X.new (e := dzI G j (fun _ => 0)) e1 z1 o1)
theorem dz_newaS (X : dz_X p s m args meth c G y0 cc nL ret tb A) (h : dz_O G.1 dz_CL A s.heap ww H locs) {n : Int32} {j : Nat} (hi : n = nI j) (hj : j < 2147483648) (hbytes : j * componentBytes .short ≤ 536870912) (hcells : cells + 1 ≤ R.cells) (hslots : slots + j ≤ R.slots) (hdg : decode cc pc = .ok (.newarray .short, 2))
    (kk : ∀ (q : Nat) (H1 : Heap), dz_O G.1 dz_CL A s.heap (ww ++ [[(q, dzS G j (fun _ => 0))]]) H1 locs → W p l e R s m args below meth c H1 locs (cells + 1) (slots + j) Q (F0 m (pc + 2) ls (.ref q :: rest))) : W p l e R s m args below meth c H locs cells slots Q (F0 m pc ls (.int n :: rest)) := by
  have hn : ¬ n < 0 := by rw [hi]; exact nI_pos hj
  have hN : n.toNatClampNeg = j := by rw [hi]; exact nI_clamp hj
  refine va_newaK X.x X.b (atype := .short) (X.ts _ q139) rfl hdg rfl hn hN hbytes hcells hslots rfl fun H1 cA e1 z1 o1 hAr hNm => ?_
  have hd : s.vm.findClass ("[" ++ (newarray.typeOf .short).toString) = some (G.2.1 1) := (X.K.2 1 _ rfl).2
  cases hNm.symm.trans hd
  exact kk H.size H1 (h.push X.new (e := dzS G j (fun _ => 0)) e1 z1 o1)
theorem dz_newaJ (X : dz_X p s m args meth c G y0 cc nL ret tb A) (h : dz_O G.1 dz_CL A s.heap ww H locs) {n : Int32} {j : Nat} (hi : n = nI j) (hj : j < 2147483648) (hbytes : j * componentBytes .long ≤ 536870912) (hcells : cells + 1 ≤ R.cells) (hslots : slots + j ≤ R.slots) (hdg : decode cc pc = .ok (.newarray .long, 2))
    (kk : ∀ (q : Nat) (H1 : Heap), dz_O G.1 dz_CL A s.heap (ww ++ [[(q, dzJ G j (fun _ => 0))]]) H1 locs → W p l e R s m args below meth c H1 locs (cells + 1) (slots + j) Q (F0 m (pc + 2) ls (.ref q :: rest))) : W p l e R s m args below meth c H locs cells slots Q (F0 m pc ls (.int n :: rest)) := by
  have hn : ¬ n < 0 := by rw [hi]; exact nI_pos hj
  have hN : n.toNatClampNeg = j := by rw [hi]; exact nI_clamp hj
  refine va_newaK X.x X.b (atype := .long) (X.ts _ q140) rfl hdg rfl hn hN hbytes hcells hslots rfl fun H1 cA e1 z1 o1 hAr hNm => ?_
  have hd : s.vm.findClass ("[" ++ (newarray.typeOf .long).toString) = some (G.2.1 2) := (X.K.2 2 _ rfl).2
  cases hNm.symm.trans hd
  exact kk H.size H1 (h.push X.new (e := dzJ G j (fun _ => 0)) e1 z1 o1)
theorem dz_newaZ (X : dz_X p s m args meth c G y0 cc nL ret tb A) (h : dz_O G.1 dz_CL A s.heap ww H locs) {n : Int32} {j : Nat} (hi : n = nI j) (hj : j < 2147483648) (hbytes : j * componentBytes .boolean ≤ 536870912) (hcells : cells + 1 ≤ R.cells) (hslots : slots + j ≤ R.slots) (hdg : decode cc pc = .ok (.newarray .boolean, 2))
    (kk : ∀ (q : Nat) (H1 : Heap), dz_O G.1 dz_CL A s.heap (ww ++ [[(q, dzZ G j (fun _ => 0))]]) H1 locs → W p l e R s m args below meth c H1 locs (cells + 1) (slots + j) Q (F0 m (pc + 2) ls (.ref q :: rest))) : W p l e R s m args below meth c H locs cells slots Q (F0 m pc ls (.int n :: rest)) := by
  have hn : ¬ n < 0 := by rw [hi]; exact nI_pos hj
  have hN : n.toNatClampNeg = j := by rw [hi]; exact nI_clamp hj
  refine va_newaK X.x X.b (atype := .boolean) (X.ts _ q2302) rfl hdg rfl hn hN hbytes hcells hslots rfl fun H1 cA e1 z1 o1 hAr hNm => ?_
  have hd : s.vm.findClass ("[" ++ (newarray.typeOf .boolean).toString) = some (G.2.1 3) := (X.K.2 3 _ rfl).2
  cases hNm.symm.trans hd
  exact kk H.size H1 (h.push X.new (e := dzZ G j (fun _ => 0)) e1 z1 o1)
theorem dz_newaB (X : dz_X p s m args meth c G y0 cc nL ret tb A) (h : dz_O G.1 dz_CL A s.heap ww H locs) {n : Int32} {j : Nat} (hi : n = nI j) (hj : j < 2147483648) (hbytes : j * componentBytes .byte ≤ 536870912) (hcells : cells + 1 ≤ R.cells) (hslots : slots + j ≤ R.slots) (hdg : decode cc pc = .ok (.newarray .byte, 2))
    (kk : ∀ (q : Nat) (H1 : Heap), dz_O G.1 dz_CL A s.heap (ww ++ [[(q, dzB G j (fun _ => 0))]]) H1 locs → W p l e R s m args below meth c H1 locs (cells + 1) (slots + j) Q (F0 m (pc + 2) ls (.ref q :: rest))) : W p l e R s m args below meth c H locs cells slots Q (F0 m pc ls (.int n :: rest)) := by
  have hn : ¬ n < 0 := by rw [hi]; exact nI_pos hj
  have hN : n.toNatClampNeg = j := by rw [hi]; exact nI_clamp hj
  refine va_newaK X.x X.b (atype := .byte) (X.ts _ q234) rfl hdg rfl hn hN hbytes hcells hslots rfl fun H1 cA e1 z1 o1 hAr hNm => ?_
  have hd : s.vm.findClass ("[" ++ (newarray.typeOf .byte).toString) = some (G.2.1 4) := (X.K.2 4 _ rfl).2
  cases hNm.symm.trans hd
  exact kk H.size H1 (h.push X.new (e := dzB G j (fun _ => 0)) e1 z1 o1)
theorem dz_newaO (X : dz_X p s m args meth c G y0 cc nL ret tb A) (h : dz_O G.1 dz_CL A s.heap ww H locs) {index : Nat} (hlink : Cond.classLink y0.cls index "java/lang/Object" ∈ lw_all) {n : Int32} {j : Nat} (hi : n = nI j) (hj : j < 2147483648) (hbytes : j * 4 ≤ 536870912) (hcells : cells + 1 ≤ R.cells) (hslots : slots + j ≤ R.slots) (hdg : decode cc pc = .ok (.anewarray index, 3))
    (kk : ∀ (q : Nat) (H1 : Heap), dz_O G.1 dz_CL A s.heap (ww ++ [[(q, dzO G j (fun _ => none))]]) H1 locs → W p l e R s m args below meth c H1 locs (cells + 1) (slots + j) Q (F0 m (pc + 3) ls (.ref q :: rest))) : W p l e R s m args below meth c H locs cells slots Q (F0 m pc ls (.int n :: rest)) := by
  have hn : ¬ n < 0 := by rw [hi]; exact nI_pos hj
  have hN : n.toNatClampNeg = j := by rw [hi]; exact nI_clamp hj
  subst hN
  refine W.anew X.x X.b X.own (X.ts _ hlink) (va_AO.use (X.ev.2.2.2.2.1)) rfl hdg rfl hn hbytes hcells hslots fun cA kA comp f1 f2 f3 f4 => ?_
  obtain ⟨kA0, comp0, k1, k2, k3, k4⟩ := (X.K.2 5 _ rfl).2
  cases f1.symm.trans k4
  generalize hH1 : H.push ({ cls := G.2.1 5, slots := Array.replicate n.toNatClampNeg .null, vm := .none } : Cell) = H1
  have z1 : H1.size = H.size + 1 := by rw [← hH1, Array.size_push]
  have e1 : H1[H.size]? = some (arrV (G.2.1 5) n.toNatClampNeg (fun _ => .null)) := by rw [← hH1, Array.getElem?_push_size, ← arrV_new]
  have o1 : ∀ q : Nat, q < H.size → H1[q]? = H[q]? := fun q hq => by rw [← hH1, Array.getElem?_push, if_neg (Nat.ne_of_lt hq)]
  exact kk H.size H1 (h.push X.new (e := dzO G n.toNatClampNeg (fun _ => none)) e1 z1 o1)
theorem dz_newaD (X : dz_X p s m args meth c G y0 cc nL ret tb A) (h : dz_O G.1 dz_CL A s.heap ww H locs) {index : Nat} (hlink : Cond.classLink y0.cls index "Deed" ∈ lw_all) {n : Int32} {j : Nat} (hi : n = nI j) (hj : j < 2147483648) (hbytes : j * 4 ≤ 536870912) (hcells : cells + 1 ≤ R.cells) (hslots : slots + j ≤ R.slots) (hdg : decode cc pc = .ok (.anewarray index, 3))
    (kk : ∀ (q : Nat) (H1 : Heap), dz_O G.1 dz_CL A s.heap (ww ++ [[(q, dzD G j (fun _ => none))]]) H1 locs → W p l e R s m args below meth c H1 locs (cells + 1) (slots + j) Q (F0 m (pc + 3) ls (.ref q :: rest))) : W p l e R s m args below meth c H locs cells slots Q (F0 m pc ls (.int n :: rest)) := by
  have hn : ¬ n < 0 := by rw [hi]; exact nI_pos hj
  have hN : n.toNatClampNeg = j := by rw [hi]; exact nI_clamp hj
  subst hN
  refine W.anew X.x X.b X.own (X.ts _ hlink) (va_AO.use (X.ev.2.2.2.2.2.1)) rfl hdg rfl hn hbytes hcells hslots fun cA kA comp f1 f2 f3 f4 => ?_
  obtain ⟨kA0, comp0, k1, k2, k3, k4⟩ := (X.K.2 6 _ rfl).2
  cases f1.symm.trans k4
  generalize hH1 : H.push ({ cls := G.2.1 6, slots := Array.replicate n.toNatClampNeg .null, vm := .none } : Cell) = H1
  have z1 : H1.size = H.size + 1 := by rw [← hH1, Array.size_push]
  have e1 : H1[H.size]? = some (arrV (G.2.1 6) n.toNatClampNeg (fun _ => .null)) := by rw [← hH1, Array.getElem?_push_size, ← arrV_new]
  have o1 : ∀ q : Nat, q < H.size → H1[q]? = H[q]? := fun q hq => by rw [← hH1, Array.getElem?_push, if_neg (Nat.ne_of_lt hq)]
  exact kk H.size H1 (h.push X.new (e := dzD G n.toNatClampNeg (fun _ => none)) e1 z1 o1)
/-! new objects, casts, statics -/
theorem dz_new (X : dz_X p s m args meth c G y0 cc nL ret tb A) (h : dz_O G.1 dz_CL A s.heap ww H locs) {C : String} {T : u_T} {N index : Nat} (ci : Nat) (hin : ∀ w ∈ u_ws C T N, w ∈ lw_all) (ty : Nat → FieldType) (hty : ∀ k, k < N → parseFieldDescriptor (T k).2.2.1 = some (ty k)) (hcl : Cond.classLink y0.cls index C ∈ lw_all) (hinst : Cond.instantiable C N ∈ lw_all) (hini : Cond.initialized C ∈ lw_all) (hc : dz_CL[ci]? = some (C, T, N)) (fs : List Value) (hfs : ∀ j, j < N → defaultValue (ty j) = vp_V fs j) (hcells : cells + 1 ≤ R.cells) (hslots : slots + N ≤ R.slots) (hdg : decode cc pc = .ok (.new index, 3))
    (kk : ∀ (q : Nat) (H1 : Heap), dz_O G.1 dz_CL A s.heap (ww ++ [[(q, .inr (ci, fs))]]) H1 locs → W p l e R s m args below meth c H1 locs (cells + 1) (slots + N) Q (F0 m (pc + 3) ls (.ref q :: rest))) : W p l e R s m args below meth c H locs cells slots Q (F0 m pc ls rest) := by
  have hKn := X.K.1 ci _ hc
  refine W.newcK X.x X.b X.own (X.ts _ hcl) (X.ts _ hinst) (X.ts _ hini) rfl hdg hcells hslots hKn.2.1 rfl fun H1 kC hkC e1 z1 o1 => ?_
  exact kk H.size H1 (h.push X.new (e := .inr (ci, fs)) ⟨_, hc, (u_born ty X.ts hin hKn hkC e1 hty).to hfs⟩ z1 o1)
theorem dz_cast (X : dz_X p s m args meth c G y0 cc nL ret tb A) {C nm : String} {index : Nat} (hlink : Cond.classLink y0.cls index nm ∈ lw_all) (hw : C = nm ∨ Cond.castable C nm ∈ lw_tbl) (hr : ∃ cell : Cell, H[a]? = some cell ∧ cell.vm.isStatics = false ∧ s.vm.findClass C = some cell.cls) (hdg : decode cc pc = .ok (.checkcast index, 3))
    (k : W p l e R s m args below meth c H locs cells slots Q (F0 m (pc + 3) ls (.ref a :: rest))) : W p l e R s m args below meth c H locs cells slots Q (F0 m pc ls (.ref a :: rest)) := by
  rcases hw with hw | hw
  · subst hw
    exact va_castE X.x X.b X.own (X.ts _ hlink) hr hdg k
  · exact va_castY X.x X.b X.own (X.ts _ hlink) (X.nw hw rfl) hr hdg k
theorem dz_inst (X : dz_X p s m args meth c G y0 cc nL ret tb A) {C nm : String} {index : Nat} (hlink : Cond.classLink y0.cls index nm ∈ lw_all) (hw : C = nm ∨ Cond.castable C nm ∈ lw_tbl) (hr : ∃ cell : Cell, H[a]? = some cell ∧ cell.vm.isStatics = false ∧ s.vm.findClass C = some cell.cls) (hdg : decode cc pc = .ok (.instanceof index, 3))
    (k : W p l e R s m args below meth c H locs cells slots Q (F0 m (pc + 3) ls (.int 1 :: rest))) : W p l e R s m args below meth c H locs cells slots Q (F0 m pc ls (.ref a :: rest)) := by
  rcases hw with hw | hw
  · subst hw
    exact va_instE X.x X.b X.own (X.ts _ hlink) hr hdg k
  · exact va_instY X.x X.b X.own (X.ts _ hlink) (X.nw hw rfl) hr hdg k
theorem dz_instNo (X : dz_X p s m args meth c G y0 cc nL ret tb A) {C nm : String} {index : Nat} (hlink : Cond.classLink y0.cls index nm ∈ lw_all) (hw : (C, nm) ∈ dz_NC) (hr : ∃ cell : Cell, H[a]? = some cell ∧ cell.vm.isStatics = false ∧ s.vm.findClass C = some cell.cls) (hdg : decode cc pc = .ok (.instanceof index, 3))
    (k : W p l e R s m args below meth c H locs cells slots Q (F0 m (pc + 3) ls (.int 0 :: rest))) : W p l e R s m args below meth c H locs cells slots Q (F0 m pc ls (.ref a :: rest)) :=
  va_instNo X.x X.b X.own (X.ts _ hlink) (X.ev.2.2.1 _ hw) hr hdg k
theorem dz_gets (X : dz_X p s m args meth c G y0 cc nL ret tb A) (h : dz_O G.1 dz_CL A s.heap ww H locs) {C n d ref : String} {v : Value} {index : Nat} (hZ : va_Z C n d v (fun q => G.2.2.2 ≤ q) s s.heap) (hlink : Cond.fieldLink y0.cls index ref n d ∈ lw_all) (hsame : ref = C ∨ Cond.sameField ref C n d ∈ lw_all) (hdg : decode cc pc = .ok (.getstatic index, 3))
    (kk : W p l e R s m args below meth c H locs cells slots Q (F0 m (pc + 3) ls (v :: rest))) : W p l e R s m args below meth c H locs cells slots Q (F0 m pc ls rest) :=
  va_gets X.x X.b hZ (dz_S2 X h) X.own (X.ts _ hlink) (dz_same X hsame) hdg kk
theorem dz_objInit (X : dz_X p s m args meth c G y0 cc nL ret tb A) (hl : lv_has ls nL lv) {index : Nat} (hlink : Cond.methodLink y0.cls index objectInit ∈ lw_all) (hdg : decode cc pc = .ok (.invokespecial index, 3)) (hframes : 1 ≤ R.frames) (hcat : (rest.map fun v => v.category).sum ≤ 8) (hlocals : 20 ≤ R.locals)
    (kk : W p l e R s m args below meth c H locs cells slots Q (F0 m (pc + 3) ls rest)) : W p l e R s m args below meth c H locs cells slots Q (F0 m pc ls (.ref a :: rest)) := by
  refine W.objInit X.x X.b X.own (X.ts _ hlink) (X.ts _ q114) (X.ts _ q115) rfl (hl.1.trans X.1.2.2.1.symm) rfl hdg hframes (by show 2 * 0 + _ + 12 ≤ _; omega) ?_
  exact W.eq (g2 := F0 m (pc + 3) ls rest) rfl kk
theorem dz_mmax (X : dz_X p s m args meth c G y0 cc nL ret tb A) (hl : lv_has ls nL lv) {index : Nat} (hlink : Cond.methodLink y0.cls index Lib.Math.max.name ∈ lw_all) (hcat : (rest.map fun v => v.category).sum ≤ 8) (hframes : 1 ≤ R.frames) (hlocals : 30 ≤ R.locals) (hc : cells ≤ R.cells) (hs : slots ≤ R.slots) {x y : Int32} (hdg : decode cc pc = .ok (.invokestatic index, 3))
    (kk : W p l e R s m args below meth c H locs cells slots Q (F0 m (pc + 3) ls (.int (dz_max x y) :: rest))) : W p l e R s m args below meth c H locs cells slots Q (F0 m pc ls (.int y :: .int x :: rest)) :=
  va_mmax X.x X.b (X.1.2.2.1.trans hl.1.symm) X.own (X.ts _ hlink) (X.ts _ q259) (X.ts _ q62) (X.ts _ q260) hframes (by omega) hc hs hdg kk
theorem dz_mmin (X : dz_X p s m args meth c G y0 cc nL ret tb A) (hl : lv_has ls nL lv) {index : Nat} (hlink : Cond.methodLink y0.cls index Lib.Math.min.name ∈ lw_all) (hcat : (rest.map fun v => v.category).sum ≤ 8) (hframes : 1 ≤ R.frames) (hlocals : 30 ≤ R.locals) (hc : cells ≤ R.cells) (hs : slots ≤ R.slots) {x y : Int32} (hdg : decode cc pc = .ok (.invokestatic index, 3))
    (kk : W p l e R s m args below meth c H locs cells slots Q (F0 m (pc + 3) ls (.int (dz_min x y) :: rest))) : W p l e R s m args below meth c H locs cells slots Q (F0 m pc ls (.int y :: .int x :: rest)) :=
  va_mmin X.x X.b (X.1.2.2.1.trans hl.1.symm) X.own (X.ts _ hlink) (X.ts _ q277) (X.ts _ q62) (X.ts _ q278) hframes (by omega) hc hs hdg kk
theorem dz_mabs (X : dz_X p s m args meth c G y0 cc nL ret tb A) (hl : lv_has ls nL lv) {index : Nat} (hlink : Cond.methodLink y0.cls index Lib.Math.abs.name ∈ lw_all) (hcat : (rest.map fun v => v.category).sum ≤ 8) (hframes : 1 ≤ R.frames) (hlocals : 30 ≤ R.locals) (hc : cells ≤ R.cells) (hs : slots ≤ R.slots) {x : Int32} (hdg : decode cc pc = .ok (.invokestatic index, 3))
    (kk : W p l e R s m args below meth c H locs cells slots Q (F0 m (pc + 3) ls (.int (dz_abs x) :: rest))) : W p l e R s m args below meth c H locs cells slots Q (F0 m pc ls (.int x :: rest)) :=
  va_mabs X.x X.b (X.1.2.2.1.trans hl.1.symm) X.own (X.ts _ hlink) (X.ts _ q1362) (X.ts _ q62) (X.ts _ q1363) hframes (by omega) hc hs hdg kk
theorem dz_rei {x y : Int32} (e9 : x = y) (k : W p l e R s m args below meth c H locs cells slots Q (F0 m pc ls (.int y :: rest))) : W p l e R s m args below meth c H locs cells slots Q (F0 m pc ls (.int x :: rest)) := by rw [e9]; exact k
theorem dz_rev {v w : Value} (e9 : v = w) (k : W p l e R s m args below meth c H locs cells slots Q (F0 m pc ls (w :: rest))) : W p l e R s m args below meth c H locs cells slots Q (F0 m pc ls (v :: rest)) := by rw [e9]; exact k
end DZA
section DZC
variable {p : Program} {l : Launch} {e : Env} {R : Room} {s : State} {m : MethodId} {args : Array Value} {below : List Frame} {meth : Method} {c : Code} {H : Heap} {locs : List Loc} {cells slots : Nat} {Q : State → Prop} {pc : Nat} {ls : Array Slot} {rest st0 : List Value} {G : dz_G} {nL : Nat} {y0 : MethodName} {cc : ByteArray} {ret : Option FieldType} {tb : List ExceptionTableEntry} {A : Nat → Prop} {ww : dz_W} {lv : List (Nat × Value)} {a : Nat}
theorem dz_go (X : dz_X p s m args meth c G y0 cc nL ret tb A) (h : dz_O G.1 dz_CL A s.heap ww H locs) {mc ms : Nat} {av : Array Value} {po : Option Value → dz_W → Prop} {px : String → dz_W → Prop} {wc : dz_W} (wr : dz_W) (hr : vx_Run p l e R s m args below meth c H locs cells slots mc ms (F0 m pc ls st0) rest (dz_Q G po (dz_A wc H.size) av) (dz_QX G px (dz_A wc H.size)) (dz_A wc H.size)) (isC isR : List Nat) (hn : va_nd (isC ++ isR) = true) (hC : isC.map (fun i => ww[i]?) = wc.map some) (hR : isR.map (fun i => ww[i]?) = wr.map some)
    (kx : ∀ (E : String) (w1 : dz_W) (q : Addr) (ce : Cell) (H1 : Heap) (locs1 : List Loc), px E w1 → dz_O G.1 dz_CL A s.heap (wr ++ w1) H1 locs1 → H1[q]? = some ce → ce.vm = .none → s.vm.findClass E = some ce.cls → vx_W p l e R s m args below meth c H1 locs1 (cells + mc) (slots + ms) Q (F0 m pc ls rest) q)
    (kk : ∀ (r : Option Value) (w1 : dz_W) (H1 : Heap) (locs1 : List Loc), po r w1 → dz_O G.1 dz_CL A s.heap (wr ++ w1) H1 locs1 → W p l e R s m args below meth c H1 locs1 (cells + mc) (slots + ms) Q (F0 m (pc + 3) ls (r.toList ++ rest))) : W p l e R s m args below meth c H locs cells slots Q (F0 m pc ls st0) := by
  intro T hT Y
  rcases hr T hT Y with ⟨v, st₀, t, T', L, h0, Y', hL, e1, e2, ⟨⟨r, w1, hv, hp, hP1, hD1⟩, hz, hk⟩, st⟩ | ⟨q, st₀, t, T', L, E, ce, h0, Y', hL, e1, e2, ⟨⟨w1, hp, hP1, hD1⟩, hz, hk⟩, hce, hcv, hcl, st⟩
  · cases hv
    rw [h0] at hz hk
    rw [← e1] at hz hk hP1
    obtain ⟨t2, a1, b1⟩ := kk v w1 T'.heap (locs ++ L) hp (h.call isC isR hn hC hR X.new hz hk hP1 hD1 hL) T' rfl Y'
    exact ⟨t2, st t2 a1, b1⟩
  · rw [h0] at hz hk
    rw [← e1] at hz hk hP1 hce
    obtain ⟨t2, a1, b1⟩ := kx E w1 q ce T'.heap (locs ++ L) hp (h.call isC isR hn hC hR X.new hz hk hP1 hD1 hL) hce hcv hcl T' rfl Y'
    exact ⟨t2, st.trans a1, b1⟩
theorem dz_go5 (X : dz_X p s m args meth c G y0 cc nL ret tb A) (h : dz_O G.1 dz_CL A s.heap ww H locs) {mc ms : Nat} {av : Array Value} {po : Option Value → dz_W → Prop} {px : String → dz_W → Prop} {wc : dz_W} (wr : dz_W) (hr : vx_Run5 p l e R s m args below meth c H locs cells slots mc ms (F0 m pc ls st0) rest (dz_Q G po (dz_A wc H.size) av) (dz_QX G px (dz_A wc H.size)) (dz_A wc H.size)) (isC isR : List Nat) (hn : va_nd (isC ++ isR) = true) (hC : isC.map (fun i => ww[i]?) = wc.map some) (hR : isR.map (fun i => ww[i]?) = wr.map some)
    (kx : ∀ (E : String) (w1 : dz_W) (q : Addr) (ce : Cell) (H1 : Heap) (locs1 : List Loc), px E w1 → dz_O G.1 dz_CL A s.heap (wr ++ w1) H1 locs1 → H1[q]? = some ce → ce.vm = .none → s.vm.findClass E = some ce.cls → vx_W p l e R s m args below meth c H1 locs1 (cells + mc) (slots + ms) Q (F0 m pc ls rest) q)
    (kk : ∀ (r : Option Value) (w1 : dz_W) (H1 : Heap) (locs1 : List Loc), po r w1 → dz_O G.1 dz_CL A s.heap (wr ++ w1) H1 locs1 → W p l e R s m args below meth c H1 locs1 (cells + mc) (slots + ms) Q (F0 m (pc + 5) ls (r.toList ++ rest))) : W p l e R s m args below meth c H locs cells slots Q (F0 m pc ls st0) := by
  intro T hT Y
  rcases hr T hT Y with ⟨v, st₀, t, T', L, h0, Y', hL, e1, e2, ⟨⟨r, w1, hv, hp, hP1, hD1⟩, hz, hk⟩, st⟩ | ⟨q, st₀, t, T', L, E, ce, h0, Y', hL, e1, e2, ⟨⟨w1, hp, hP1, hD1⟩, hz, hk⟩, hce, hcv, hcl, st⟩
  · cases hv
    rw [h0] at hz hk
    rw [← e1] at hz hk hP1
    obtain ⟨t2, a1, b1⟩ := kk v w1 T'.heap (locs ++ L) hp (h.call isC isR hn hC hR X.new hz hk hP1 hD1 hL) T' rfl Y'
    exact ⟨t2, st t2 a1, b1⟩
  · rw [h0] at hz hk
    rw [← e1] at hz hk hP1 hce
    obtain ⟨t2, a1, b1⟩ := kx E w1 q ce T'.heap (locs ++ L) hp (h.call isC isR hn hC hR X.new hz hk hP1 hD1 hL) hce hcv hcl T' rfl Y'
    exact ⟨t2, st.trans a1, b1⟩
theorem dz_pre (X : dz_X p s m args meth c G y0 cc nL ret tb A) (h : dz_O G.1 dz_CL A s.heap ww H locs) {wc : dz_W} (isC isR : List Nat) (hn : va_nd (isC ++ isR) = true) (hC : isC.map (fun i => ww[i]?) = wc.map some) (U : State) (hU : U.heap = H) (hW : s.WarmedH U.vm) : dz_Pw G wc H.size U := by
  have hnd := dz_nd_nodup _ hn
  rw [List.nodup_append] at hnd
  have hc : ∃ u : dz_W, ww.Perm (wc ++ u) := by
    by_cases h2 : va_nd isC = true
    · exact dz_sel isC h2 hC
    · exfalso
      have key : ∀ l : List Nat, l.Nodup → va_nd l = true := by
        intro l
        induction l with
        | nil => intro _; rfl
        | cons z l ih =>
          intro hz
          rw [List.nodup_cons] at hz
          simp [va_nd, hz.1, ih hz.2]
      exact h2 (key _ hnd.1)
  obtain ⟨u, pm⟩ := hc
  subst hU
  exact ⟨rfl, Nat.le_trans X.2.2.2.2.2.2.2.2 h.2.2.1, X.ev.warm hW (dz_S2 X h).2.1, h.1.perm (dz_fl pm), (h.2.1.perm (dz_fl pm)).weaken (fun q _ z => X.hB _ z)⟩
theorem dz_V (X : dz_X p s m args meth c G y0 cc nL ret tb A) (h : dz_O G.1 dz_CL A s.heap ww H locs) (hl : lv_has ls nL lv) {index n maxL : Nat} {y : MethodName} {bytes : ByteArray} {ret1 : Option FieldType} {rm : Room} {As : List Value} {po : Option Value → dz_W → Prop} {px : String → dz_W → Prop} {wc wr : dz_W} {C : String} {b : Nat} (hM : dz_M l G y bytes maxL ret1 rm (.ref b :: As) wc H.size po px) (g : GoodIn lw_all (wsV y0.cls index C y (ws_ y bytes maxL ret1))) (hd : y.cls = C ∧ y.cls ≠ "java/lang/invoke/MethodHandle" ∧ y.cls ≠ "java/lang/invoke/VarHandle" ∧ (parseMethodDescriptor y.desc).map (fun d => d.parameters.length) = some n) (hR : rm.frames + 1 ≤ R.frames ∧ 8 + (maxL + 11) + rm.locals ≤ R.locals) {k9 n9 : Nat} (hroom : cells + rm.cells ≤ k9 ∧ slots + rm.slots ≤ n9 ∧ k9 ≤ R.cells ∧ n9 ≤ R.slots) (isC isR : List Nat) (hnd : va_nd (isC ++ isR) = true) (hC : isC.map (fun i => ww[i]?) = wc.map some) (hRr : isR.map (fun i => ww[i]?) = wr.map some) (hb : ∃ cell : Cell, H[b]? = some cell ∧ cell.vm.isStatics = false ∧ s.vm.findClass C = some cell.cls) (hn : As.length = n) (hst : st0 = As.reverse ++ .ref b :: rest) (hcat : (rest.map fun v => v.category).sum ≤ 8) (hdg : decode cc pc = .ok (.invokevirtual index, 3))
    (kx : ∀ (E : String) (w1 : dz_W) (q : Addr) (ce : Cell) (H1 : Heap) (locs1 : List Loc), px E w1 → dz_O G.1 dz_CL A s.heap (wr ++ w1) H1 locs1 → H1[q]? = some ce → ce.vm = .none → s.vm.findClass E = some ce.cls → vx_W p l e R s m args below meth c H1 locs1 k9 n9 Q (F0 m pc ls rest) q)
    (kk : ∀ (r : Option Value) (w1 : dz_W) (H1 : Heap) (locs1 : List Loc), po r w1 → dz_O G.1 dz_CL A s.heap (wr ++ w1) H1 locs1 → W p l e R s m args below meth c H1 locs1 k9 n9 Q (F0 m (pc + 3) ls (r.toList ++ rest))) : W p l e R s m args below meth c H locs cells slots Q (F0 m pc ls st0) := by
  subst hst
  exact dz_go X h wr (vx_runV (n := n) X.1 hM (cwV n X.ts g rfl rfl rfl hd hR) ⟨dz_blind, hb, fun U hU hW => ⟨rfl, dz_pre X h isC isR hnd hC U hU hW⟩⟩ rfl hn hl.1 rfl (lv_room hcat) hdg ⟨Nat.le_trans hroom.1 hroom.2.2.1, Nat.le_trans hroom.2.1 hroom.2.2.2⟩) isC isR hnd hC hRr (fun E w1 q ce H1 locs1 g1 g2 g3 g4 g5 => vx_widen hroom.1 hroom.2.1 (kx E w1 q ce H1 locs1 g1 g2 g3 g4 g5)) (fun r w1 H1 locs1 g1 g2 => W.widen hroom.1 hroom.2.1 (kk r w1 H1 locs1 g1 g2))
theorem dz_S (X : dz_X p s m args meth c G y0 cc nL ret tb A) (h : dz_O G.1 dz_CL A s.heap ww H locs) (hl : lv_has ls nL lv) {index n maxL : Nat} {y : MethodName} {bytes : ByteArray} {ret1 : Option FieldType} {rm : Room} {As : List Value} {po : Option Value → dz_W → Prop} {px : String → dz_W → Prop} {wc wr : dz_W} (hM : dz_M l G y bytes maxL ret1 rm As wc H.size po px) (g : GoodIn lw_all (va_wsS y0.cls index y (ws_ y bytes maxL ret1))) (hd : y.cls ≠ "java/lang/invoke/MethodHandle" ∧ y.cls ≠ "java/lang/invoke/VarHandle" ∧ (parseMethodDescriptor y.desc).map (fun d => d.parameters.length) = some n) (hR : rm.frames + 1 ≤ R.frames ∧ 8 + (maxL + 11) + rm.locals ≤ R.locals) {k9 n9 : Nat} (hroom : cells + rm.cells ≤ k9 ∧ slots + rm.slots ≤ n9 ∧ k9 ≤ R.cells ∧ n9 ≤ R.slots) (isC isR : List Nat) (hnd : va_nd (isC ++ isR) = true) (hC : isC.map (fun i => ww[i]?) = wc.map some) (hRr : isR.map (fun i => ww[i]?) = wr.map some) (hn : As.length = n) (hst : st0 = As.reverse ++ rest) (hcat : (rest.map fun v => v.category).sum ≤ 8) (hdg : decode cc pc = .ok (.invokestatic index, 3))
    (kx : ∀ (E : String) (w1 : dz_W) (q : Addr) (ce : Cell) (H1 : Heap) (locs1 : List Loc), px E w1 → dz_O G.1 dz_CL A s.heap (wr ++ w1) H1 locs1 → H1[q]? = some ce → ce.vm = .none → s.vm.findClass E = some ce.cls → vx_W p l e R s m args below meth c H1 locs1 k9 n9 Q (F0 m pc ls rest) q)
    (kk : ∀ (r : Option Value) (w1 : dz_W) (H1 : Heap) (locs1 : List Loc), po r w1 → dz_O G.1 dz_CL A s.heap (wr ++ w1) H1 locs1 → W p l e R s m args below meth c H1 locs1 k9 n9 Q (F0 m (pc + 3) ls (r.toList ++ rest))) : W p l e R s m args below meth c H locs cells slots Q (F0 m pc ls st0) := by
  subst hst
  exact dz_go X h wr (vx_runS (n := n) X.1 hM (va_cwS n X.ts g rfl rfl rfl hd hR) ⟨dz_blind, fun U hU hW => ⟨rfl, dz_pre X h isC isR hnd hC U hU hW⟩⟩ rfl hn hl.1 rfl (lv_room hcat) hdg ⟨Nat.le_trans hroom.1 hroom.2.2.1, Nat.le_trans hroom.2.1 hroom.2.2.2⟩) isC isR hnd hC hRr (fun E w1 q ce H1 locs1 g1 g2 g3 g4 g5 => vx_widen hroom.1 hroom.2.1 (kx E w1 q ce H1 locs1 g1 g2 g3 g4 g5)) (fun r w1 H1 locs1 g1 g2 => W.widen hroom.1 hroom.2.1 (kk r w1 H1 locs1 g1 g2))
theorem dz_SH (X : dz_X p s m args meth c G y0 cc nL ret tb A) (h : dz_O G.1 dz_CL A s.heap ww H locs) (hl : lv_has ls nL lv) {index n maxL : Nat} {y : MethodName} {bytes : ByteArray} {ret1 : Option FieldType} {rm : Room} {As : List Value} {po : Option Value → dz_W → Prop} {px : String → dz_W → Prop} {wc wr : dz_W} {hh : List (Nat × Nat × Nat × Nat)} (hM : dz_MH l G y bytes maxL ret1 hh rm As wc H.size po px) (g : GoodIn lw_all (va_wsS y0.cls index y (wsW_ y bytes maxL ret1 hh))) (hd : y.cls ≠ "java/lang/invoke/MethodHandle" ∧ y.cls ≠ "java/lang/invoke/VarHandle" ∧ (parseMethodDescriptor y.desc).map (fun d => d.parameters.length) = some n) (hR : rm.frames + 1 ≤ R.frames ∧ 8 + (maxL + 11) + rm.locals ≤ R.locals) {k9 n9 : Nat} (hroom : cells + rm.cells ≤ k9 ∧ slots + rm.slots ≤ n9 ∧ k9 ≤ R.cells ∧ n9 ≤ R.slots) (isC isR : List Nat) (hnd : va_nd (isC ++ isR) = true) (hC : isC.map (fun i => ww[i]?) = wc.map some) (hRr : isR.map (fun i => ww[i]?) = wr.map some) (hn : As.length = n) (hst : st0 = As.reverse ++ rest) (hcat : (rest.map fun v => v.category).sum ≤ 8) (hdg : decode cc pc = .ok (.invokestatic index, 3))
    (kx : ∀ (E : String) (w1 : dz_W) (q : Addr) (ce : Cell) (H1 : Heap) (locs1 : List Loc), px E w1 → dz_O G.1 dz_CL A s.heap (wr ++ w1) H1 locs1 → H1[q]? = some ce → ce.vm = .none → s.vm.findClass E = some ce.cls → vx_W p l e R s m args below meth c H1 locs1 k9 n9 Q (F0 m pc ls rest) q)
    (kk : ∀ (r : Option Value) (w1 : dz_W) (H1 : Heap) (locs1 : List Loc), po r w1 → dz_O G.1 dz_CL A s.heap (wr ++ w1) H1 locs1 → W p l e R s m args below meth c H1 locs1 k9 n9 Q (F0 m (pc + 3) ls (r.toList ++ rest))) : W p l e R s m args below meth c H locs cells slots Q (F0 m pc ls st0) := by
  subst hst
  exact dz_go X h wr (vx_runSX (n := n) X.1 hM (vx_cwSW n X.ts g rfl rfl rfl hd hR) ⟨dz_blind, fun U hU hW => ⟨rfl, dz_pre X h isC isR hnd hC U hU hW⟩⟩ rfl hn hl.1 rfl (lv_room hcat) hdg ⟨Nat.le_trans hroom.1 hroom.2.2.1, Nat.le_trans hroom.2.1 hroom.2.2.2⟩) isC isR hnd hC hRr (fun E w1 q ce H1 locs1 g1 g2 g3 g4 g5 => vx_widen hroom.1 hroom.2.1 (kx E w1 q ce H1 locs1 g1 g2 g3 g4 g5)) (fun r w1 H1 locs1 g1 g2 => W.widen hroom.1 hroom.2.1 (kk r w1 H1 locs1 g1 g2))
theorem dz_VH (X : dz_X p s m args meth c G y0 cc nL ret tb A) (h : dz_O G.1 dz_CL A s.heap ww H locs) (hl : lv_has ls nL lv) {index n maxL : Nat} {y : MethodName} {bytes : ByteArray} {ret1 : Option FieldType} {rm : Room} {As : List Value} {po : Option Value → dz_W → Prop} {px : String → dz_W → Prop} {wc wr : dz_W} {C : String} {b : Nat} {hh : List (Nat × Nat × Nat × Nat)} (hM : dz_MH l G y bytes maxL ret1 hh rm (.ref b :: As) wc H.size po px) (g : GoodIn lw_all (wsV y0.cls index C y (wsW_ y bytes maxL ret1 hh))) (hd : y.cls = C ∧ y.cls ≠ "java/lang/invoke/MethodHandle" ∧ y.cls ≠ "java/lang/invoke/VarHandle" ∧ (parseMethodDescriptor y.desc).map (fun d => d.parameters.length) = some n) (hR : rm.frames + 1 ≤ R.frames ∧ 8 + (maxL + 11) + rm.locals ≤ R.locals) {k9 n9 : Nat} (hroom : cells + rm.cells ≤ k9 ∧ slots + rm.slots ≤ n9 ∧ k9 ≤ R.cells ∧ n9 ≤ R.slots) (isC isR : List Nat) (hnd : va_nd (isC ++ isR) = true) (hC : isC.map (fun i => ww[i]?) = wc.map some) (hRr : isR.map (fun i => ww[i]?) = wr.map some) (hb : ∃ cell : Cell, H[b]? = some cell ∧ cell.vm.isStatics = false ∧ s.vm.findClass C = some cell.cls) (hn : As.length = n) (hst : st0 = As.reverse ++ .ref b :: rest) (hcat : (rest.map fun v => v.category).sum ≤ 8) (hdg : decode cc pc = .ok (.invokevirtual index, 3))
    (kx : ∀ (E : String) (w1 : dz_W) (q : Addr) (ce : Cell) (H1 : Heap) (locs1 : List Loc), px E w1 → dz_O G.1 dz_CL A s.heap (wr ++ w1) H1 locs1 → H1[q]? = some ce → ce.vm = .none → s.vm.findClass E = some ce.cls → vx_W p l e R s m args below meth c H1 locs1 k9 n9 Q (F0 m pc ls rest) q)
    (kk : ∀ (r : Option Value) (w1 : dz_W) (H1 : Heap) (locs1 : List Loc), po r w1 → dz_O G.1 dz_CL A s.heap (wr ++ w1) H1 locs1 → W p l e R s m args below meth c H1 locs1 k9 n9 Q (F0 m (pc + 3) ls (r.toList ++ rest))) : W p l e R s m args below meth c H locs cells slots Q (F0 m pc ls st0) := by
  subst hst
  exact dz_go X h wr (vx_runVX (n := n) X.1 hM (vx_cwVW n X.ts g rfl rfl rfl hd hR) ⟨dz_blind, hb, fun U hU hW => ⟨rfl, dz_pre X h isC isR hnd hC U hU hW⟩⟩ rfl hn hl.1 rfl (lv_room hcat) hdg ⟨Nat.le_trans hroom.1 hroom.2.2.1, Nat.le_trans hroom.2.1 hroom.2.2.2⟩) isC isR hnd hC hRr (fun E w1 q ce H1 locs1 g1 g2 g3 g4 g5 => vx_widen hroom.1 hroom.2.1 (kx E w1 q ce H1 locs1 g1 g2 g3 g4 g5)) (fun r w1 H1 locs1 g1 g2 => W.widen hroom.1 hroom.2.1 (kk r w1 H1 locs1 g1 g2))
theorem dz_I (X : dz_X p s m args meth c G y0 cc nL ret tb A) (h : dz_O G.1 dz_CL A s.heap ww H locs) (hl : lv_has ls nL lv) {index n maxL : Nat} {y : MethodName} {bytes : ByteArray} {ret1 : Option FieldType} {rm : Room} {As : List Value} {po : Option Value → dz_W → Prop} {px : String → dz_W → Prop} {wc wr : dz_W} {b : Nat} (hM : dz_M l G y bytes maxL none rm (.ref b :: As) wc H.size po px) (g : Cond.code y bytes maxL none ∈ lw_all) (g2 : Cond.initialized y.cls ∈ lw_all) (g3 : Cond.methodLink y0.cls index y ∈ lw_all) (g4 : Cond.instanceMethod y ∈ lw_all) (hy : y.name = "<init>") (hd : y.cls ≠ "java/lang/invoke/MethodHandle" ∧ y.cls ≠ "java/lang/invoke/VarHandle" ∧ (parseMethodDescriptor y.desc).map (fun d => d.parameters.length) = some n) (hR : rm.frames + 1 ≤ R.frames ∧ 8 + (maxL + 11) + rm.locals ≤ R.locals) {k9 n9 : Nat} (hroom : cells + rm.cells ≤ k9 ∧ slots + rm.slots ≤ n9 ∧ k9 ≤ R.cells ∧ n9 ≤ R.slots) (isC isR : List Nat) (hnd : va_nd (isC ++ isR) = true) (hC : isC.map (fun i => ww[i]?) = wc.map some) (hRr : isR.map (fun i => ww[i]?) = wr.map some) (hn : As.length = n) (hst : st0 = As.reverse ++ .ref b :: rest) (hcat : (rest.map fun v => v.category).sum ≤ 8) (hdg : decode cc pc = .ok (.invokespecial index, 3))
    (kx : ∀ (E : String) (w1 : dz_W) (q : Addr) (ce : Cell) (H1 : Heap) (locs1 : List Loc), px E w1 → dz_O G.1 dz_CL A s.heap (wr ++ w1) H1 locs1 → H1[q]? = some ce → ce.vm = .none → s.vm.findClass E = some ce.cls → vx_W p l e R s m args below meth c H1 locs1 k9 n9 Q (F0 m pc ls rest) q)
    (kk : ∀ (r : Option Value) (w1 : dz_W) (H1 : Heap) (locs1 : List Loc), po r w1 → dz_O G.1 dz_CL A s.heap (wr ++ w1) H1 locs1 → W p l e R s m args below meth c H1 locs1 k9 n9 Q (F0 m (pc + 3) ls (r.toList ++ rest))) : W p l e R s m args below meth c H locs cells slots Q (F0 m pc ls st0) := by
  subst hst
  exact dz_go X h wr (vx_runI (n := n) X.1 hM (cwI n X.ts (lw_meth g) rfl rfl rfl (X.ts _ g2) (X.ts _ g3) (X.ts _ g4) hy hd hR) ⟨dz_blind, fun U hU hW => ⟨rfl, dz_pre X h isC isR hnd hC U hU hW⟩⟩ rfl hn hl.1 rfl (lv_room hcat) hdg ⟨Nat.le_trans hroom.1 hroom.2.2.1, Nat.le_trans hroom.2.1 hroom.2.2.2⟩) isC isR hnd hC hRr (fun E w1 q ce H1 locs1 g1 g2 g3 g4 g5 => vx_widen hroom.1 hroom.2.1 (kx E w1 q ce H1 locs1 g1 g2 g3 g4 g5)) (fun r w1 H1 locs1 g1 g2 => W.widen hroom.1 hroom.2.1 (kk r w1 H1 locs1 g1 g2))
theorem dz_IN (X : dz_X p s m args meth c G y0 cc nL ret tb A) (h : dz_O G.1 dz_CL A s.heap ww H locs) (hl : lv_has ls nL lv) {index n maxL : Nat} {y : MethodName} {bytes : ByteArray} {ret1 : Option FieldType} {rm : Room} {As : List Value} {po : Option Value → dz_W → Prop} {px : String → dz_W → Prop} {wc wr : dz_W} {b : Nat} {host : String} (hM : dz_M l G y bytes maxL none rm (.ref b :: As) wc H.size po px) (g : Cond.code y bytes maxL none ∈ lw_all) (g2 : Cond.initialized y.cls ∈ lw_all) (g3 : Cond.methodLinkNest y0.cls index y host ∈ lw_tbl) (g4 : Cond.instanceMethod y ∈ lw_all) (hy : y.name = "<init>") (hd : y.cls ≠ "java/lang/invoke/MethodHandle" ∧ y.cls ≠ "java/lang/invoke/VarHandle" ∧ (parseMethodDescriptor y.desc).map (fun d => d.parameters.length) = some n) (hR : rm.frames + 1 ≤ R.frames ∧ 8 + (maxL + 11) + rm.locals ≤ R.locals) {k9 n9 : Nat} (hroom : cells + rm.cells ≤ k9 ∧ slots + rm.slots ≤ n9 ∧ k9 ≤ R.cells ∧ n9 ≤ R.slots) (isC isR : List Nat) (hnd : va_nd (isC ++ isR) = true) (hC : isC.map (fun i => ww[i]?) = wc.map some) (hRr : isR.map (fun i => ww[i]?) = wr.map some) (hn : As.length = n) (hst : st0 = As.reverse ++ .ref b :: rest) (hcat : (rest.map fun v => v.category).sum ≤ 8) (hdg : decode cc pc = .ok (.invokespecial index, 3))
    (kx : ∀ (E : String) (w1 : dz_W) (q : Addr) (ce : Cell) (H1 : Heap) (locs1 : List Loc), px E w1 → dz_O G.1 dz_CL A s.heap (wr ++ w1) H1 locs1 → H1[q]? = some ce → ce.vm = .none → s.vm.findClass E = some ce.cls → vx_W p l e R s m args below meth c H1 locs1 k9 n9 Q (F0 m pc ls rest) q)
    (kk : ∀ (r : Option Value) (w1 : dz_W) (H1 : Heap) (locs1 : List Loc), po r w1 → dz_O G.1 dz_CL A s.heap (wr ++ w1) H1 locs1 → W p l e R s m args below meth c H1 locs1 k9 n9 Q (F0 m (pc + 3) ls (r.toList ++ rest))) : W p l e R s m args below meth c H locs cells slots Q (F0 m pc ls st0) := by
  subst hst
  exact dz_go X h wr (vx_runIN (n := n) X.1 hM ⟨va_cnB n X.ts (lw_meth g) rfl rfl rfl (X.nw g3 rfl) (X.ts _ g2) hd hR, hy, X.ts _ g4⟩ ⟨dz_blind, fun U hU hW => ⟨rfl, dz_pre X h isC isR hnd hC U hU hW⟩⟩ rfl hn hl.1 rfl (lv_room hcat) hdg ⟨Nat.le_trans hroom.1 hroom.2.2.1, Nat.le_trans hroom.2.1 hroom.2.2.2⟩) isC isR hnd hC hRr (fun E w1 q ce H1 locs1 g1 g2 g3 g4 g5 => vx_widen hroom.1 hroom.2.1 (kx E w1 q ce H1 locs1 g1 g2 g3 g4 g5)) (fun r w1 H1 locs1 g1 g2 => W.widen hroom.1 hroom.2.1 (kk r w1 H1 locs1 g1 g2))
theorem dz_SN (X : dz_X p s m args meth c G y0 cc nL ret tb A) (h : dz_O G.1 dz_CL A s.heap ww H locs) (hl : lv_has ls nL lv) {index n maxL : Nat} {y : MethodName} {bytes : ByteArray} {ret1 : Option FieldType} {rm : Room} {As : List Value} {po : Option Value → dz_W → Prop} {px : String → dz_W → Prop} {wc wr : dz_W} {host : String} (hM : dz_M l G y bytes maxL ret1 rm As wc H.size po px) (g : Cond.code y bytes maxL ret1 ∈ lw_all) (g2 : Cond.initialized y.cls ∈ lw_all) (g3 : Cond.methodLinkNest y0.cls index y host ∈ lw_tbl) (g4 : Cond.static y ∈ lw_all) (hd : y.cls ≠ "java/lang/invoke/MethodHandle" ∧ y.cls ≠ "java/lang/invoke/VarHandle" ∧ (parseMethodDescriptor y.desc).map (fun d => d.parameters.length) = some n) (hR : rm.frames + 1 ≤ R.frames ∧ 8 + (maxL + 11) + rm.locals ≤ R.locals) {k9 n9 : Nat} (hroom : cells + rm.cells ≤ k9 ∧ slots + rm.slots ≤ n9 ∧ k9 ≤ R.cells ∧ n9 ≤ R.slots) (isC isR : List Nat) (hnd : va_nd (isC ++ isR) = true) (hC : isC.map (fun i => ww[i]?) = wc.map some) (hRr : isR.map (fun i => ww[i]?) = wr.map some) (hn : As.length = n) (hst : st0 = As.reverse ++ rest) (hcat : (rest.map fun v => v.category).sum ≤ 8) (hdg : decode cc pc = .ok (.invokestatic index, 3))
    (kx : ∀ (E : String) (w1 : dz_W) (q : Addr) (ce : Cell) (H1 : Heap) (locs1 : List Loc), px E w1 → dz_O G.1 dz_CL A s.heap (wr ++ w1) H1 locs1 → H1[q]? = some ce → ce.vm = .none → s.vm.findClass E = some ce.cls → vx_W p l e R s m args below meth c H1 locs1 k9 n9 Q (F0 m pc ls rest) q)
    (kk : ∀ (r : Option Value) (w1 : dz_W) (H1 : Heap) (locs1 : List Loc), po r w1 → dz_O G.1 dz_CL A s.heap (wr ++ w1) H1 locs1 → W p l e R s m args below meth c H1 locs1 k9 n9 Q (F0 m (pc + 3) ls (r.toList ++ rest))) : W p l e R s m args below meth c H locs cells slots Q (F0 m pc ls st0) := by
  subst hst
  exact dz_go X h wr (vx_runSN (n := n) X.1 hM ⟨va_cnB n X.ts (lw_meth g) rfl rfl rfl (X.nw g3 rfl) (X.ts _ g2) hd hR, X.ts _ g4, trivial⟩ ⟨dz_blind, fun U hU hW => ⟨rfl, dz_pre X h isC isR hnd hC U hU hW⟩⟩ rfl hn hl.1 rfl (lv_room hcat) hdg ⟨Nat.le_trans hroom.1 hroom.2.2.1, Nat.le_trans hroom.2.1 hroom.2.2.2⟩) isC isR hnd hC hRr (fun E w1 q ce H1 locs1 g1 g2 g3 g4 g5 => vx_widen hroom.1 hroom.2.1 (kx E w1 q ce H1 locs1 g1 g2 g3 g4 g5)) (fun r w1 H1 locs1 g1 g2 => W.widen hroom.1 hroom.2.1 (kk r w1 H1 locs1 g1 g2))
theorem dz_U (X : dz_X p s m args meth c G y0 cc nL ret tb A) (h : dz_O G.1 dz_CL A s.heap ww H locs) (hl : lv_has ls nL lv) {index n maxL : Nat} {y : MethodName} {bytes : ByteArray} {ret1 : Option FieldType} {rm : Room} {As : List Value} {po : Option Value → dz_W → Prop} {px : String → dz_W → Prop} {wc wr : dz_W} {C owner : String} {x : MethodName} {b : Nat} (hM : dz_M l G y bytes maxL ret1 rm (.ref b :: As) wc H.size po px) (hcu : va_CU R s args y0.cls C owner index x y bytes maxL ret1 (ws_ y bytes maxL ret1) rm rm.cells rm.slots n) {k9 n9 : Nat} (hroom : cells + rm.cells ≤ k9 ∧ slots + rm.slots ≤ n9 ∧ k9 ≤ R.cells ∧ n9 ≤ R.slots) (isC isR : List Nat) (hnd : va_nd (isC ++ isR) = true) (hC : isC.map (fun i => ww[i]?) = wc.map some) (hRr : isR.map (fun i => ww[i]?) = wr.map some) (hb : ∃ cell : Cell, H[b]? = some cell ∧ cell.vm.isStatics = false ∧ s.vm.findClass C = some cell.cls) (hn : As.length = n) (hst : st0 = As.reverse ++ .ref b :: rest) (hcat : (rest.map fun v => v.category).sum ≤ 8) (hdg : decode cc pc = .ok (.invokevirtual index, 3))
    (kx : ∀ (E : String) (w1 : dz_W) (q : Addr) (ce : Cell) (H1 : Heap) (locs1 : List Loc), px E w1 → dz_O G.1 dz_CL A s.heap (wr ++ w1) H1 locs1 → H1[q]? = some ce → ce.vm = .none → s.vm.findClass E = some ce.cls → vx_W p l e R s m args below meth c H1 locs1 k9 n9 Q (F0 m pc ls rest) q)
    (kk : ∀ (r : Option Value) (w1 : dz_W) (H1 : Heap) (locs1 : List Loc), po r w1 → dz_O G.1 dz_CL A s.heap (wr ++ w1) H1 locs1 → W p l e R s m args below meth c H1 locs1 k9 n9 Q (F0 m (pc + 3) ls (r.toList ++ rest))) : W p l e R s m args below meth c H locs cells slots Q (F0 m pc ls st0) := by
  subst hst
  exact dz_go X h wr (vx_runU (n := n) X.1 hM hcu ⟨dz_blind, hb, fun U hU hW => ⟨rfl, dz_pre X h isC isR hnd hC U hU hW⟩⟩ rfl hn hl.1 rfl (lv_room hcat) hdg ⟨Nat.le_trans hroom.1 hroom.2.2.1, Nat.le_trans hroom.2.1 hroom.2.2.2⟩) isC isR hnd hC hRr (fun E w1 q ce H1 locs1 g1 g2 g3 g4 g5 => vx_widen hroom.1 hroom.2.1 (kx E w1 q ce H1 locs1 g1 g2 g3 g4 g5)) (fun r w1 H1 locs1 g1 g2 => W.widen hroom.1 hroom.2.1 (kk r w1 H1 locs1 g1 g2))
theorem dz_SU (X : dz_X p s m args meth c G y0 cc nL ret tb A) (h : dz_O G.1 dz_CL A s.heap ww H locs) (hl : lv_has ls nL lv) {index n maxL : Nat} {y : MethodName} {bytes : ByteArray} {ret1 : Option FieldType} {rm : Room} {As : List Value} {po : Option Value → dz_W → Prop} {px : String → dz_W → Prop} {wc wr : dz_W} {C : String} {cC : ClassId} {b : Nat} (hcl : ClassAt s C cC) (hM : dz_M l G y bytes maxL ret1 rm (.ref b :: As) wc H.size po px) (hcs : va_CS R s args y0.cls index y bytes maxL ret1 (ws_ y bytes maxL ret1) rm rm.cells rm.slots n) {k9 n9 : Nat} (hroom : cells + rm.cells ≤ k9 ∧ slots + rm.slots ≤ n9 ∧ k9 ≤ R.cells ∧ n9 ≤ R.slots) (isC isR : List Nat) (hnd : va_nd (isC ++ isR) = true) (hC : isC.map (fun i => ww[i]?) = wc.map some) (hRr : isR.map (fun i => ww[i]?) = wr.map some) (hb : ∃ cell : Cell, H[b]? = some cell ∧ cell.vm.isStatics = false ∧ s.vm.findClass C = some cell.cls) (hn : As.length = n) (hst : st0 = As.reverse ++ .ref b :: rest) (hcat : (rest.map fun v => v.category).sum ≤ 8) (hdg : decode cc pc = .ok (.invokespecial index, 3))
    (kx : ∀ (E : String) (w1 : dz_W) (q : Addr) (ce : Cell) (H1 : Heap) (locs1 : List Loc), px E w1 → dz_O G.1 dz_CL A s.heap (wr ++ w1) H1 locs1 → H1[q]? = some ce → ce.vm = .none → s.vm.findClass E = some ce.cls → vx_W p l e R s m args below meth c H1 locs1 k9 n9 Q (F0 m pc ls rest) q)
    (kk : ∀ (r : Option Value) (w1 : dz_W) (H1 : Heap) (locs1 : List Loc), po r w1 → dz_O G.1 dz_CL A s.heap (wr ++ w1) H1 locs1 → W p l e R s m args below meth c H1 locs1 k9 n9 Q (F0 m (pc + 3) ls (r.toList ++ rest))) : W p l e R s m args below meth c H locs cells slots Q (F0 m pc ls st0) := by
  subst hst
  exact dz_go X h wr (vx_runSU (n := n) hcl X.1 hM hcs ⟨dz_blind, hb, fun U hU hW => ⟨rfl, dz_pre X h isC isR hnd hC U hU hW⟩⟩ rfl hn hl.1 rfl (lv_room hcat) hdg ⟨Nat.le_trans hroom.1 hroom.2.2.1, Nat.le_trans hroom.2.1 hroom.2.2.2⟩) isC isR hnd hC hRr (fun E w1 q ce H1 locs1 g1 g2 g3 g4 g5 => vx_widen hroom.1 hroom.2.1 (kx E w1 q ce H1 locs1 g1 g2 g3 g4 g5)) (fun r w1 H1 locs1 g1 g2 => W.widen hroom.1 hroom.2.1 (kk r w1 H1 locs1 g1 g2))
theorem dz_F (X : dz_X p s m args meth c G y0 cc nL ret tb A) (h : dz_O G.1 dz_CL A s.heap ww H locs) (hl : lv_has ls nL lv) {index n maxL : Nat} {y : MethodName} {bytes : ByteArray} {ret1 : Option FieldType} {rm : Room} {As : List Value} {po : Option Value → dz_W → Prop} {px : String → dz_W → Prop} {wc wr : dz_W} {C : String} {x : MethodName} {count b : Nat} {cC : ClassId} (hcl : ClassAt s C cC) (hM : dz_M l G y bytes maxL ret1 rm (.ref b :: As) wc H.size po px) (g : GoodIn lw_all (va_wsF y0.cls index C x y (ws_ y bytes maxL ret1))) (hF : (C, x, y) ∈ dz_FW) (hd : x.cls ≠ "java/lang/invoke/MethodHandle" ∧ x.cls ≠ "java/lang/invoke/VarHandle" ∧ (parseMethodDescriptor x.desc).map (fun d => d.parameters.length) = some n) (hR : rm.frames + 1 ≤ R.frames ∧ 8 + (maxL + 11) + rm.locals ≤ R.locals) {k9 n9 : Nat} (hroom : cells + rm.cells ≤ k9 ∧ slots + rm.slots ≤ n9 ∧ k9 ≤ R.cells ∧ n9 ≤ R.slots) (isC isR : List Nat) (hnd : va_nd (isC ++ isR) = true) (hC : isC.map (fun i => ww[i]?) = wc.map some) (hRr : isR.map (fun i => ww[i]?) = wr.map some) (hb : ∃ cell : Cell, H[b]? = some cell ∧ cell.vm.isStatics = false ∧ s.vm.findClass C = some cell.cls) (hn : As.length = n) (hst : st0 = As.reverse ++ .ref b :: rest) (hcat : (rest.map fun v => v.category).sum ≤ 8) (hdg : decode cc pc = .ok (.invokeinterface index count, 5))
    (kx : ∀ (E : String) (w1 : dz_W) (q : Addr) (ce : Cell) (H1 : Heap) (locs1 : List Loc), px E w1 → dz_O G.1 dz_CL A s.heap (wr ++ w1) H1 locs1 → H1[q]? = some ce → ce.vm = .none → s.vm.findClass E = some ce.cls → vx_W p l e R s m args below meth c H1 locs1 k9 n9 Q (F0 m pc ls rest) q)
    (kk : ∀ (r : Option Value) (w1 : dz_W) (H1 : Heap) (locs1 : List Loc), po r w1 → dz_O G.1 dz_CL A s.heap (wr ++ w1) H1 locs1 → W p l e R s m args below meth c H1 locs1 k9 n9 Q (F0 m (pc + 5) ls (r.toList ++ rest))) : W p l e R s m args below meth c H locs cells slots Q (F0 m pc ls st0) := by
  subst hst
  exact dz_go5 X h wr (vx_runF (n := n) hcl X.1 hM (va_cwF n X.ts g rfl rfl rfl (X.ev.2.2.2.1 _ hF) hd hR) ⟨dz_blind, hb, fun U hU hW => ⟨rfl, dz_pre X h isC isR hnd hC U hU hW⟩⟩ rfl hn hl.1 rfl (lv_room hcat) hdg ⟨Nat.le_trans hroom.1 hroom.2.2.1, Nat.le_trans hroom.2.1 hroom.2.2.2⟩) isC isR hnd hC hRr (fun E w1 q ce H1 locs1 g1 g2 g3 g4 g5 => vx_widen hroom.1 hroom.2.1 (kx E w1 q ce H1 locs1 g1 g2 g3 g4 g5)) (fun r w1 H1 locs1 g1 g2 => W.widen hroom.1 hroom.2.1 (kk r w1 H1 locs1 g1 g2))
/-! ends -/
theorem dz_out (X : dz_X p s m args meth c G y0 cc nL ret tb A) (htb : tb = []) (h : dz_O G.1 dz_CL A s.heap ww H locs) {E : String} {ce : Cell} {q : Addr} {mc ms : Nat} {Qc : Array Value → State → Outcome → State → Prop} {px : String → dz_W → Prop} (hpx : px E ww) (hce : H[q]? = some ce) (hv : ce.vm = .none) (hcl : s.vm.findClass E = some ce.cls) (hc : cells ≤ mc) (hs : slots ≤ ms) :
    vx_W p l e R s m args below meth c H locs cells slots (vx_MQ below Qc (dz_QX G px A) args s mc ms A) (F0 m pc ls rest) q := by
  have ht : ∀ z ∈ c.exceptionTable.toList, covers z pc = false := fun z hz => by
    rw [X.2.2.2.2.1, htb] at hz
    cases hz
  exact vx_out ht X.2.2.1 hce hv hcl (fun t ht _ => ⟨⟨ww, hpx, by rw [ht]; exact h.1, h.2.1⟩, h.2.2.F ht⟩) h.2.2.2.2 hc hs
theorem dz_end (X : dz_X p s m args meth c G y0 cc nL ret tb A) (h : dz_O G.1 dz_CL A s.heap ww H locs) {r : Option Value} {po : Option Value → dz_W → Prop} (hpo : po r ww) : ∀ t : State, t.heap = H → s.WarmedH t.vm → dz_Q G po A args s (.returned r) t := fun t ht _ => ⟨⟨r, ww, rfl, hpo, by rw [ht]; exact h.1, h.2.1⟩, h.2.2.F ht⟩
theorem dz_iret (X : dz_X p s m args meth c G y0 cc nL ret tb A) (h : dz_O G.1 dz_CL A s.heap ww H locs) {v : Int32} {po : Option Value → dz_W → Prop} {px : String → dz_W → Prop} {mc ms : Nat} (hret : ret = some .int) (hpo : po (some (.int v)) ww) (hc : cells ≤ mc) (hs : slots ≤ ms) (hdg : decode cc pc = .ok (.ireturn, 1)) : W p l e R s m args below meth c H locs cells slots (vx_MQ below (dz_Q G po A) (dz_QX G px A) args s mc ms A) (F0 m pc ls [.int v]) := by
  subst hret
  have hlocks := X.2.2.1
  exact vx_ret (W.widen hc hs (W.iret (v := v) X.x X.b X.2.1 (dz_end X h hpo) h.2.2.2.2 hdg))
theorem dz_lret (X : dz_X p s m args meth c G y0 cc nL ret tb A) (h : dz_O G.1 dz_CL A s.heap ww H locs) {v : Int64} {po : Option Value → dz_W → Prop} {px : String → dz_W → Prop} {mc ms : Nat} (hret : ret = some .long) (hpo : po (some (.long v)) ww) (hc : cells ≤ mc) (hs : slots ≤ ms) (hdg : decode cc pc = .ok (.lreturn, 1)) : W p l e R s m args below meth c H locs cells slots (vx_MQ below (dz_Q G po A) (dz_QX G px A) args s mc ms A) (F0 m pc ls [.long v]) := by
  subst hret
  have hlocks := X.2.2.1
  exact vx_ret (W.widen hc hs (W.lret (v := v) X.x X.b X.2.1 (dz_end X h hpo) h.2.2.2.2 hdg))
theorem dz_fret (X : dz_X p s m args meth c G y0 cc nL ret tb A) (h : dz_O G.1 dz_CL A s.heap ww H locs) {v : UInt32} {po : Option Value → dz_W → Prop} {px : String → dz_W → Prop} {mc ms : Nat} (hret : ret = some .float) (hpo : po (some (.float v)) ww) (hc : cells ≤ mc) (hs : slots ≤ ms) (hdg : decode cc pc = .ok (.freturn, 1)) : W p l e R s m args below meth c H locs cells slots (vx_MQ below (dz_Q G po A) (dz_QX G px A) args s mc ms A) (F0 m pc ls [.float v]) := by
  subst hret
  have hlocks := X.2.2.1
  exact vx_ret (W.widen hc hs (W.fret (v := v) X.x X.b X.2.1 (dz_end X h hpo) h.2.2.2.2 hdg))
theorem dz_dret (X : dz_X p s m args meth c G y0 cc nL ret tb A) (h : dz_O G.1 dz_CL A s.heap ww H locs) {v : UInt64} {po : Option Value → dz_W → Prop} {px : String → dz_W → Prop} {mc ms : Nat} (hret : ret = some .double) (hpo : po (some (.double v)) ww) (hc : cells ≤ mc) (hs : slots ≤ ms) (hdg : decode cc pc = .ok (.dreturn, 1)) : W p l e R s m args below meth c H locs cells slots (vx_MQ below (dz_Q G po A) (dz_QX G px A) args s mc ms A) (F0 m pc ls [.double v]) := by
  subst hret
  have hlocks := X.2.2.1
  exact vx_ret (W.widen hc hs (W.dret (v := v) X.x X.b X.2.1 (dz_end X h hpo) h.2.2.2.2 hdg))
theorem dz_zret (X : dz_X p s m args meth c G y0 cc nL ret tb A) (h : dz_O G.1 dz_CL A s.heap ww H locs) {v : Int32} {ty : FieldType} {po : Option Value → dz_W → Prop} {px : String → dz_W → Prop} {mc ms : Nat} (hret : ret = some ty) (hn : narrow ty (.int v) = .int v) (hpo : po (some (.int v)) ww) (hc : cells ≤ mc) (hs : slots ≤ ms) (hdg : decode cc pc = .ok (.ireturn, 1)) : W p l e R s m args below meth c H locs cells slots (vx_MQ below (dz_Q G po A) (dz_QX G px A) args s mc ms A) (F0 m pc ls [.int v]) := by
  subst hret
  have hlocks := X.2.2.1
  exact vx_ret (W.widen hc hs (W.zret (v := v) X.x X.b X.2.1 hn (dz_end X h hpo) h.2.2.2.2 hdg))
theorem dz_vret (X : dz_X p s m args meth c G y0 cc nL ret tb A) (h : dz_O G.1 dz_CL A s.heap ww H locs) {po : Option Value → dz_W → Prop} {px : String → dz_W → Prop} {mc ms : Nat} (hret : ret = none) (hpo : po none ww) (hc : cells ≤ mc) (hs : slots ≤ ms) (hdg : decode cc pc = .ok (.return_, 1)) : W p l e R s m args below meth c H locs cells slots (vx_MQ below (dz_Q G po A) (dz_QX G px A) args s mc ms A) (F0 m pc ls []) := by
  subst hret
  have hlocks := X.2.2.1
  exact vx_ret (W.widen hc hs (W.vret X.x X.b X.2.1 (dz_end X h hpo) h.2.2.2.2 hdg))
theorem dz_aret (X : dz_X p s m args meth c G y0 cc nL ret tb A) (h : dz_O G.1 dz_CL A s.heap ww H locs) {v : Value} {rt : FieldType} {po : Option Value → dz_W → Prop} {px : String → dz_W → Prop} {mc ms : Nat} (hret : ret = some rt) (hrt : (∃ n, rt = .object n) ∨ ∃ t, rt = .array t) (hv : v = .null ∨ ∃ a, v = .ref a) (hpo : po (some v) ww) (hc : cells ≤ mc) (hs : slots ≤ ms) (hdg : decode cc pc = .ok (.areturn, 1)) : W p l e R s m args below meth c H locs cells slots (vx_MQ below (dz_Q G po A) (dz_QX G px A) args s mc ms A) (F0 m pc ls [v]) := by
  subst hret
  have hlocks := X.2.2.1
  exact vx_ret (W.widen hc hs (W.aret (v := v) X.x X.b X.2.1 hrt hv (dz_end X h hpo) h.2.2.2.2 hdg))
/-- 'throw new E()' -/
theorem dz_throw0 (X : dz_X p s m args meth c G y0 cc nL ret tb A) (hl : l.stackTraces = false) (hls : lv_has ls nL lv) (htb : tb = []) (h : dz_O G.1 dz_CL A s.heap ww H locs) {cls : String} {names : List String} {ik ic mc ms : Nat} {Qc : Array Value → State → Outcome → State → Prop} {px : String → dz_W → Prop} (hcls : Bundle.fit cls = true) (hnames : ∀ n ∈ names, Bundle.fit n = true)
    (hk : Cond.classLink y0.cls ik cls ∈ lw_all) (hini : Cond.initialized cls ∈ lw_all) (h1 : ∀ w ∈ (vx_at0 y0.cls ic cls names).filter goodWord, w ∈ lw_all) (h2 : ∀ w ∈ (vx_at0 y0.cls ic cls names).filter (fun w => !goodWord w), w ∈ lw_tbl ∧ isNw w = true)
    (d0 : decode cc pc = .ok (.new ik, 3)) (d3 : decode cc (pc + 3) = .ok (.dup, 1)) (d4 : decode cc (pc + 4) = .ok (.invokespecial ic, 3)) (d7 : decode cc (pc + 7) = .ok (.athrow, 1))
    (hRframes : names.length + 3 < R.frames) (hRlocals : (rest.map fun v => v.category).sum + (13 * (names.length + 1) + 42) ≤ R.locals) (hRcells : cells + 1 ≤ R.cells) (hRslots : slots + 6 ≤ R.slots) (hpx : px cls ww) (hc : cells + 1 ≤ mc) (hs : slots + 6 ≤ ms) :
    W p l e R s m args below meth c H locs cells slots (vx_MQ below Qc (dz_QX G px A) args s mc ms A) (F0 m pc ls rest) := by
  have hat : ∀ w ∈ vx_at0 y0.cls ic cls names, w.before args s = true := by
    refine vx_hat (B := (vx_at0 y0.cls ic cls names).filter (fun w => !goodWord w)) (fun w hw => X.ts w (h1 w hw)) (fun w hw => hw) (fun w hw => ?_)
    obtain ⟨g1, g2⟩ := h2 w hw
    exact va_Nw.use (isNw_tab g2) (X.nw g1 g2)
  have hgood : ∀ w ∈ Cond.classLink y0.cls ik cls :: Cond.initialized cls :: vx_at0 y0.cls ic cls names, vx_ot w = true := by
    intro w hw
    rcases List.mem_cons.mp hw with e | hw
    · rw [e]; rfl
    rcases List.mem_cons.mp hw with e | hw
    · rw [e]; rfl
    by_cases hg : goodWord w = true
    · simp [vx_ot, hg]
    · have h3 := h2 w (List.mem_filter.mpr ⟨hw, by simpa using hg⟩)
      simp [vx_ot, isNw_tab h3.2]
  have ht : ∀ z ∈ c.exceptionTable.toList, covers z (pc + 7) = false := fun z hz => by
    rw [X.2.2.2.2.1, htb] at hz
    cases hz
  obtain ⟨-, -, -, -, -, -, -, -, -, -, -, -, -, -, -, -, -, hU, hN⟩ := X.st
  refine vx_throw0 (free := A) X.x X.b hl X.own hcls hnames (X.ts _ hk) (X.ts _ hini) hat hgood hU hN (dz_S2 X h) (hls.1.trans X.1.2.2.1.symm) d0 d3 d4 d7 ht hRframes hRlocals hRcells hRslots X.2.2.1 (fun t _ hz ho => ?_) h.2.2.2.2 hc hs
  have hP1 : dz_P G.1 dz_CL ww t.heap := h.1.kept (fun q hq => ho q.1 (h.1.lt hq))
  exact ⟨⟨ww, hpx, hP1, h.2.1⟩, Nat.le_trans h.2.2.1 hz, fun q g1 g2 => (ho q (Nat.lt_of_lt_of_le g1 h.2.2.1)).trans (h.2.2.2.1 q g1 g2)⟩
end DZC
