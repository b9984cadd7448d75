theorem dz_SU4 {own : String} {idx : Nat} {y : MethodName} {b : ByteArray} {L : Nat} {r : Option FieldType} (h1 : Cond.methodLink own idx y ∈ lw_all) (h0 : Cond.sameMethod y.cls y.cls y.name y.desc ∈ lw_all) (h2 : Cond.superclass own y.cls ∈ lw_all) (h3 : Cond.instanceMethod y ∈ lw_all) (h4 : Cond.initialized y.cls ∈ lw_all) (h5 : Cond.code y b L r ∈ lw_all) : GoodIn lw_all (va_wsSU own idx y (ws_ y b L r)) := by
  refine lw_app ?_ (lw_meth h5)
  intro w hw
  simp only [List.mem_cons, List.not_mem_nil, or_false] at hw
  rcases hw with e | e | e | e | e
  · rw [e]; exact h1
  · rw [e]; exact h0
  · rw [e]; exact h2
  · rw [e]; exact h3
  · rw [e]; exact h4
section DZCUP
variable {R : Room} {s : State} {args : Array Value}
theorem dz_selP {y : MethodName} {C : String} {n : Nat} (hy : y.cls ≠ "java/lang/invoke/MethodHandle" ∧ y.cls ≠ "java/lang/invoke/VarHandle") (hins : (Cond.instantiable C n).before args s = true) (hpriv : (Cond.privateMethod y).before args s = true) (hinst : (Cond.instanceMethod y).before args s = true) (hsame : (Cond.sameMethod y.cls y.cls y.name y.desc).before args s = true) : (Cond.selects C y y).before args s = true := by
  obtain ⟨c, k, hc, hk, -, -, -, -⟩ := Cond.instantiable_spec hins
  obtain ⟨mk, methM, hnamed, hmethM, -, -⟩ := Cond.instanceMethod_spec hinst
  obtain ⟨cn, ck, r1, hcn, hck, hni, hf, hn1⟩ := Cond.sameMethod_found hsame
  have hfound := State.methodFound?_of_named hnamed hy
  have hcls : mk.cls = cn := Option.some.inj ((findClass_of_methodNamed hnamed).symm.trans hcn)
  have hsel : selectMethod {} s.vm c mk = .method mk := selectMethod_private hmethM (Cond.privateMethod_at hpriv mk methM hnamed hmethM)
  simp only [Cond.before, Cond.holds, Cond.value, hc, hfound, hnamed, hsel, hcls, hck]
  simp; exact hni
theorem dz_cuP {own C : String} {index maxL k : Nat} {y : MethodName} {bytes : ByteArray} {ret : Option FieldType} {rm : Room} (n : Nat) (ht : ∀ w ∈ lw_all, w.before args s = true) (h1 : Cond.methodLink own index y ∈ lw_all) (h0 : Cond.sameMethod y.cls y.cls y.name y.desc ∈ lw_all) (hins : Cond.instantiable C k ∈ lw_all) (hpriv : (Cond.privateMethod y).before args s = true) (h3 : Cond.instanceMethod y ∈ lw_all) (h4 : Cond.initialized y.cls ∈ lw_all) (h5 : Cond.code y bytes maxL ret ∈ lw_all)
    (hd : y.cls ≠ "java/lang/invoke/MethodHandle" ∧ y.cls ≠ "java/lang/invoke/VarHandle" ∧ (parseMethodDescriptor y.desc).map (fun d => d.parameters.length) = some n) (hR : rm.frames + 1 ≤ R.frames ∧ 8 + (maxL + 11) + rm.locals ≤ R.locals) : va_CU R s args own C y.cls index y y bytes maxL ret (ws_ y bytes maxL ret) rm rm.cells rm.slots n := by
  refine ⟨⟨rfl, rfl, hR.1, hR.2, pay_in ht (lw_meth h5), List.mem_cons_self⟩, ht _ h5, ht _ h4, ⟨hd.1, hd.2.1⟩, fun sig h => ?_, ht _ h1, ht _ h0, va_Decl.of (ht _ h3) (ht _ h5), dz_selP ⟨hd.1, hd.2.1⟩ (ht _ hins) hpriv (ht _ h3) (ht _ h0), ht _ h3⟩
  have h2 := hd.2.2
  rw [h] at h2
  exact (Option.some.inj h2).symm
end DZCUP
section DZSB
variable {p : Program} {l : Launch} {e : Env} {R : Room} {s : State} {m : MethodId} {args : Array Value} {below : List Frame} {meth : Method} {c : Code} {H : Heap} {locs : List Loc} {cells slots : Nat} {Q : State → Prop} {pc : Nat} {ls : Array Slot} {rest : List Value} {G : dz_G} {nL : Nat} {y0 : MethodName} {cc : ByteArray} {ret : Option FieldType} {tb : List ExceptionTableEntry} {A : Nat → Prop} {ww : dz_W} {lv : List (Nat × Value)} {a : Nat}
theorem dz_nmB (X : dz_X p s m args meth c G y0 cc nL ret tb A) : s.vm.findClass "[B" = some (G.2.1 4) := (X.K.2 4 _ rfl).2
theorem dz_cloneB (X : dz_X p s m args meth c G y0 cc nL ret tb A) (hl : lv_has ls nL lv) {index n : Nat} {f : Nat → Int32} (hlink : Cond.methodLink y0.cls index ⟨"[B", "clone", "()Ljava/lang/Object;"⟩ ∈ lw_all) (h : dz_O G.1 dz_CL A s.heap ([(a, dzB G n f)] :: ww) H locs) (hf : sb_Fit f)
    (hframes : 1 ≤ R.frames) (hcat : (rest.map fun v => v.category).sum ≤ 8) (hlocals : 40 ≤ R.locals) (hc : cells + 1 ≤ R.cells) (hs : slots + n ≤ R.slots) (hdg : decode cc pc = .ok (.invokevirtual index, 3))
    (kk : ∀ (q : Nat) (H1 : Heap), dz_O G.1 dz_CL A s.heap (([(a, dzB G n f)] :: ww) ++ [[(q, dzB G n f)]]) H1 locs → W p l e R s m args below meth c H1 locs (cells + 1) (slots + n) Q (F0 m (pc + 3) ls (.ref q :: rest))) : W p l e R s m args below meth c H locs cells slots Q (F0 m pc ls (.ref a :: rest)) := by
  obtain ⟨hP, hD, hS⟩ := h.flat
  refine va_clone X.x X.b (hl.1.trans X.1.2.2.1.symm).symm X.own (X.ts _ hlink) (X.ts _ q270) (X.ts _ q271) (X.ts _ q272) (X.ts _ q273) (X.nw q274 rfl) X.K hP hD hS X.new 0 4 (cA := G.2.1 4) (x := (n, .inl f)) (ty := .byte) rfl rfl (dz_nmB X) (fun i v hv => va_fit (fun i _ => hf i) i v hv) hframes (by omega) hc hs hdg (fun q H1 g0 g1 g2 g3 => kk q H1 (dz_unflat (by simp) g1 g2 g3))
theorem dz_castB (X : dz_X p s m args meth c G y0 cc nL ret tb A) {index k : Nat} {n : Nat} {f : Nat → Int32} (hlink : Cond.classLink y0.cls index "[B" ∈ lw_all) (h : dz_O G.1 dz_CL A s.heap ww H locs) (hk : ww[k]? = some [(a, dzB G n f)]) (hdg : decode cc pc = .ok (.checkcast index, 3))
    (kk : W p l e R s m args below meth c H locs cells slots Q (F0 m (pc + 3) ls (.ref a :: rest))) : W p l e R s m args below meth c H locs cells slots Q (F0 m pc ls (.ref a :: rest)) := by
  have h1 := h.at1 k hk
  exact va_castA X.x X.b X.own (X.ts _ hlink) (dz_one h1) 0 rfl (dz_nmB X) hdg kk
end DZSB
/-! texts -/
def dz_sz (v : Nat) : Nat := if v < 10 then 1 else if v < 100 then 2 else 3
def dz_o1 (j : Nat) : Int32 := vp_nar .byte (dz_ones.getD j 0)
def dz_t1 (j : Nat) : Int32 := vp_nar .byte (dz_tens.getD j 0)
def dz_dg (f : Nat → Int32) (b v : Nat) : Nat → Int32 := if v < 10 then upd f b (dz_o1 v) else if v < 100 then upd (upd f (b + 1) (dz_o1 v)) b (dz_t1 v) else upd (upd (upd f (b + 2) (dz_o1 (v % 100))) (b + 1) (dz_t1 (v % 100))) b (dz_o1 (v / 100))
def dz_a1 (f : Nat → Int32) (n : Nat) (c : Int32) : Nat → Int32 := upd f n (vp_nar .byte c.toInt8.toInt32)
def dz_zf (n : Nat) (f : Nat → Int32) : Prop := ∀ i, n ≤ i → f i = 0
theorem dz_fitN (x : Int32) : fits .byte (.int (vp_nar .byte x)) = true := pk_fb _
theorem dz_fit_dg {f : Nat → Int32} (h : sb_Fit f) (b v : Nat) : sb_Fit (dz_dg f b v) := by
  unfold dz_dg dz_o1 dz_t1
  split
  · exact sb_fitU h (dz_fitN _)
  · split
    · exact sb_fitU (sb_fitU h (dz_fitN _)) (dz_fitN _)
    · exact sb_fitU (sb_fitU (sb_fitU h (dz_fitN _)) (dz_fitN _)) (dz_fitN _)
theorem dz_fit_a1 {f : Nat → Int32} (h : sb_Fit f) (n : Nat) (c : Int32) : sb_Fit (dz_a1 f n c) := sb_fitU h (dz_fitN _)
theorem dz_zf_u {f : Nat → Int32} {n k j : Nat} {x : Int32} (h : dz_zf n f) (hk : n ≤ k) (hj : j < k) : dz_zf k (upd f j x) := by
  intro i hi; unfold upd; rw [if_neg (by omega)]; exact h i (by omega)
theorem dz_zf_w {f : Nat → Int32} {n k : Nat} (h : dz_zf n f) (hk : n ≤ k) : dz_zf k f := fun i hi => h i (by omega)
theorem dz_zf_dg {f : Nat → Int32} {n : Nat} (h : dz_zf n f) (v : Nat) : dz_zf (n + dz_sz v) (dz_dg f n v) := by
  unfold dz_dg dz_sz
  split
  · exact dz_zf_u h (by omega) (by omega)
  · split
    · exact dz_zf_u (dz_zf_u h (k := n + 2) (by omega) (by omega)) (by omega) (by omega)
    · exact dz_zf_u (dz_zf_u (dz_zf_u h (k := n + 3) (by omega) (by omega)) (k := n + 3) (by omega) (by omega)) (by omega) (by omega)
theorem dz_zf_a1 {f : Nat → Int32} {n : Nat} (h : dz_zf n f) (c : Int32) : dz_zf (n + 1) (dz_a1 f n c) := dz_zf_u h (by omega) (by omega)
theorem dz_cpy_z {f : Nat → Int32} {n : Nat} (h : dz_zf n f) : va_cpy f (fun _ => 0) 0 0 n = f := by
  funext i
  unfold va_cpy
  by_cases hi : i < n
  · rw [if_pos (by omega), show 0 + (i - 0) = i by omega]
  · rw [if_neg (by omega), h i (by omega)]
theorem dz_sz_le (v : Nat) : 1 ≤ dz_sz v ∧ dz_sz v ≤ 3 := by unfold dz_sz; split <;> (try split) <;> omega
def dz_gw (cap q : Nat) : Nat := cap + (if q - cap < cap + 2 then cap + 2 else q - cap)
theorem dz_gw_le {cap q : Nat} (h : cap < q) (hq : q ≤ 121) : cap < dz_gw cap q ∧ q ≤ dz_gw cap q ∧ dz_gw cap q ≤ 242 := by unfold dz_gw; split <;> omega
theorem dz_sle {q c : Nat} (hq : q < 1000000) (hc : c < 1000000) : nI q - nI c ≤ 0 ↔ q ≤ c := by
  rw [Int32.le_iff_toInt_le, pk_sub_toInt (by omega) (by omega), Int32.toInt_zero]; omega
theorem dz_ng1 : ∀ v, v < 10 → (-10 < -(nI v)) := by decide +kernel
theorem dz_ng2 : ∀ v, v < 100 → 10 ≤ v → (-(nI v) ≤ -10 ∧ -100 < -(nI v)) := by decide +kernel
theorem dz_ng3 : ∀ v, v < 301 → 100 ≤ v → (-(nI v) ≤ -10 ∧ -(nI v) ≤ -100 ∧ -1000 < -(nI v)) := by decide +kernel
theorem dz_ng4 : ∀ v, v < 100 → -100 < -(nI v) := by decide +kernel
theorem dz_ng5 : ∀ v, v < 301 → (-(nI v)) / 100 = -(nI (v / 100)) ∧ -(nI (v / 100)) * 100 - -(nI v) = nI (v % 100) ∧ -(-(nI (v / 100))) = nI (v / 100) ∧ -100 < -(nI (v / 100)) ∧ -9 ≤ -(nI (v / 100)) := by decide +kernel
theorem dz_ng6 : ∀ v, v < 100 → -(-(nI v)) = nI v := by decide +kernel
theorem dz_ng7 : ∀ v, v < 10 → -9 ≤ -(nI v) := by decide +kernel
theorem dz_ng8 : ∀ v, v < 100 → 10 ≤ v → ¬ -9 ≤ -(nI v) := by decide +kernel
/-- a report: its length and its letters -/
def dz_rp (dp db : Nat → Int32) : Nat → Nat × (Nat → Int32)
  | 0 => (0, fun _ => 0)
  | i + 1 =>
    let z := dz_rp dp db i
    let z1 : Nat × (Nat → Int32) := if 0 < i then (z.1 + 1, dz_a1 z.2 z.1 32) else z
    let z2 : Nat × (Nat → Int32) := (z1.1 + dz_sz (dp i).toNatClampNeg, dz_dg z1.2 z1.1 (dp i).toNatClampNeg)
    if db i = 0 then z2 else (z2.1 + 1, dz_a1 z2.2 z2.1 63)
theorem dz_rp_le (dp db : Nat → Int32) : ∀ i, (dz_rp dp db i).1 ≤ 5 * i
  | 0 => Nat.le_refl 0
  | i + 1 => by
    have h := dz_rp_le dp db i
    have h2 := dz_sz_le (dp i).toNatClampNeg
    unfold dz_rp
    dsimp only
    split <;> split <;> dsimp only <;> omega
theorem dz_rp_fit (dp db : Nat → Int32) : ∀ i, sb_Fit (dz_rp dp db i).2 ∧ dz_zf (dz_rp dp db i).1 (dz_rp dp db i).2
  | 0 => ⟨sb_fit0, fun _ _ => rfl⟩
  | i + 1 => by
    obtain ⟨h1, h2⟩ := dz_rp_fit dp db i
    unfold dz_rp
    dsimp only
    split <;> split <;> dsimp only
    · exact ⟨dz_fit_dg (dz_fit_a1 h1 _ _) _ _, dz_zf_dg (dz_zf_a1 h2 _) _⟩
    · exact ⟨dz_fit_dg h1 _ _, dz_zf_dg h2 _⟩
    · exact ⟨dz_fit_a1 (dz_fit_dg (dz_fit_a1 h1 _ _) _ _) _ _, dz_zf_a1 (dz_zf_dg (dz_zf_a1 h2 _) _) _⟩
    · exact ⟨dz_fit_a1 (dz_fit_dg h1 _ _) _ _, dz_zf_a1 (dz_zf_dg h2 _) _⟩
theorem dz_dp_n {n : Nat} {dp : Nat → Int32} (h : dz_dr3 n dp) {i : Nat} (hi : i < n) : dp i = nI (dp i).toNatClampNeg ∧ (dp i).toNatClampNeg < 301 := by
  have h1 := h i hi
  obtain ⟨j, hj, e⟩ := nI_of (x := dp i) (fun z => by have := Int32.lt_iff_toInt_lt.mp z; rw [Int32.toInt_zero] at this; omega)
  rw [e] at h1 ⊢
  rw [nI_clamp hj]
  rw [nI_toInt hj] at h1
  exact ⟨rfl, by omega⟩
