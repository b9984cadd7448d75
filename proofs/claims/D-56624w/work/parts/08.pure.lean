/-! PURE WORDS: what both sides compute, on numbers and rows of numbers -/
theorem dz_bi_iff (v lo hi : Int32) : ¬ dz_bi v lo hi = 0 ↔ lo ≤ v ∧ v ≤ hi := by
  unfold dz_bi
  split
  · rename_i h; exact ⟨fun _ => h, fun _ => by decide⟩
  · rename_i h; exact ⟨fun q => absurd rfl q, fun q => absurd q h⟩
theorem dz_bi_cases (v lo hi : Int32) : dz_bi v lo hi = 0 ∨ dz_bi v lo hi = 1 := by
  unfold dz_bi
  split
  · exact Or.inr rfl
  · exact Or.inl rfl
theorem dz_bi_nat {x : Int32} {a b : Nat} (hb : b < 1000000) (h : ¬ dz_bi x (nI a) (nI b) = 0) (hab : a ≤ b) : ∃ j, a ≤ j ∧ j ≤ b ∧ x = nI j := by
  rw [dz_bi_iff] at h
  obtain ⟨h1, h2⟩ := h
  have e1 := Int32.le_iff_toInt_le.mp h1
  have e2 := Int32.le_iff_toInt_le.mp h2
  rw [nI_toInt (by omega)] at e1 e2
  have h0 : ¬ x < 0 := by
    intro q
    have := Int32.lt_iff_toInt_lt.mp q
    rw [Int32.toInt_zero] at this
    omega
  obtain ⟨j, hj, rfl⟩ := nI_of h0
  rw [nI_toInt hj] at e1 e2
  exact ⟨j, by omega, by omega, rfl⟩
theorem dz_nm1 {n : Nat} (hn : n < 1000000) : (nI n - 1).toInt = (n : Int) - 1 := pk_sub_toInt (a := n) (b := 1) (by omega) (by decide)
theorem dz_bi_ix {x : Int32} {n : Nat} (hn : n < 1000000) (h : ¬ dz_bi x 0 (nI n - 1) = 0) : ∃ j, j < n ∧ x = nI j := by
  rw [dz_bi_iff] at h
  obtain ⟨h1, h2⟩ := h
  have e1 := Int32.le_iff_toInt_le.mp h1
  have e2 := Int32.le_iff_toInt_le.mp h2
  rw [dz_nm1 hn] at e2
  rw [Int32.toInt_zero] at e1
  have h0 : ¬ x < 0 := by
    intro q
    have := Int32.lt_iff_toInt_lt.mp q
    rw [Int32.toInt_zero] at this
    omega
  obtain ⟨j, hj, rfl⟩ := nI_of h0
  rw [nI_toInt hj] at e2
  exact ⟨j, by omega, rfl⟩
theorem dz_bi_in {j n : Nat} (hn : n < 1000000) (h : j < n) : dz_bi (nI j) 0 (nI n - 1) = 1 := by
  unfold dz_bi
  rw [if_pos]
  refine ⟨nI_pos' (by omega), ?_⟩
  rw [Int32.le_iff_toInt_le, nI_toInt (by omega), dz_nm1 hn]
  omega
theorem dz_bi_out {j n : Nat} (hj : j < 1000000) (hn : n < 1000000) (h : ¬ j < n) : dz_bi (nI j) 0 (nI n - 1) = 0 := by
  unfold dz_bi
  rw [if_neg]
  intro q
  have := Int32.le_iff_toInt_le.mp q.2
  rw [nI_toInt (by omega), dz_nm1 hn] at this
  omega
theorem dz_bi_neg (n : Nat) : dz_bi (-1) 0 (nI n - 1) = 0 := by
  unfold dz_bi
  rw [if_neg]
  intro q
  exact absurd q.1 (by decide)
/-- f with v from place n on, i places -/
def dz_fill (f : Nat → Int32) (n i : Nat) (v : Int32) : Nat → Int32 := fun k => if n ≤ k ∧ k < n + i then v else f k
theorem dz_fill_0 (f : Nat → Int32) (n : Nat) (v : Int32) : dz_fill f n 0 v = f := by
  funext k
  unfold dz_fill
  rw [if_neg (by omega)]
theorem dz_fill_s (f : Nat → Int32) (n i : Nat) (v : Int32) : upd (dz_fill f n i v) (n + i) v = dz_fill f n (i + 1) v := by
  funext k
  unfold upd dz_fill
  by_cases h : k = n + i
  · rw [if_pos h, if_pos (by omega)]
  · rw [if_neg h]
    by_cases h2 : n ≤ k ∧ k < n + i
    · rw [if_pos h2, if_pos (by omega)]
    · rw [if_neg h2, if_neg (by omega)]
/-- the end of a method with a code: 0: it answers and goes on to w0; else the world is wf -/
def dz_po2 (K : Int32) (r0 : Value) (w0 wf : dz_W) : Option Value → dz_W → Prop := fun r w1 => (K = 0 ∧ r = some r0 ∧ w1 = w0) ∨ (¬ K = 0 ∧ (∃ v : Int32, r = some (.int v)) ∧ w1 = wf)
/-- 1 of 0, else 0 -/
def dz_z (k : Int32) : Int32 := if k = 0 then 1 else 0
/-! the codes: 0 where the call is taken, else the number of the exception -/
def dz_kaddCells (n : Nat) (k v : Int32) : Int32 := if dz_bi k 1 24 = 0 ∨ dz_bi v 0 200 = 0 then 1 else if nI n + k ≤ 24 then 0 else 2
def dz_ksetLimit (n : Nat) (c v : Int32) : Int32 := if dz_bi c 0 (nI n - 1) = 0 then 1 else if dz_bi v 0 300 = 0 then 2 else 0
def dz_ksetSlope (v : Int32) : Int32 := if dz_bi v 1 50 = 0 then 1 else 0
def dz_kcell (n : Nat) (c : Int32) : Int32 := if dz_bi c 0 (nI n - 1) = 0 then 1 else 0
def dz_kdredge (n : Nat) (ho : Int32) (dp : Nat → Int32) (c v : Int32) : Int32 := if dz_bi c 0 (nI n - 1) = 0 then 1 else if dz_bi v 1 50 = 0 then 2 else if ho + v ≤ 200 then (if dp c.toNatClampNeg + v ≤ 300 then 0 else 4) else 3
def dz_kpass (da k : Int32) : Int32 := if dz_bi k 1 30 = 0 then 1 else if da + k ≤ 400 then 0 else 2
def dz_kaddGround (g : Nat) (a b : Int32) : Int32 := if dz_bi a 1 5000 = 0 ∨ dz_bi b 0 90 = 0 then 1 else if g = 3 then 2 else 0
def dz_ksetTide (v : Int32) : Int32 := if dz_bi v 0 90 = 0 then 1 else 0
def dz_ksetPrice (v : Int32) : Int32 := if dz_bi v 0 999 = 0 then 1 else 0
section DZP2
variable {p : Program} {l : Launch} {e : Env} {R : Room} {s : State} {m : MethodId} {args : Array Value} {below : List Frame} {meth : Method} {c : Code} {H : Heap} {locs : List Loc} {cells slots : Nat} {Q : State → Prop} {pc : Nat} {ls : Array Slot} {rest : List Value} {G : dz_G} {nL : Nat} {y0 : MethodName} {cc : ByteArray} {ret : Option FieldType} {tb : List ExceptionTableEntry} {A : Nat → Prop} {ww : dz_W} {lv : List (Nat × Value)} {a : Nat}
theorem dz_aastRD (X : dz_X p s m args meth c G y0 cc nL ret tb A) (h : dz_O G.1 dz_CL A s.heap ww H locs) (q0 : Nat) {n : Nat} {r : Option Nat} {f : Nat → Option Nat} (he : ww[q0]? = some [(a, dzD G n f)]) (hr : ∀ v, r = some v → va_Any "Deed" s H v) {i : Int32} {j : Nat} (hi : i = nI j) (hj : j < n) (hn : n < 2147483648) (hdg : decode cc pc = .ok (.aastore, 1))
    (kk : ∀ (H1 : Heap) (locs1 : List Loc), dz_O G.1 dz_CL A s.heap (ww.set q0 [(a, dzD G n (va_up f j r))]) H1 locs1 → W p l e R s m args below meth c H1 locs1 cells slots Q (F0 m (pc + 1) ls rest)) : W p l e R s m args below meth c H locs cells slots Q (F0 m pc ls (va_rf r :: .int i :: .ref a :: rest)) := by
  cases r with
  | none => exact dz_aastND X h q0 he hi hj hn hdg kk
  | some v => exact dz_aastD X h q0 he (hr v rfl) hi hj hn hdg kk
theorem dz_aastRO (X : dz_X p s m args meth c G y0 cc nL ret tb A) (h : dz_O G.1 dz_CL A s.heap ww H locs) (q0 : Nat) {n : Nat} {r : Option Nat} {f : Nat → Option Nat} (he : ww[q0]? = some [(a, dzO G n f)]) (hr : ∀ v, r = some v → va_Any "java/lang/Object" s H v) {i : Int32} {j : Nat} (hi : i = nI j) (hj : j < n) (hn : n < 2147483648) (hdg : decode cc pc = .ok (.aastore, 1))
    (kk : ∀ (H1 : Heap) (locs1 : List Loc), dz_O G.1 dz_CL A s.heap (ww.set q0 [(a, dzO G n (va_up f j r))]) H1 locs1 → W p l e R s m args below meth c H1 locs1 cells slots Q (F0 m (pc + 1) ls rest)) : W p l e R s m args below meth c H locs cells slots Q (F0 m pc ls (va_rf r :: .int i :: .ref a :: rest)) := by
  cases r with
  | none => exact dz_aastNO X h q0 he hi hj hn hdg kk
  | some v => exact dz_aastO X h q0 he (hr v rfl) hi hj hn hdg kk
theorem dz_anyDeed (X : dz_X p s m args meth c G y0 cc nL ret tb A) (h : dz_O G.1 dz_CL A s.heap ww H locs) {i : Nat} (hi : i < 6) : va_Any "Deed" s H (G.2.2.1 i) := dz_anyO X h (X.st.1.1 i hi).2.1 (Or.inl rfl)
end DZP2
/-- every one of the row is a constant deed, or none -/
def dz_deedy (G : dz_G) (f : Nat → Option Nat) : Prop := ∀ k v, f k = some v → ∃ i, i < 6 ∧ v = G.2.2.1 i
/-- places above k, below 8, moved up by one -/
def dz_shr {α : Type} (f : Nat → α) (k : Nat) : Nat → α := fun j => if k < j ∧ j < 8 then f (j - 1) else f j
theorem dz_shr_0 {α : Type} (f : Nat → α) : dz_shr f 7 = f := by
  funext j
  unfold dz_shr
  rw [if_neg (by omega)]
theorem dz_shr_at {α : Type} (f : Nat → α) (q : Nat) : dz_shr f (q + 1) q = f q := by
  unfold dz_shr
  rw [if_neg (by omega)]
theorem dz_shr_s {α : Type} (f : Nat → α) (q : Nat) (hq : q < 7) : va_up (dz_shr f (q + 1)) (q + 1) (dz_shr f (q + 1) q) = dz_shr f q := by
  rw [dz_shr_at]
  funext j
  unfold va_up dz_shr
  by_cases h : j = q + 1
  · rw [if_pos h, if_pos (by omega), h]; rfl
  · rw [if_neg h]
    by_cases h2 : q + 1 < j ∧ j < 8
    · rw [if_pos h2, if_pos (by omega)]
    · rw [if_neg h2, if_neg (by omega)]
/-- v put ahead of a row of 8 -/
def dz_push {α : Type} (f : Nat → α) (v : α) : Nat → α := va_up (dz_shr f 0) 0 v
theorem dz_deedy_shr {G : dz_G} {f : Nat → Option Nat} (h : dz_deedy G f) (k : Nat) : dz_deedy G (dz_shr f k) := by
  intro j v hv
  unfold dz_shr at hv
  split at hv
  · exact h _ v hv
  · exact h _ v hv
theorem dz_deedy_push {G : dz_G} {f : Nat → Option Nat} (h : dz_deedy G f) {k : Nat} (hk : k < 6) : dz_deedy G (dz_push f (some (G.2.2.1 k))) := by
  intro j v hv
  unfold dz_push va_up at hv
  split at hv
  · cases hv; exact ⟨k, hk, rfl⟩
  · exact dz_deedy_shr h 0 j v hv
/-! the creep of sand -/
def dz_dl (d : Nat → Int32) (b : Nat) : Int32 := if b = 0 then 0 else d (b - 1)
def dz_dr (n : Nat) (d : Nat → Int32) (b : Nat) : Int32 := if b < n then d b else 0
/-- how a border moves sand: 1 to the left hand's loss -/
def dz_mv (sl a b : Int32) : Int32 := if sl < a - b then 1 else if sl < -(a - b) then -1 else 0
def dz_mvb (n : Nat) (sl : Int32) (d : Nat → Int32) (j : Nat) : Int32 := dz_mv sl (dz_dl d j) (dz_dr n d j)
def dz_cD (n : Nat) (sl : Int32) (d : Nat → Int32) : Nat → Int32 := fun k => if k < n then d k + dz_mvb n sl d k - dz_mvb n sl d (k + 1) else d k
def dz_n0 (x : Int32) : Int32 := if x = 0 then 0 else 1
def dz_cI (n : Nat) (sl : Int32) (d : Nat → Int32) : Int32 := if n = 0 then 0 else dz_n0 (dz_mvb n sl d 0) + dz_n0 (dz_mvb n sl d n)
/-- what a depth or a bank is, by the cell's number -/
def dz_dat (n : Nat) (d : Nat → Int32) (i : Int32) : Int32 := if dz_bi i 0 (nI n - 1) = 0 then 0 else d i.toNatClampNeg
theorem dz_dat_r {n : Nat} (hn : n ≤ 24) (d : Nat → Int32) {b : Nat} (hb : b ≤ n) : dz_dat n d (nI b) = dz_dr n d b := by
  unfold dz_dat dz_dr
  by_cases h : b < n
  · rw [if_pos h, dz_bi_in (by omega) h, if_neg (by decide), nI_clamp (by omega)]
  · rw [if_neg h, dz_bi_out (by omega) (by omega) h, if_pos rfl]
theorem dz_dat_l {n : Nat} (hn : n ≤ 24) (d : Nat → Int32) {b : Nat} (hb : b ≤ n) : dz_dat n d (nI b - 1) = dz_dl d b := by
  unfold dz_dl
  by_cases h : b = 0
  · rw [if_pos h, h]
    unfold dz_dat
    rw [show nI 0 - 1 = (-1 : Int32) by decide, dz_bi_neg, if_pos rfl]
  · obtain ⟨q, rfl⟩ : ∃ q, b = q + 1 := ⟨b - 1, by omega⟩
    rw [if_neg h, nI_pred, dz_dat_r hn d (by omega)]
    unfold dz_dr
    rw [if_pos (by omega)]
    rfl
theorem dz_bi_l {n : Nat} (hn : n ≤ 24) {b : Nat} (hb : b ≤ n) : dz_bi (nI b - 1) 0 (nI n - 1) = if b = 0 then 0 else 1 := by
  by_cases h : b = 0
  · rw [if_pos h, h, show nI 0 - 1 = (-1 : Int32) by decide, dz_bi_neg]
  · obtain ⟨q, rfl⟩ : ∃ q, b = q + 1 := ⟨b - 1, by omega⟩
    rw [if_neg h, nI_pred, dz_bi_in (by omega) (by omega)]
theorem dz_bi_r {n : Nat} (hn : n ≤ 24) {b : Nat} (hb : b ≤ n) : dz_bi (nI b) 0 (nI n - 1) = if b < n then 1 else 0 := by
  by_cases h : b < n
  · rw [if_pos h, dz_bi_in (by omega) h]
  · rw [if_neg h, dz_bi_out (by omega) (by omega) h]
/-- the first i places of f, the others of g -/
def dz_cp (f g : Nat → Int32) (i : Nat) : Nat → Int32 := fun k => if k < i then f k else g k
theorem dz_cp_0 (f g : Nat → Int32) : dz_cp f g 0 = g := by
  funext k; unfold dz_cp; rw [if_neg (by omega)]
theorem dz_cp_s (f g : Nat → Int32) (i : Nat) : upd (dz_cp f g i) i (f i) = dz_cp f g (i + 1) := by
  funext k
  unfold upd dz_cp
  by_cases h : k = i
  · rw [if_pos h, if_pos (by omega), h]
  · rw [if_neg h]
    by_cases h2 : k < i
    · rw [if_pos h2, if_pos (by omega)]
    · rw [if_neg h2, if_neg (by omega)]
/-- the reference's row 'next' where the borders below b are done -/
def dz_nx (n : Nat) (sl : Int32) (d g : Nat → Int32) (b : Nat) : Nat → Int32 := fun k => if k < n then d k + (if k < b then dz_mvb n sl d k else 0) - (if k + 1 < b then dz_mvb n sl d (k + 1) else 0) else g k
theorem dz_nx_0 (n : Nat) (sl : Int32) (d g : Nat → Int32) : dz_nx n sl d g 0 = dz_cp d g n := by
  funext k
  unfold dz_nx dz_cp
  by_cases h : k < n
  · rw [if_pos h, if_pos h, if_neg (by omega), if_neg (by omega)]; simp
  · rw [if_neg h, if_neg h]
/-- come, where the borders below b are done -/
def dz_cm (n : Nat) (sl : Int32) (d : Nat → Int32) (b : Nat) : Int32 := (if 0 < b then dz_n0 (dz_mvb n sl d 0) else 0) + (if n < b then dz_n0 (dz_mvb n sl d n) else 0)
theorem dz_cm_0 (n : Nat) (sl : Int32) (d : Nat → Int32) : dz_cm n sl d 0 = 0 := by
  unfold dz_cm; rw [if_neg (by omega), if_neg (by omega)]; rfl
theorem dz_nx_l (n : Nat) (sl : Int32) (d g : Nat → Int32) (q : Nat) (hq : q < n) : upd (dz_nx n sl d g (q + 1)) q (dz_nx n sl d g (q + 1) q - dz_mvb n sl d (q + 1)) = fun k => if k = q then d q + dz_mvb n sl d q - dz_mvb n sl d (q + 1) else dz_nx n sl d g (q + 1) k := by
  funext k
  unfold upd
  by_cases h : k = q
  · rw [if_pos h, if_pos h]
    unfold dz_nx
    rw [if_pos hq, if_pos (by omega), if_neg (by omega)]
    simp
  · rw [if_neg h, if_neg h]
/-- both stores of a border -/
theorem dz_nx_b0 (n : Nat) (sl : Int32) (d g : Nat → Int32) (hn : 0 < n) : upd (dz_nx n sl d g 0) 0 (dz_nx n sl d g 0 0 + dz_mvb n sl d 0) = dz_nx n sl d g 1 := by
  funext k
  unfold upd dz_nx
  by_cases h : k = 0
  · subst h
    rw [if_pos rfl, if_pos hn, if_pos hn, if_neg (by omega), if_neg (by omega), if_pos (by omega), if_neg (by omega)]
    simp
  · rw [if_neg h]
    by_cases h2 : k < n
    · rw [if_pos h2, if_pos h2, if_neg (by omega), if_neg (by omega), if_neg (by omega), if_neg (by omega)]
    · rw [if_neg h2, if_neg h2]
theorem dz_nx_bl (n : Nat) (sl : Int32) (d g : Nat → Int32) (q : Nat) (hq : q < n) (hl : ¬ q + 1 < n) : upd (dz_nx n sl d g (q + 1)) q (dz_nx n sl d g (q + 1) q - dz_mvb n sl d (q + 1)) = dz_nx n sl d g (q + 1 + 1) := by
  funext k
  rw [dz_nx_l n sl d g q hq]
  by_cases h : k = q
  · subst h
    simp only [if_true]
    unfold dz_nx
    rw [if_pos hq, if_pos (by omega), if_pos (by omega)]
  · simp only [if_neg h]
    unfold dz_nx
    by_cases h2 : k < n
    · rw [if_pos h2, if_pos h2, if_pos (by omega), if_pos (by omega), if_pos (by omega), if_pos (by omega)]
    · rw [if_neg h2, if_neg h2]
theorem dz_nx_bm (n : Nat) (sl : Int32) (d g : Nat → Int32) (q : Nat) (hq : q + 1 < n) (F : Nat → Int32) (hF : F = upd (dz_nx n sl d g (q + 1)) q (dz_nx n sl d g (q + 1) q - dz_mvb n sl d (q + 1))) : upd F (q + 1) (F (q + 1) + dz_mvb n sl d (q + 1)) = dz_nx n sl d g (q + 1 + 1) := by
  have e : F (q + 1) = d (q + 1) := by
    rw [hF]
    unfold upd
    rw [if_neg (by omega)]
    unfold dz_nx
    rw [if_pos hq, if_neg (by omega), if_neg (by omega)]
    simp
  rw [e, hF, dz_nx_l n sl d g q (by omega)]
  funext k
  unfold upd
  dsimp only
  by_cases h : k = q + 1
  · rw [if_pos h, h]
    unfold dz_nx
    rw [if_pos hq, if_pos (by omega), if_neg (by omega)]
    simp
  · rw [if_neg h]
    by_cases h2 : k = q
    · rw [if_pos h2, h2]
      unfold dz_nx
      rw [if_pos (by omega), if_pos (by omega), if_pos (by omega)]
    · rw [if_neg h2]
      unfold dz_nx
      by_cases h3 : k < n
      · rw [if_pos h3, if_pos h3]
        by_cases h4 : k < q
        · rw [if_pos (by omega), if_pos (by omega), if_pos (by omega), if_pos (by omega)]
        · rw [if_neg (by omega), if_neg (by omega), if_neg (by omega), if_neg (by omega)]
      · rw [if_neg h3, if_neg h3]
theorem dz_nx_end (n : Nat) (sl : Int32) (d g : Nat → Int32) (i : Nat) (hi : i ≤ n) : dz_cp (dz_nx n sl d g (n + 1)) d n = dz_cD n sl d := by
  funext k
  unfold dz_cp dz_cD dz_nx
  by_cases h : k < n
  · rw [if_pos h, if_pos h, if_pos h, if_pos (by omega), if_pos (by omega)]
  · rw [if_neg h, if_neg h]
/-- days of creep -/
def dz_pD (n : Nat) (sl : Int32) (d : Nat → Int32) : Nat → Nat → Int32
  | 0 => d
  | k + 1 => dz_cD n sl (dz_pD n sl d k)
def dz_pI (n : Nat) (sl : Int32) (d : Nat → Int32) : Nat → Int32
  | 0 => 0
  | k + 1 => dz_pI n sl d k + dz_cI n sl (dz_pD n sl d k)
theorem dz_cm_b0 (n : Nat) (sl : Int32) (d : Nat → Int32) (hn : 0 < n) : dz_cm n sl d 0 + dz_n0 (dz_mvb n sl d 0) = dz_cm n sl d (0 + 1) := by
  unfold dz_cm
  rw [if_neg (by omega), if_neg (by omega), if_pos (by omega), if_neg (by omega)]
  simp
theorem dz_cm_bm (n : Nat) (sl : Int32) (d : Nat → Int32) (q : Nat) (hq : q + 1 < n) : dz_cm n sl d (q + 1) = dz_cm n sl d (q + 1 + 1) := by
  unfold dz_cm
  rw [if_pos (by omega), if_neg (by omega), if_pos (by omega), if_neg (by omega)]
theorem dz_cm_bl (n : Nat) (sl : Int32) (d : Nat → Int32) (q : Nat) (hq : q + 1 = n) : dz_cm n sl d (q + 1) + dz_n0 (dz_mvb n sl d (q + 1)) = dz_cm n sl d (q + 1 + 1) := by
  unfold dz_cm
  rw [if_pos (by omega), if_neg (by omega), if_pos (by omega), if_pos (by omega), hq]
  simp
theorem dz_cfin (n : Nat) (sl : Int32) (d g : Nat → Int32) (b : Nat) (h : b = n + 1 ∨ n = 0) : dz_cp (dz_nx n sl d g b) d n = dz_cD n sl d := by
  rcases h with h | h
  · subst h
    exact dz_nx_end n sl d g 0 (Nat.zero_le n)
  · subst h
    rw [dz_cp_0]
    funext k
    unfold dz_cD
    rw [if_neg (by omega)]
theorem dz_cmfin (n : Nat) (sl : Int32) (d : Nat → Int32) (b : Nat) (h : b = n + 1 ∨ (n = 0 ∧ b = 0)) (h0 : 0 < b → 0 < n) : dz_cm n sl d b = dz_cI n sl d := by
  rcases h with h | ⟨h, h2⟩
  · have hn := h0 (by omega)
    unfold dz_cm dz_cI
    rw [if_pos (by omega), if_pos (by omega), if_neg (by omega)]
  · rw [h2, dz_cm_0]
    unfold dz_cI
    rw [if_pos h]
theorem dz_le_m1 {n b : Nat} (hn : n < 1000) (hb : b < 1000) : nI n ≤ nI b - 1 ↔ n + 1 ≤ b := by
  rw [Int32.le_iff_toInt_le, nI_toInt (by omega), dz_nm1 (by omega)]
  omega
theorem dz_sac (x : Int32) : x - 1 + 1 = x := Int32.sub_add_cancel x 1
/-! permits -/
def dz_po2e {α : Type} (K : Int32) (r0 : Value) (w0 : α → dz_W) (wf : dz_W) : Option Value → dz_W → Prop := fun r w1 => (K = 0 ∧ r = some r0 ∧ ∃ z, w1 = w0 z) ∨ (¬ K = 0 ∧ (∃ v : Int32, r = some (.int v)) ∧ w1 = wf)
def dz_hold (pg pf pl : Nat → Int32) (da a : Int32) (k : Nat) : Int32 := if pg k = a then dz_bi da (pf k) (pl k) else 0
def dz_vol (pg pf pl pv : Nat → Int32) (da a : Int32) : Nat → Int32
  | 0 => 0
  | k + 1 => dz_vol pg pf pl pv da a k + (if dz_hold pg pf pl da a k = 0 then 0 else pv k)
def dz_bet (pl : Nat → Int32) (o : Option Nat) (k : Nat) : Bool := match o with
  | none => true
  | some b => decide (pl k < pl b)
def dz_bst (pg pf pl pv : Nat → Int32) (da a : Int32) : Nat → Option Nat
  | 0 => none
  | k + 1 => if ¬ dz_hold pg pf pl da a k = 0 ∧ 0 < pv k ∧ dz_bet pl (dz_bst pg pf pl pv da a k) k = true then some k else dz_bst pg pf pl pv da a k
def dz_oi (o : Option Nat) : Int32 := match o with
  | none => -1
  | some k => nI k
theorem dz_bst_lt {pg pf pl pv : Nat → Int32} {da a : Int32} : ∀ {i b : Nat}, dz_bst pg pf pl pv da a i = some b → b < i ∧ ¬ dz_hold pg pf pl da a b = 0 ∧ 0 < pv b
  | 0, b, h => by cases h
  | i + 1, b, h => by
    unfold dz_bst at h
    split at h
    · rename_i hc
      cases h
      exact ⟨by omega, hc.1, hc.2.1⟩
    · obtain ⟨h1, h2⟩ := dz_bst_lt h
      exact ⟨by omega, h2⟩
theorem dz_bst_none {pg pf pl pv : Nat → Int32} {da a : Int32} : ∀ {i : Nat}, dz_bst pg pf pl pv da a i = none → ∀ k, k < i → dz_hold pg pf pl da a k = 0 ∨ ¬ 0 < pv k
  | 0, h, k, hk => absurd hk (Nat.not_lt_zero k)
  | i + 1, h, k, hk => by
    unfold dz_bst at h
    split at h
    · cases h
    · rename_i hc
      by_cases hki : k = i
      · subst hki
        rw [h] at hc
        by_cases h1 : dz_hold pg pf pl da a k = 0
        · exact Or.inl h1
        · exact Or.inr (fun h2 => hc ⟨h1, h2, rfl⟩)
      · exact dz_bst_none h k (by omega)
/-- the lefts are in range -/
def dz_pvr (pv : Nat → Int32) (n : Nat) : Prop := ∀ k, k < n → 0 ≤ pv k ∧ pv k ≤ 999
theorem dz_vol_r {pg pf pl pv : Nat → Int32} {da a : Int32} : ∀ {i : Nat}, i ≤ 8 → dz_pvr pv i → 0 ≤ (dz_vol pg pf pl pv da a i).toInt ∧ (dz_vol pg pf pl pv da a i).toInt ≤ 999 * (i : Int)
  | 0, _, _ => by simp [dz_vol]
  | i + 1, hi, h => by
    obtain ⟨h1, h2⟩ := dz_vol_r (pg := pg) (pf := pf) (pl := pl) (da := da) (a := a) (i := i) (by omega) (fun k hk => h k (by omega))
    obtain ⟨g1, g2⟩ := h i (by omega)
    have e1 := Int32.le_iff_toInt_le.mp g1
    have e2 := Int32.le_iff_toInt_le.mp g2
    rw [Int32.toInt_zero] at e1
    rw [show (999 : Int32).toInt = 999 by decide] at e2
    unfold dz_vol
    split
    · rw [Int32.toInt_add, Int32.toInt_zero, Int.add_zero, Int.bmod_eq_of_le (by omega) (by omega)]
      omega
    · rw [Int32.toInt_add, Int.bmod_eq_of_le (by omega) (by omega)]
      omega
theorem dz_vol_none {pg pf pl pv : Nat → Int32} {da a : Int32} : ∀ {i : Nat}, dz_pvr pv i → (∀ k, k < i → dz_hold pg pf pl da a k = 0 ∨ ¬ 0 < pv k) → dz_vol pg pf pl pv da a i = 0
  | 0, _, _ => rfl
  | i + 1, h, hn => by
    have h1 := dz_vol_none (i := i) (fun k hk => h k (by omega)) (fun k hk => hn k (by omega))
    unfold dz_vol
    rw [h1]
    split
    · rfl
    · rename_i hc
      rcases hn i (by omega) with h2 | h2
      · exact absurd h2 hc
      · have h3 := (h i (by omega)).1
        have e : pv i = 0 := by
          have a1 := Int32.le_iff_toInt_le.mp h3
          have a2 := Int32.not_lt.mp h2
          have a3 := Int32.le_iff_toInt_le.mp a2
          exact Int32.toInt_inj.mp (by omega)
        rw [e]; rfl
theorem dz_vol_upd {pg pf pl pv : Nat → Int32} {da a t : Int32} {b : Nat} (hb : ¬ dz_hold pg pf pl da a b = 0) : ∀ i, dz_vol pg pf pl (upd pv b (pv b - t)) da a i = dz_vol pg pf pl pv da a i - (if b < i then t else 0)
  | 0 => by rw [if_neg (by omega)]; simp [dz_vol]
  | i + 1 => by
    have h := dz_vol_upd (pg := pg) (pf := pf) (pl := pl) (pv := pv) (da := da) (a := a) (t := t) hb i
    unfold dz_vol
    rw [h]
    by_cases hbi : b = i
    · subst hbi
      rw [if_neg (Nat.lt_irrefl b), if_neg hb, if_neg hb, if_pos (Nat.lt_succ_self b), pk_us]
      grind
    · rw [pk_un (fun z => hbi z.symm)]
      by_cases h2 : b < i
      · rw [if_pos h2, if_pos (show b < i + 1 by omega)]; grind
      · rw [if_neg h2, if_neg (show ¬ b < i + 1 by omega)]; grind
/-- what is dumped is taken from the permits, the one that ends first ahead -/
def dz_dmp (pg pf pl : Nat → Int32) (da a : Int32) (pn : Nat) : Nat → (Nat → Int32) → Int32 → (Nat → Int32)
  | 0, pv, _ => pv
  | f + 1, pv, r => if 0 < r then (match dz_bst pg pf pl pv da a pn with
    | none => pv
    | some k => dz_dmp pg pf pl da a pn f (upd pv k (pv k - dz_min r (pv k))) (r - dz_min r (pv k))) else pv
theorem dz_dmp_0 {pg pf pl : Nat → Int32} {da a : Int32} {pn f : Nat} {pv : Nat → Int32} {r : Int32} (h : ¬ 0 < r) : dz_dmp pg pf pl da a pn f pv r = pv := by
  cases f with
  | zero => rfl
  | succ f => unfold dz_dmp; rw [if_neg h]
theorem dz_dmp_s {pg pf pl : Nat → Int32} {da a : Int32} {pn f : Nat} {pv : Nat → Int32} {r : Int32} {k : Nat} (h : 0 < r) (hk : dz_bst pg pf pl pv da a pn = some k) : dz_dmp pg pf pl da a pn (f + 1) pv r = dz_dmp pg pf pl da a pn f (upd pv k (pv k - dz_min r (pv k))) (r - dz_min r (pv k)) := by
  conv => lhs; unfold dz_dmp
  rw [if_pos h, hk]
theorem dz_min_m (r w : Int32) : (if r < w then r else w) = dz_min r w := by
  unfold dz_min
  by_cases h : r < w
  · rw [if_pos h, if_neg (fun z => Int32.lt_asymm h z)]
  · rw [if_neg h]
    by_cases h2 : w < r
    · rw [if_pos h2]
    · rw [if_neg h2]
      exact Int32.le_antisymm (Int32.not_lt.mp h) (Int32.not_lt.mp h2)
/-- a step of the dump: what is left to take still fits what the permits hold -/
theorem dz_dmp_step {pg pf pl : Nat → Int32} {da a : Int32} {pn f : Nat} {pv : Nat → Int32} {r : Int32} (hn : pn ≤ 8) (hr : 0 < r) (hrf : r.toInt ≤ (f : Int) + 1) (hr2 : r ≤ 200) (hp : dz_pvr pv pn) (hv : r ≤ dz_vol pg pf pl pv da a pn) :
    ∃ k, dz_bst pg pf pl pv da a pn = some k ∧ k < pn ∧ (r - dz_min r (pv k)).toInt ≤ (f : Int) ∧ r - dz_min r (pv k) ≤ 200 ∧ 0 ≤ r - dz_min r (pv k) ∧ dz_pvr (upd pv k (pv k - dz_min r (pv k))) pn ∧ r - dz_min r (pv k) ≤ dz_vol pg pf pl (upd pv k (pv k - dz_min r (pv k))) da a pn := by
  cases hk : dz_bst pg pf pl pv da a pn with
  | none =>
    have e := dz_vol_none hp (dz_bst_none hk)
    rw [e] at hv
    exact absurd hr (Int32.not_lt.mpr hv)
  | some k =>
    obtain ⟨h1, h2, h3⟩ := dz_bst_lt hk
    obtain ⟨g1, g2⟩ := hp k h1
    have v1 := dz_vol_r (pg := pg) (pf := pf) (pl := pl) (da := da) (a := a) hn hp
    have a1 := Int32.lt_iff_toInt_lt.mp hr
    have a2 := Int32.le_iff_toInt_le.mp hr2
    have a3 := Int32.lt_iff_toInt_lt.mp h3
    have a4 := Int32.le_iff_toInt_le.mp g2
    have a5 := Int32.le_iff_toInt_le.mp hv
    rw [Int32.toInt_zero] at a1 a3
    rw [show (200 : Int32).toInt = 200 by decide] at a2
    rw [show (999 : Int32).toInt = 999 by decide] at a4
    have m1 : (dz_min r (pv k)).toInt ≤ r.toInt ∧ (dz_min r (pv k)).toInt ≤ (pv k).toInt ∧ 0 < (dz_min r (pv k)).toInt := by
      unfold dz_min
      split
      · rename_i q
        have := Int32.lt_iff_toInt_lt.mp q
        omega
      · rename_i q
        have := Int32.le_iff_toInt_le.mp (Int32.not_lt.mp q)
        omega
    have s1 : (r - dz_min r (pv k)).toInt = r.toInt - (dz_min r (pv k)).toInt := by
      rw [Int32.toInt_sub, Int.bmod_eq_of_le (by omega) (by omega)]
    have s2 : (pv k - dz_min r (pv k)).toInt = (pv k).toInt - (dz_min r (pv k)).toInt := by
      rw [Int32.toInt_sub, Int.bmod_eq_of_le (by omega) (by omega)]
    refine ⟨k, rfl, h1, by omega, ?_, ?_, ?_, ?_⟩
    · rw [Int32.le_iff_toInt_le, s1, show (200 : Int32).toInt = 200 by decide]; omega
    · rw [Int32.le_iff_toInt_le, s1, Int32.toInt_zero]; omega
    · intro j hj
      by_cases hjk : j = k
      · subst hjk
        rw [pk_us]
        refine ⟨?_, ?_⟩
        · rw [Int32.le_iff_toInt_le, s2, Int32.toInt_zero]; omega
        · rw [Int32.le_iff_toInt_le, s2, show (999 : Int32).toInt = 999 by decide]; omega
      · rw [pk_un hjk]
        exact hp j hj
    · rw [dz_vol_upd h2, if_pos h1, Int32.le_iff_toInt_le, s1, Int32.toInt_sub, Int.bmod_eq_of_le (by omega) (by omega)]
      omega
/-- which permits stay -/
def dz_kp (pl pv : Nat → Int32) (da : Int32) (k : Nat) : Bool := decide (0 < pv k) && decide (da ≤ pl k)
def dz_ct (kp : Nat → Bool) : Nat → Nat
  | 0 => 0
  | i + 1 => if kp i = true then dz_ct kp i + 1 else dz_ct kp i
/-- those that stay, moved together -/
def dz_td {α : Type} (kp : Nat → Bool) (f : Nat → α) : Nat → (Nat → α)
  | 0 => f
  | i + 1 => if kp i = true then va_up (dz_td kp f i) (dz_ct kp i) (f i) else dz_td kp f i
theorem dz_ct_le (kp : Nat → Bool) : ∀ i, dz_ct kp i ≤ i
  | 0 => Nat.le_refl 0
  | i + 1 => by
    have := dz_ct_le kp i
    unfold dz_ct
    split <;> omega
theorem dz_td_hi {α : Type} (kp : Nat → Bool) (f : Nat → α) : ∀ i k, dz_ct kp i ≤ k → dz_td kp f i k = f k
  | 0, k, _ => rfl
  | i + 1, k, h => by
    unfold dz_ct at h
    unfold dz_td
    split at h
    · rename_i hk
      rw [if_pos hk, va_up_ne _ _ (by omega)]
      exact dz_td_hi kp f i k (by omega)
    · rename_i hk
      rw [if_neg hk]
      exact dz_td_hi kp f i k h
theorem dz_td_at {α : Type} (kp : Nat → Bool) (f : Nat → α) (i : Nat) : dz_td kp f i i = f i := dz_td_hi kp f i i (dz_ct_le kp i)
theorem dz_td_1 {α : Type} {kp : Nat → Bool} (f : Nat → α) {i : Nat} (h : kp i = true) : dz_td kp f (i + 1) = va_up (dz_td kp f i) (dz_ct kp i) (f i) := by
  conv => lhs; unfold dz_td
  rw [if_pos h]
theorem dz_td_n {α : Type} {kp : Nat → Bool} (f : Nat → α) {i : Nat} (h : kp i = false) : dz_td kp f (i + 1) = dz_td kp f i := by
  conv => lhs; unfold dz_td
  rw [if_neg (by rw [h]; decide)]
theorem dz_ct_1 {kp : Nat → Bool} {i : Nat} (h : kp i = true) : dz_ct kp (i + 1) = dz_ct kp i + 1 := by
  conv => lhs; unfold dz_ct
  rw [if_pos h]
theorem dz_ct_n {kp : Nat → Bool} {i : Nat} (h : kp i = false) : dz_ct kp (i + 1) = dz_ct kp i := by
  conv => lhs; unfold dz_ct
  rw [if_neg (by rw [h]; decide)]
def dz_kpermit (g pn : Nat) (da i a b v : Int32) : Int32 := if dz_bi i 0 (nI g - 1) = 0 then 1 else if dz_bi a 0 400 = 0 ∨ b < a ∨ dz_bi b da 400 = 0 ∨ dz_bi v 1 999 = 0 then 2 else if pn = 8 then 3 else 0
def dz_kdump (g : Nat) (ho ti i v : Int32) (gs gt gd : Nat → Int32) (vol : Int32) : Int32 := if dz_bi i 0 (nI g - 1) = 0 then 1 else if dz_bi v 1 200 = 0 then 2 else if v ≤ ho then (if ti < gt i.toNatClampNeg ∨ gs i.toNatClampNeg - gd i.toNatClampNeg < v ∨ vol < v then 4 else 0) else 3
