/-! HEAPS AS LISTS OF WORLDS: a world list is a list of parts, each a list of cells; parts are told by their places -/
abbrev dz_W : Type := List va_W
/-- every listed cell stands in the heap -/
def dz_P (D : va_G) (cl : List vw_C) (ww : dz_W) (H : Heap) : Prop := ∀ q ∈ ww.flatten, va_at D cl q H
/-- the addresses are apart, and of a kind -/
def dz_D (A : Nat → Prop) (ww : dz_W) : Prop := (ww.flatten.map (·.1)).Nodup ∧ ∀ q ∈ ww.flatten, A q.1
/-- the cells of the worlds, and all new ones -/
def dz_A (ww : dz_W) (sz : Nat) : Nat → Prop := fun q => (∃ x ∈ ww.flatten, x.1 = q) ∨ sz ≤ q
theorem dz_nd_nodup : ∀ (l : List Nat), va_nd l = true → l.Nodup
  | [], _ => List.nodup_nil
  | a :: l, h => by
    simp only [va_nd, Bool.and_eq_true, decide_eq_true_eq] at h
    exact List.nodup_cons.mpr ⟨h.1, dz_nd_nodup l h.2⟩
theorem dz_range_map {α : Type} (l : List α) : (List.range l.length).map (fun i => l[i]?) = l.map some := by
  apply List.ext_getElem?
  intro i
  rw [List.getElem?_map, List.getElem?_map]
  by_cases h : i < l.length
  · rw [List.getElem?_range h]
    simp [h]
  · rw [List.getElem?_eq_none (by simpa using h), List.getElem?_eq_none (by simpa using h)]
    rfl
theorem dz_fm {α : Type} (l : List α) : (l.map some).filterMap id = l := by
  induction l with
  | nil => rfl
  | cons a l ih => simp [ih]
/-- a choice of parts by their places, and what is left -/
theorem dz_sel {ww v : dz_W} (is : List Nat) (hn : va_nd is = true) (hs : is.map (fun i => ww[i]?) = v.map some) : ∃ u : dz_W, ww.Perm (v ++ u) := by
  have hnd := dz_nd_nodup is hn
  have hlt : ∀ i ∈ is, i < ww.length := by
    intro i hi
    have h1 : ww[i]? ∈ v.map some := by rw [← hs]; exact List.mem_map.mpr ⟨i, hi, rfl⟩
    obtain ⟨x, -, hx⟩ := List.mem_map.mp h1
    exact (List.getElem?_eq_some_iff.mp hx.symm).1
  have hp : (List.range ww.length).Perm (is ++ (List.range ww.length).filter (fun i => decide (i ∉ is))) := by
    refine (List.perm_ext_iff_of_nodup List.nodup_range ?_).mpr ?_
    · rw [List.nodup_append]
      refine ⟨hnd, List.Nodup.sublist List.filter_sublist List.nodup_range, ?_⟩
      intro a ha b hb hab
      subst hab
      simp at hb
      exact hb.2 ha
    · intro a
      rw [List.mem_append, List.mem_filter, List.mem_range]
      constructor
      · intro h
        by_cases h2 : a ∈ is
        · exact Or.inl h2
        · exact Or.inr ⟨h, by simpa using h2⟩
      · intro h
        rcases h with h | h
        · exact hlt a h
        · exact h.1
  have h2 := hp.map (fun i => ww[i]?)
  rw [dz_range_map, List.map_append, hs] at h2
  have h3 := h2.filterMap id
  rw [dz_fm, List.filterMap_append, dz_fm] at h3
  exact ⟨_, h3⟩
theorem dz_P.perm {D : va_G} {cl : List vw_C} {ww v u : dz_W} {H : Heap} (h : dz_P D cl ww H) (p : ww.flatten.Perm (v.flatten ++ u.flatten)) : dz_P D cl v H := fun q hq => h q (p.mem_iff.mpr (List.mem_append_left _ hq))
theorem dz_D.perm {A : Nat → Prop} {ww v u : dz_W} (h : dz_D A ww) (p : ww.flatten.Perm (v.flatten ++ u.flatten)) : dz_D A v := by
  refine ⟨?_, fun q hq => h.2 q (p.mem_iff.mpr (List.mem_append_left _ hq))⟩
  have h1 := (p.map (·.1)).nodup h.1
  rw [List.map_append, List.nodup_append] at h1
  exact h1.1
theorem dz_D.weaken {A B : Nat → Prop} {ww : dz_W} (h : dz_D A ww) (hAB : ∀ q ∈ ww.flatten, A q.1 → B q.1) : dz_D B ww := ⟨h.1, fun q hq => hAB q hq (h.2 q hq)⟩
theorem dz_D.self {A : Nat → Prop} {ww : dz_W} {sz : Nat} (h : dz_D A ww) : dz_D (dz_A ww sz) ww := ⟨h.1, fun q hq => Or.inl ⟨q, hq, rfl⟩⟩
theorem dz_fl {ww v u : dz_W} (p : ww.Perm (v ++ u)) : ww.flatten.Perm (v.flatten ++ u.flatten) := by
  have h := p.flatten
  rwa [List.flatten_append] at h
theorem dz_P.sel {D : va_G} {cl : List vw_C} {ww v : dz_W} {H : Heap} (h : dz_P D cl ww H) (is : List Nat) (hn : va_nd is = true) (hs : is.map (fun i => ww[i]?) = v.map some) : dz_P D cl v H := by
  obtain ⟨u, p⟩ := dz_sel is hn hs
  exact h.perm (dz_fl p)
theorem dz_D.sel {A : Nat → Prop} {ww v : dz_W} (h : dz_D A ww) (is : List Nat) (hn : va_nd is = true) (hs : is.map (fun i => ww[i]?) = v.map some) : dz_D A v := by
  obtain ⟨u, p⟩ := dz_sel is hn hs
  exact h.perm (dz_fl p)
theorem dz_mem {ww : dz_W} {k : Nat} {w : va_W} (h : ww[k]? = some w) {q : Nat × va_E} (hq : q ∈ w) : q ∈ ww.flatten := List.mem_flatten.mpr ⟨w, List.mem_of_getElem? h, hq⟩
/-- the split of a world list at a place -/
theorem dz_split {ww : dz_W} {k : Nat} {w : va_W} (h : ww[k]? = some w) : ww.flatten = (ww.take k).flatten ++ (w ++ (ww.drop (k + 1)).flatten) := by
  have hl := (List.getElem?_eq_some_iff.mp h).1
  have e : ww = ww.take k ++ (w :: ww.drop (k + 1)) := by
    conv => lhs; rw [← List.take_append_drop k ww]
    congr 1
    rw [List.drop_eq_getElem_cons hl]
    congr 1
    exact (List.getElem?_eq_some_iff.mp h).2
  conv => lhs; rw [e]
  rw [List.flatten_append, List.flatten_cons]
theorem dz_splitS {ww : dz_W} {k : Nat} {w w1 : va_W} (h : ww[k]? = some w) : (ww.set k w1).flatten = (ww.take k).flatten ++ (w1 ++ (ww.drop (k + 1)).flatten) := by
  have hl := (List.getElem?_eq_some_iff.mp h).1
  rw [dz_split (w := w1) (List.getElem?_set_self hl), List.take_set_of_le (Nat.le_refl k), List.drop_set_of_lt (Nat.lt_succ_self k)]
theorem dz_ndmid {α : Type} {a b c : List α} (h : (a ++ (b ++ c)).Nodup) {x : α} (hx : x ∈ b) : x ∉ a ∧ x ∉ c := by
  rw [List.nodup_append] at h
  obtain ⟨-, h2, h3⟩ := h
  rw [List.nodup_append] at h2
  exact ⟨fun z => h3 x z x (List.mem_append_left _ hx) rfl, fun z => h2.2.2 x hx x z rfl⟩
theorem dz_P.put {D : va_G} {cl : List vw_C} {A : Nat → Prop} {ww : dz_W} {H H1 : Heap} (h : dz_P D cl ww H) (hD : dz_D A ww) {k : Nat} {w w1 : va_W} (hk : ww[k]? = some w) {a : Nat} (ha : a ∈ w.map (·.1)) (hw : ∀ q ∈ w1, (q.1 ≠ a → q ∈ w) ∧ (q.1 = a → va_at D cl q H1)) (oq : ∀ q : Nat, q ≠ a → H1[q]? = H[q]?) : dz_P D cl (ww.set k w1) H1 := by
  have hnd := hD.1
  rw [dz_split hk, List.map_append, List.map_append] at hnd
  obtain ⟨n1, n2⟩ := dz_ndmid hnd ha
  intro q hq
  rw [dz_splitS hk, List.mem_append, List.mem_append] at hq
  have keep : q ∈ ww.flatten → q.1 ≠ a → va_at D cl q H1 := fun z y => (h q z).kept (oq q.1 y)
  rcases hq with hq | hq | hq
  · refine keep ?_ (fun e => n1 (e ▸ List.mem_map.mpr ⟨q, hq, rfl⟩))
    rw [dz_split hk]
    exact List.mem_append_left _ hq
  · by_cases e : q.1 = a
    · exact (hw q hq).2 e
    · refine keep ?_ e
      rw [dz_split hk]
      exact List.mem_append_right _ (List.mem_append_left _ ((hw q hq).1 e))
  · refine keep ?_ (fun e => n2 (e ▸ List.mem_map.mpr ⟨q, hq, rfl⟩))
    rw [dz_split hk]
    exact List.mem_append_right _ (List.mem_append_right _ hq)
theorem dz_D.put {A : Nat → Prop} {ww : dz_W} (hD : dz_D A ww) {k : Nat} {w w1 : va_W} (hk : ww[k]? = some w) (hw : w1.map (·.1) = w.map (·.1)) : dz_D A (ww.set k w1) := by
  have e : (ww.set k w1).flatten.map (·.1) = ww.flatten.map (·.1) := by
    rw [dz_splitS hk, dz_split hk]
    simp only [List.map_append, hw]
  refine ⟨by rw [e]; exact hD.1, fun q hq => ?_⟩
  have h1 : q.1 ∈ (ww.set k w1).flatten.map (·.1) := List.mem_map.mpr ⟨q, hq, rfl⟩
  rw [e] at h1
  obtain ⟨x, hx, hx2⟩ := List.mem_map.mp h1
  rw [← hx2]
  exact hD.2 x hx
theorem dz_P.lt {D : va_G} {cl : List vw_C} {ww : dz_W} {H : Heap} (h : dz_P D cl ww H) {q : Nat × va_E} (hq : q ∈ ww.flatten) : q.1 < H.size := (h q hq).lt
theorem dz_P.kept {D : va_G} {cl : List vw_C} {ww : dz_W} {H H1 : Heap} (h : dz_P D cl ww H) (hk : ∀ q ∈ ww.flatten, H1[q.1]? = H[q.1]?) : dz_P D cl ww H1 := fun q hq => (h q hq).kept (hk q hq)
theorem dz_P.app {D : va_G} {cl : List vw_C} {ww v : dz_W} {H : Heap} (h : dz_P D cl ww H) (h2 : dz_P D cl v H) : dz_P D cl (ww ++ v) H := by
  intro q hq
  rw [List.flatten_append, List.mem_append] at hq
  exact hq.elim (h q) (h2 q)
theorem dz_D.app {A : Nat → Prop} {ww v : dz_W} (h : dz_D A ww) (h2 : dz_D A v) (hx : ∀ p ∈ ww.flatten, ∀ q ∈ v.flatten, p.1 ≠ q.1) : dz_D A (ww ++ v) := by
  refine ⟨?_, fun q hq => ?_⟩
  · rw [List.flatten_append, List.map_append, List.nodup_append]
    refine ⟨h.1, h2.1, fun a ha b hb hab => ?_⟩
    obtain ⟨p, hp, e1⟩ := List.mem_map.mp ha
    obtain ⟨q, hq, e2⟩ := List.mem_map.mp hb
    exact hx p hp q hq (e1.trans (hab.trans e2.symm))
  · rw [List.flatten_append, List.mem_append] at hq
    exact hq.elim (h.2 q) (h2.2 q)
/-- the world at a point of a method: what stands where, apart; what has been written since H0 lies in A -/
def dz_O (D : va_G) (cl : List vw_C) (A : Nat → Prop) (H0 : Heap) (ww : dz_W) (H : Heap) (locs : List Loc) : Prop := dz_P D cl ww H ∧ dz_D A ww ∧ va_S A H0 H locs
section DZO
variable {D : va_G} {cl : List vw_C} {A : Nat → Prop} {H0 H H1 : Heap} {ww : dz_W} {locs : List Loc}
theorem dz_O.at (h : dz_O D cl A H0 ww H locs) (k : Nat) {w : va_W} (hk : ww[k]? = some w) (j : Nat) {q : Nat × va_E} (hj : w[j]? = some q) : va_at D cl q H := h.1 q (dz_mem hk (List.mem_of_getElem? hj))
theorem dz_O.at1 (h : dz_O D cl A H0 ww H locs) (k : Nat) {q : Nat × va_E} (hk : ww[k]? = some [q]) : va_at D cl q H := h.1 q (dz_mem hk List.mem_cons_self)
theorem dz_O.putL (h : dz_O D cl A H0 ww H locs) {k : Nat} {w w1 : va_W} (hk : ww[k]? = some w) {a i : Nat} (ha : a ∈ w.map (·.1)) (hm : w1.map (·.1) = w.map (·.1)) (hw : ∀ q ∈ w1, (q.1 ≠ a → q ∈ w) ∧ (q.1 = a → va_at D cl q H1)) (z : H1.size = H.size) (oq : ∀ q : Nat, q ≠ a → H1[q]? = H[q]?) : dz_O D cl A H0 (ww.set k w1) H1 (locs ++ [⟨a, i⟩]) := by
  obtain ⟨x, hx, hx2⟩ := List.mem_map.mp ha
  exact ⟨h.1.put h.2.1 hk ha hw oq, h.2.1.put hk hm, h.2.2.put z oq (hx2 ▸ h.2.1.2 x (dz_mem hk hx))⟩
theorem dz_O.put1 (h : dz_O D cl A H0 ww H locs) {k a i : Nat} {e0 e : va_E} (hk : ww[k]? = some [(a, e0)]) (he : va_at D cl (a, e) H1) (z : H1.size = H.size) (oq : ∀ q : Nat, q ≠ a → H1[q]? = H[q]?) : dz_O D cl A H0 (ww.set k [(a, e)]) H1 (locs ++ [⟨a, i⟩]) := by
  refine h.putL hk (by simp) rfl (fun q hq => ?_) z oq
  rw [List.mem_singleton] at hq
  subst hq
  exact ⟨fun y => absurd rfl y, fun _ => he⟩
theorem dz_O.push (h : dz_O D cl A H0 ww H locs) (hA : ∀ q : Nat, H0.size ≤ q → A q) {e : va_E} (he : va_at D cl (H.size, e) H1) (z : H1.size = H.size + 1) (oq : ∀ q : Nat, q < H.size → H1[q]? = H[q]?) : dz_O D cl A H0 (ww ++ [[(H.size, e)]]) H1 locs := by
  have hlt : ∀ q ∈ ww.flatten, q.1 < H.size := fun q hq => h.1.lt hq
  refine ⟨(h.1.kept (fun q hq => oq q.1 (hlt q hq))).app (fun q hq => ?_), h.2.1.app ⟨by simp, fun q hq => ?_⟩ (fun p hp q hq => ?_), ⟨by have := h.2.2.1; omega, fun q h1 h2 => (oq q (Nat.lt_of_lt_of_le h1 h.2.2.1)).trans (h.2.2.2.1 q h1 h2), h.2.2.2.2⟩⟩
  · have e1 : q = (H.size, e) := by simpa using hq
    rw [e1]; exact he
  · have e1 : q = (H.size, e) := by simpa using hq
    rw [e1]; exact hA _ h.2.2.1
  · have e1 : q = (H.size, e) := by simpa using hq
    rw [e1]; exact Nat.ne_of_lt (hlt p hp)
theorem dz_O.sel (h : dz_O D cl A H0 ww H locs) {v : dz_W} (is : List Nat) (hn : va_nd is = true) (hs : is.map (fun i => ww[i]?) = v.map some) : dz_O D cl A H0 v H locs := ⟨h.1.sel is hn hs, h.2.1.sel is hn hs, h.2.2⟩
theorem dz_O.fl (h : dz_O D cl A H0 ww H locs) {v : dz_W} (e : v.flatten = ww.flatten) : dz_O D cl A H0 v H locs := ⟨fun q hq => h.1 q (e ▸ hq), ⟨by rw [e]; exact h.2.1.1, fun q hq => h.2.1.2 q (e ▸ hq)⟩, h.2.2⟩
theorem dz_O.cong (h : dz_O D cl A H0 ww H locs) (k : Nat) {w w1 : va_W} (hk : ww[k]? = some w) (e : w1 = w) : dz_O D cl A H0 (ww.set k w1) H locs := by
  subst e
  refine h.fl ?_
  rw [dz_splitS hk, dz_split hk]
theorem dz_free {wc : dz_W} (hP : dz_D A wc) (hA : ∀ q : Nat, H0.size ≤ q → A q) (hz : H0.size ≤ H.size) : ∀ q, dz_A wc H.size q → A q := by
  intro q h
  rcases h with ⟨x, hx, rfl⟩ | h
  · exact hP.2 x hx
  · exact hA q (Nat.le_trans hz h)
theorem dz_O.call (h : dz_O D cl A H0 ww H locs) {wc wr w1 : dz_W} (isC isR : List Nat) (hn : va_nd (isC ++ isR) = true) (hC : isC.map (fun i => ww[i]?) = wc.map some) (hR : isR.map (fun i => ww[i]?) = wr.map some) (hA : ∀ q : Nat, H0.size ≤ q → A q) (hz : H.size ≤ H1.size) (hk : ∀ q : Nat, q < H.size → ¬ dz_A wc H.size q → H1[q]? = H[q]?) (hP1 : dz_P D cl w1 H1) (hD1 : dz_D (dz_A wc H.size) w1) {L : List Loc} (hL : ∀ q ∈ L, dz_A wc H.size q.base) : dz_O D cl A H0 (wr ++ w1) H1 (locs ++ L) := by
  obtain ⟨u, p⟩ := dz_sel (ww := ww) (v := wc ++ wr) (isC ++ isR) hn (by rw [List.map_append, hC, hR, List.map_append])
  have pf := dz_fl p
  have hPv : dz_P D cl (wc ++ wr) H := h.1.perm pf
  have hDv : dz_D A (wc ++ wr) := h.2.1.perm pf
  have hDc : dz_D A wc := ⟨by have := hDv.1; rw [List.flatten_append, List.map_append, List.nodup_append] at this; exact this.1, fun q hq => hDv.2 q (by rw [List.flatten_append]; exact List.mem_append_left _ hq)⟩
  have hF := dz_free (H := H) hDc hA h.2.2.1
  have inr : ∀ q ∈ wr.flatten, q.1 < H.size ∧ ¬ dz_A wc H.size q.1 := by
    intro q hq
    have hlt : q.1 < H.size := hPv.lt (by rw [List.flatten_append]; exact List.mem_append_right _ hq)
    refine ⟨hlt, fun hz => ?_⟩
    rcases hz with ⟨x, hx, e⟩ | hz
    · have h1 := hDv.1
      rw [List.flatten_append, List.map_append, List.nodup_append] at h1
      exact h1.2.2 x.1 (List.mem_map.mpr ⟨x, hx, rfl⟩) q.1 (List.mem_map.mpr ⟨q, hq, rfl⟩) e
    · omega
  have hDr : dz_D A wr := ⟨by have := hDv.1; rw [List.flatten_append, List.map_append, List.nodup_append] at this; exact this.2.1, fun q hq => hDv.2 q (by rw [List.flatten_append]; exact List.mem_append_right _ hq)⟩
  refine ⟨dz_P.app (fun q hq => (hPv q (by rw [List.flatten_append]; exact List.mem_append_right _ hq)).kept (hk q.1 (inr q hq).1 (inr q hq).2)) hP1, hDr.app (hD1.weaken (fun q _ z => hF q.1 z)) (fun x hx y hy e => (inr x hx).2 (e ▸ hD1.2 y hy)), ⟨Nat.le_trans h.2.2.1 hz, fun q g1 g2 => ?_, fun q hq => ?_⟩⟩
  · rw [hk q (Nat.lt_of_lt_of_le g1 h.2.2.1) (fun z => g2 (hF q z))]
    exact h.2.2.2.1 q g1 g2
  · rcases List.mem_append.mp hq with z | z
    · exact h.2.2.2.2 q z
    · exact hF _ (hL q z)
end DZO
