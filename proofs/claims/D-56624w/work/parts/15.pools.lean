/-! pools: an entry more, an entry less, fields of nodes -/
section DZPL
variable {D : va_G} {cl : List vw_C} {A : Nat → Prop} {H0 H : Heap} {ww : dz_W} {locs : List Loc} {n : Nat} {f : Nat → Nat × va_E} {q : Nat × va_E}
theorem dz_O.perm (h : dz_O D cl A H0 ww H locs) {v u : dz_W} (p : ww.flatten.Perm (v.flatten ++ u.flatten)) : dz_O D cl A H0 v H locs := ⟨h.1.perm p, h.2.1.perm p, h.2.2⟩
theorem dz_O.padd (h : dz_O D cl A H0 (dz_pn n f :: [q] :: ww) H locs) {f' : Nat → Nat × va_E} (h1 : ∀ i, i < n → f' i = f i) (h2 : f' n = q) : dz_O D cl A H0 (dz_pn (n + 1) f' :: ww) H locs := by
  refine h.fl ?_
  simp only [List.flatten_cons]
  rw [dz_pn_succ, dz_pn_cong h1, h2, List.append_assoc]
theorem dz_pn_app (a b : Nat) (f : Nat → Nat × va_E) : dz_pn (a + b) f = dz_pn a f ++ dz_pn b (fun i => f (a + i)) := by
  unfold dz_pn
  rw [List.range_add, List.map_append, List.map_map]
  rfl
theorem dz_pn_del {n j : Nat} (hj : j ≤ n) (f f' : Nat → Nat × va_E) (h : ∀ i, i < n → f' i = f (if i < j then i else i + 1)) : (dz_pn (n + 1) f).Perm (dz_pn n f' ++ [f j]) := by
  obtain ⟨r, rfl⟩ : ∃ r, n = j + r := ⟨n - j, by omega⟩
  have e1 : dz_pn (j + r + 1) f = dz_pn j f ++ (f j :: dz_pn r (fun i => f (j + 1 + i))) := by
    rw [show j + r + 1 = (j + 1) + r by omega, dz_pn_app (j + 1) r f, dz_pn_succ, List.append_assoc]
    rfl
  have e2 : dz_pn (j + r) f' = dz_pn j f ++ dz_pn r (fun i => f (j + 1 + i)) := by
    rw [dz_pn_app]
    congr 1
    · exact dz_pn_cong fun i hi => by rw [h i (by omega), if_pos hi]
    · refine dz_pn_cong fun i hi => ?_
      rw [h (j + i) (by omega), if_neg (by omega)]
      congr 1
      omega
  rw [e1, e2, List.append_assoc]
  refine List.Perm.append_left _ ?_
  exact (List.perm_append_comm (l₁ := [f j])).trans (List.Perm.refl _)
theorem dz_O.pdel (h : dz_O D cl A H0 (dz_pn (n + 1) f :: ww) H locs) {j : Nat} (hj : j ≤ n) {f' : Nat → Nat × va_E} (h1 : ∀ i, i < n → f' i = f (if i < j then i else i + 1)) : dz_O D cl A H0 (dz_pn n f' :: ww) H locs := by
  refine h.perm (v := dz_pn n f' :: ww) (u := [[f j]]) ?_
  simp only [List.flatten_cons, List.flatten_nil, List.append_nil]
  refine ((dz_pn_del hj f f' h1).append_right ww.flatten).trans ?_
  rw [List.append_assoc, List.append_assoc]
  exact List.Perm.append_left _ List.perm_append_comm
theorem dz_O.pn0 (h : dz_O D cl A H0 ww H locs) (f : Nat → Nat × va_E) : dz_O D cl A H0 (dz_pn 0 f :: ww) H locs := h.fl rfl
theorem dz_O.pcong (h : dz_O D cl A H0 (dz_pn n f :: ww) H locs) {f' : Nat → Nat × va_E} (h1 : ∀ i, i < n → f' i = f i) : dz_O D cl A H0 (dz_pn n f' :: ww) H locs := by
  rw [dz_pn_cong h1]; exact h
end DZPL
section DZPM
variable {G : dz_G} {A : Nat → Prop} {s : State} {H : Heap} {ww : dz_W} {locs : List Loc}
theorem dz_O.pnE (h : dz_O G.1 dz_CL A s.heap ww H locs) (k : Nat) {n : Nat} {f : Nat → Nat × va_E} (hk : ww[k]? = some (dz_pn n f)) {i : Nat} (hi : i < n) {q : Nat × va_E} (e : f i = q) : va_at G.1 dz_CL q H := e ▸ h.pn k hk hi
end DZPM
/-! the pools of the component -/
/-- nodes of the linked list -/
abbrev dz_no (G : dz_G) (n : Nat) (na : Nat → Nat) (it nx pv : Nat → Option Nat) : va_W := dz_pn n (fun i => (na i, dzo 16 [va_rf (it i), va_rf (nx i), va_rf (pv i)]))
/-- permits -/
abbrev dz_pm (G : dz_G) (n : Nat) (pa : Nat → Nat) (pg pf pl pv : Nat → Int32) : va_W := dz_pn n (fun i => (pa i, dzo 8 [.int (pg i), .int (pf i), .int (pl i), .int (pv i)]))
/-- grounds -/
abbrev dz_gr (G : dz_G) (n : Nat) (ga : Nat → Nat) (gs gt gd : Nat → Int32) : va_W := dz_pn n (fun i => (ga i, dzo 7 [.int (gs i), .int (gt i), .int (gd i)]))
/-- surveys -/
abbrev dz_sv (G : dz_G) (n : Nat) (sa ta fn : Nat → Nat) (sw sd : Nat → Int32) : va_W := dz_pn n (fun i => (sa i, dzo 9 [.int (nI i), .int (nI (fn i)), .int (sw i), .ref (ta i), .int (sd i)]))
/-- what surveys tell -/
abbrev dz_tp (G : dz_G) (n : Nat) (ta fn tn : Nat → Nat) (tt : Nat → Int32) : va_W := dz_pn n (fun i => (ta i, dzS G (tn i - fn i + 1) (fun k => tt (24 * i + fn i + k))))
/-- links of the chain -/
abbrev dz_lk (G : dz_G) (n : Nat) (la : Nat → Nat) (it nx : Nat → Option Nat) : va_W := dz_pn n (fun i => (la i, dzo 5 [va_rf (it i), va_rf (nx i)]))
/-- events: a limit, a settlement, a dispute that begins or ends -/
abbrev dz_evt : Type := (Nat × Int32) ⊕ (Nat ⊕ (Nat × Bool))
abbrev dz_eL (c : Nat) (v : Int32) : dz_evt := .inl (c, v)
abbrev dz_eS (sv : Nat) : dz_evt := .inr (.inl sv)
abbrev dz_eD (c : Nat) (b : Bool) : dz_evt := .inr (.inr (c, b))
def dz_evc (G : dz_G) (sa : Nat → Nat) : dz_evt → va_E
  | .inl (c, v) => dzo 4 [.int (nI c), .int v]
  | .inr (.inl sv) => dzo 10 [.ref (sa sv)]
  | .inr (.inr (c, b)) => dzo 11 [.int (nI c), .ref (G.2.2.1 (if b then 6 else 7))]
abbrev dz_ep (G : dz_G) (n : Nat) (ea : Nat → Nat) (sa : Nat → Nat) (ev : Nat → dz_evt) : va_W := dz_pn n (fun i => (ea i, dz_evc G sa (ev i)))
/-- entries of the log, by their rank -/
abbrev dz_lp (G : dz_G) (n : Nat) (oa : Nat → Nat) (ld : Nat → Option Nat) (ly lu : Nat → Int32) : va_W := dz_pn n (fun i => (oa i, dzo 6 [va_rf (ld i), .int (ly i), .int (lu i)]))
/-- the next one's row of n things at na -/
def dz_nxt (na : Nat → Nat) (n : Nat) : Nat → Option Nat := fun i => if i + 1 < n then some (na (i + 1)) else none
def dz_prv (na : Nat → Nat) : Nat → Option Nat := fun i => if i = 0 then none else some (na (i - 1))
def dz_hd (na : Nat → Nat) (n : Nat) : Option Nat := if n = 0 then none else some (na 0)
def dz_lst (na : Nat → Nat) (n : Nat) : Option Nat := if n = 0 then none else some (na (n - 1))
theorem dz_up_fld {α β : Type} (g : α → β) (f : Nat → α) (i : Nat) (v : α) : (fun k => g (va_up f i v k)) = va_up (fun k => g (f k)) i (g v) := by
  funext k
  unfold va_up
  split <;> rfl
theorem dz_nup_lt {f : Nat → Nat} {n v i : Nat} (h : i < n) : dz_nup f n v i = f i := by unfold dz_nup; rw [if_neg (by omega)]
theorem dz_nup_at (f : Nat → Nat) (n v : Nat) : dz_nup f n v n = v := by unfold dz_nup; rw [if_pos rfl]
theorem dz_vu_lt {α : Type} {f : Nat → α} {n i : Nat} {v : α} (h : i < n) : va_up f n v i = f i := by unfold va_up; rw [if_neg (by omega)]
theorem dz_vu_at {α : Type} (f : Nat → α) (n : Nat) (v : α) : va_up f n v n = v := by unfold va_up; rw [if_pos rfl]
theorem dz_ud_lt {f : Nat → Int32} {n i : Nat} {v : Int32} (h : i < n) : upd f n v i = f i := by unfold upd; rw [if_neg (by omega)]
theorem dz_ud_at (f : Nat → Int32) (n : Nat) (v : Int32) : upd f n v n = v := by unfold upd; rw [if_pos rfl]
theorem dz_nxt_add {na : Nat → Nat} {m v i : Nat} (hi : i < m + 1) : dz_nxt (dz_nup na (m + 1) v) (m + 1 + 1) i = va_up (dz_nxt na (m + 1)) m (some v) i := by
  unfold dz_nxt va_up dz_nup
  dsimp only
  by_cases h : i = m
  · rw [if_pos (show i + 1 < m + 1 + 1 by omega), if_pos (show i + 1 = m + 1 by omega), if_pos h]
  · rw [if_pos (show i + 1 < m + 1 + 1 by omega), if_neg (show ¬ i + 1 = m + 1 by omega), if_neg h, if_pos (show i + 1 < m + 1 by omega)]
theorem dz_nxt_last (na : Nat → Nat) (n : Nat) : dz_nxt na (n + 1) n = none := by unfold dz_nxt; rw [if_neg (by omega)]
theorem dz_nxt_in {na : Nat → Nat} {n i : Nat} (h : i + 1 < n) : dz_nxt na n i = some (na (i + 1)) := by unfold dz_nxt; rw [if_pos h]
theorem dz_prv_0 (na : Nat → Nat) : dz_prv na 0 = none := rfl
theorem dz_prv_s (na : Nat → Nat) (i : Nat) : dz_prv na (i + 1) = some (na i) := rfl
theorem dz_prv_add {na : Nat → Nat} {n v i : Nat} (hi : i < n) : dz_prv (dz_nup na n v) i = dz_prv na i := by
  unfold dz_prv dz_nup
  by_cases h : i = 0
  · rw [if_pos h, if_pos h]
  · rw [if_neg h, if_neg h, if_neg (by omega)]
theorem dz_hd_s (na : Nat → Nat) (n : Nat) : dz_hd na (n + 1) = some (na 0) := rfl
theorem dz_lst_s (na : Nat → Nat) (n : Nat) : dz_lst na (n + 1) = some (na n) := rfl
