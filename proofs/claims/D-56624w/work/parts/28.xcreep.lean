/-! what the component's rows are called -/
def dz_so (f : Nat → Nat) : Nat → Option Nat := fun i => some (f i)
theorem dz_so_up (f : Nat → Nat) (n v : Nat) : va_up (dz_so f) n (some v) = dz_so (dz_nup f n v) := by
  funext i; unfold va_up dz_so dz_nup; split <;> rfl
def dz_ro (f : Nat → Nat) (n : Nat) : Nat → Option Nat := fun k => if k < n then some (f k) else none
theorem dz_ro_up (f : Nat → Nat) (n v : Nat) : va_up (dz_ro f n) n (some v) = dz_ro (dz_nup f n v) (n + 1) := by
  funext i; unfold va_up dz_ro dz_nup
  by_cases h : i = n
  · rw [if_pos h, if_pos h, if_pos (by omega)]
  · rw [if_neg h, if_neg h]
    by_cases h2 : i < n
    · rw [if_pos h2, if_pos (by omega)]
    · rw [if_neg h2, if_neg (by omega)]
theorem dz_ro_in {f : Nat → Nat} {n k : Nat} (h : k < n) : dz_ro f n k = some (f k) := if_pos h
theorem dz_ro_0 (f : Nat → Nat) : dz_ro f 0 = fun _ => none := by funext k; unfold dz_ro; rw [if_neg (by omega)]
theorem dz_so_del (f : Nat → Nat) (j : Nat) : dz_del (dz_so f) j = dz_so (dz_del f j) := by
  funext i
  show (if i < j then some (f i) else some (f (i + 1))) = some (if i < j then f i else f (i + 1))
  split <;> rfl
theorem dz_bi_r2 {v lo hi : Int32} (h : ¬ dz_bi v lo hi = 0) : lo.toInt ≤ v.toInt ∧ v.toInt ≤ hi.toInt := by
  rw [dz_bi_iff] at h
  exact ⟨Int32.le_iff_toInt_le.mp h.1, Int32.le_iff_toInt_le.mp h.2⟩
theorem dz_dgr {d v : Int32} (hd : 0 ≤ d.toInt ∧ d.toInt ≤ 300) (hv : ¬ dz_bi v 1 50 = 0) : (d + v).toInt16.toInt32 = d + v := by
  have h := dz_bi_r2 hv
  rw [show ((1 : Int32)).toInt = 1 by decide, show ((50 : Int32)).toInt = 50 by decide] at h
  refine dz_i16 ?_
  rw [Int32.toInt_add, Int.bmod_eq_of_le (by omega) (by omega)]
  omega
/-! the creep of a day, as the component counts it -/
def dz_xb (n : Nat) (sl : Int32) (d : Nat → Int32) (b : Nat) : Int32 := dz_xm sl (dz_dl d b) (dz_dr n d b)
def dz_mr (n : Nat) (sl : Int32) (d : Nat → Int32) (b : Nat) : Nat → Int32 := fun k => if k < b then dz_xb n sl d k else 0
theorem dz_mr_0 (n : Nat) (sl : Int32) (d : Nat → Int32) : dz_mr n sl d 0 = fun _ => 0 := by funext k; unfold dz_mr; rw [if_neg (by omega)]
theorem dz_mr_s (n : Nat) (sl : Int32) (d : Nat → Int32) (b : Nat) : upd (dz_mr n sl d b) b (dz_xb n sl d b) = dz_mr n sl d (b + 1) := by
  funext k; unfold upd dz_mr
  by_cases h : k = b
  · rw [if_pos h, if_pos (by omega), h]
  · rw [if_neg h]
    by_cases h2 : k < b
    · rw [if_pos h2, if_pos (by omega)]
    · rw [if_neg h2, if_neg (by omega)]
theorem dz_mr_at {n : Nat} {sl : Int32} {d : Nat → Int32} {b k : Nat} (h : k < b) : dz_mr n sl d b k = dz_xb n sl d k := if_pos h
theorem dz_xb_mv {n : Nat} {sl : Int32} {d : Nat → Int32} (hs : dz_slr sl) (h : dz_dr3 n d) {b : Nat} (hb : b ≤ n) : dz_xb n sl d b = 0 - dz_mvb n sl d b := dz_xm_mv hs (dz_dl_r h hb) (dz_dr_r h)
theorem dz_xb_c {n : Nat} {sl : Int32} {d : Nat → Int32} (hs : dz_slr sl) (h : dz_dr3 n d) {b : Nat} (hb : b ≤ n) : dz_mvb n sl d b = 1 ∨ dz_mvb n sl d b = -1 ∨ dz_mvb n sl d b = 0 := by
  rcases dz_mv_c hs (dz_dl_r h hb) (dz_dr_r (b := b) h) with ⟨h1, -⟩ | ⟨h1, -⟩ | ⟨h1, -⟩
  · exact Or.inl h1
  · exact Or.inr (Or.inl h1)
  · exact Or.inr (Or.inr h1)
theorem dz_xb_0 {n : Nat} {sl : Int32} {d : Nat → Int32} (hs : dz_slr sl) (h : dz_dr3 n d) : (0 < dz_xb n sl d 0) ↔ ¬ dz_mvb n sl d 0 = 0 := by
  rw [dz_xb_mv hs h (Nat.zero_le n)]
  have r1 := dz_dr_r (n := n) (b := 0) h
  have hs' := hs
  unfold dz_slr at hs'
  rcases dz_mv_c hs (dz_dl_r h (Nat.zero_le n)) (dz_dr_r (b := 0) h) with ⟨h1, h2⟩ | ⟨h1, h2⟩ | ⟨h1, -⟩
  · rw [show dz_dl d 0 = 0 from rfl, Int32.toInt_zero] at h2; omega
  · rw [show dz_mvb n sl d 0 = -1 from h1]; decide
  · rw [show dz_mvb n sl d 0 = 0 from h1]; decide
theorem dz_xb_n {n : Nat} {sl : Int32} {d : Nat → Int32} (hs : dz_slr sl) (h : dz_dr3 n d) : (dz_xb n sl d n < 0) ↔ ¬ dz_mvb n sl d n = 0 := by
  rw [dz_xb_mv hs h (Nat.le_refl n)]
  have r1 := dz_dl_r h (Nat.le_refl n)
  have hs' := hs
  unfold dz_slr at hs'
  rcases dz_mv_c hs (dz_dl_r h (Nat.le_refl n)) (dz_dr_r (b := n) h) with ⟨h1, h2⟩ | ⟨h1, h2⟩ | ⟨h1, -⟩
  · rw [show dz_mvb n sl d n = 1 from h1]; decide
  · rw [show dz_dr n d n = 0 from if_neg (Nat.lt_irrefl n), Int32.toInt_zero] at h2; omega
  · rw [show dz_mvb n sl d n = 0 from h1]; decide
theorem dz_cm_x {n : Nat} {sl : Int32} {d : Nat → Int32} (hs : dz_slr sl) (h : dz_dr3 n d) {b : Nat} (hb : b ≤ n) (hn : 0 < n) : dz_cm n sl d (b + 1) = dz_cm n sl d b + (if (b = 0 ∧ 0 < dz_xb n sl d b) ∨ (b = n ∧ dz_xb n sl d b < 0) then 1 else 0) := by
  by_cases h0 : b = 0
  · subst h0
    rw [show dz_cm n sl d (0 + 1) = dz_n0 (dz_mvb n sl d 0) + 0 by unfold dz_cm; rw [if_pos (by omega), if_neg (by omega)], dz_cm_0, Int32.add_zero, Int32.zero_add]
    unfold dz_n0
    by_cases h1 : dz_mvb n sl d 0 = 0
    · rw [if_pos h1, if_neg]
      rintro (z | z)
      · exact (dz_xb_0 hs h).mp z.2 h1
      · omega
    · rw [if_neg h1, if_pos (Or.inl ⟨rfl, (dz_xb_0 hs h).mpr h1⟩)]
  · obtain ⟨q, rfl⟩ : ∃ q, b = q + 1 := ⟨b - 1, by omega⟩
    by_cases h1 : q + 1 < n
    · rw [← dz_cm_bm n sl d q h1, if_neg (by omega), Int32.add_zero]
    · have e : q + 1 = n := by omega
      rw [← dz_cm_bl n sl d q e]
      congr 1
      rw [e]
      unfold dz_n0
      by_cases h2 : dz_mvb n sl d n = 0
      · rw [if_pos h2, if_neg]
        rintro (z | z)
        · omega
        · exact (dz_xb_n hs h).mp z.2 h2
      · rw [if_neg h2, if_pos (Or.inr ⟨rfl, (dz_xb_n hs h).mpr h2⟩)]
theorem dz_cD_x {n : Nat} {sl : Int32} {d : Nat → Int32} (hs : dz_slr sl) (h : dz_dr3 n d) {i : Nat} (hi : i < n) : (d i + (dz_xb n sl d (i + 1) - dz_xb n sl d i).toInt16.toInt32).toInt16.toInt32 = dz_cD n sl d i := by
  have e1 : dz_xb n sl d (i + 1) - dz_xb n sl d i = dz_mvb n sl d i - dz_mvb n sl d (i + 1) := by
    rw [dz_xb_mv hs h (show i + 1 ≤ n by omega), dz_xb_mv hs h (show i ≤ n by omega)]
    generalize dz_mvb n sl d i = x
    generalize dz_mvb n sl d (i + 1) = y
    grind
  have e2 : (dz_mvb n sl d i - dz_mvb n sl d (i + 1)).toInt16.toInt32 = dz_mvb n sl d i - dz_mvb n sl d (i + 1) := by
    rcases dz_xb_c hs h (show i ≤ n by omega) with h1 | h1 | h1 <;> rcases dz_xb_c hs h (show i + 1 ≤ n by omega) with h2 | h2 | h2 <;> rw [h1, h2] <;> decide
  have e3 : dz_cD n sl d i = d i + (dz_mvb n sl d i - dz_mvb n sl d (i + 1)) := by
    unfold dz_cD
    rw [if_pos hi]
    generalize dz_mvb n sl d i = x
    generalize dz_mvb n sl d (i + 1) = y
    grind
  rw [e1, e2, ← e3]
  have r := dz_cD_r hs h i hi
  exact dz_i16 ⟨r.1, by omega⟩
theorem dz_cp_at (f g : Nat → Int32) (i : Nat) : dz_cp f g i i = g i := by unfold dz_cp; rw [if_neg (Nat.lt_irrefl i)]
theorem dz_pD_r {n : Nat} {sl : Int32} {d : Nat → Int32} (hs : dz_slr sl) (h : dz_dr3 n d) (k : Nat) : dz_dr3 n (dz_pD n sl d k) := by
  induction k with
  | zero => exact h
  | succ k ih => exact dz_cD_r hs ih
/-! what is left of the permits, a step of the way -/
def dz_tm {α : Type} (kp : Nat → Bool) (f : Nat → α) (k : Nat) : Nat → α := fun i => if i < dz_ct kp k then dz_td kp f k i else f (i + (k - dz_ct kp k))
theorem dz_tm_0 {α : Type} (kp : Nat → Bool) (f : Nat → α) : dz_tm kp f 0 = f := by
  funext i; unfold dz_tm; rw [show dz_ct kp 0 = 0 from rfl, if_neg (by omega)]; rfl
theorem dz_tm_1 {α : Type} {kp : Nat → Bool} (f : Nat → α) {k : Nat} (h : kp k = true) : dz_tm kp f (k + 1) = dz_tm kp f k := by
  have hc := dz_ct_le kp k
  funext i; unfold dz_tm
  rw [dz_ct_1 h, dz_td_1 f h]
  unfold va_up
  by_cases h1 : i < dz_ct kp k
  · rw [if_pos (by omega), if_neg (by omega), if_pos h1]
  · rw [if_neg h1]
    by_cases h2 : i = dz_ct kp k
    · rw [if_pos (by omega), if_pos h2, h2, show dz_ct kp k + (k - dz_ct kp k) = k by omega]
    · rw [if_neg (by omega)]; congr 1; omega
theorem dz_tm_n {α : Type} {kp : Nat → Bool} (f : Nat → α) {k : Nat} (h : kp k = false) : dz_tm kp f (k + 1) = dz_del (dz_tm kp f k) (dz_ct kp k) := by
  have hc := dz_ct_le kp k
  funext i; unfold dz_del dz_tm
  rw [dz_ct_n h, dz_td_n f h]
  by_cases h1 : i < dz_ct kp k
  · simp only [if_pos h1]
  · have h2 : ¬ i + 1 < dz_ct kp k := by omega
    simp only [if_neg h1, if_neg h2]; congr 1; omega
theorem dz_tm_at {α : Type} (kp : Nat → Bool) (f : Nat → α) (k : Nat) : dz_tm kp f k (dz_ct kp k) = f k := by
  have hc := dz_ct_le kp k
  unfold dz_tm; rw [if_neg (Nat.lt_irrefl _)]; congr 1; omega
theorem dz_tm_td {α : Type} {kp : Nat → Bool} {f : Nat → α} {k i : Nat} (h : i < dz_ct kp k) : dz_tm kp f k i = dz_td kp f k i := if_pos h
theorem dz_kp_t0 {pl pv : Nat → Int32} {da : Int32} {k : Nat} {n : Nat} (hp : dz_pvr pv n) (hk : k < n) (h1 : ¬ pv k = 0) (h2 : ¬ pl k < da) : dz_kp pl pv da k = true := by
  refine dz_kp_t (fun z => h1 ?_) h2
  exact Int32.le_antisymm z (hp k hk).1
set_option maxHeartbeats 4000000 in
set_option maxRecDepth 100000 in
/-- setLimit -/
theorem dz_X1_setLimit (l : Launch) (hst : l.stackTraces = false) (G : dz_G) (sz : Nat) (xo : Nat) (xr : Nat → Nat) (sl : Int32) (da : Int32) (ti : Int32) (ho : Int32) (dr : Int32) (cr : Int32) (pa : Int32) (pr : Int32) (st : Int32) (n : Nat) (mo : Int64) (i : Int32) (v : Int32) (lm : Nat → Int32) (ne : Nat) (la : Nat → Nat) (xa : Nat → Nat) (sa : Nat → Nat) (ev : Nat → dz_evt) (hn : n ≤ 24) : dz_M l G yX1_setLimit cX1_setLimit 4 (some FieldType.int) ({ frames := 100, cells := 5, slots := 30, locals := 1500 } : Room) [.ref xo, .int i, .int v] [[(xo, dzo 0 [.ref (xr 0), .ref (xr 1), .ref (xr 2), .ref (xr 3), .ref (xr 4), .ref (xr 5), .ref (xr 6), .ref (xr 7), .ref (xr 8), .ref (xr 9), .int (nI n), .int sl, .int da, .int ti, .int ho, .int dr, .int cr, .int pa, .int pr, .int st, .long mo])], [(xr 1, dzS G 24 lm)], [(xr 8, dzo 1 [va_rf (dz_hd la ne), va_rf (dz_lst la ne)])], dz_lk G ne la (dz_so xa) (dz_nxt la ne), dz_ep G ne xa sa ev] sz (fun r w1 => ∃ (la9 : Nat → Nat), ∃ (xa9 : Nat → Nat), r = some (.int (lm i.toNatClampNeg)) ∧ w1 = [[(xo, dzo 0 [.ref (xr 0), .ref (xr 1), .ref (xr 2), .ref (xr 3), .ref (xr 4), .ref (xr 5), .ref (xr 6), .ref (xr 7), .ref (xr 8), .ref (xr 9), .int (nI n), .int sl, .int da, .int ti, .int ho, .int dr, .int cr, .int pa, .int pr, .int st, .long mo])], [(xr 1, dzS G 24 (upd lm i.toNatClampNeg v))], [(xr 8, dzo 1 [va_rf (dz_hd la9 (ne + 1)), va_rf (dz_lst la9 (ne + 1))])], dz_lk G (ne + 1) la9 (dz_so xa9) (dz_nxt la9 (ne + 1)), dz_ep G (ne + 1) xa9 sa (va_up ev ne (dz_eL i.toNatClampNeg v))] ∧ dz_ksetLimit n i v = 0) (fun E w1 => w1 = [[(xo, dzo 0 [.ref (xr 0), .ref (xr 1), .ref (xr 2), .ref (xr 3), .ref (xr 4), .ref (xr 5), .ref (xr 6), .ref (xr 7), .ref (xr 8), .ref (xr 9), .int (nI n), .int sl, .int da, .int ti, .int ho, .int dr, .int cr, .int pa, .int pr, .int st, .long mo])], [(xr 1, dzS G 24 lm)], [(xr 8, dzo 1 [va_rf (dz_hd la ne), va_rf (dz_lst la ne)])], dz_lk G ne la (dz_so xa) (dz_nxt la ne), dz_ep G ne xa sa ev] ∧ ((E = "java/lang/IndexOutOfBoundsException" ∧ dz_ksetLimit n i v = 1) ∨ (E = "java/lang/IllegalArgumentException" ∧ dz_ksetLimit n i v = 2))) := by
  refine dz_start (by decide) (Nat.le_of_ble_eq_true rfl) ?_
  intro p e s m below meth c A ls X hO hsz hl
  have hl : lv_has ls 4 [(0, .ref xo), (1, .int i), (2, .int v)] := hl
  refine lv_aload_n X.x X.b dX1_setLimit_0 rfl (lv_at hl 0 rfl) ?_
  refine lv_iload_n X.x X.b dX1_setLimit_1 rfl (lv_at hl 1 rfl) ?_
  refine dz_V (n := 1) (k9 := 1) (n9 := 6) (As := [.int i]) (rest := []) (wr := [[(xr 1, dzS G 24 lm)], [(xr 8, dzo 1 [va_rf (dz_hd la ne), va_rf (dz_lst la ne)])], dz_lk G ne la (dz_so xa) (dz_nxt la ne), dz_ep G ne xa sa ev]) X hO hl (dz_X1_checkCell l hst G _ xo xr sl da ti ho dr cr pa pr st n mo i ) (lw_V q1181 q1183 qs8 q48 q1184) (by decide +kernel) ⟨Nat.le_of_ble_eq_true rfl, Nat.le_of_ble_eq_true rfl⟩ ⟨(Nat.le_of_ble_eq_true rfl), (Nat.le_of_ble_eq_true rfl), (Nat.le_of_ble_eq_true rfl), (Nat.le_of_ble_eq_true rfl)⟩ [0] [1, 2, 3, 4] rfl rfl rfl (dz_rc X (hO.at1 0 rfl) (r := (RX1, TX1, 21)) rfl) rfl rfl (Nat.le_of_ble_eq_true rfl) dX1_setLimit_2 ?_ (fun r w1 H locs hpo hO => ?_)
  · intro E w1 q9 ce9 H locs hpx hO hce hv9 hcl9
    obtain ⟨rfl, hpx⟩ := hpx
    have hO : dz_O G.1 dz_CL A s.heap [[(xr 1, dzS G 24 lm)], [(xr 8, dzo 1 [va_rf (dz_hd la ne), va_rf (dz_lst la ne)])], dz_lk G ne la (dz_so xa) (dz_nxt la ne), dz_ep G ne xa sa ev, [(xo, dzo 0 [.ref (xr 0), .ref (xr 1), .ref (xr 2), .ref (xr 3), .ref (xr 4), .ref (xr 5), .ref (xr 6), .ref (xr 7), .ref (xr 8), .ref (xr 9), .int (nI n), .int sl, .int da, .int ti, .int ho, .int dr, .int cr, .int pa, .int pr, .int st, .long mo])]] _ _ := hO
    have hO := hO.sel (v := [[(xo, dzo 0 [.ref (xr 0), .ref (xr 1), .ref (xr 2), .ref (xr 3), .ref (xr 4), .ref (xr 5), .ref (xr 6), .ref (xr 7), .ref (xr 8), .ref (xr 9), .int (nI n), .int sl, .int da, .int ti, .int ho, .int dr, .int cr, .int pa, .int pr, .int st, .long mo])], [(xr 1, dzS G 24 lm)], [(xr 8, dzo 1 [va_rf (dz_hd la ne), va_rf (dz_lst la ne)])], dz_lk G ne la (dz_so xa) (dz_nxt la ne), dz_ep G ne xa sa ev]) [4, 0, 1, 2, 3] rfl rfl
    exact dz_out X rfl hO (⟨rfl, by obtain ⟨hE9, hc9⟩ := hpx; rw [hE9]; simp [dz_ksetLimit, hc9]⟩) hce hv9 hcl9 (Nat.le_of_ble_eq_true rfl) (Nat.le_of_ble_eq_true rfl)
  obtain ⟨rfl, rfl, h_1⟩ := hpo
  have hO : dz_O G.1 dz_CL A s.heap [[(xr 1, dzS G 24 lm)], [(xr 8, dzo 1 [va_rf (dz_hd la ne), va_rf (dz_lst la ne)])], dz_lk G ne la (dz_so xa) (dz_nxt la ne), dz_ep G ne xa sa ev, [(xo, dzo 0 [.ref (xr 0), .ref (xr 1), .ref (xr 2), .ref (xr 3), .ref (xr 4), .ref (xr 5), .ref (xr 6), .ref (xr 7), .ref (xr 8), .ref (xr 9), .int (nI n), .int sl, .int da, .int ti, .int ho, .int dr, .int cr, .int pa, .int pr, .int st, .long mo])]] _ _ := hO
  refine W.eq (g2 := F0 m 5 ls []) rfl ?_
  refine lv_iload_n X.x X.b dX1_setLimit_5 rfl (lv_at hl 2 rfl) ?_
  refine lv_iconst (v := 0) X.x X.b dX1_setLimit_6 (by decide) ?_
  refine lv_sipush (v := 300) X.x X.b dX1_setLimit_7 (by decide) ?_
  refine dz_S (n := 3) (k9 := 1) (n9 := 6) (As := [.int v, .int 0, .int 300]) (rest := []) (wr := [[(xr 1, dzS G 24 lm)], [(xr 8, dzo 1 [va_rf (dz_hd la ne), va_rf (dz_lst la ne)])], dz_lk G ne la (dz_so xa) (dz_nxt la ne), dz_ep G ne xa sa ev, [(xo, dzo 0 [.ref (xr 0), .ref (xr 1), .ref (xr 2), .ref (xr 3), .ref (xr 4), .ref (xr 5), .ref (xr 6), .ref (xr 7), .ref (xr 8), .ref (xr 9), .int (nI n), .int sl, .int da, .int ti, .int ho, .int dr, .int cr, .int pa, .int pr, .int st, .long mo])]]) X hO hl (dz_X1_isBetween l G _ v 0 300 ) (lw_S q1131 q1003 q48 q1004) (by decide +kernel) ⟨Nat.le_of_ble_eq_true rfl, Nat.le_of_ble_eq_true rfl⟩ ⟨(Nat.le_of_ble_eq_true rfl), (Nat.le_of_ble_eq_true rfl), (Nat.le_of_ble_eq_true rfl), (Nat.le_of_ble_eq_true rfl)⟩ [] [0, 1, 2, 3, 4] rfl rfl rfl rfl rfl (Nat.le_of_ble_eq_true rfl) dX1_setLimit_10 (fun E w1 q9 ce9 H locs hpx hO hce hv9 hcl9 => hpx.elim) (fun r w1 H locs hpo hO => ?_)
  obtain ⟨rfl, rfl⟩ := hpo
  have hO : dz_O G.1 dz_CL A s.heap [[(xr 1, dzS G 24 lm)], [(xr 8, dzo 1 [va_rf (dz_hd la ne), va_rf (dz_lst la ne)])], dz_lk G ne la (dz_so xa) (dz_nxt la ne), dz_ep G ne xa sa ev, [(xo, dzo 0 [.ref (xr 0), .ref (xr 1), .ref (xr 2), .ref (xr 3), .ref (xr 4), .ref (xr 5), .ref (xr 6), .ref (xr 7), .ref (xr 8), .ref (xr 9), .int (nI n), .int sl, .int da, .int ti, .int ho, .int dr, .int cr, .int pa, .int pr, .int st, .long mo])]] _ _ := hO
  refine W.eq (g2 := F0 m 13 ls [.int (dz_bi v 0 300)]) rfl ?_
  refine dz_S (n := 1) (k9 := 2) (n9 := 12) (As := [.int (dz_bi v 0 300)]) (rest := []) (wr := [[(xr 1, dzS G 24 lm)], [(xr 8, dzo 1 [va_rf (dz_hd la ne), va_rf (dz_lst la ne)])], dz_lk G ne la (dz_so xa) (dz_nxt la ne), dz_ep G ne xa sa ev, [(xo, dzo 0 [.ref (xr 0), .ref (xr 1), .ref (xr 2), .ref (xr 3), .ref (xr 4), .ref (xr 5), .ref (xr 6), .ref (xr 7), .ref (xr 8), .ref (xr 9), .int (nI n), .int sl, .int da, .int ti, .int ho, .int dr, .int cr, .int pa, .int pr, .int st, .long mo])]]) X hO hl (dz_X1_checkArgument l hst G _ (dz_bi v 0 300) ) (lw_S q1132 q1133 q48 q1134) (by decide +kernel) ⟨Nat.le_of_ble_eq_true rfl, Nat.le_of_ble_eq_true rfl⟩ ⟨(Nat.le_of_ble_eq_true rfl), (Nat.le_of_ble_eq_true rfl), (Nat.le_of_ble_eq_true rfl), (Nat.le_of_ble_eq_true rfl)⟩ [] [0, 1, 2, 3, 4] rfl rfl rfl rfl rfl (Nat.le_of_ble_eq_true rfl) dX1_setLimit_13 ?_ (fun r w1 H locs hpo hO => ?_)
  · intro E w1 q9 ce9 H locs hpx hO hce hv9 hcl9
    obtain ⟨rfl, hpx⟩ := hpx
    have hO : dz_O G.1 dz_CL A s.heap [[(xr 1, dzS G 24 lm)], [(xr 8, dzo 1 [va_rf (dz_hd la ne), va_rf (dz_lst la ne)])], dz_lk G ne la (dz_so xa) (dz_nxt la ne), dz_ep G ne xa sa ev, [(xo, dzo 0 [.ref (xr 0), .ref (xr 1), .ref (xr 2), .ref (xr 3), .ref (xr 4), .ref (xr 5), .ref (xr 6), .ref (xr 7), .ref (xr 8), .ref (xr 9), .int (nI n), .int sl, .int da, .int ti, .int ho, .int dr, .int cr, .int pa, .int pr, .int st, .long mo])]] _ _ := hO
    have hO := hO.sel (v := [[(xo, dzo 0 [.ref (xr 0), .ref (xr 1), .ref (xr 2), .ref (xr 3), .ref (xr 4), .ref (xr 5), .ref (xr 6), .ref (xr 7), .ref (xr 8), .ref (xr 9), .int (nI n), .int sl, .int da, .int ti, .int ho, .int dr, .int cr, .int pa, .int pr, .int st, .long mo])], [(xr 1, dzS G 24 lm)], [(xr 8, dzo 1 [va_rf (dz_hd la ne), va_rf (dz_lst la ne)])], dz_lk G ne la (dz_so xa) (dz_nxt la ne), dz_ep G ne xa sa ev]) [4, 0, 1, 2, 3] rfl rfl
    exact dz_out X rfl hO (⟨rfl, by obtain ⟨hE9, hc9⟩ := hpx; rw [hE9]; simp [dz_ksetLimit, h_1, hc9]⟩) hce hv9 hcl9 (Nat.le_of_ble_eq_true rfl) (Nat.le_of_ble_eq_true rfl)
  obtain ⟨rfl, rfl, h_2⟩ := hpo
  have hO : dz_O G.1 dz_CL A s.heap [[(xr 1, dzS G 24 lm)], [(xr 8, dzo 1 [va_rf (dz_hd la ne), va_rf (dz_lst la ne)])], dz_lk G ne la (dz_so xa) (dz_nxt la ne), dz_ep G ne xa sa ev, [(xo, dzo 0 [.ref (xr 0), .ref (xr 1), .ref (xr 2), .ref (xr 3), .ref (xr 4), .ref (xr 5), .ref (xr 6), .ref (xr 7), .ref (xr 8), .ref (xr 9), .int (nI n), .int sl, .int da, .int ti, .int ho, .int dr, .int cr, .int pa, .int pr, .int st, .long mo])]] _ _ := hO
  refine W.eq (g2 := F0 m 16 ls []) rfl ?_
  obtain ⟨j9, hj9, hi9⟩ := dz_bi_ix (by omega) h_1
  subst hi9
  have hcj : (nI j9).toNatClampNeg = j9 := nI_clamp (by omega)
  have hv9 : v.toInt16.toInt32 = v := dz_bi16 h_2 (by decide)
  refine lv_aload_n X.x X.b dX1_setLimit_16 rfl (lv_at hl 0 rfl) ?_
  refine dz_get (v := .ref (xr 1)) X (hO.at1 4 rfl) in_X1 rfl 1 (by decide) q551 (Or.inl rfl) rfl dX1_setLimit_17 ?_
  refine lv_iload_n X.x X.b dX1_setLimit_20 rfl (lv_at hl 1 rfl) ?_
  refine dz_sald X (hO.at1 0 rfl) (j := j9) rfl (by omega) (by decide) dX1_setLimit_21 ?_
  refine lv_istore_n (lv' := [(3, .int (lm j9)), (0, .ref xo), (1, .int (nI j9)), (2, .int v)]) X.x X.b dX1_setLimit_22 rfl hl (by decide) rfl (fun ls hl => ?_)
  refine lv_aload_n X.x X.b dX1_setLimit_23 rfl (lv_at hl 1 rfl) ?_
  refine dz_get (v := .ref (xr 1)) X (hO.at1 4 rfl) in_X1 rfl 1 (by decide) q551 (Or.inl rfl) rfl dX1_setLimit_24 ?_
  refine lv_iload_n X.x X.b dX1_setLimit_27 rfl (lv_at hl 2 rfl) ?_
  refine lv_iload_n X.x X.b dX1_setLimit_28 rfl (lv_at hl 3 rfl) ?_
  refine lv_i2s (v := v.toInt16.toInt32) X.x X.b dX1_setLimit_29 rfl ?_
  refine dz_rei (y := v) (hv9) ?_
  refine dz_sast X hO 0 rfl (j := j9) rfl (by omega) (by decide) dX1_setLimit_30 (fun H locs hO => ?_)
  have hO : dz_O G.1 dz_CL A s.heap [[(xr 1, dzS G 24 (upd lm j9 (vp_nar .short v)))], [(xr 8, dzo 1 [va_rf (dz_hd la ne), va_rf (dz_lst la ne)])], dz_lk G ne la (dz_so xa) (dz_nxt la ne), dz_ep G ne xa sa ev, [(xo, dzo 0 [.ref (xr 0), .ref (xr 1), .ref (xr 2), .ref (xr 3), .ref (xr 4), .ref (xr 5), .ref (xr 6), .ref (xr 7), .ref (xr 8), .ref (xr 9), .int (nI n), .int sl, .int da, .int ti, .int ho, .int dr, .int cr, .int pa, .int pr, .int st, .long mo])]] _ _ := hO
  have hO := hO.cong 0 rfl (w1 := [(xr 1, dzS G 24 (upd lm j9 v))]) (congrArg (fun z9 => [(xr 1, dzS G 24 z9)]) (show (upd lm j9 v) = (upd lm j9 (vp_nar .short v)) from by rw [show vp_nar .short v = v from hv9]))
  have hO : dz_O G.1 dz_CL A s.heap [[(xr 1, dzS G 24 (upd lm j9 v))], [(xr 8, dzo 1 [va_rf (dz_hd la ne), va_rf (dz_lst la ne)])], dz_lk G ne la (dz_so xa) (dz_nxt la ne), dz_ep G ne xa sa ev, [(xo, dzo 0 [.ref (xr 0), .ref (xr 1), .ref (xr 2), .ref (xr 3), .ref (xr 4), .ref (xr 5), .ref (xr 6), .ref (xr 7), .ref (xr 8), .ref (xr 9), .int (nI n), .int sl, .int da, .int ti, .int ho, .int dr, .int cr, .int pa, .int pr, .int st, .long mo])]] _ _ := hO
  refine lv_aload_n X.x X.b dX1_setLimit_31 rfl (lv_at hl 1 rfl) ?_
  refine dz_get (v := .ref (xr 8)) X (hO.at1 4 rfl) in_X1 rfl 8 (by decide) q558 (Or.inl rfl) rfl dX1_setLimit_32 ?_
  refine dz_new X hO 4 in_X5 tyX5 tyX5_ok q966 q1193 q79 rfl [.int 0, .int 0] dz_dfX5 (Nat.le_of_ble_eq_true rfl) (Nat.le_of_ble_eq_true rfl) dX1_setLimit_35 (fun q_3 H hO => ?_)
  have hO : dz_O G.1 dz_CL A s.heap [[(xr 1, dzS G 24 (upd lm j9 v))], [(xr 8, dzo 1 [va_rf (dz_hd la ne), va_rf (dz_lst la ne)])], dz_lk G ne la (dz_so xa) (dz_nxt la ne), dz_ep G ne xa sa ev, [(xo, dzo 0 [.ref (xr 0), .ref (xr 1), .ref (xr 2), .ref (xr 3), .ref (xr 4), .ref (xr 5), .ref (xr 6), .ref (xr 7), .ref (xr 8), .ref (xr 9), .int (nI n), .int sl, .int da, .int ti, .int ho, .int dr, .int cr, .int pa, .int pr, .int st, .long mo])], [(q_3, dzo 4 [.int 0, .int 0])]] _ _ := hO
  refine W.widen (k := 3) (n := 14) (Nat.le_of_ble_eq_true rfl) (Nat.le_of_ble_eq_true rfl) ?_
  refine lv_dup X.x X.b dX1_setLimit_38 rfl ?_
  refine lv_iload_n X.x X.b dX1_setLimit_39 rfl (lv_at hl 2 rfl) ?_
  refine lv_iload_n X.x X.b dX1_setLimit_40 rfl (lv_at hl 3 rfl) ?_
  refine dz_IN (ret1 := none) (n := 2) (k9 := 3) (n9 := 14) (As := [.int (nI j9), .int v]) (rest := [.ref q_3, .ref (xr 8)]) (wr := [[(xr 1, dzS G 24 (upd lm j9 v))], [(xr 8, dzo 1 [va_rf (dz_hd la ne), va_rf (dz_lst la ne)])], dz_lk G ne la (dz_so xa) (dz_nxt la ne), dz_ep G ne xa sa ev, [(xo, dzo 0 [.ref (xr 0), .ref (xr 1), .ref (xr 2), .ref (xr 3), .ref (xr 4), .ref (xr 5), .ref (xr 6), .ref (xr 7), .ref (xr 8), .ref (xr 9), .int (nI n), .int sl, .int da, .int ti, .int ho, .int dr, .int cr, .int pa, .int pr, .int st, .long mo])]]) X hO hl (dz_X5_init l G _ q_3 (nI j9) v ) q1196 q79 q1194 q1195 rfl (by decide +kernel) ⟨Nat.le_of_ble_eq_true rfl, Nat.le_of_ble_eq_true rfl⟩ ⟨(Nat.le_of_ble_eq_true rfl), (Nat.le_of_ble_eq_true rfl), (Nat.le_of_ble_eq_true rfl), (Nat.le_of_ble_eq_true rfl)⟩ [5] [0, 1, 2, 3, 4] rfl rfl rfl rfl rfl (Nat.le_of_ble_eq_true rfl) dX1_setLimit_41 (fun E w1 q9 ce9 H locs hpx hO hce hv9 hcl9 => hpx.elim) (fun r w1 H locs hpo hO => ?_)
  obtain ⟨rfl, rfl⟩ := hpo
  have hO : dz_O G.1 dz_CL A s.heap [[(xr 1, dzS G 24 (upd lm j9 v))], [(xr 8, dzo 1 [va_rf (dz_hd la ne), va_rf (dz_lst la ne)])], dz_lk G ne la (dz_so xa) (dz_nxt la ne), dz_ep G ne xa sa ev, [(xo, dzo 0 [.ref (xr 0), .ref (xr 1), .ref (xr 2), .ref (xr 3), .ref (xr 4), .ref (xr 5), .ref (xr 6), .ref (xr 7), .ref (xr 8), .ref (xr 9), .int (nI n), .int sl, .int da, .int ti, .int ho, .int dr, .int cr, .int pa, .int pr, .int st, .long mo])], [(q_3, dzo 4 [.int (nI j9), .int v])]] _ _ := hO
  refine W.eq (g2 := F0 m 44 ls [.ref q_3, .ref (xr 8)]) rfl ?_
  refine dz_V (n := 1) (k9 := 4) (n9 := 16) (As := [.ref q_3]) (rest := []) (wr := [[(xr 1, dzS G 24 (upd lm j9 v))], dz_ep G ne xa sa ev, [(xo, dzo 0 [.ref (xr 0), .ref (xr 1), .ref (xr 2), .ref (xr 3), .ref (xr 4), .ref (xr 5), .ref (xr 6), .ref (xr 7), .ref (xr 8), .ref (xr 9), .int (nI n), .int sl, .int da, .int ti, .int ho, .int dr, .int cr, .int pa, .int pr, .int st, .long mo])], [(q_3, dzo 4 [.int (nI j9), .int v])]]) X hO hl (dz_X2_add l G _ (xr 8) q_3 ne la (dz_so xa) ) (lw_V q1208 q1209 q1210 q71 q1211) (by decide +kernel) ⟨Nat.le_of_ble_eq_true rfl, Nat.le_of_ble_eq_true rfl⟩ ⟨(Nat.le_of_ble_eq_true rfl), (Nat.le_of_ble_eq_true rfl), (Nat.le_of_ble_eq_true rfl), (Nat.le_of_ble_eq_true rfl)⟩ [1, 2] [0, 3, 4, 5] rfl rfl rfl (dz_rc X (hO.at1 1 rfl) (r := (RX2, TX2, 2)) rfl) rfl rfl (Nat.le_of_ble_eq_true rfl) dX1_setLimit_44 (fun E w1 q9 ce9 H locs hpx hO hce hv9 hcl9 => hpx.elim) (fun r w1 H locs hpo hO => ?_)
  obtain ⟨q_4, rfl, rfl⟩ := hpo
  have hO : dz_O G.1 dz_CL A s.heap [[(xr 1, dzS G 24 (upd lm j9 v))], dz_ep G ne xa sa ev, [(xo, dzo 0 [.ref (xr 0), .ref (xr 1), .ref (xr 2), .ref (xr 3), .ref (xr 4), .ref (xr 5), .ref (xr 6), .ref (xr 7), .ref (xr 8), .ref (xr 9), .int (nI n), .int sl, .int da, .int ti, .int ho, .int dr, .int cr, .int pa, .int pr, .int st, .long mo])], [(q_3, dzo 4 [.int (nI j9), .int v])], [(xr 8, dzo 1 [va_rf (dz_hd (dz_nup la ne q_4) (ne + 1)), va_rf (dz_lst (dz_nup la ne q_4) (ne + 1))])], dz_lk G (ne + 1) (dz_nup la ne q_4) (va_up (dz_so xa) ne (some q_3)) (dz_nxt (dz_nup la ne q_4) (ne + 1))] _ _ := hO
  refine W.eq (g2 := F0 m 47 ls []) rfl ?_
  refine lv_iload_n X.x X.b dX1_setLimit_47 rfl (lv_at hl 0 rfl) ?_
  have hO := hO.cong 5 rfl (w1 := dz_lk G (ne + 1) (dz_nup la ne q_4) (dz_so (dz_nup xa ne q_3)) (dz_nxt (dz_nup la ne q_4) (ne + 1))) (by rw [dz_so_up])
  have hO : dz_O G.1 dz_CL A s.heap [[(xr 1, dzS G 24 (upd lm j9 v))], dz_ep G ne xa sa ev, [(xo, dzo 0 [.ref (xr 0), .ref (xr 1), .ref (xr 2), .ref (xr 3), .ref (xr 4), .ref (xr 5), .ref (xr 6), .ref (xr 7), .ref (xr 8), .ref (xr 9), .int (nI n), .int sl, .int da, .int ti, .int ho, .int dr, .int cr, .int pa, .int pr, .int st, .long mo])], [(q_3, dzo 4 [.int (nI j9), .int v])], [(xr 8, dzo 1 [va_rf (dz_hd (dz_nup la ne q_4) (ne + 1)), va_rf (dz_lst (dz_nup la ne q_4) (ne + 1))])], dz_lk G (ne + 1) (dz_nup la ne q_4) (dz_so (dz_nup xa ne q_3)) (dz_nxt (dz_nup la ne q_4) (ne + 1))] _ _ := hO
  have hO := hO.sel (v := [dz_ep G ne xa sa ev, [(q_3, dzo 4 [.int (nI j9), .int v])], [(xr 1, dzS G 24 (upd lm j9 v))], [(xo, dzo 0 [.ref (xr 0), .ref (xr 1), .ref (xr 2), .ref (xr 3), .ref (xr 4), .ref (xr 5), .ref (xr 6), .ref (xr 7), .ref (xr 8), .ref (xr 9), .int (nI n), .int sl, .int da, .int ti, .int ho, .int dr, .int cr, .int pa, .int pr, .int st, .long mo])], [(xr 8, dzo 1 [va_rf (dz_hd (dz_nup la ne q_4) (ne + 1)), va_rf (dz_lst (dz_nup la ne q_4) (ne + 1))])], dz_lk G (ne + 1) (dz_nup la ne q_4) (dz_so (dz_nup xa ne q_3)) (dz_nxt (dz_nup la ne q_4) (ne + 1))]) [1, 3, 0, 2, 4, 5] rfl rfl
  have hO : dz_O G.1 dz_CL A s.heap [dz_ep G (ne + 1) (dz_nup xa ne q_3) sa (va_up ev ne (dz_eL j9 v)), [(xr 1, dzS G 24 (upd lm j9 v))], [(xo, dzo 0 [.ref (xr 0), .ref (xr 1), .ref (xr 2), .ref (xr 3), .ref (xr 4), .ref (xr 5), .ref (xr 6), .ref (xr 7), .ref (xr 8), .ref (xr 9), .int (nI n), .int sl, .int da, .int ti, .int ho, .int dr, .int cr, .int pa, .int pr, .int st, .long mo])], [(xr 8, dzo 1 [va_rf (dz_hd (dz_nup la ne q_4) (ne + 1)), va_rf (dz_lst (dz_nup la ne q_4) (ne + 1))])], dz_lk G (ne + 1) (dz_nup la ne q_4) (dz_so (dz_nup xa ne q_3)) (dz_nxt (dz_nup la ne q_4) (ne + 1))] _ _ := hO.padd (fun i hi => by rw [dz_nup_lt hi, dz_vu_lt hi]) (by rw [dz_nup_at, dz_vu_at]; rfl)
  have hO := hO.sel (v := [[(xo, dzo 0 [.ref (xr 0), .ref (xr 1), .ref (xr 2), .ref (xr 3), .ref (xr 4), .ref (xr 5), .ref (xr 6), .ref (xr 7), .ref (xr 8), .ref (xr 9), .int (nI n), .int sl, .int da, .int ti, .int ho, .int dr, .int cr, .int pa, .int pr, .int st, .long mo])], [(xr 1, dzS G 24 (upd lm j9 v))], [(xr 8, dzo 1 [va_rf (dz_hd (dz_nup la ne q_4) (ne + 1)), va_rf (dz_lst (dz_nup la ne q_4) (ne + 1))])], dz_lk G (ne + 1) (dz_nup la ne q_4) (dz_so (dz_nup xa ne q_3)) (dz_nxt (dz_nup la ne q_4) (ne + 1)), dz_ep G (ne + 1) (dz_nup xa ne q_3) sa (va_up ev ne (dz_eL j9 v))]) [2, 1, 3, 4, 0] rfl rfl
  exact dz_iret X hO rfl (⟨(dz_nup la ne q_4), (dz_nup xa ne q_3), by rw [hcj], by rw [hcj], by simp [dz_ksetLimit, h_1, h_2, hcj, h_1, h_2]⟩) (Nat.le_of_ble_eq_true rfl) (Nat.le_of_ble_eq_true rfl) dX1_setLimit_48
set_option maxHeartbeats 4000000 in
set_option maxRecDepth 100000 in
/-- dredge -/
theorem dz_X1_dredge (l : Launch) (hst : l.stackTraces = false) (G : dz_G) (sz : Nat) (xo : Nat) (xr : Nat → Nat) (sl : Int32) (da : Int32) (ti : Int32) (ho : Int32) (dr : Int32) (cr : Int32) (pa : Int32) (pr : Int32) (st : Int32) (n : Nat) (mo : Int64) (i : Int32) (v : Int32) (dp : Nat → Int32) (ea : Nat) (h : Nat) (en : Nat) (oa : Nat → Nat) (ld : Nat → Option Nat) (ly : Nat → Int32) (lu : Nat → Int32) (hn : n ≤ 24) (hdr : dz_dr3 n dp) (hh : h < 17) (hen : en ≤ 8) : dz_M l G yX1_dredge cX1_dredge 3 (some FieldType.int) ({ frames := 120, cells := 5, slots := 30, locals := 1800 } : Room) [.ref xo, .int i, .int v] [[(xo, dzo 0 [.ref (xr 0), .ref (xr 1), .ref (xr 2), .ref (xr 3), .ref (xr 4), .ref (xr 5), .ref (xr 6), .ref (xr 7), .ref (xr 8), .ref (xr 9), .int (nI n), .int sl, .int da, .int ti, .int ho, .int dr, .int cr, .int pa, .int pr, .int st, .long mo])], [(xr 0, dzS G 24 dp)], [(xr 9, dzo 17 [.ref ea, .int (nI h), .int (nI ((h + en) % 17))])], [(ea, dzO G 17 (dz_rng oa en h))], dz_lp G en oa ld ly lu] sz (fun r w1 => ∃ (h9 : Nat), ∃ (oa9 : Nat → Nat), r = some (.int (dp i.toNatClampNeg + v)) ∧ w1 = [[(xo, dzo 0 [.ref (xr 0), .ref (xr 1), .ref (xr 2), .ref (xr 3), .ref (xr 4), .ref (xr 5), .ref (xr 6), .ref (xr 7), .ref (xr 8), .ref (xr 9), .int (nI n), .int sl, .int da, .int ti, .int (ho + v), .int (dr + v), .int cr, .int pa, .int pr, .int st, .long mo])], [(xr 0, dzS G 24 (upd dp i.toNatClampNeg (dp i.toNatClampNeg + v)))], [(xr 9, dzo 17 [.ref ea, .int (nI h9), .int (nI ((h9 + (if en < 8 then en + 1 else en)) % 17))])], [(ea, dzO G 17 (dz_rng oa9 (if en < 8 then en + 1 else en) h9))], dz_lp G (if en < 8 then en + 1 else en) oa9 (dz_push ld (some (G.2.2.1 0))) (dz_push ly da) (dz_push lu i)] ∧ dz_kdredge n ho dp i v = 0 ∧ h9 < 17) (fun E w1 => w1 = [[(xo, dzo 0 [.ref (xr 0), .ref (xr 1), .ref (xr 2), .ref (xr 3), .ref (xr 4), .ref (xr 5), .ref (xr 6), .ref (xr 7), .ref (xr 8), .ref (xr 9), .int (nI n), .int sl, .int da, .int ti, .int ho, .int dr, .int cr, .int pa, .int pr, .int st, .long mo])], [(xr 0, dzS G 24 dp)], [(xr 9, dzo 17 [.ref ea, .int (nI h), .int (nI ((h + en) % 17))])], [(ea, dzO G 17 (dz_rng oa en h))], dz_lp G en oa ld ly lu] ∧ ((E = "java/lang/IndexOutOfBoundsException" ∧ dz_kdredge n ho dp i v = 1) ∨ (E = "java/lang/IllegalArgumentException" ∧ dz_kdredge n ho dp i v = 2) ∨ (E = "java/lang/IllegalStateException" ∧ dz_kdredge n ho dp i v = 3) ∨ (E = "java/lang/UnsupportedOperationException" ∧ dz_kdredge n ho dp i v = 4))) := by
  refine dz_start (by decide) (Nat.le_of_ble_eq_true rfl) ?_
  intro p e s m below meth c A ls X hO hsz hl
  have hl : lv_has ls 3 [(0, .ref xo), (1, .int i), (2, .int v)] := hl
  refine lv_aload_n X.x X.b dX1_dredge_0 rfl (lv_at hl 0 rfl) ?_
  refine lv_iload_n X.x X.b dX1_dredge_1 rfl (lv_at hl 1 rfl) ?_
  refine dz_V (n := 1) (k9 := 1) (n9 := 6) (As := [.int i]) (rest := []) (wr := [[(xr 0, dzS G 24 dp)], [(xr 9, dzo 17 [.ref ea, .int (nI h), .int (nI ((h + en) % 17))])], [(ea, dzO G 17 (dz_rng oa en h))], dz_lp G en oa ld ly lu]) X hO hl (dz_X1_checkCell l hst G _ xo xr sl da ti ho dr cr pa pr st n mo i ) (lw_V q1181 q1183 qs8 q48 q1184) (by decide +kernel) ⟨Nat.le_of_ble_eq_true rfl, Nat.le_of_ble_eq_true rfl⟩ ⟨(Nat.le_of_ble_eq_true rfl), (Nat.le_of_ble_eq_true rfl), (Nat.le_of_ble_eq_true rfl), (Nat.le_of_ble_eq_true rfl)⟩ [0] [1, 2, 3, 4] rfl rfl rfl (dz_rc X (hO.at1 0 rfl) (r := (RX1, TX1, 21)) rfl) rfl rfl (Nat.le_of_ble_eq_true rfl) dX1_dredge_2 ?_ (fun r w1 H locs hpo hO => ?_)
  · intro E w1 q9 ce9 H locs hpx hO hce hv9 hcl9
    obtain ⟨rfl, hpx⟩ := hpx
    have hO : dz_O G.1 dz_CL A s.heap [[(xr 0, dzS G 24 dp)], [(xr 9, dzo 17 [.ref ea, .int (nI h), .int (nI ((h + en) % 17))])], [(ea, dzO G 17 (dz_rng oa en h))], dz_lp G en oa ld ly lu, [(xo, dzo 0 [.ref (xr 0), .ref (xr 1), .ref (xr 2), .ref (xr 3), .ref (xr 4), .ref (xr 5), .ref (xr 6), .ref (xr 7), .ref (xr 8), .ref (xr 9), .int (nI n), .int sl, .int da, .int ti, .int ho, .int dr, .int cr, .int pa, .int pr, .int st, .long mo])]] _ _ := hO
    have hO := hO.sel (v := [[(xo, dzo 0 [.ref (xr 0), .ref (xr 1), .ref (xr 2), .ref (xr 3), .ref (xr 4), .ref (xr 5), .ref (xr 6), .ref (xr 7), .ref (xr 8), .ref (xr 9), .int (nI n), .int sl, .int da, .int ti, .int ho, .int dr, .int cr, .int pa, .int pr, .int st, .long mo])], [(xr 0, dzS G 24 dp)], [(xr 9, dzo 17 [.ref ea, .int (nI h), .int (nI ((h + en) % 17))])], [(ea, dzO G 17 (dz_rng oa en h))], dz_lp G en oa ld ly lu]) [4, 0, 1, 2, 3] rfl rfl
    exact dz_out X rfl hO (⟨rfl, by obtain ⟨hE9, hc9⟩ := hpx; rw [hE9]; simp [dz_kdredge, hc9]⟩) hce hv9 hcl9 (Nat.le_of_ble_eq_true rfl) (Nat.le_of_ble_eq_true rfl)
  obtain ⟨rfl, rfl, h_1⟩ := hpo
  have hO : dz_O G.1 dz_CL A s.heap [[(xr 0, dzS G 24 dp)], [(xr 9, dzo 17 [.ref ea, .int (nI h), .int (nI ((h + en) % 17))])], [(ea, dzO G 17 (dz_rng oa en h))], dz_lp G en oa ld ly lu, [(xo, dzo 0 [.ref (xr 0), .ref (xr 1), .ref (xr 2), .ref (xr 3), .ref (xr 4), .ref (xr 5), .ref (xr 6), .ref (xr 7), .ref (xr 8), .ref (xr 9), .int (nI n), .int sl, .int da, .int ti, .int ho, .int dr, .int cr, .int pa, .int pr, .int st, .long mo])]] _ _ := hO
  refine W.eq (g2 := F0 m 5 ls []) rfl ?_
  refine lv_iload_n X.x X.b dX1_dredge_5 rfl (lv_at hl 2 rfl) ?_
  refine lv_iconst (v := 1) X.x X.b dX1_dredge_6 (by decide) ?_
  refine lv_bipush (v := 50) X.x X.b dX1_dredge_7 (by decide) ?_
  refine dz_S (n := 3) (k9 := 1) (n9 := 6) (As := [.int v, .int 1, .int 50]) (rest := []) (wr := [[(xr 0, dzS G 24 dp)], [(xr 9, dzo 17 [.ref ea, .int (nI h), .int (nI ((h + en) % 17))])], [(ea, dzO G 17 (dz_rng oa en h))], dz_lp G en oa ld ly lu, [(xo, dzo 0 [.ref (xr 0), .ref (xr 1), .ref (xr 2), .ref (xr 3), .ref (xr 4), .ref (xr 5), .ref (xr 6), .ref (xr 7), .ref (xr 8), .ref (xr 9), .int (nI n), .int sl, .int da, .int ti, .int ho, .int dr, .int cr, .int pa, .int pr, .int st, .long mo])]]) X hO hl (dz_X1_isBetween l G _ v 1 50 ) (lw_S q1131 q1003 q48 q1004) (by decide +kernel) ⟨Nat.le_of_ble_eq_true rfl, Nat.le_of_ble_eq_true rfl⟩ ⟨(Nat.le_of_ble_eq_true rfl), (Nat.le_of_ble_eq_true rfl), (Nat.le_of_ble_eq_true rfl), (Nat.le_of_ble_eq_true rfl)⟩ [] [0, 1, 2, 3, 4] rfl rfl rfl rfl rfl (Nat.le_of_ble_eq_true rfl) dX1_dredge_9 (fun E w1 q9 ce9 H locs hpx hO hce hv9 hcl9 => hpx.elim) (fun r w1 H locs hpo hO => ?_)
  obtain ⟨rfl, rfl⟩ := hpo
  have hO : dz_O G.1 dz_CL A s.heap [[(xr 0, dzS G 24 dp)], [(xr 9, dzo 17 [.ref ea, .int (nI h), .int (nI ((h + en) % 17))])], [(ea, dzO G 17 (dz_rng oa en h))], dz_lp G en oa ld ly lu, [(xo, dzo 0 [.ref (xr 0), .ref (xr 1), .ref (xr 2), .ref (xr 3), .ref (xr 4), .ref (xr 5), .ref (xr 6), .ref (xr 7), .ref (xr 8), .ref (xr 9), .int (nI n), .int sl, .int da, .int ti, .int ho, .int dr, .int cr, .int pa, .int pr, .int st, .long mo])]] _ _ := hO
  refine W.eq (g2 := F0 m 12 ls [.int (dz_bi v 1 50)]) rfl ?_
  refine dz_S (n := 1) (k9 := 2) (n9 := 12) (As := [.int (dz_bi v 1 50)]) (rest := []) (wr := [[(xr 0, dzS G 24 dp)], [(xr 9, dzo 17 [.ref ea, .int (nI h), .int (nI ((h + en) % 17))])], [(ea, dzO G 17 (dz_rng oa en h))], dz_lp G en oa ld ly lu, [(xo, dzo 0 [.ref (xr 0), .ref (xr 1), .ref (xr 2), .ref (xr 3), .ref (xr 4), .ref (xr 5), .ref (xr 6), .ref (xr 7), .ref (xr 8), .ref (xr 9), .int (nI n), .int sl, .int da, .int ti, .int ho, .int dr, .int cr, .int pa, .int pr, .int st, .long mo])]]) X hO hl (dz_X1_checkArgument l hst G _ (dz_bi v 1 50) ) (lw_S q1132 q1133 q48 q1134) (by decide +kernel) ⟨Nat.le_of_ble_eq_true rfl, Nat.le_of_ble_eq_true rfl⟩ ⟨(Nat.le_of_ble_eq_true rfl), (Nat.le_of_ble_eq_true rfl), (Nat.le_of_ble_eq_true rfl), (Nat.le_of_ble_eq_true rfl)⟩ [] [0, 1, 2, 3, 4] rfl rfl rfl rfl rfl (Nat.le_of_ble_eq_true rfl) dX1_dredge_12 ?_ (fun r w1 H locs hpo hO => ?_)
  · intro E w1 q9 ce9 H locs hpx hO hce hv9 hcl9
    obtain ⟨rfl, hpx⟩ := hpx
    have hO : dz_O G.1 dz_CL A s.heap [[(xr 0, dzS G 24 dp)], [(xr 9, dzo 17 [.ref ea, .int (nI h), .int (nI ((h + en) % 17))])], [(ea, dzO G 17 (dz_rng oa en h))], dz_lp G en oa ld ly lu, [(xo, dzo 0 [.ref (xr 0), .ref (xr 1), .ref (xr 2), .ref (xr 3), .ref (xr 4), .ref (xr 5), .ref (xr 6), .ref (xr 7), .ref (xr 8), .ref (xr 9), .int (nI n), .int sl, .int da, .int ti, .int ho, .int dr, .int cr, .int pa, .int pr, .int st, .long mo])]] _ _ := hO
    have hO := hO.sel (v := [[(xo, dzo 0 [.ref (xr 0), .ref (xr 1), .ref (xr 2), .ref (xr 3), .ref (xr 4), .ref (xr 5), .ref (xr 6), .ref (xr 7), .ref (xr 8), .ref (xr 9), .int (nI n), .int sl, .int da, .int ti, .int ho, .int dr, .int cr, .int pa, .int pr, .int st, .long mo])], [(xr 0, dzS G 24 dp)], [(xr 9, dzo 17 [.ref ea, .int (nI h), .int (nI ((h + en) % 17))])], [(ea, dzO G 17 (dz_rng oa en h))], dz_lp G en oa ld ly lu]) [4, 0, 1, 2, 3] rfl rfl
    exact dz_out X rfl hO (⟨rfl, by obtain ⟨hE9, hc9⟩ := hpx; rw [hE9]; simp [dz_kdredge, h_1, hc9]⟩) hce hv9 hcl9 (Nat.le_of_ble_eq_true rfl) (Nat.le_of_ble_eq_true rfl)
  obtain ⟨rfl, rfl, h_2⟩ := hpo
  have hO : dz_O G.1 dz_CL A s.heap [[(xr 0, dzS G 24 dp)], [(xr 9, dzo 17 [.ref ea, .int (nI h), .int (nI ((h + en) % 17))])], [(ea, dzO G 17 (dz_rng oa en h))], dz_lp G en oa ld ly lu, [(xo, dzo 0 [.ref (xr 0), .ref (xr 1), .ref (xr 2), .ref (xr 3), .ref (xr 4), .ref (xr 5), .ref (xr 6), .ref (xr 7), .ref (xr 8), .ref (xr 9), .int (nI n), .int sl, .int da, .int ti, .int ho, .int dr, .int cr, .int pa, .int pr, .int st, .long mo])]] _ _ := hO
  refine W.eq (g2 := F0 m 15 ls []) rfl ?_
  refine lv_aload_n X.x X.b dX1_dredge_15 rfl (lv_at hl 0 rfl) ?_
  refine dz_get (v := .int ho) X (hO.at1 4 rfl) in_X1 rfl 14 (by decide) q564 (Or.inl rfl) rfl dX1_dredge_16 ?_
  refine lv_iload_n X.x X.b dX1_dredge_19 rfl (lv_at hl 2 rfl) ?_
  refine lv_iadd X.x X.b dX1_dredge_20 ?_
  refine lv_sipush (v := 200) X.x X.b dX1_dredge_21 (by decide) ?_
  refine lv_icmp_gt (tgt := 31) X.x X.b dX1_dredge_24 (by decide) (fun c_3 => ?_) (fun c_3 => ?_)
  · refine lv_iconst (v := 0) X.x X.b dX1_dredge_31 (by decide) ?_
    refine dz_S (n := 1) (k9 := 3) (n9 := 18) (As := [.int 0]) (rest := []) (wr := [[(xr 0, dzS G 24 dp)], [(xr 9, dzo 17 [.ref ea, .int (nI h), .int (nI ((h + en) % 17))])], [(ea, dzO G 17 (dz_rng oa en h))], dz_lp G en oa ld ly lu, [(xo, dzo 0 [.ref (xr 0), .ref (xr 1), .ref (xr 2), .ref (xr 3), .ref (xr 4), .ref (xr 5), .ref (xr 6), .ref (xr 7), .ref (xr 8), .ref (xr 9), .int (nI n), .int sl, .int da, .int ti, .int ho, .int dr, .int cr, .int pa, .int pr, .int st, .long mo])]]) X hO hl (dz_X1_checkState l hst G _ 0 ) (lw_S q1140 q1141 q48 q1142) (by decide +kernel) ⟨Nat.le_of_ble_eq_true rfl, Nat.le_of_ble_eq_true rfl⟩ ⟨(Nat.le_of_ble_eq_true rfl), (Nat.le_of_ble_eq_true rfl), (Nat.le_of_ble_eq_true rfl), (Nat.le_of_ble_eq_true rfl)⟩ [] [0, 1, 2, 3, 4] rfl rfl rfl rfl rfl (Nat.le_of_ble_eq_true rfl) dX1_dredge_32 ?_ (fun r w1 H locs hpo hO => ?_)
    · intro E w1 q9 ce9 H locs hpx hO hce hv9 hcl9
      obtain ⟨rfl, hpx⟩ := hpx
      have hO : dz_O G.1 dz_CL A s.heap [[(xr 0, dzS G 24 dp)], [(xr 9, dzo 17 [.ref ea, .int (nI h), .int (nI ((h + en) % 17))])], [(ea, dzO G 17 (dz_rng oa en h))], dz_lp G en oa ld ly lu, [(xo, dzo 0 [.ref (xr 0), .ref (xr 1), .ref (xr 2), .ref (xr 3), .ref (xr 4), .ref (xr 5), .ref (xr 6), .ref (xr 7), .ref (xr 8), .ref (xr 9), .int (nI n), .int sl, .int da, .int ti, .int ho, .int dr, .int cr, .int pa, .int pr, .int st, .long mo])]] _ _ := hO
      have hO := hO.sel (v := [[(xo, dzo 0 [.ref (xr 0), .ref (xr 1), .ref (xr 2), .ref (xr 3), .ref (xr 4), .ref (xr 5), .ref (xr 6), .ref (xr 7), .ref (xr 8), .ref (xr 9), .int (nI n), .int sl, .int da, .int ti, .int ho, .int dr, .int cr, .int pa, .int pr, .int st, .long mo])], [(xr 0, dzS G 24 dp)], [(xr 9, dzo 17 [.ref ea, .int (nI h), .int (nI ((h + en) % 17))])], [(ea, dzO G 17 (dz_rng oa en h))], dz_lp G en oa ld ly lu]) [4, 0, 1, 2, 3] rfl rfl
      exact dz_out X rfl hO (⟨rfl, by obtain ⟨hE9, hc9⟩ := hpx; rw [hE9]; simp [dz_kdredge, h_1, h_2, c_3, Int32.not_le.mpr c_3, hc9]⟩) hce hv9 hcl9 (Nat.le_of_ble_eq_true rfl) (Nat.le_of_ble_eq_true rfl)
    obtain ⟨rfl, rfl, h_4⟩ := hpo
    have hO : dz_O G.1 dz_CL A s.heap [[(xr 0, dzS G 24 dp)], [(xr 9, dzo 17 [.ref ea, .int (nI h), .int (nI ((h + en) % 17))])], [(ea, dzO G 17 (dz_rng oa en h))], dz_lp G en oa ld ly lu, [(xo, dzo 0 [.ref (xr 0), .ref (xr 1), .ref (xr 2), .ref (xr 3), .ref (xr 4), .ref (xr 5), .ref (xr 6), .ref (xr 7), .ref (xr 8), .ref (xr 9), .int (nI n), .int sl, .int da, .int ti, .int ho, .int dr, .int cr, .int pa, .int pr, .int st, .long mo])]] _ _ := hO
    refine W.eq (g2 := F0 m 35 ls []) rfl ?_
    exact absurd rfl h_4
  · refine lv_iconst (v := 1) X.x X.b dX1_dredge_27 (by decide) ?_
    refine lv_goto (tgt := 32) X.x X.b dX1_dredge_28 (by decide) ?_
    refine dz_S (n := 1) (k9 := 3) (n9 := 18) (As := [.int 1]) (rest := []) (wr := [[(xr 0, dzS G 24 dp)], [(xr 9, dzo 17 [.ref ea, .int (nI h), .int (nI ((h + en) % 17))])], [(ea, dzO G 17 (dz_rng oa en h))], dz_lp G en oa ld ly lu, [(xo, dzo 0 [.ref (xr 0), .ref (xr 1), .ref (xr 2), .ref (xr 3), .ref (xr 4), .ref (xr 5), .ref (xr 6), .ref (xr 7), .ref (xr 8), .ref (xr 9), .int (nI n), .int sl, .int da, .int ti, .int ho, .int dr, .int cr, .int pa, .int pr, .int st, .long mo])]]) X hO hl (dz_X1_checkState l hst G _ 1 ) (lw_S q1140 q1141 q48 q1142) (by decide +kernel) ⟨Nat.le_of_ble_eq_true rfl, Nat.le_of_ble_eq_true rfl⟩ ⟨(Nat.le_of_ble_eq_true rfl), (Nat.le_of_ble_eq_true rfl), (Nat.le_of_ble_eq_true rfl), (Nat.le_of_ble_eq_true rfl)⟩ [] [0, 1, 2, 3, 4] rfl rfl rfl rfl rfl (Nat.le_of_ble_eq_true rfl) dX1_dredge_32 ?_ (fun r w1 H locs hpo hO => ?_)
    · intro E w1 q9 ce9 H locs hpx hO hce hv9 hcl9
      exact absurd hpx.2.2 (by decide)
    obtain ⟨rfl, rfl, h_5⟩ := hpo
    have hO : dz_O G.1 dz_CL A s.heap [[(xr 0, dzS G 24 dp)], [(xr 9, dzo 17 [.ref ea, .int (nI h), .int (nI ((h + en) % 17))])], [(ea, dzO G 17 (dz_rng oa en h))], dz_lp G en oa ld ly lu, [(xo, dzo 0 [.ref (xr 0), .ref (xr 1), .ref (xr 2), .ref (xr 3), .ref (xr 4), .ref (xr 5), .ref (xr 6), .ref (xr 7), .ref (xr 8), .ref (xr 9), .int (nI n), .int sl, .int da, .int ti, .int ho, .int dr, .int cr, .int pa, .int pr, .int st, .long mo])]] _ _ := hO
    refine W.eq (g2 := F0 m 35 ls []) rfl ?_
    obtain ⟨j9, hj9, hi9⟩ := dz_bi_ix (by omega) h_1
    subst hi9
    have hcj : (nI j9).toNatClampNeg = j9 := nI_clamp (by omega)
    refine lv_aload_n X.x X.b dX1_dredge_35 rfl (lv_at hl 0 rfl) ?_
    refine dz_get (v := .ref (xr 0)) X (hO.at1 4 rfl) in_X1 rfl 0 (by decide) q550 (Or.inl rfl) rfl dX1_dredge_36 ?_
    refine lv_iload_n X.x X.b dX1_dredge_39 rfl (lv_at hl 1 rfl) ?_
    refine dz_sald X (hO.at1 0 rfl) (j := j9) rfl (by omega) (by decide) dX1_dredge_40 ?_
    refine lv_iload_n X.x X.b dX1_dredge_41 rfl (lv_at hl 2 rfl) ?_
    refine lv_iadd X.x X.b dX1_dredge_42 ?_
    refine lv_sipush (v := 300) X.x X.b dX1_dredge_43 (by decide) ?_
    refine lv_icmp_gt (tgt := 53) X.x X.b dX1_dredge_46 (by decide) (fun c_6 => ?_) (fun c_6 => ?_)
    · refine lv_iconst (v := 0) X.x X.b dX1_dredge_53 (by decide) ?_
      refine dz_S (n := 1) (k9 := 4) (n9 := 24) (As := [.int 0]) (rest := []) (wr := [[(xr 0, dzS G 24 dp)], [(xr 9, dzo 17 [.ref ea, .int (nI h), .int (nI ((h + en) % 17))])], [(ea, dzO G 17 (dz_rng oa en h))], dz_lp G en oa ld ly lu, [(xo, dzo 0 [.ref (xr 0), .ref (xr 1), .ref (xr 2), .ref (xr 3), .ref (xr 4), .ref (xr 5), .ref (xr 6), .ref (xr 7), .ref (xr 8), .ref (xr 9), .int (nI n), .int sl, .int da, .int ti, .int ho, .int dr, .int cr, .int pa, .int pr, .int st, .long mo])]]) X hO hl (dz_X1_checkAllowed l hst G _ 0 ) (lw_S q1249 q1250 q48 q1251) (by decide +kernel) ⟨Nat.le_of_ble_eq_true rfl, Nat.le_of_ble_eq_true rfl⟩ ⟨(Nat.le_of_ble_eq_true rfl), (Nat.le_of_ble_eq_true rfl), (Nat.le_of_ble_eq_true rfl), (Nat.le_of_ble_eq_true rfl)⟩ [] [0, 1, 2, 3, 4] rfl rfl rfl rfl rfl (Nat.le_of_ble_eq_true rfl) dX1_dredge_54 ?_ (fun r w1 H locs hpo hO => ?_)
      · intro E w1 q9 ce9 H locs hpx hO hce hv9 hcl9
        obtain ⟨rfl, hpx⟩ := hpx
        have hO : dz_O G.1 dz_CL A s.heap [[(xr 0, dzS G 24 dp)], [(xr 9, dzo 17 [.ref ea, .int (nI h), .int (nI ((h + en) % 17))])], [(ea, dzO G 17 (dz_rng oa en h))], dz_lp G en oa ld ly lu, [(xo, dzo 0 [.ref (xr 0), .ref (xr 1), .ref (xr 2), .ref (xr 3), .ref (xr 4), .ref (xr 5), .ref (xr 6), .ref (xr 7), .ref (xr 8), .ref (xr 9), .int (nI n), .int sl, .int da, .int ti, .int ho, .int dr, .int cr, .int pa, .int pr, .int st, .long mo])]] _ _ := hO
        have hO := hO.sel (v := [[(xo, dzo 0 [.ref (xr 0), .ref (xr 1), .ref (xr 2), .ref (xr 3), .ref (xr 4), .ref (xr 5), .ref (xr 6), .ref (xr 7), .ref (xr 8), .ref (xr 9), .int (nI n), .int sl, .int da, .int ti, .int ho, .int dr, .int cr, .int pa, .int pr, .int st, .long mo])], [(xr 0, dzS G 24 dp)], [(xr 9, dzo 17 [.ref ea, .int (nI h), .int (nI ((h + en) % 17))])], [(ea, dzO G 17 (dz_rng oa en h))], dz_lp G en oa ld ly lu]) [4, 0, 1, 2, 3] rfl rfl
        exact dz_out X rfl hO (⟨rfl, by obtain ⟨hE9, hc9⟩ := hpx; rw [hE9]; simp [dz_kdredge, h_1, h_2, c_3, Int32.not_lt.mp c_3, h_5, c_6, Int32.not_le.mpr c_6, hc9, hcj]⟩) hce hv9 hcl9 (Nat.le_of_ble_eq_true rfl) (Nat.le_of_ble_eq_true rfl)
      obtain ⟨rfl, rfl, h_7⟩ := hpo
      have hO : dz_O G.1 dz_CL A s.heap [[(xr 0, dzS G 24 dp)], [(xr 9, dzo 17 [.ref ea, .int (nI h), .int (nI ((h + en) % 17))])], [(ea, dzO G 17 (dz_rng oa en h))], dz_lp G en oa ld ly lu, [(xo, dzo 0 [.ref (xr 0), .ref (xr 1), .ref (xr 2), .ref (xr 3), .ref (xr 4), .ref (xr 5), .ref (xr 6), .ref (xr 7), .ref (xr 8), .ref (xr 9), .int (nI n), .int sl, .int da, .int ti, .int ho, .int dr, .int cr, .int pa, .int pr, .int st, .long mo])]] _ _ := hO
      refine W.eq (g2 := F0 m 57 ls []) rfl ?_
      exact absurd rfl h_7
    · refine lv_iconst (v := 1) X.x X.b dX1_dredge_49 (by decide) ?_
      refine lv_goto (tgt := 54) X.x X.b dX1_dredge_50 (by decide) ?_
      refine dz_S (n := 1) (k9 := 4) (n9 := 24) (As := [.int 1]) (rest := []) (wr := [[(xr 0, dzS G 24 dp)], [(xr 9, dzo 17 [.ref ea, .int (nI h), .int (nI ((h + en) % 17))])], [(ea, dzO G 17 (dz_rng oa en h))], dz_lp G en oa ld ly lu, [(xo, dzo 0 [.ref (xr 0), .ref (xr 1), .ref (xr 2), .ref (xr 3), .ref (xr 4), .ref (xr 5), .ref (xr 6), .ref (xr 7), .ref (xr 8), .ref (xr 9), .int (nI n), .int sl, .int da, .int ti, .int ho, .int dr, .int cr, .int pa, .int pr, .int st, .long mo])]]) X hO hl (dz_X1_checkAllowed l hst G _ 1 ) (lw_S q1249 q1250 q48 q1251) (by decide +kernel) ⟨Nat.le_of_ble_eq_true rfl, Nat.le_of_ble_eq_true rfl⟩ ⟨(Nat.le_of_ble_eq_true rfl), (Nat.le_of_ble_eq_true rfl), (Nat.le_of_ble_eq_true rfl), (Nat.le_of_ble_eq_true rfl)⟩ [] [0, 1, 2, 3, 4] rfl rfl rfl rfl rfl (Nat.le_of_ble_eq_true rfl) dX1_dredge_54 ?_ (fun r w1 H locs hpo hO => ?_)
      · intro E w1 q9 ce9 H locs hpx hO hce hv9 hcl9
        exact absurd hpx.2.2 (by decide)
      obtain ⟨rfl, rfl, h_8⟩ := hpo
      have hO : dz_O G.1 dz_CL A s.heap [[(xr 0, dzS G 24 dp)], [(xr 9, dzo 17 [.ref ea, .int (nI h), .int (nI ((h + en) % 17))])], [(ea, dzO G 17 (dz_rng oa en h))], dz_lp G en oa ld ly lu, [(xo, dzo 0 [.ref (xr 0), .ref (xr 1), .ref (xr 2), .ref (xr 3), .ref (xr 4), .ref (xr 5), .ref (xr 6), .ref (xr 7), .ref (xr 8), .ref (xr 9), .int (nI n), .int sl, .int da, .int ti, .int ho, .int dr, .int cr, .int pa, .int pr, .int st, .long mo])]] _ _ := hO
      refine W.eq (g2 := F0 m 57 ls []) rfl ?_
      have hv9 : v.toInt16.toInt32 = v := dz_bi16 h_2 (by decide)
      have hs9 : (dp j9 + v).toInt16.toInt32 = dp j9 + v := dz_dgr (hdr j9 hj9) h_2
      refine lv_aload_n X.x X.b dX1_dredge_57 rfl (lv_at hl 0 rfl) ?_
      refine dz_get (v := .ref (xr 0)) X (hO.at1 4 rfl) in_X1 rfl 0 (by decide) q550 (Or.inl rfl) rfl dX1_dredge_58 ?_
      refine lv_iload_n X.x X.b dX1_dredge_61 rfl (lv_at hl 1 rfl) ?_
      refine lv_dup2_11 X.x X.b dX1_dredge_62 rfl rfl ?_
      refine dz_sald X (hO.at1 0 rfl) (j := j9) rfl (by omega) (by decide) dX1_dredge_63 ?_
      refine lv_iload_n X.x X.b dX1_dredge_64 rfl (lv_at hl 2 rfl) ?_
      refine lv_i2s (v := v.toInt16.toInt32) X.x X.b dX1_dredge_65 rfl ?_
      refine dz_rei (y := v) (hv9) ?_
      refine lv_iadd X.x X.b dX1_dredge_66 ?_
      refine lv_i2s (v := ((dp j9) + v).toInt16.toInt32) X.x X.b dX1_dredge_67 rfl ?_
      refine dz_rei (y := (dp j9 + v)) (hs9) ?_
      refine dz_sast X hO 0 rfl (j := j9) rfl (by omega) (by decide) dX1_dredge_68 (fun H locs hO => ?_)
      have hO : dz_O G.1 dz_CL A s.heap [[(xr 0, dzS G 24 (upd dp j9 (vp_nar .short (dp j9 + v))))], [(xr 9, dzo 17 [.ref ea, .int (nI h), .int (nI ((h + en) % 17))])], [(ea, dzO G 17 (dz_rng oa en h))], dz_lp G en oa ld ly lu, [(xo, dzo 0 [.ref (xr 0), .ref (xr 1), .ref (xr 2), .ref (xr 3), .ref (xr 4), .ref (xr 5), .ref (xr 6), .ref (xr 7), .ref (xr 8), .ref (xr 9), .int (nI n), .int sl, .int da, .int ti, .int ho, .int dr, .int cr, .int pa, .int pr, .int st, .long mo])]] _ _ := hO
      have hO := hO.cong 0 rfl (w1 := [(xr 0, dzS G 24 (upd dp j9 (dp j9 + v)))]) (congrArg (fun z9 => [(xr 0, dzS G 24 z9)]) (show (upd dp j9 (dp j9 + v)) = (upd dp j9 (vp_nar .short (dp j9 + v))) from by rw [show vp_nar .short (dp j9 + v) = dp j9 + v from hs9]))
      have hO : dz_O G.1 dz_CL A s.heap [[(xr 0, dzS G 24 (upd dp j9 (dp j9 + v)))], [(xr 9, dzo 17 [.ref ea, .int (nI h), .int (nI ((h + en) % 17))])], [(ea, dzO G 17 (dz_rng oa en h))], dz_lp G en oa ld ly lu, [(xo, dzo 0 [.ref (xr 0), .ref (xr 1), .ref (xr 2), .ref (xr 3), .ref (xr 4), .ref (xr 5), .ref (xr 6), .ref (xr 7), .ref (xr 8), .ref (xr 9), .int (nI n), .int sl, .int da, .int ti, .int ho, .int dr, .int cr, .int pa, .int pr, .int st, .long mo])]] _ _ := hO
      refine lv_aload_n X.x X.b dX1_dredge_69 rfl (lv_at hl 0 rfl) ?_
      refine lv_dup X.x X.b dX1_dredge_70 rfl ?_
      refine dz_get (v := .int ho) X (hO.at1 4 rfl) in_X1 rfl 14 (by decide) q564 (Or.inl rfl) rfl dX1_dredge_71 ?_
      refine lv_iload_n X.x X.b dX1_dredge_74 rfl (lv_at hl 2 rfl) ?_
      refine lv_iadd X.x X.b dX1_dredge_75 ?_
      refine dz_put (v := .int (ho + v)) X hO 4 rfl in_X1 tyX1 tyX1_ok nmX1 rfl 14 (by decide) q564 (Or.inl rfl) (Or.inl rfl) rfl rfl (Nat.le_of_ble_eq_true rfl) dX1_dredge_76 (fun H locs hO => ?_)
      have hO : dz_O G.1 dz_CL A s.heap [[(xr 0, dzS G 24 (upd dp j9 (dp j9 + v)))], [(xr 9, dzo 17 [.ref ea, .int (nI h), .int (nI ((h + en) % 17))])], [(ea, dzO G 17 (dz_rng oa en h))], dz_lp G en oa ld ly lu, [(xo, dzo 0 [.ref (xr 0), .ref (xr 1), .ref (xr 2), .ref (xr 3), .ref (xr 4), .ref (xr 5), .ref (xr 6), .ref (xr 7), .ref (xr 8), .ref (xr 9), .int (nI n), .int sl, .int da, .int ti, .int (ho + v), .int dr, .int cr, .int pa, .int pr, .int st, .long mo])]] _ _ := hO
      refine lv_aload_n X.x X.b dX1_dredge_79 rfl (lv_at hl 0 rfl) ?_
      refine lv_dup X.x X.b dX1_dredge_80 rfl ?_
      refine dz_get (v := .int dr) X (hO.at1 4 rfl) in_X1 rfl 15 (by decide) q565 (Or.inl rfl) rfl dX1_dredge_81 ?_
      refine lv_iload_n X.x X.b dX1_dredge_84 rfl (lv_at hl 2 rfl) ?_
      refine lv_iadd X.x X.b dX1_dredge_85 ?_
      refine dz_put (v := .int (dr + v)) X hO 4 rfl in_X1 tyX1 tyX1_ok nmX1 rfl 15 (by decide) q565 (Or.inl rfl) (Or.inl rfl) rfl rfl (Nat.le_of_ble_eq_true rfl) dX1_dredge_86 (fun H locs hO => ?_)
      have hO : dz_O G.1 dz_CL A s.heap [[(xr 0, dzS G 24 (upd dp j9 (dp j9 + v)))], [(xr 9, dzo 17 [.ref ea, .int (nI h), .int (nI ((h + en) % 17))])], [(ea, dzO G 17 (dz_rng oa en h))], dz_lp G en oa ld ly lu, [(xo, dzo 0 [.ref (xr 0), .ref (xr 1), .ref (xr 2), .ref (xr 3), .ref (xr 4), .ref (xr 5), .ref (xr 6), .ref (xr 7), .ref (xr 8), .ref (xr 9), .int (nI n), .int sl, .int da, .int ti, .int (ho + v), .int (dr + v), .int cr, .int pa, .int pr, .int st, .long mo])]] _ _ := hO
      refine lv_aload_n X.x X.b dX1_dredge_89 rfl (lv_at hl 0 rfl) ?_
      refine dz_gets (v := .ref (G.2.2.1 0)) X hO (X.st.1.1 0 (by decide)).1 q1267 (Or.inl rfl) dX1_dredge_90 ?_
      refine lv_iload_n X.x X.b dX1_dredge_93 rfl (lv_at hl 1 rfl) ?_
      refine dz_V (n := 2) (k9 := 5) (n9 := 27) (As := [.ref (G.2.2.1 0), .int (nI j9)]) (rest := []) (wr := [[(xr 0, dzS G 24 (upd dp j9 (dp j9 + v)))]]) X hO hl (dz_X1_tell l G _ xo xr sl da ti (ho + v) (dr + v) cr pa pr st n mo 0 (nI j9) ea h en oa ld ly lu (by first | assumption | omega | decide) (by first | assumption | omega | decide)) (lw_V q1269 q1271 qs9 q48 q1272) (by decide +kernel) ⟨Nat.le_of_ble_eq_true rfl, Nat.le_of_ble_eq_true rfl⟩ ⟨(Nat.le_of_ble_eq_true rfl), (Nat.le_of_ble_eq_true rfl), (Nat.le_of_ble_eq_true rfl), (Nat.le_of_ble_eq_true rfl)⟩ [4, 1, 2, 3] [0] rfl rfl rfl (dz_rc X (hO.at1 4 rfl) (r := (RX1, TX1, 21)) rfl) rfl rfl (Nat.le_of_ble_eq_true rfl) dX1_dredge_94 (fun E w1 q9 ce9 H locs hpx hO hce hv9 hcl9 => hpx.elim) (fun r w1 H locs hpo hO => ?_)
      obtain ⟨h9_9, oa9_10, rfl, rfl, hh9_11⟩ := hpo
      have hO : dz_O G.1 dz_CL A s.heap [[(xr 0, dzS G 24 (upd dp j9 (dp j9 + v)))], [(xo, dzo 0 [.ref (xr 0), .ref (xr 1), .ref (xr 2), .ref (xr 3), .ref (xr 4), .ref (xr 5), .ref (xr 6), .ref (xr 7), .ref (xr 8), .ref (xr 9), .int (nI n), .int sl, .int da, .int ti, .int (ho + v), .int (dr + v), .int cr, .int pa, .int pr, .int st, .long mo])], [(xr 9, dzo 17 [.ref ea, .int (nI h9_9), .int (nI ((h9_9 + (if en < 8 then en + 1 else en)) % 17))])], [(ea, dzO G 17 (dz_rng oa9_10 (if en < 8 then en + 1 else en) h9_9))], dz_lp G (if en < 8 then en + 1 else en) oa9_10 (dz_push ld (some (G.2.2.1 0))) (dz_push ly da) (dz_push lu (nI j9))] _ _ := hO
      refine W.eq (g2 := F0 m 97 ls []) rfl ?_
      refine lv_aload_n X.x X.b dX1_dredge_97 rfl (lv_at hl 0 rfl) ?_
      refine dz_get (v := .ref (xr 0)) X (hO.at1 1 rfl) in_X1 rfl 0 (by decide) q550 (Or.inl rfl) rfl dX1_dredge_98 ?_
      refine lv_iload_n X.x X.b dX1_dredge_101 rfl (lv_at hl 1 rfl) ?_
      refine dz_sald X (hO.at1 0 rfl) (j := j9) rfl (by omega) (by decide) dX1_dredge_102 ?_
      have hO := hO.sel (v := [[(xo, dzo 0 [.ref (xr 0), .ref (xr 1), .ref (xr 2), .ref (xr 3), .ref (xr 4), .ref (xr 5), .ref (xr 6), .ref (xr 7), .ref (xr 8), .ref (xr 9), .int (nI n), .int sl, .int da, .int ti, .int (ho + v), .int (dr + v), .int cr, .int pa, .int pr, .int st, .long mo])], [(xr 0, dzS G 24 (upd dp j9 (dp j9 + v)))], [(xr 9, dzo 17 [.ref ea, .int (nI h9_9), .int (nI ((h9_9 + (if en < 8 then en + 1 else en)) % 17))])], [(ea, dzO G 17 (dz_rng oa9_10 (if en < 8 then en + 1 else en) h9_9))], dz_lp G (if en < 8 then en + 1 else en) oa9_10 (dz_push ld (some (G.2.2.1 0))) (dz_push ly da) (dz_push lu (nI j9))]) [1, 0, 2, 3, 4] rfl rfl
      exact dz_iret X hO rfl (⟨h9_9, oa9_10, by rw [hcj, pk_us], by rw [hcj], by simp [dz_kdredge, h_1, h_2, c_3, h_5, c_6, h_8, hh9_11, hcj, h_1, h_2, c_3, Int32.not_lt.mp c_3, h_5, c_6, Int32.not_lt.mp c_6, h_8, hh9_11], by assumption⟩) (Nat.le_of_ble_eq_true rfl) (Nat.le_of_ble_eq_true rfl) dX1_dredge_103
set_option maxHeartbeats 4000000 in
set_option maxRecDepth 100000 in
/-- what creeps over a border -/
theorem dz_X1_creeps (l : Launch) (G : dz_G) (sz : Nat) (xo : Nat) (xr : Nat → Nat) (sl : Int32) (da : Int32) (ti : Int32) (ho : Int32) (dr : Int32) (cr : Int32) (pa : Int32) (pr : Int32) (st : Int32) (n : Nat) (mo : Int64) (x : Int32) (y : Int32)  : dz_M l G yX1_creeps cX1_creeps 3 (some FieldType.int) ({ frames := 40, cells := 0, slots := 0, locals := 600 } : Room) [.ref xo, .int x, .int y] [[(xo, dzo 0 [.ref (xr 0), .ref (xr 1), .ref (xr 2), .ref (xr 3), .ref (xr 4), .ref (xr 5), .ref (xr 6), .ref (xr 7), .ref (xr 8), .ref (xr 9), .int (nI n), .int sl, .int da, .int ti, .int ho, .int dr, .int cr, .int pa, .int pr, .int st, .long mo])]] sz (fun r w1 => r = some (.int (dz_xm sl x y)) ∧ w1 = [[(xo, dzo 0 [.ref (xr 0), .ref (xr 1), .ref (xr 2), .ref (xr 3), .ref (xr 4), .ref (xr 5), .ref (xr 6), .ref (xr 7), .ref (xr 8), .ref (xr 9), .int (nI n), .int sl, .int da, .int ti, .int ho, .int dr, .int cr, .int pa, .int pr, .int st, .long mo])]]) (dz_np) := by
  refine dz_start (by decide) (Nat.le_of_ble_eq_true rfl) ?_
  intro p e s m below meth c A ls X hO hsz hl
  have hl : lv_has ls 3 [(0, .ref xo), (1, .int x), (2, .int y)] := hl
  refine lv_iload_n X.x X.b dX1_creeps_0 rfl (lv_at hl 1 rfl) ?_
  refine lv_iload_n X.x X.b dX1_creeps_1 rfl (lv_at hl 2 rfl) ?_
  refine lv_isub X.x X.b dX1_creeps_2 ?_
  refine dz_mabs X hl q1361 (Nat.le_of_ble_eq_true rfl) (Nat.le_of_ble_eq_true rfl) (Nat.le_of_ble_eq_true rfl) (Nat.le_of_ble_eq_true rfl) (Nat.le_of_ble_eq_true rfl) dX1_creeps_3 ?_
  refine lv_aload_n X.x X.b dX1_creeps_6 rfl (lv_at hl 0 rfl) ?_
  refine dz_get (v := .int sl) X (hO.at1 0 rfl) in_X1 rfl 11 (by decide) q561 (Or.inl rfl) rfl dX1_creeps_7 ?_
  refine lv_icmp_gt (tgt := 17) X.x X.b dX1_creeps_10 (by decide) (fun c_1 => ?_) (fun c_1 => ?_)
  · refine lv_iload_n X.x X.b dX1_creeps_17 rfl (lv_at hl 1 rfl) ?_
    refine lv_iload_n X.x X.b dX1_creeps_18 rfl (lv_at hl 2 rfl) ?_
    refine lv_icmp_le (tgt := 26) X.x X.b dX1_creeps_19 (by decide) (fun c_2 => ?_) (fun c_2 => ?_)
    · refine lv_iconst (v := 1) X.x X.b dX1_creeps_26 (by decide) ?_
      exact dz_iret X hO rfl (⟨by unfold dz_xm; first | (rw [if_pos (Int32.not_lt.mp (by assumption))]; done) | (rw [if_neg (Int32.not_le.mpr (by assumption)), if_pos (Int32.not_le.mp (by assumption))]; done) | (rw [if_neg (Int32.not_le.mpr (by assumption)), if_neg (Int32.not_lt.mpr (by assumption))]; done), rfl⟩) (Nat.le_of_ble_eq_true rfl) (Nat.le_of_ble_eq_true rfl) dX1_creeps_27
    · refine lv_iconst (v := (-1)) X.x X.b dX1_creeps_22 (by decide) ?_
      refine lv_goto (tgt := 27) X.x X.b dX1_creeps_23 (by decide) ?_
      exact dz_iret X hO rfl (⟨by unfold dz_xm; first | (rw [if_pos (Int32.not_lt.mp (by assumption))]; done) | (rw [if_neg (Int32.not_le.mpr (by assumption)), if_pos (Int32.not_le.mp (by assumption))]; done) | (rw [if_neg (Int32.not_le.mpr (by assumption)), if_neg (Int32.not_lt.mpr (by assumption))]; done), rfl⟩) (Nat.le_of_ble_eq_true rfl) (Nat.le_of_ble_eq_true rfl) dX1_creeps_27
  · refine lv_iconst (v := 0) X.x X.b dX1_creeps_13 (by decide) ?_
    refine lv_goto (tgt := 27) X.x X.b dX1_creeps_14 (by decide) ?_
    exact dz_iret X hO rfl (⟨by unfold dz_xm; first | (rw [if_pos (Int32.not_lt.mp (by assumption))]; done) | (rw [if_neg (Int32.not_le.mpr (by assumption)), if_pos (Int32.not_le.mp (by assumption))]; done) | (rw [if_neg (Int32.not_le.mpr (by assumption)), if_neg (Int32.not_lt.mpr (by assumption))]; done), rfl⟩) (Nat.le_of_ble_eq_true rfl) (Nat.le_of_ble_eq_true rfl) dX1_creeps_27
set_option maxHeartbeats 4000000 in
set_option maxRecDepth 100000 in
/-- a depth, or the bank -/
theorem dz_X1_depthOrBank (l : Launch) (G : dz_G) (sz : Nat) (xo : Nat) (xr : Nat → Nat) (sl : Int32) (da : Int32) (ti : Int32) (ho : Int32) (dr : Int32) (cr : Int32) (pa : Int32) (pr : Int32) (st : Int32) (n : Nat) (mo : Int64) (i : Int32) (dp : Nat → Int32) (hn : n ≤ 24) : dz_M l G yX1_depthOrBank cX1_depthOrBank 2 (some FieldType.int) ({ frames := 40, cells := 0, slots := 0, locals := 600 } : Room) [.ref xo, .int i] [[(xo, dzo 0 [.ref (xr 0), .ref (xr 1), .ref (xr 2), .ref (xr 3), .ref (xr 4), .ref (xr 5), .ref (xr 6), .ref (xr 7), .ref (xr 8), .ref (xr 9), .int (nI n), .int sl, .int da, .int ti, .int ho, .int dr, .int cr, .int pa, .int pr, .int st, .long mo])], [(xr 0, dzS G 24 dp)]] sz (fun r w1 => r = some (.int (dz_dat n dp i)) ∧ w1 = [[(xo, dzo 0 [.ref (xr 0), .ref (xr 1), .ref (xr 2), .ref (xr 3), .ref (xr 4), .ref (xr 5), .ref (xr 6), .ref (xr 7), .ref (xr 8), .ref (xr 9), .int (nI n), .int sl, .int da, .int ti, .int ho, .int dr, .int cr, .int pa, .int pr, .int st, .long mo])], [(xr 0, dzS G 24 dp)]]) (dz_np) := by
  refine dz_start (by decide) (Nat.le_of_ble_eq_true rfl) ?_
  intro p e s m below meth c A ls X hO hsz hl
  have hl : lv_has ls 2 [(0, .ref xo), (1, .int i)] := hl
  refine lv_iload_n X.x X.b dX1_depthOrBank_0 rfl (lv_at hl 1 rfl) ?_
  refine lv_iconst (v := 0) X.x X.b dX1_depthOrBank_1 (by decide) ?_
  refine lv_aload_n X.x X.b dX1_depthOrBank_2 rfl (lv_at hl 0 rfl) ?_
  refine dz_get (v := .int (nI n)) X (hO.at1 0 rfl) in_X1 rfl 10 (by decide) q560 (Or.inl rfl) rfl dX1_depthOrBank_3 ?_
  refine lv_iconst (v := 1) X.x X.b dX1_depthOrBank_6 (by decide) ?_
  refine lv_isub X.x X.b dX1_depthOrBank_7 ?_
  refine dz_S (n := 3) (k9 := 0) (n9 := 0) (As := [.int i, .int 0, .int (nI n - 1)]) (rest := []) (wr := [[(xo, dzo 0 [.ref (xr 0), .ref (xr 1), .ref (xr 2), .ref (xr 3), .ref (xr 4), .ref (xr 5), .ref (xr 6), .ref (xr 7), .ref (xr 8), .ref (xr 9), .int (nI n), .int sl, .int da, .int ti, .int ho, .int dr, .int cr, .int pa, .int pr, .int st, .long mo])], [(xr 0, dzS G 24 dp)]]) X hO hl (dz_X1_isBetween l G _ i 0 (nI n - 1) ) (lw_S q1131 q1003 q48 q1004) (by decide +kernel) ⟨Nat.le_of_ble_eq_true rfl, Nat.le_of_ble_eq_true rfl⟩ ⟨(Nat.le_of_ble_eq_true rfl), (Nat.le_of_ble_eq_true rfl), (Nat.le_of_ble_eq_true rfl), (Nat.le_of_ble_eq_true rfl)⟩ [] [0, 1] rfl rfl rfl rfl rfl (Nat.le_of_ble_eq_true rfl) dX1_depthOrBank_8 (fun E w1 q9 ce9 H locs hpx hO hce hv9 hcl9 => hpx.elim) (fun r w1 H locs hpo hO => ?_)
  obtain ⟨rfl, rfl⟩ := hpo
  have hO : dz_O G.1 dz_CL A s.heap [[(xo, dzo 0 [.ref (xr 0), .ref (xr 1), .ref (xr 2), .ref (xr 3), .ref (xr 4), .ref (xr 5), .ref (xr 6), .ref (xr 7), .ref (xr 8), .ref (xr 9), .int (nI n), .int sl, .int da, .int ti, .int ho, .int dr, .int cr, .int pa, .int pr, .int st, .long mo])], [(xr 0, dzS G 24 dp)]] _ _ := hO
  refine W.eq (g2 := F0 m 11 ls [.int (dz_bi i 0 (nI n - 1))]) rfl ?_
  refine lv_if_eq (tgt := 23) X.x X.b dX1_depthOrBank_11 (by decide) (fun c_1 => ?_) (fun c_1 => ?_)
  · refine lv_iconst (v := 0) X.x X.b dX1_depthOrBank_23 (by decide) ?_
    exact dz_iret X hO rfl (⟨by unfold dz_dat; first | (rw [if_pos (by assumption)]; done) | (rw [if_neg (by assumption), nI_clamp (by omega)]), rfl⟩) (Nat.le_of_ble_eq_true rfl) (Nat.le_of_ble_eq_true rfl) dX1_depthOrBank_24
  · obtain ⟨j9, hj9, hi9⟩ := dz_bi_ix (by omega) c_1
    subst hi9
    have hcj : (nI j9).toNatClampNeg = j9 := nI_clamp (by omega)
    refine lv_aload_n X.x X.b dX1_depthOrBank_14 rfl (lv_at hl 0 rfl) ?_
    refine dz_get (v := .ref (xr 0)) X (hO.at1 0 rfl) in_X1 rfl 0 (by decide) q550 (Or.inl rfl) rfl dX1_depthOrBank_15 ?_
    refine lv_iload_n X.x X.b dX1_depthOrBank_18 rfl (lv_at hl 1 rfl) ?_
    refine dz_sald X (hO.at1 1 rfl) (j := j9) rfl (by omega) (by decide) dX1_depthOrBank_19 ?_
    refine lv_goto (tgt := 24) X.x X.b dX1_depthOrBank_20 (by decide) ?_
    exact dz_iret X hO rfl (⟨by unfold dz_dat; first | (rw [if_pos (by assumption)]; done) | (rw [if_neg (by assumption), nI_clamp (by omega)]), rfl⟩) (Nat.le_of_ble_eq_true rfl) (Nat.le_of_ble_eq_true rfl) dX1_depthOrBank_24
theorem dz_cp_cD (n : Nat) (sl : Int32) (d : Nat → Int32) : dz_cp (dz_cD n sl d) d n = dz_cD n sl d := by
  funext k; unfold dz_cp
  by_cases h : k < n
  · rw [if_pos h]
  · rw [if_neg h]; unfold dz_cD; rw [if_neg h]
set_option maxHeartbeats 4000000 in
set_option maxRecDepth 100000 in
/-- a day of creep -/
theorem dz_X1_creep (l : Launch) (G : dz_G) (sz : Nat) (xo : Nat) (xr : Nat → Nat) (sl : Int32) (da : Int32) (ti : Int32) (ho : Int32) (dr : Int32) (cr : Int32) (pa : Int32) (pr : Int32) (st : Int32) (n : Nat) (mo : Int64) (dp : Nat → Int32) (hn : n ≤ 24) (hsl : dz_slr sl) (hdr : dz_dr3 n dp) : dz_M l G yX1_creep cX1_creep 5 (some FieldType.int) ({ frames := 80, cells := 1, slots := 25, locals := 1200 } : Room) [.ref xo] [[(xo, dzo 0 [.ref (xr 0), .ref (xr 1), .ref (xr 2), .ref (xr 3), .ref (xr 4), .ref (xr 5), .ref (xr 6), .ref (xr 7), .ref (xr 8), .ref (xr 9), .int (nI n), .int sl, .int da, .int ti, .int ho, .int dr, .int cr, .int pa, .int pr, .int st, .long mo])], [(xr 0, dzS G 24 dp)]] sz (fun r w1 => r = some (.int (dz_cI n sl dp)) ∧ w1 = [[(xo, dzo 0 [.ref (xr 0), .ref (xr 1), .ref (xr 2), .ref (xr 3), .ref (xr 4), .ref (xr 5), .ref (xr 6), .ref (xr 7), .ref (xr 8), .ref (xr 9), .int (nI n), .int sl, .int da, .int ti, .int ho, .int dr, .int cr, .int pa, .int pr, .int st, .long mo])], [(xr 0, dzS G 24 (dz_cD n sl dp))]]) (dz_np) := by
  refine dz_start (by decide) (Nat.le_of_ble_eq_true rfl) ?_
  intro p e s m below meth c A ls X hO hsz hl
  have hl : lv_has ls 5 [(0, .ref xo)] := hl
  refine lv_aload_n X.x X.b dX1_creep_0 rfl (lv_at hl 0 rfl) ?_
  refine dz_get (v := .int (nI n)) X (hO.at1 0 rfl) in_X1 rfl 10 (by decide) q560 (Or.inl rfl) rfl dX1_creep_1 ?_
  refine lv_iconst (v := 1) X.x X.b dX1_creep_4 (by decide) ?_
  refine lv_iadd X.x X.b dX1_creep_5 ?_
  refine dz_rei (y := nI (n + 1)) (nI_add n 1) ?_
  refine dz_newaI X hO (j := n + 1) rfl (by omega) (dz_bytes (by omega) (by decide)) (Nat.le_of_ble_eq_true rfl) (by first | omega | (dsimp only; omega)) dX1_creep_6 (fun q_1 H hO => ?_)
  have hO : dz_O G.1 dz_CL A s.heap [[(xo, dzo 0 [.ref (xr 0), .ref (xr 1), .ref (xr 2), .ref (xr 3), .ref (xr 4), .ref (xr 5), .ref (xr 6), .ref (xr 7), .ref (xr 8), .ref (xr 9), .int (nI n), .int sl, .int da, .int ti, .int ho, .int dr, .int cr, .int pa, .int pr, .int st, .long mo])], [(xr 0, dzS G 24 dp)], [(q_1, dzI G (n + 1) (fun _ => 0))]] _ _ := hO
  refine W.widen (k := 1) (n := 25) (Nat.le_of_ble_eq_true rfl) (by first | omega | (dsimp only; omega)) ?_
  refine lv_astore_n (lv' := [(1, .ref q_1), (0, .ref xo)]) X.x X.b dX1_creep_8 rfl hl (by decide) rfl (fun ls hl => ?_)
  refine lv_iconst (v := 0) X.x X.b dX1_creep_9 (by decide) ?_
  refine lv_istore_n (lv' := [(2, .int 0), (1, .ref q_1), (0, .ref xo)]) X.x X.b dX1_creep_10 rfl hl (by decide) rfl (fun ls hl => ?_)
  refine lv_iconst (v := 0) X.x X.b dX1_creep_11 (by decide) ?_
  refine lv_istore_n (lv' := [(3, .int 0), (2, .int 0), (1, .ref q_1), (0, .ref xo)]) X.x X.b dX1_creep_12 rfl hl (by decide) rfl (fun ls hl => ?_)
  have hcut_13 : ∀ (n9 : Nat), ∀ (b : Nat), (b ≤ n + 1) → (0 < b → 0 < n) → n + 2 - b < n9 → ∀ (H : Heap) (locs : List Loc), dz_O G.1 dz_CL A s.heap [[(xo, dzo 0 [.ref (xr 0), .ref (xr 1), .ref (xr 2), .ref (xr 3), .ref (xr 4), .ref (xr 5), .ref (xr 6), .ref (xr 7), .ref (xr 8), .ref (xr 9), .int (nI n), .int sl, .int da, .int ti, .int ho, .int dr, .int cr, .int pa, .int pr, .int st, .long mo])], [(xr 0, dzS G 24 dp)], [(q_1, dzI G (n + 1) (dz_mr n sl dp b))]] H locs → ∀ (ls : Array Slot), lv_has ls 5 [(3, .int (nI b)), (2, .int (dz_cm n sl dp b)), (1, .ref q_1), (0, .ref xo)] → W p l e ({ frames := 80, cells := 1, slots := 25, locals := 1200 } : Room) s m ([.ref xo] : List Value).toArray below meth c H locs 1 25 (vx_MQ below (dz_Q G (fun r w1 => r = some (.int (dz_cI n sl dp)) ∧ w1 = [[(xo, dzo 0 [.ref (xr 0), .ref (xr 1), .ref (xr 2), .ref (xr 3), .ref (xr 4), .ref (xr 5), .ref (xr 6), .ref (xr 7), .ref (xr 8), .ref (xr 9), .int (nI n), .int sl, .int da, .int ti, .int ho, .int dr, .int cr, .int pa, .int pr, .int st, .long mo])], [(xr 0, dzS G 24 (dz_cD n sl dp))]]) A) (dz_QX G (dz_np) A) ([.ref xo] : List Value).toArray s 1 25 A) (F0 m 13 ls []) := by
    intro n9
    induction n9 with
    | zero => intro b hb hb0 hmu9; exact absurd hmu9 (Nat.not_lt_zero _)
    | succ n9 ih =>
      intro b hb hb0 hmu9 H locs hO ls hl
      refine lv_iload_n X.x X.b dX1_creep_13 rfl (lv_at hl 0 rfl) ?_
      refine lv_aload_n X.x X.b dX1_creep_14 rfl (lv_at hl 3 rfl) ?_
      refine dz_get (v := .int (nI n)) X (hO.at1 0 rfl) in_X1 rfl 10 (by decide) q560 (Or.inl rfl) rfl dX1_creep_15 ?_
      refine lv_icmp_gt (tgt := 87) X.x X.b dX1_creep_18 (by decide) (fun c_2 => ?_) (fun c_2 => ?_)
      · have nc_2 : n < b := (nI_ltI (a := n) (b := b) (by omega) (by omega)).mp c_2
        have hf9 : b = n + 1 ∨ (n = 0 ∧ b = 0) := Or.inl (by omega)
        refine lv_iconst (v := 0) X.x X.b dX1_creep_87 (by decide) ?_
        refine lv_istore_n (lv' := [(3, .int 0), (2, .int (dz_cm n sl dp b)), (1, .ref q_1), (0, .ref xo)]) X.x X.b dX1_creep_88 rfl hl (by decide) rfl (fun ls hl => ?_)
        have hcut3 : ∀ (n9 : Nat), ∀ (i3 : Nat), (i3 ≤ n) → n - i3 < n9 → ∀ (H : Heap) (locs : List Loc), dz_O G.1 dz_CL A s.heap [[(xo, dzo 0 [.ref (xr 0), .ref (xr 1), .ref (xr 2), .ref (xr 3), .ref (xr 4), .ref (xr 5), .ref (xr 6), .ref (xr 7), .ref (xr 8), .ref (xr 9), .int (nI n), .int sl, .int da, .int ti, .int ho, .int dr, .int cr, .int pa, .int pr, .int st, .long mo])], [(xr 0, dzS G 24 (dz_cp (dz_cD n sl dp) dp i3))], [(q_1, dzI G (n + 1) (dz_mr n sl dp b))]] H locs → ∀ (ls : Array Slot), lv_has ls 5 [(3, .int (nI i3)), (2, .int (dz_cm n sl dp b)), (1, .ref q_1), (0, .ref xo)] → W p l e ({ frames := 80, cells := 1, slots := 25, locals := 1200 } : Room) s m ([.ref xo] : List Value).toArray below meth c H locs 1 25 (vx_MQ below (dz_Q G (fun r w1 => r = some (.int (dz_cI n sl dp)) ∧ w1 = [[(xo, dzo 0 [.ref (xr 0), .ref (xr 1), .ref (xr 2), .ref (xr 3), .ref (xr 4), .ref (xr 5), .ref (xr 6), .ref (xr 7), .ref (xr 8), .ref (xr 9), .int (nI n), .int sl, .int da, .int ti, .int ho, .int dr, .int cr, .int pa, .int pr, .int st, .long mo])], [(xr 0, dzS G 24 (dz_cD n sl dp))]]) A) (dz_QX G (dz_np) A) ([.ref xo] : List Value).toArray s 1 25 A) (F0 m 89 ls []) := by
          intro n9
          induction n9 with
          | zero => intro i3 hi3 hmu9; exact absurd hmu9 (Nat.not_lt_zero _)
          | succ n9 ih =>
            intro i3 hi3 hmu9 H locs hO ls hl
            refine lv_iload_n X.x X.b dX1_creep_89 rfl (lv_at hl 0 rfl) ?_
            refine lv_aload_n X.x X.b dX1_creep_90 rfl (lv_at hl 3 rfl) ?_
            refine dz_get (v := .int (nI n)) X (hO.at1 0 rfl) in_X1 rfl 10 (by decide) q560 (Or.inl rfl) rfl dX1_creep_91 ?_
            refine lv_icmp_ge (tgt := 123) X.x X.b dX1_creep_94 (by decide) (fun c_3 => ?_) (fun c_3 => ?_)
            · have nc_3 : n ≤ i3 := (nI_leI (a := n) (b := i3) (by omega) (by omega)).mp c_3
              refine lv_iload_n X.x X.b dX1_creep_123 rfl (lv_at hl 1 rfl) ?_
              have hi9 : i3 = n := by omega
              have hO := hO.sel (v := [[(xo, dzo 0 [.ref (xr 0), .ref (xr 1), .ref (xr 2), .ref (xr 3), .ref (xr 4), .ref (xr 5), .ref (xr 6), .ref (xr 7), .ref (xr 8), .ref (xr 9), .int (nI n), .int sl, .int da, .int ti, .int ho, .int dr, .int cr, .int pa, .int pr, .int st, .long mo])], [(xr 0, dzS G 24 (dz_cp (dz_cD n sl dp) dp i3))]]) [0, 1] rfl rfl
              exact dz_iret X hO rfl (⟨by rw [dz_cmfin n sl dp b hf9 hb0], by rw [hi9, show dz_cp (dz_cD n sl dp) dp n = dz_cD n sl dp from dz_cp_cD n sl dp]⟩) (Nat.le_of_ble_eq_true rfl) (Nat.le_of_ble_eq_true rfl) dX1_creep_124
            · have nc_3 : ¬ n ≤ i3 := fun z9 => c_3 ((nI_leI (a := n) (b := i3) (by omega) (by omega)).mpr z9)
              refine lv_aload_n X.x X.b dX1_creep_97 rfl (lv_at hl 3 rfl) ?_
              refine dz_get (v := .ref (xr 0)) X (hO.at1 0 rfl) in_X1 rfl 0 (by decide) q550 (Or.inl rfl) rfl dX1_creep_98 ?_
              refine lv_iload_n X.x X.b dX1_creep_101 rfl (lv_at hl 0 rfl) ?_
              refine lv_dup2_11 X.x X.b dX1_creep_102 rfl rfl ?_
              refine dz_sald X (hO.at1 1 rfl) (j := i3) rfl (by omega) (by decide) dX1_creep_103 ?_
              refine dz_rei (y := dp i3) (dz_cp_at _ _ _) ?_
              refine lv_aload_n X.x X.b dX1_creep_104 rfl (lv_at hl 2 rfl) ?_
              refine lv_iload_n X.x X.b dX1_creep_105 rfl (lv_at hl 0 rfl) ?_
              refine lv_iconst (v := 1) X.x X.b dX1_creep_106 (by decide) ?_
              refine lv_iadd X.x X.b dX1_creep_107 ?_
              refine dz_rei (y := nI (i3 + 1)) (nI_add i3 1) ?_
              refine dz_iald X (hO.at1 2 rfl) (j := i3 + 1) rfl (by omega) (by omega) dX1_creep_108 ?_
              refine dz_rei (y := dz_xb n sl dp (i3 + 1)) (dz_mr_at (by omega)) ?_
              refine lv_aload_n X.x X.b dX1_creep_109 rfl (lv_at hl 2 rfl) ?_
              refine lv_iload_n X.x X.b dX1_creep_110 rfl (lv_at hl 0 rfl) ?_
              refine dz_iald X (hO.at1 2 rfl) (j := i3) rfl (by omega) (by omega) dX1_creep_111 ?_
              refine dz_rei (y := dz_xb n sl dp i3) (dz_mr_at (by omega)) ?_
              refine lv_isub X.x X.b dX1_creep_112 ?_
              refine lv_i2s (v := (dz_xb n sl dp (i3 + 1) - dz_xb n sl dp i3).toInt16.toInt32) X.x X.b dX1_creep_113 rfl ?_
              refine lv_iadd X.x X.b dX1_creep_114 ?_
              refine lv_i2s (v := (dp i3 + (dz_xb n sl dp (i3 + 1) - dz_xb n sl dp i3).toInt16.toInt32).toInt16.toInt32) X.x X.b dX1_creep_115 rfl ?_
              refine dz_rei (y := dz_cD n sl dp i3) (dz_cD_x hsl hdr (by omega)) ?_
              refine dz_sast X hO 1 rfl (j := i3) rfl (by omega) (by decide) dX1_creep_116 (fun H locs hO => ?_)
              have hO : dz_O G.1 dz_CL A s.heap [[(xo, dzo 0 [.ref (xr 0), .ref (xr 1), .ref (xr 2), .ref (xr 3), .ref (xr 4), .ref (xr 5), .ref (xr 6), .ref (xr 7), .ref (xr 8), .ref (xr 9), .int (nI n), .int sl, .int da, .int ti, .int ho, .int dr, .int cr, .int pa, .int pr, .int st, .long mo])], [(xr 0, dzS G 24 (upd (dz_cp (dz_cD n sl dp) dp i3) i3 (vp_nar .short (dz_cD n sl dp i3))))], [(q_1, dzI G (n + 1) (dz_mr n sl dp b))]] _ _ := hO
              have hO := hO.cong 1 rfl (w1 := [(xr 0, dzS G 24 (upd (dz_cp (dz_cD n sl dp) dp i3) i3 (dz_cD n sl dp i3)))]) (congrArg (fun z9 => [(xr 0, dzS G 24 z9)]) (show (upd (dz_cp (dz_cD n sl dp) dp i3) i3 (dz_cD n sl dp i3)) = (upd (dz_cp (dz_cD n sl dp) dp i3) i3 (vp_nar .short (dz_cD n sl dp i3))) from by rw [show vp_nar .short (dz_cD n sl dp i3) = dz_cD n sl dp i3 from by have r9 := dz_cD_r hsl hdr i3 (by omega); exact dz_i16 ⟨r9.1, by omega⟩]))
              have hO : dz_O G.1 dz_CL A s.heap [[(xo, dzo 0 [.ref (xr 0), .ref (xr 1), .ref (xr 2), .ref (xr 3), .ref (xr 4), .ref (xr 5), .ref (xr 6), .ref (xr 7), .ref (xr 8), .ref (xr 9), .int (nI n), .int sl, .int da, .int ti, .int ho, .int dr, .int cr, .int pa, .int pr, .int st, .long mo])], [(xr 0, dzS G 24 (upd (dz_cp (dz_cD n sl dp) dp i3) i3 (dz_cD n sl dp i3)))], [(q_1, dzI G (n + 1) (dz_mr n sl dp b))]] _ _ := hO
              refine lv_iinc (v := nI (i3 + 1)) (lv' := [(3, .int (nI (i3 + 1))), (2, .int (dz_cm n sl dp b)), (1, .ref q_1), (0, .ref xo)]) X.x X.b dX1_creep_117 hl (k := 0) rfl (nI_1 i3) (by decide) rfl (fun ls hl => ?_)
              refine lv_goto (tgt := 89) X.x X.b dX1_creep_120 (by decide) ?_
              have hO := hO.cong 1 rfl (w1 := [(xr 0, dzS G 24 (dz_cp (dz_cD n sl dp) dp (i3 + 1)))]) (congrArg (fun z9 => [(xr 0, dzS G 24 z9)]) (show (dz_cp (dz_cD n sl dp) dp (i3 + 1)) = (upd (dz_cp (dz_cD n sl dp) dp i3) i3 (dz_cD n sl dp i3)) from by exact (dz_cp_s _ _ _).symm))
              have hO : dz_O G.1 dz_CL A s.heap [[(xo, dzo 0 [.ref (xr 0), .ref (xr 1), .ref (xr 2), .ref (xr 3), .ref (xr 4), .ref (xr 5), .ref (xr 6), .ref (xr 7), .ref (xr 8), .ref (xr 9), .int (nI n), .int sl, .int da, .int ti, .int ho, .int dr, .int cr, .int pa, .int pr, .int st, .long mo])], [(xr 0, dzS G 24 (dz_cp (dz_cD n sl dp) dp (i3 + 1)))], [(q_1, dzI G (n + 1) (dz_mr n sl dp b))]] _ _ := hO
              exact ih (i3 + 1) (by first | assumption | omega) (by omega) _ _ hO ls (lv_sub hl [0, 1, 2, 3] rfl)
        have hl : lv_has ls 5 [(3, .int (nI 0)), (2, .int (dz_cm n sl dp b)), (1, .ref q_1), (0, .ref xo)] := hl
        have hO := hO.cong 1 rfl (w1 := [(xr 0, dzS G 24 (dz_cp (dz_cD n sl dp) dp 0))]) (congrArg (fun z9 => [(xr 0, dzS G 24 z9)]) (show (dz_cp (dz_cD n sl dp) dp 0) = dp from by rw [dz_cp_0]))
        have hO : dz_O G.1 dz_CL A s.heap [[(xo, dzo 0 [.ref (xr 0), .ref (xr 1), .ref (xr 2), .ref (xr 3), .ref (xr 4), .ref (xr 5), .ref (xr 6), .ref (xr 7), .ref (xr 8), .ref (xr 9), .int (nI n), .int sl, .int da, .int ti, .int ho, .int dr, .int cr, .int pa, .int pr, .int st, .long mo])], [(xr 0, dzS G 24 (dz_cp (dz_cD n sl dp) dp 0))], [(q_1, dzI G (n + 1) (dz_mr n sl dp b))]] _ _ := hO
        exact hcut3 _ 0 (by first | assumption | omega) (Nat.lt_succ_self _) _ _ hO ls (lv_sub hl [0, 1, 2, 3] rfl)
      · have nc_2 : ¬ n < b := fun z9 => c_2 ((nI_ltI (a := n) (b := b) (by omega) (by omega)).mpr z9)
        refine lv_aload_n X.x X.b dX1_creep_21 rfl (lv_at hl 3 rfl) ?_
        refine dz_get (v := .int (nI n)) X (hO.at1 0 rfl) in_X1 rfl 10 (by decide) q560 (Or.inl rfl) rfl dX1_creep_22 ?_
        refine lv_if_le (tgt := 87) X.x X.b dX1_creep_25 (by decide) (fun c_4 => ?_) (fun c_4 => ?_)
        · have nc_4 : n ≤ 0 := (nI_leI (a := n) (b := 0) (by omega) (by omega)).mp c_4
          have hn0 : n = 0 := by have h9 : ¬ 0 < n := fun z => absurd (show (0 : Int32) < nI n by rw [show (0 : Int32) = nI 0 by decide, nI_ltI (by omega) (by omega)]; exact z) (Int32.not_lt.mpr c_4); omega
          have hf9 : b = n + 1 ∨ (n = 0 ∧ b = 0) := Or.inr (by omega)
          refine lv_iconst (v := 0) X.x X.b dX1_creep_87 (by decide) ?_
          refine lv_istore_n (lv' := [(3, .int 0), (2, .int (dz_cm n sl dp b)), (1, .ref q_1), (0, .ref xo)]) X.x X.b dX1_creep_88 rfl hl (by decide) rfl (fun ls hl => ?_)
          have hcut3 : ∀ (n9 : Nat), ∀ (i3 : Nat), (i3 ≤ n) → n - i3 < n9 → ∀ (H : Heap) (locs : List Loc), dz_O G.1 dz_CL A s.heap [[(xo, dzo 0 [.ref (xr 0), .ref (xr 1), .ref (xr 2), .ref (xr 3), .ref (xr 4), .ref (xr 5), .ref (xr 6), .ref (xr 7), .ref (xr 8), .ref (xr 9), .int (nI n), .int sl, .int da, .int ti, .int ho, .int dr, .int cr, .int pa, .int pr, .int st, .long mo])], [(xr 0, dzS G 24 (dz_cp (dz_cD n sl dp) dp i3))], [(q_1, dzI G (n + 1) (dz_mr n sl dp b))]] H locs → ∀ (ls : Array Slot), lv_has ls 5 [(3, .int (nI i3)), (2, .int (dz_cm n sl dp b)), (1, .ref q_1), (0, .ref xo)] → W p l e ({ frames := 80, cells := 1, slots := 25, locals := 1200 } : Room) s m ([.ref xo] : List Value).toArray below meth c H locs 1 25 (vx_MQ below (dz_Q G (fun r w1 => r = some (.int (dz_cI n sl dp)) ∧ w1 = [[(xo, dzo 0 [.ref (xr 0), .ref (xr 1), .ref (xr 2), .ref (xr 3), .ref (xr 4), .ref (xr 5), .ref (xr 6), .ref (xr 7), .ref (xr 8), .ref (xr 9), .int (nI n), .int sl, .int da, .int ti, .int ho, .int dr, .int cr, .int pa, .int pr, .int st, .long mo])], [(xr 0, dzS G 24 (dz_cD n sl dp))]]) A) (dz_QX G (dz_np) A) ([.ref xo] : List Value).toArray s 1 25 A) (F0 m 89 ls []) := by
            intro n9
            induction n9 with
            | zero => intro i3 hi3 hmu9; exact absurd hmu9 (Nat.not_lt_zero _)
            | succ n9 ih =>
              intro i3 hi3 hmu9 H locs hO ls hl
              refine lv_iload_n X.x X.b dX1_creep_89 rfl (lv_at hl 0 rfl) ?_
              refine lv_aload_n X.x X.b dX1_creep_90 rfl (lv_at hl 3 rfl) ?_
              refine dz_get (v := .int (nI n)) X (hO.at1 0 rfl) in_X1 rfl 10 (by decide) q560 (Or.inl rfl) rfl dX1_creep_91 ?_
              refine lv_icmp_ge (tgt := 123) X.x X.b dX1_creep_94 (by decide) (fun c_5 => ?_) (fun c_5 => ?_)
              · have nc_5 : n ≤ i3 := (nI_leI (a := n) (b := i3) (by omega) (by omega)).mp c_5
                refine lv_iload_n X.x X.b dX1_creep_123 rfl (lv_at hl 1 rfl) ?_
                have hi9 : i3 = n := by omega
                have hO := hO.sel (v := [[(xo, dzo 0 [.ref (xr 0), .ref (xr 1), .ref (xr 2), .ref (xr 3), .ref (xr 4), .ref (xr 5), .ref (xr 6), .ref (xr 7), .ref (xr 8), .ref (xr 9), .int (nI n), .int sl, .int da, .int ti, .int ho, .int dr, .int cr, .int pa, .int pr, .int st, .long mo])], [(xr 0, dzS G 24 (dz_cp (dz_cD n sl dp) dp i3))]]) [0, 1] rfl rfl
                exact dz_iret X hO rfl (⟨by rw [dz_cmfin n sl dp b hf9 hb0], by rw [hi9, show dz_cp (dz_cD n sl dp) dp n = dz_cD n sl dp from dz_cp_cD n sl dp]⟩) (Nat.le_of_ble_eq_true rfl) (Nat.le_of_ble_eq_true rfl) dX1_creep_124
              · have nc_5 : ¬ n ≤ i3 := fun z9 => c_5 ((nI_leI (a := n) (b := i3) (by omega) (by omega)).mpr z9)
                refine lv_aload_n X.x X.b dX1_creep_97 rfl (lv_at hl 3 rfl) ?_
                refine dz_get (v := .ref (xr 0)) X (hO.at1 0 rfl) in_X1 rfl 0 (by decide) q550 (Or.inl rfl) rfl dX1_creep_98 ?_
                refine lv_iload_n X.x X.b dX1_creep_101 rfl (lv_at hl 0 rfl) ?_
                refine lv_dup2_11 X.x X.b dX1_creep_102 rfl rfl ?_
                refine dz_sald X (hO.at1 1 rfl) (j := i3) rfl (by omega) (by decide) dX1_creep_103 ?_
                refine dz_rei (y := dp i3) (dz_cp_at _ _ _) ?_
                refine lv_aload_n X.x X.b dX1_creep_104 rfl (lv_at hl 2 rfl) ?_
                refine lv_iload_n X.x X.b dX1_creep_105 rfl (lv_at hl 0 rfl) ?_
                refine lv_iconst (v := 1) X.x X.b dX1_creep_106 (by decide) ?_
                refine lv_iadd X.x X.b dX1_creep_107 ?_
                refine dz_rei (y := nI (i3 + 1)) (nI_add i3 1) ?_
                refine dz_iald X (hO.at1 2 rfl) (j := i3 + 1) rfl (by omega) (by omega) dX1_creep_108 ?_
                refine dz_rei (y := dz_xb n sl dp (i3 + 1)) (dz_mr_at (by omega)) ?_
                refine lv_aload_n X.x X.b dX1_creep_109 rfl (lv_at hl 2 rfl) ?_
                refine lv_iload_n X.x X.b dX1_creep_110 rfl (lv_at hl 0 rfl) ?_
                refine dz_iald X (hO.at1 2 rfl) (j := i3) rfl (by omega) (by omega) dX1_creep_111 ?_
                refine dz_rei (y := dz_xb n sl dp i3) (dz_mr_at (by omega)) ?_
                refine lv_isub X.x X.b dX1_creep_112 ?_
                refine lv_i2s (v := (dz_xb n sl dp (i3 + 1) - dz_xb n sl dp i3).toInt16.toInt32) X.x X.b dX1_creep_113 rfl ?_
                refine lv_iadd X.x X.b dX1_creep_114 ?_
                refine lv_i2s (v := (dp i3 + (dz_xb n sl dp (i3 + 1) - dz_xb n sl dp i3).toInt16.toInt32).toInt16.toInt32) X.x X.b dX1_creep_115 rfl ?_
                refine dz_rei (y := dz_cD n sl dp i3) (dz_cD_x hsl hdr (by omega)) ?_
                refine dz_sast X hO 1 rfl (j := i3) rfl (by omega) (by decide) dX1_creep_116 (fun H locs hO => ?_)
                have hO : dz_O G.1 dz_CL A s.heap [[(xo, dzo 0 [.ref (xr 0), .ref (xr 1), .ref (xr 2), .ref (xr 3), .ref (xr 4), .ref (xr 5), .ref (xr 6), .ref (xr 7), .ref (xr 8), .ref (xr 9), .int (nI n), .int sl, .int da, .int ti, .int ho, .int dr, .int cr, .int pa, .int pr, .int st, .long mo])], [(xr 0, dzS G 24 (upd (dz_cp (dz_cD n sl dp) dp i3) i3 (vp_nar .short (dz_cD n sl dp i3))))], [(q_1, dzI G (n + 1) (dz_mr n sl dp b))]] _ _ := hO
                have hO := hO.cong 1 rfl (w1 := [(xr 0, dzS G 24 (upd (dz_cp (dz_cD n sl dp) dp i3) i3 (dz_cD n sl dp i3)))]) (congrArg (fun z9 => [(xr 0, dzS G 24 z9)]) (show (upd (dz_cp (dz_cD n sl dp) dp i3) i3 (dz_cD n sl dp i3)) = (upd (dz_cp (dz_cD n sl dp) dp i3) i3 (vp_nar .short (dz_cD n sl dp i3))) from by rw [show vp_nar .short (dz_cD n sl dp i3) = dz_cD n sl dp i3 from by have r9 := dz_cD_r hsl hdr i3 (by omega); exact dz_i16 ⟨r9.1, by omega⟩]))
                have hO : dz_O G.1 dz_CL A s.heap [[(xo, dzo 0 [.ref (xr 0), .ref (xr 1), .ref (xr 2), .ref (xr 3), .ref (xr 4), .ref (xr 5), .ref (xr 6), .ref (xr 7), .ref (xr 8), .ref (xr 9), .int (nI n), .int sl, .int da, .int ti, .int ho, .int dr, .int cr, .int pa, .int pr, .int st, .long mo])], [(xr 0, dzS G 24 (upd (dz_cp (dz_cD n sl dp) dp i3) i3 (dz_cD n sl dp i3)))], [(q_1, dzI G (n + 1) (dz_mr n sl dp b))]] _ _ := hO
                refine lv_iinc (v := nI (i3 + 1)) (lv' := [(3, .int (nI (i3 + 1))), (2, .int (dz_cm n sl dp b)), (1, .ref q_1), (0, .ref xo)]) X.x X.b dX1_creep_117 hl (k := 0) rfl (nI_1 i3) (by decide) rfl (fun ls hl => ?_)
                refine lv_goto (tgt := 89) X.x X.b dX1_creep_120 (by decide) ?_
                have hO := hO.cong 1 rfl (w1 := [(xr 0, dzS G 24 (dz_cp (dz_cD n sl dp) dp (i3 + 1)))]) (congrArg (fun z9 => [(xr 0, dzS G 24 z9)]) (show (dz_cp (dz_cD n sl dp) dp (i3 + 1)) = (upd (dz_cp (dz_cD n sl dp) dp i3) i3 (dz_cD n sl dp i3)) from by exact (dz_cp_s _ _ _).symm))
                have hO : dz_O G.1 dz_CL A s.heap [[(xo, dzo 0 [.ref (xr 0), .ref (xr 1), .ref (xr 2), .ref (xr 3), .ref (xr 4), .ref (xr 5), .ref (xr 6), .ref (xr 7), .ref (xr 8), .ref (xr 9), .int (nI n), .int sl, .int da, .int ti, .int ho, .int dr, .int cr, .int pa, .int pr, .int st, .long mo])], [(xr 0, dzS G 24 (dz_cp (dz_cD n sl dp) dp (i3 + 1)))], [(q_1, dzI G (n + 1) (dz_mr n sl dp b))]] _ _ := hO
                exact ih (i3 + 1) (by first | assumption | omega) (by omega) _ _ hO ls (lv_sub hl [0, 1, 2, 3] rfl)
          have hl : lv_has ls 5 [(3, .int (nI 0)), (2, .int (dz_cm n sl dp b)), (1, .ref q_1), (0, .ref xo)] := hl
          have hO := hO.cong 1 rfl (w1 := [(xr 0, dzS G 24 (dz_cp (dz_cD n sl dp) dp 0))]) (congrArg (fun z9 => [(xr 0, dzS G 24 z9)]) (show (dz_cp (dz_cD n sl dp) dp 0) = dp from by rw [dz_cp_0]))
          have hO : dz_O G.1 dz_CL A s.heap [[(xo, dzo 0 [.ref (xr 0), .ref (xr 1), .ref (xr 2), .ref (xr 3), .ref (xr 4), .ref (xr 5), .ref (xr 6), .ref (xr 7), .ref (xr 8), .ref (xr 9), .int (nI n), .int sl, .int da, .int ti, .int ho, .int dr, .int cr, .int pa, .int pr, .int st, .long mo])], [(xr 0, dzS G 24 (dz_cp (dz_cD n sl dp) dp 0))], [(q_1, dzI G (n + 1) (dz_mr n sl dp b))]] _ _ := hO
          exact hcut3 _ 0 (by first | assumption | omega) (Nat.lt_succ_self _) _ _ hO ls (lv_sub hl [0, 1, 2, 3] rfl)
        · have nc_4 : ¬ n ≤ 0 := fun z9 => c_4 ((nI_leI (a := n) (b := 0) (by omega) (by omega)).mpr z9)
          have hn0 : 0 < n := by have h9 : ¬ n = 0 := fun z => c_4 (by rw [z]; decide); omega
          refine lv_aload_n X.x X.b dX1_creep_28 rfl (lv_at hl 3 rfl) ?_
          refine lv_aload_n X.x X.b dX1_creep_29 rfl (lv_at hl 3 rfl) ?_
          refine lv_iload_n X.x X.b dX1_creep_30 rfl (lv_at hl 0 rfl) ?_
          refine lv_iconst (v := 1) X.x X.b dX1_creep_31 (by decide) ?_
          refine lv_isub X.x X.b dX1_creep_32 ?_
          refine dz_V (n := 1) (k9 := 1) (n9 := 25) (As := [.int (nI b - 1)]) (rest := [.ref xo]) (wr := [[(q_1, dzI G (n + 1) (dz_mr n sl dp b))]]) X hO hl (dz_X1_depthOrBank l G _ xo xr sl da ti ho dr cr pa pr st n mo (nI b - 1) dp (by first | assumption | omega | decide)) (lw_V q1353 q1355 qs13 q48 q1356) (by decide +kernel) ⟨Nat.le_of_ble_eq_true rfl, Nat.le_of_ble_eq_true rfl⟩ ⟨(Nat.le_of_ble_eq_true rfl), (Nat.le_of_ble_eq_true rfl), (Nat.le_of_ble_eq_true rfl), (Nat.le_of_ble_eq_true rfl)⟩ [0, 1] [2] rfl rfl rfl (dz_rc X (hO.at1 0 rfl) (r := (RX1, TX1, 21)) rfl) rfl rfl (Nat.le_of_ble_eq_true rfl) dX1_creep_33 (fun E w1 q9 ce9 H locs hpx hO hce hv9 hcl9 => hpx.elim) (fun r w1 H locs hpo hO => ?_)
          obtain ⟨rfl, rfl⟩ := hpo
          have hO : dz_O G.1 dz_CL A s.heap [[(q_1, dzI G (n + 1) (dz_mr n sl dp b))], [(xo, dzo 0 [.ref (xr 0), .ref (xr 1), .ref (xr 2), .ref (xr 3), .ref (xr 4), .ref (xr 5), .ref (xr 6), .ref (xr 7), .ref (xr 8), .ref (xr 9), .int (nI n), .int sl, .int da, .int ti, .int ho, .int dr, .int cr, .int pa, .int pr, .int st, .long mo])], [(xr 0, dzS G 24 dp)]] _ _ := hO
          refine W.eq (g2 := F0 m 36 ls [.int (dz_dat n dp (nI b - 1)), .ref xo]) rfl ?_
          refine dz_rei (y := dz_dl dp b) (dz_dat_l hn dp (by omega)) ?_
          refine lv_aload_n X.x X.b dX1_creep_36 rfl (lv_at hl 3 rfl) ?_
          refine lv_iload_n X.x X.b dX1_creep_37 rfl (lv_at hl 0 rfl) ?_
          refine dz_V (n := 1) (k9 := 1) (n9 := 25) (As := [.int (nI b)]) (rest := [.int (dz_dl dp b), .ref xo]) (wr := [[(q_1, dzI G (n + 1) (dz_mr n sl dp b))]]) X hO hl (dz_X1_depthOrBank l G _ xo xr sl da ti ho dr cr pa pr st n mo (nI b) dp (by first | assumption | omega | decide)) (lw_V q1353 q1355 qs13 q48 q1356) (by decide +kernel) ⟨Nat.le_of_ble_eq_true rfl, Nat.le_of_ble_eq_true rfl⟩ ⟨(Nat.le_of_ble_eq_true rfl), (Nat.le_of_ble_eq_true rfl), (Nat.le_of_ble_eq_true rfl), (Nat.le_of_ble_eq_true rfl)⟩ [1, 2] [0] rfl rfl rfl (dz_rc X (hO.at1 1 rfl) (r := (RX1, TX1, 21)) rfl) rfl rfl (Nat.le_of_ble_eq_true rfl) dX1_creep_38 (fun E w1 q9 ce9 H locs hpx hO hce hv9 hcl9 => hpx.elim) (fun r w1 H locs hpo hO => ?_)
          obtain ⟨rfl, rfl⟩ := hpo
          have hO : dz_O G.1 dz_CL A s.heap [[(q_1, dzI G (n + 1) (dz_mr n sl dp b))], [(xo, dzo 0 [.ref (xr 0), .ref (xr 1), .ref (xr 2), .ref (xr 3), .ref (xr 4), .ref (xr 5), .ref (xr 6), .ref (xr 7), .ref (xr 8), .ref (xr 9), .int (nI n), .int sl, .int da, .int ti, .int ho, .int dr, .int cr, .int pa, .int pr, .int st, .long mo])], [(xr 0, dzS G 24 dp)]] _ _ := hO
          refine W.eq (g2 := F0 m 41 ls [.int (dz_dat n dp (nI b)), .int (dz_dl dp b), .ref xo]) rfl ?_
          refine dz_rei (y := dz_dr n dp b) (dz_dat_r hn dp (by omega)) ?_
          refine dz_V (n := 2) (k9 := 1) (n9 := 25) (As := [.int (dz_dl dp b), .int (dz_dr n dp b)]) (rest := []) (wr := [[(q_1, dzI G (n + 1) (dz_mr n sl dp b))], [(xr 0, dzS G 24 dp)]]) X hO hl (dz_X1_creeps l G _ xo xr sl da ti ho dr cr pa pr st n mo (dz_dl dp b) (dz_dr n dp b) ) (lw_V q1357 q1359 qs14 q48 q1360) (by decide +kernel) ⟨Nat.le_of_ble_eq_true rfl, Nat.le_of_ble_eq_true rfl⟩ ⟨(Nat.le_of_ble_eq_true rfl), (Nat.le_of_ble_eq_true rfl), (Nat.le_of_ble_eq_true rfl), (Nat.le_of_ble_eq_true rfl)⟩ [1] [0, 2] rfl rfl rfl (dz_rc X (hO.at1 1 rfl) (r := (RX1, TX1, 21)) rfl) rfl rfl (Nat.le_of_ble_eq_true rfl) dX1_creep_41 (fun E w1 q9 ce9 H locs hpx hO hce hv9 hcl9 => hpx.elim) (fun r w1 H locs hpo hO => ?_)
          obtain ⟨rfl, rfl⟩ := hpo
          have hO : dz_O G.1 dz_CL A s.heap [[(q_1, dzI G (n + 1) (dz_mr n sl dp b))], [(xr 0, dzS G 24 dp)], [(xo, dzo 0 [.ref (xr 0), .ref (xr 1), .ref (xr 2), .ref (xr 3), .ref (xr 4), .ref (xr 5), .ref (xr 6), .ref (xr 7), .ref (xr 8), .ref (xr 9), .int (nI n), .int sl, .int da, .int ti, .int ho, .int dr, .int cr, .int pa, .int pr, .int st, .long mo])]] _ _ := hO
          refine W.eq (g2 := F0 m 44 ls [.int (dz_xm sl (dz_dl dp b) (dz_dr n dp b))]) rfl ?_
          refine dz_rei (y := dz_xb n sl dp b) (rfl) ?_
          refine lv_istore (lv' := [(4, .int (dz_xb n sl dp b)), (3, .int (nI b)), (2, .int (dz_cm n sl dp b)), (1, .ref q_1), (0, .ref xo)]) X.x X.b dX1_creep_44 hl (by decide) rfl (fun ls hl => ?_)
          refine lv_aload_n X.x X.b dX1_creep_46 rfl (lv_at hl 3 rfl) ?_
          refine lv_iload_n X.x X.b dX1_creep_47 rfl (lv_at hl 1 rfl) ?_
          refine lv_iload X.x X.b dX1_creep_48 (lv_at hl 0 rfl) ?_
          refine dz_iast X hO 0 rfl (j := b) rfl (by omega) (by omega) dX1_creep_50 (fun H locs hO => ?_)
          have hO : dz_O G.1 dz_CL A s.heap [[(q_1, dzI G (n + 1) (upd (dz_mr n sl dp b) b (dz_xb n sl dp b)))], [(xr 0, dzS G 24 dp)], [(xo, dzo 0 [.ref (xr 0), .ref (xr 1), .ref (xr 2), .ref (xr 3), .ref (xr 4), .ref (xr 5), .ref (xr 6), .ref (xr 7), .ref (xr 8), .ref (xr 9), .int (nI n), .int sl, .int da, .int ti, .int ho, .int dr, .int cr, .int pa, .int pr, .int st, .long mo])]] _ _ := hO
          have hO := hO.cong 0 rfl (w1 := [(q_1, dzI G (n + 1) (dz_mr n sl dp (b + 1)))]) (congrArg (fun z9 => [(q_1, dzI G (n + 1) z9)]) (show (dz_mr n sl dp (b + 1)) = (upd (dz_mr n sl dp b) b (dz_xb n sl dp b)) from by exact (dz_mr_s n sl dp b).symm))
          have hO : dz_O G.1 dz_CL A s.heap [[(q_1, dzI G (n + 1) (dz_mr n sl dp (b + 1)))], [(xr 0, dzS G 24 dp)], [(xo, dzo 0 [.ref (xr 0), .ref (xr 1), .ref (xr 2), .ref (xr 3), .ref (xr 4), .ref (xr 5), .ref (xr 6), .ref (xr 7), .ref (xr 8), .ref (xr 9), .int (nI n), .int sl, .int da, .int ti, .int ho, .int dr, .int cr, .int pa, .int pr, .int st, .long mo])]] _ _ := hO
          refine lv_iload_n X.x X.b dX1_creep_51 rfl (lv_at hl 2 rfl) ?_
          refine lv_iload_n X.x X.b dX1_creep_52 rfl (lv_at hl 1 rfl) ?_
          refine lv_if_ne (tgt := 61) X.x X.b dX1_creep_53 (by decide) (fun c_6 => ?_) (fun c_6 => ?_)
          · have nc_6 : ¬ b = 0 := fun z9 => c_6 ((nI_eq (a := b) (b := 0) (by omega) (by omega)).mpr z9)
            refine lv_iload_n X.x X.b dX1_creep_61 rfl (lv_at hl 1 rfl) ?_
            refine lv_aload_n X.x X.b dX1_creep_62 rfl (lv_at hl 4 rfl) ?_
            refine dz_get (v := .int (nI n)) X (hO.at1 2 rfl) in_X1 rfl 10 (by decide) q560 (Or.inl rfl) rfl dX1_creep_63 ?_
            refine lv_icmp_ne (tgt := 78) X.x X.b dX1_creep_66 (by decide) (fun c_7 => ?_) (fun c_7 => ?_)
            · have nc_7 : ¬ b = n := fun z9 => c_7 ((nI_eq (a := b) (b := n) (by omega) (by omega)).mpr z9)
              refine lv_iconst (v := 0) X.x X.b dX1_creep_78 (by decide) ?_
              refine lv_iadd X.x X.b dX1_creep_79 ?_
              refine lv_istore_n (lv' := [(2, .int (dz_cm n sl dp b + 0)), (4, .int (dz_xb n sl dp b)), (3, .int (nI b)), (1, .ref q_1), (0, .ref xo)]) X.x X.b dX1_creep_80 rfl hl (by decide) rfl (fun ls hl => ?_)
              refine lv_iinc (v := nI (b + 1)) (lv' := [(3, .int (nI (b + 1))), (2, .int (dz_cm n sl dp b + 0)), (4, .int (dz_xb n sl dp b)), (1, .ref q_1), (0, .ref xo)]) X.x X.b dX1_creep_81 hl (k := 2) rfl (nI_1 b) (by decide) rfl (fun ls hl => ?_)
              refine lv_goto (tgt := 13) X.x X.b dX1_creep_84 (by decide) ?_
              have hl : lv_has ls 5 [(3, .int (nI (b + 1))), (2, .int (dz_cm n sl dp (b + 1))), (4, .int (dz_xb n sl dp b)), (1, .ref q_1), (0, .ref xo)] := by rw [show dz_cm n sl dp (b + 1) = (dz_cm n sl dp b + 0) from by rw [dz_cm_x hsl hdr (by omega) (by omega)]; first | (rw [if_pos (Or.inl ⟨by assumption, by assumption⟩)]; done) | (rw [if_pos (Or.inr ⟨by assumption, by assumption⟩)]; done) | (rw [if_pos (Or.inr ⟨by assumption, Int32.not_le.mp (by assumption)⟩)]; done) | (rw [if_neg (fun z => by rcases z with ⟨z1, z2⟩ | ⟨z1, z2⟩ <;> first | omega | exact absurd z2 (by assumption) | exact absurd z2 (Int32.not_lt.mpr (by assumption)))]; done)]; exact hl
              have hO := hO.sel (v := [[(xo, dzo 0 [.ref (xr 0), .ref (xr 1), .ref (xr 2), .ref (xr 3), .ref (xr 4), .ref (xr 5), .ref (xr 6), .ref (xr 7), .ref (xr 8), .ref (xr 9), .int (nI n), .int sl, .int da, .int ti, .int ho, .int dr, .int cr, .int pa, .int pr, .int st, .long mo])], [(xr 0, dzS G 24 dp)], [(q_1, dzI G (n + 1) (dz_mr n sl dp (b + 1)))]]) [2, 1, 0] rfl rfl
              exact ih (b + 1) (by first | assumption | omega) (by omega) (by omega) _ _ hO ls (lv_sub hl [0, 1, 3, 4] rfl)
            · have nc_7 : b = n := (nI_eq (a := b) (b := n) (by omega) (by omega)).mp c_7
              refine lv_iload X.x X.b dX1_creep_69 (lv_at hl 0 rfl) ?_
              refine lv_if_ge (tgt := 78) X.x X.b dX1_creep_71 (by decide) (fun c_8 => ?_) (fun c_8 => ?_)
              · refine lv_iconst (v := 0) X.x X.b dX1_creep_78 (by decide) ?_
                refine lv_iadd X.x X.b dX1_creep_79 ?_
                refine lv_istore_n (lv' := [(2, .int (dz_cm n sl dp b + 0)), (4, .int (dz_xb n sl dp b)), (3, .int (nI b)), (1, .ref q_1), (0, .ref xo)]) X.x X.b dX1_creep_80 rfl hl (by decide) rfl (fun ls hl => ?_)
                refine lv_iinc (v := nI (b + 1)) (lv' := [(3, .int (nI (b + 1))), (2, .int (dz_cm n sl dp b + 0)), (4, .int (dz_xb n sl dp b)), (1, .ref q_1), (0, .ref xo)]) X.x X.b dX1_creep_81 hl (k := 2) rfl (nI_1 b) (by decide) rfl (fun ls hl => ?_)
                refine lv_goto (tgt := 13) X.x X.b dX1_creep_84 (by decide) ?_
                have hl : lv_has ls 5 [(3, .int (nI (b + 1))), (2, .int (dz_cm n sl dp (b + 1))), (4, .int (dz_xb n sl dp b)), (1, .ref q_1), (0, .ref xo)] := by rw [show dz_cm n sl dp (b + 1) = (dz_cm n sl dp b + 0) from by rw [dz_cm_x hsl hdr (by omega) (by omega)]; first | (rw [if_pos (Or.inl ⟨by assumption, by assumption⟩)]; done) | (rw [if_pos (Or.inr ⟨by assumption, by assumption⟩)]; done) | (rw [if_pos (Or.inr ⟨by assumption, Int32.not_le.mp (by assumption)⟩)]; done) | (rw [if_neg (fun z => by rcases z with ⟨z1, z2⟩ | ⟨z1, z2⟩ <;> first | omega | exact absurd z2 (by assumption) | exact absurd z2 (Int32.not_lt.mpr (by assumption)))]; done)]; exact hl
                have hO := hO.sel (v := [[(xo, dzo 0 [.ref (xr 0), .ref (xr 1), .ref (xr 2), .ref (xr 3), .ref (xr 4), .ref (xr 5), .ref (xr 6), .ref (xr 7), .ref (xr 8), .ref (xr 9), .int (nI n), .int sl, .int da, .int ti, .int ho, .int dr, .int cr, .int pa, .int pr, .int st, .long mo])], [(xr 0, dzS G 24 dp)], [(q_1, dzI G (n + 1) (dz_mr n sl dp (b + 1)))]]) [2, 1, 0] rfl rfl
                exact ih (b + 1) (by first | assumption | omega) (by omega) (by omega) _ _ hO ls (lv_sub hl [0, 1, 3, 4] rfl)
              · refine lv_iconst (v := 1) X.x X.b dX1_creep_74 (by decide) ?_
                refine lv_goto (tgt := 79) X.x X.b dX1_creep_75 (by decide) ?_
                refine lv_iadd X.x X.b dX1_creep_79 ?_
                refine lv_istore_n (lv' := [(2, .int (dz_cm n sl dp b + 1)), (4, .int (dz_xb n sl dp b)), (3, .int (nI b)), (1, .ref q_1), (0, .ref xo)]) X.x X.b dX1_creep_80 rfl hl (by decide) rfl (fun ls hl => ?_)
                refine lv_iinc (v := nI (b + 1)) (lv' := [(3, .int (nI (b + 1))), (2, .int (dz_cm n sl dp b + 1)), (4, .int (dz_xb n sl dp b)), (1, .ref q_1), (0, .ref xo)]) X.x X.b dX1_creep_81 hl (k := 2) rfl (nI_1 b) (by decide) rfl (fun ls hl => ?_)
                refine lv_goto (tgt := 13) X.x X.b dX1_creep_84 (by decide) ?_
                have hl : lv_has ls 5 [(3, .int (nI (b + 1))), (2, .int (dz_cm n sl dp (b + 1))), (4, .int (dz_xb n sl dp b)), (1, .ref q_1), (0, .ref xo)] := by rw [show dz_cm n sl dp (b + 1) = (dz_cm n sl dp b + 1) from by rw [dz_cm_x hsl hdr (by omega) (by omega)]; first | (rw [if_pos (Or.inl ⟨by assumption, by assumption⟩)]; done) | (rw [if_pos (Or.inr ⟨by assumption, by assumption⟩)]; done) | (rw [if_pos (Or.inr ⟨by assumption, Int32.not_le.mp (by assumption)⟩)]; done) | (rw [if_neg (fun z => by rcases z with ⟨z1, z2⟩ | ⟨z1, z2⟩ <;> first | omega | exact absurd z2 (by assumption) | exact absurd z2 (Int32.not_lt.mpr (by assumption)))]; done)]; exact hl
                have hO := hO.sel (v := [[(xo, dzo 0 [.ref (xr 0), .ref (xr 1), .ref (xr 2), .ref (xr 3), .ref (xr 4), .ref (xr 5), .ref (xr 6), .ref (xr 7), .ref (xr 8), .ref (xr 9), .int (nI n), .int sl, .int da, .int ti, .int ho, .int dr, .int cr, .int pa, .int pr, .int st, .long mo])], [(xr 0, dzS G 24 dp)], [(q_1, dzI G (n + 1) (dz_mr n sl dp (b + 1)))]]) [2, 1, 0] rfl rfl
                exact ih (b + 1) (by first | assumption | omega) (by omega) (by omega) _ _ hO ls (lv_sub hl [0, 1, 3, 4] rfl)
          · have nc_6 : b = 0 := (nI_eq (a := b) (b := 0) (by omega) (by omega)).mp c_6
            refine lv_iload X.x X.b dX1_creep_56 (lv_at hl 0 rfl) ?_
            refine lv_if_gt (tgt := 74) X.x X.b dX1_creep_58 (by decide) (fun c_9 => ?_) (fun c_9 => ?_)
            · refine lv_iconst (v := 1) X.x X.b dX1_creep_74 (by decide) ?_
              refine lv_goto (tgt := 79) X.x X.b dX1_creep_75 (by decide) ?_
              refine lv_iadd X.x X.b dX1_creep_79 ?_
              refine lv_istore_n (lv' := [(2, .int (dz_cm n sl dp b + 1)), (4, .int (dz_xb n sl dp b)), (3, .int (nI b)), (1, .ref q_1), (0, .ref xo)]) X.x X.b dX1_creep_80 rfl hl (by decide) rfl (fun ls hl => ?_)
              refine lv_iinc (v := nI (b + 1)) (lv' := [(3, .int (nI (b + 1))), (2, .int (dz_cm n sl dp b + 1)), (4, .int (dz_xb n sl dp b)), (1, .ref q_1), (0, .ref xo)]) X.x X.b dX1_creep_81 hl (k := 2) rfl (nI_1 b) (by decide) rfl (fun ls hl => ?_)
              refine lv_goto (tgt := 13) X.x X.b dX1_creep_84 (by decide) ?_
              have hl : lv_has ls 5 [(3, .int (nI (b + 1))), (2, .int (dz_cm n sl dp (b + 1))), (4, .int (dz_xb n sl dp b)), (1, .ref q_1), (0, .ref xo)] := by rw [show dz_cm n sl dp (b + 1) = (dz_cm n sl dp b + 1) from by rw [dz_cm_x hsl hdr (by omega) (by omega)]; first | (rw [if_pos (Or.inl ⟨by assumption, by assumption⟩)]; done) | (rw [if_pos (Or.inr ⟨by assumption, by assumption⟩)]; done) | (rw [if_pos (Or.inr ⟨by assumption, Int32.not_le.mp (by assumption)⟩)]; done) | (rw [if_neg (fun z => by rcases z with ⟨z1, z2⟩ | ⟨z1, z2⟩ <;> first | omega | exact absurd z2 (by assumption) | exact absurd z2 (Int32.not_lt.mpr (by assumption)))]; done)]; exact hl
              have hO := hO.sel (v := [[(xo, dzo 0 [.ref (xr 0), .ref (xr 1), .ref (xr 2), .ref (xr 3), .ref (xr 4), .ref (xr 5), .ref (xr 6), .ref (xr 7), .ref (xr 8), .ref (xr 9), .int (nI n), .int sl, .int da, .int ti, .int ho, .int dr, .int cr, .int pa, .int pr, .int st, .long mo])], [(xr 0, dzS G 24 dp)], [(q_1, dzI G (n + 1) (dz_mr n sl dp (b + 1)))]]) [2, 1, 0] rfl rfl
              exact ih (b + 1) (by first | assumption | omega) (by omega) (by omega) _ _ hO ls (lv_sub hl [0, 1, 3, 4] rfl)
            · refine lv_iload_n X.x X.b dX1_creep_61 rfl (lv_at hl 1 rfl) ?_
              refine lv_aload_n X.x X.b dX1_creep_62 rfl (lv_at hl 4 rfl) ?_
              refine dz_get (v := .int (nI n)) X (hO.at1 2 rfl) in_X1 rfl 10 (by decide) q560 (Or.inl rfl) rfl dX1_creep_63 ?_
              refine lv_icmp_ne (tgt := 78) X.x X.b dX1_creep_66 (by decide) (fun c_10 => ?_) (fun c_10 => ?_)
              · have nc_10 : ¬ b = n := fun z9 => c_10 ((nI_eq (a := b) (b := n) (by omega) (by omega)).mpr z9)
                refine lv_iconst (v := 0) X.x X.b dX1_creep_78 (by decide) ?_
                refine lv_iadd X.x X.b dX1_creep_79 ?_
                refine lv_istore_n (lv' := [(2, .int (dz_cm n sl dp b + 0)), (4, .int (dz_xb n sl dp b)), (3, .int (nI b)), (1, .ref q_1), (0, .ref xo)]) X.x X.b dX1_creep_80 rfl hl (by decide) rfl (fun ls hl => ?_)
                refine lv_iinc (v := nI (b + 1)) (lv' := [(3, .int (nI (b + 1))), (2, .int (dz_cm n sl dp b + 0)), (4, .int (dz_xb n sl dp b)), (1, .ref q_1), (0, .ref xo)]) X.x X.b dX1_creep_81 hl (k := 2) rfl (nI_1 b) (by decide) rfl (fun ls hl => ?_)
                refine lv_goto (tgt := 13) X.x X.b dX1_creep_84 (by decide) ?_
                have hl : lv_has ls 5 [(3, .int (nI (b + 1))), (2, .int (dz_cm n sl dp (b + 1))), (4, .int (dz_xb n sl dp b)), (1, .ref q_1), (0, .ref xo)] := by rw [show dz_cm n sl dp (b + 1) = (dz_cm n sl dp b + 0) from by rw [dz_cm_x hsl hdr (by omega) (by omega)]; first | (rw [if_pos (Or.inl ⟨by assumption, by assumption⟩)]; done) | (rw [if_pos (Or.inr ⟨by assumption, by assumption⟩)]; done) | (rw [if_pos (Or.inr ⟨by assumption, Int32.not_le.mp (by assumption)⟩)]; done) | (rw [if_neg (fun z => by rcases z with ⟨z1, z2⟩ | ⟨z1, z2⟩ <;> first | omega | exact absurd z2 (by assumption) | exact absurd z2 (Int32.not_lt.mpr (by assumption)))]; done)]; exact hl
                have hO := hO.sel (v := [[(xo, dzo 0 [.ref (xr 0), .ref (xr 1), .ref (xr 2), .ref (xr 3), .ref (xr 4), .ref (xr 5), .ref (xr 6), .ref (xr 7), .ref (xr 8), .ref (xr 9), .int (nI n), .int sl, .int da, .int ti, .int ho, .int dr, .int cr, .int pa, .int pr, .int st, .long mo])], [(xr 0, dzS G 24 dp)], [(q_1, dzI G (n + 1) (dz_mr n sl dp (b + 1)))]]) [2, 1, 0] rfl rfl
                exact ih (b + 1) (by first | assumption | omega) (by omega) (by omega) _ _ hO ls (lv_sub hl [0, 1, 3, 4] rfl)
              · have nc_10 : b = n := (nI_eq (a := b) (b := n) (by omega) (by omega)).mp c_10
                refine lv_iload X.x X.b dX1_creep_69 (lv_at hl 0 rfl) ?_
                refine lv_if_ge (tgt := 78) X.x X.b dX1_creep_71 (by decide) (fun c_11 => ?_) (fun c_11 => ?_)
                · refine lv_iconst (v := 0) X.x X.b dX1_creep_78 (by decide) ?_
                  refine lv_iadd X.x X.b dX1_creep_79 ?_
                  refine lv_istore_n (lv' := [(2, .int (dz_cm n sl dp b + 0)), (4, .int (dz_xb n sl dp b)), (3, .int (nI b)), (1, .ref q_1), (0, .ref xo)]) X.x X.b dX1_creep_80 rfl hl (by decide) rfl (fun ls hl => ?_)
                  refine lv_iinc (v := nI (b + 1)) (lv' := [(3, .int (nI (b + 1))), (2, .int (dz_cm n sl dp b + 0)), (4, .int (dz_xb n sl dp b)), (1, .ref q_1), (0, .ref xo)]) X.x X.b dX1_creep_81 hl (k := 2) rfl (nI_1 b) (by decide) rfl (fun ls hl => ?_)
                  refine lv_goto (tgt := 13) X.x X.b dX1_creep_84 (by decide) ?_
                  have hl : lv_has ls 5 [(3, .int (nI (b + 1))), (2, .int (dz_cm n sl dp (b + 1))), (4, .int (dz_xb n sl dp b)), (1, .ref q_1), (0, .ref xo)] := by rw [show dz_cm n sl dp (b + 1) = (dz_cm n sl dp b + 0) from by rw [dz_cm_x hsl hdr (by omega) (by omega)]; first | (rw [if_pos (Or.inl ⟨by assumption, by assumption⟩)]; done) | (rw [if_pos (Or.inr ⟨by assumption, by assumption⟩)]; done) | (rw [if_pos (Or.inr ⟨by assumption, Int32.not_le.mp (by assumption)⟩)]; done) | (rw [if_neg (fun z => by rcases z with ⟨z1, z2⟩ | ⟨z1, z2⟩ <;> first | omega | exact absurd z2 (by assumption) | exact absurd z2 (Int32.not_lt.mpr (by assumption)))]; done)]; exact hl
                  have hO := hO.sel (v := [[(xo, dzo 0 [.ref (xr 0), .ref (xr 1), .ref (xr 2), .ref (xr 3), .ref (xr 4), .ref (xr 5), .ref (xr 6), .ref (xr 7), .ref (xr 8), .ref (xr 9), .int (nI n), .int sl, .int da, .int ti, .int ho, .int dr, .int cr, .int pa, .int pr, .int st, .long mo])], [(xr 0, dzS G 24 dp)], [(q_1, dzI G (n + 1) (dz_mr n sl dp (b + 1)))]]) [2, 1, 0] rfl rfl
                  exact ih (b + 1) (by first | assumption | omega) (by omega) (by omega) _ _ hO ls (lv_sub hl [0, 1, 3, 4] rfl)
                · refine lv_iconst (v := 1) X.x X.b dX1_creep_74 (by decide) ?_
                  refine lv_goto (tgt := 79) X.x X.b dX1_creep_75 (by decide) ?_
                  refine lv_iadd X.x X.b dX1_creep_79 ?_
                  refine lv_istore_n (lv' := [(2, .int (dz_cm n sl dp b + 1)), (4, .int (dz_xb n sl dp b)), (3, .int (nI b)), (1, .ref q_1), (0, .ref xo)]) X.x X.b dX1_creep_80 rfl hl (by decide) rfl (fun ls hl => ?_)
                  refine lv_iinc (v := nI (b + 1)) (lv' := [(3, .int (nI (b + 1))), (2, .int (dz_cm n sl dp b + 1)), (4, .int (dz_xb n sl dp b)), (1, .ref q_1), (0, .ref xo)]) X.x X.b dX1_creep_81 hl (k := 2) rfl (nI_1 b) (by decide) rfl (fun ls hl => ?_)
                  refine lv_goto (tgt := 13) X.x X.b dX1_creep_84 (by decide) ?_
                  have hl : lv_has ls 5 [(3, .int (nI (b + 1))), (2, .int (dz_cm n sl dp (b + 1))), (4, .int (dz_xb n sl dp b)), (1, .ref q_1), (0, .ref xo)] := by rw [show dz_cm n sl dp (b + 1) = (dz_cm n sl dp b + 1) from by rw [dz_cm_x hsl hdr (by omega) (by omega)]; first | (rw [if_pos (Or.inl ⟨by assumption, by assumption⟩)]; done) | (rw [if_pos (Or.inr ⟨by assumption, by assumption⟩)]; done) | (rw [if_pos (Or.inr ⟨by assumption, Int32.not_le.mp (by assumption)⟩)]; done) | (rw [if_neg (fun z => by rcases z with ⟨z1, z2⟩ | ⟨z1, z2⟩ <;> first | omega | exact absurd z2 (by assumption) | exact absurd z2 (Int32.not_lt.mpr (by assumption)))]; done)]; exact hl
                  have hO := hO.sel (v := [[(xo, dzo 0 [.ref (xr 0), .ref (xr 1), .ref (xr 2), .ref (xr 3), .ref (xr 4), .ref (xr 5), .ref (xr 6), .ref (xr 7), .ref (xr 8), .ref (xr 9), .int (nI n), .int sl, .int da, .int ti, .int ho, .int dr, .int cr, .int pa, .int pr, .int st, .long mo])], [(xr 0, dzS G 24 dp)], [(q_1, dzI G (n + 1) (dz_mr n sl dp (b + 1)))]]) [2, 1, 0] rfl rfl
                  exact ih (b + 1) (by first | assumption | omega) (by omega) (by omega) _ _ hO ls (lv_sub hl [0, 1, 3, 4] rfl)
  have hl : lv_has ls 5 [(3, .int 0), (2, .int (dz_cm n sl dp 0)), (1, .ref q_1), (0, .ref xo)] := by rw [dz_cm_0]; exact hl
  have hl : lv_has ls 5 [(3, .int (nI 0)), (2, .int (dz_cm n sl dp 0)), (1, .ref q_1), (0, .ref xo)] := hl
  have hO := hO.cong 2 rfl (w1 := [(q_1, dzI G (n + 1) (dz_mr n sl dp 0))]) (congrArg (fun z9 => [(q_1, dzI G (n + 1) z9)]) (show (dz_mr n sl dp 0) = (fun _ => 0) from by rw [dz_mr_0]))
  have hO : dz_O G.1 dz_CL A s.heap [[(xo, dzo 0 [.ref (xr 0), .ref (xr 1), .ref (xr 2), .ref (xr 3), .ref (xr 4), .ref (xr 5), .ref (xr 6), .ref (xr 7), .ref (xr 8), .ref (xr 9), .int (nI n), .int sl, .int da, .int ti, .int ho, .int dr, .int cr, .int pa, .int pr, .int st, .long mo])], [(xr 0, dzS G 24 dp)], [(q_1, dzI G (n + 1) (dz_mr n sl dp 0))]] _ _ := hO
  exact hcut_13 _ 0 (by first | assumption | omega) (by omega) (Nat.lt_succ_self _) _ _ hO ls (lv_sub hl [0, 1, 2, 3] rfl)
set_option maxHeartbeats 4000000 in
set_option maxRecDepth 100000 in
/-- tidy: permits that are spent go -/
theorem dz_X1_tidy (l : Launch) (G : dz_G) (sz : Nat) (xo : Nat) (xr : Nat → Nat) (sl : Int32) (da : Int32) (ti : Int32) (ho : Int32) (dr : Int32) (cr : Int32) (pa : Int32) (pr : Int32) (st : Int32) (n : Nat) (mo : Int64) (pm : Int32) (pn : Nat) (na : Nat → Nat) (ra : Nat → Nat) (pg : Nat → Int32) (pf : Nat → Int32) (pl : Nat → Int32) (pv : Nat → Int32) (hp : pn ≤ 8) (hpv : dz_pvr pv pn) : dz_M l G yX1_tidy cX1_tidy 3 none ({ frames := 120, cells := 1, slots := 5, locals := 1800 } : Room) [.ref xo] [[(xo, dzo 0 [.ref (xr 0), .ref (xr 1), .ref (xr 2), .ref (xr 3), .ref (xr 4), .ref (xr 5), .ref (xr 6), .ref (xr 7), .ref (xr 8), .ref (xr 9), .int (nI n), .int sl, .int da, .int ti, .int ho, .int dr, .int cr, .int pa, .int pr, .int st, .long mo])], [(xr 6, dzo 15 [.int pm, .int (nI pn), va_rf (dz_hd na pn), va_rf (dz_lst na pn)])], dz_no G pn na (dz_so ra) (dz_nxt na pn) (dz_prv na), dz_pm G pn ra pg pf pl pv] sz (fun r w1 => ∃ (pm9 : Int32), ∃ (na9 : Nat → Nat), r = none ∧ w1 = [[(xo, dzo 0 [.ref (xr 0), .ref (xr 1), .ref (xr 2), .ref (xr 3), .ref (xr 4), .ref (xr 5), .ref (xr 6), .ref (xr 7), .ref (xr 8), .ref (xr 9), .int (nI n), .int sl, .int da, .int ti, .int ho, .int dr, .int cr, .int pa, .int pr, .int st, .long mo])], [(xr 6, dzo 15 [.int pm9, .int (nI (dz_ct (dz_kp pl pv da) pn)), va_rf (dz_hd na9 (dz_ct (dz_kp pl pv da) pn)), va_rf (dz_lst na9 (dz_ct (dz_kp pl pv da) pn))])], dz_no G (dz_ct (dz_kp pl pv da) pn) na9 (dz_so (dz_td (dz_kp pl pv da) ra pn)) (dz_nxt na9 (dz_ct (dz_kp pl pv da) pn)) (dz_prv na9), dz_pm G (dz_ct (dz_kp pl pv da) pn) (dz_td (dz_kp pl pv da) ra pn) (dz_td (dz_kp pl pv da) pg pn) (dz_td (dz_kp pl pv da) pf pn) (dz_td (dz_kp pl pv da) pl pn) (dz_td (dz_kp pl pv da) pv pn)]) (dz_np) := by
  refine dz_start (by decide) (Nat.le_of_ble_eq_true rfl) ?_
  intro p e s m below meth c A ls X hO hsz hl
  have hl : lv_has ls 3 [(0, .ref xo)] := hl
  refine lv_aload_n X.x X.b dX1_tidy_0 rfl (lv_at hl 0 rfl) ?_
  refine dz_get (v := .ref (xr 6)) X (hO.at1 0 rfl) in_X1 rfl 6 (by decide) q556 (Or.inl rfl) rfl dX1_tidy_1 ?_
  refine dz_U (n := 0) (C := "java/util/LinkedList") (owner := "java/util/AbstractSequentialList") (x := dz_m "java/util/LinkedList" "iterator" "()Ljava/util/Iterator;") (k9 := 1) (n9 := 5) (As := []) (rest := []) (wr := [[(xo, dzo 0 [.ref (xr 0), .ref (xr 1), .ref (xr 2), .ref (xr 3), .ref (xr 4), .ref (xr 5), .ref (xr 6), .ref (xr 7), .ref (xr 8), .ref (xr 9), .int (nI n), .int sl, .int da, .int ti, .int ho, .int dr, .int cr, .int pa, .int pr, .int st, .long mo])], dz_no G pn na (dz_so ra) (dz_nxt na pn) (dz_prv na), dz_pm G pn ra pg pf pl pv]) X hO hl (dz_J18_iterator l G _ (xr 6) pm pn na (by first | assumption | omega | decide)) (va_cwU 0 X.ts (dz_U4 q1368 q1369 q1371 q1372 q69 q1373) rfl rfl rfl rfl (by decide +kernel) ⟨Nat.le_of_ble_eq_true rfl, Nat.le_of_ble_eq_true rfl⟩) ⟨(Nat.le_of_ble_eq_true rfl), (Nat.le_of_ble_eq_true rfl), (Nat.le_of_ble_eq_true rfl), (Nat.le_of_ble_eq_true rfl)⟩ [1] [0, 2, 3] rfl rfl rfl (dz_rc X (hO.at1 1 rfl) (r := (RJ19, TJ19, 4)) rfl) rfl rfl (Nat.le_of_ble_eq_true rfl) dX1_tidy_4 (fun E w1 q9 ce9 H locs hpx hO hce hv9 hcl9 => hpx.elim) (fun r w1 H locs hpo hO => ?_)
  obtain ⟨q_1, rfl, rfl⟩ := hpo
  have hO : dz_O G.1 dz_CL A s.heap [[(xo, dzo 0 [.ref (xr 0), .ref (xr 1), .ref (xr 2), .ref (xr 3), .ref (xr 4), .ref (xr 5), .ref (xr 6), .ref (xr 7), .ref (xr 8), .ref (xr 9), .int (nI n), .int sl, .int da, .int ti, .int ho, .int dr, .int cr, .int pa, .int pr, .int st, .long mo])], dz_no G pn na (dz_so ra) (dz_nxt na pn) (dz_prv na), dz_pm G pn ra pg pf pl pv, [(q_1, dzo 19 [.null, va_rf (dz_cur na pn 0), .int 0, .int pm, .ref (xr 6)])], [(xr 6, dzo 15 [.int pm, .int (nI pn), va_rf (dz_hd na pn), va_rf (dz_lst na pn)])]] _ _ := hO
  refine W.eq (g2 := F0 m 7 ls [.ref q_1]) rfl ?_
  refine lv_astore_n (lv' := [(1, .ref q_1), (0, .ref xo)]) X.x X.b dX1_tidy_7 rfl hl (by decide) rfl (fun ls hl => ?_)
  have hcut_8 : ∀ (n9 : Nat), ∀ (k : Nat) (ck : Nat) (mk : Nat) (nb : Nat → Nat) (lr : Option Nat) (mc : Int32), (k ≤ pn) → (ck = dz_ct (dz_kp pl pv da) k) → (mk + k = ck + pn) → pn - k < n9 → ∀ (H : Heap) (locs : List Loc), dz_O G.1 dz_CL A s.heap [[(xo, dzo 0 [.ref (xr 0), .ref (xr 1), .ref (xr 2), .ref (xr 3), .ref (xr 4), .ref (xr 5), .ref (xr 6), .ref (xr 7), .ref (xr 8), .ref (xr 9), .int (nI n), .int sl, .int da, .int ti, .int ho, .int dr, .int cr, .int pa, .int pr, .int st, .long mo])], [(q_1, dzo 19 [va_rf lr, va_rf (dz_cur nb mk ck), .int (nI ck), .int mc, .ref (xr 6)])], [(xr 6, dzo 15 [.int mc, .int (nI mk), va_rf (dz_hd nb mk), va_rf (dz_lst nb mk)])], dz_no G mk nb (dz_so (dz_tm (dz_kp pl pv da) ra k)) (dz_nxt nb mk) (dz_prv nb), dz_pm G mk (dz_tm (dz_kp pl pv da) ra k) (dz_tm (dz_kp pl pv da) pg k) (dz_tm (dz_kp pl pv da) pf k) (dz_tm (dz_kp pl pv da) pl k) (dz_tm (dz_kp pl pv da) pv k)] H locs → ∀ (ls : Array Slot), lv_has ls 3 [(1, .ref q_1), (0, .ref xo)] → W p l e ({ frames := 120, cells := 1, slots := 5, locals := 1800 } : Room) s m ([.ref xo] : List Value).toArray below meth c H locs 1 5 (vx_MQ below (dz_Q G (fun r w1 => ∃ (pm9 : Int32), ∃ (na9 : Nat → Nat), r = none ∧ w1 = [[(xo, dzo 0 [.ref (xr 0), .ref (xr 1), .ref (xr 2), .ref (xr 3), .ref (xr 4), .ref (xr 5), .ref (xr 6), .ref (xr 7), .ref (xr 8), .ref (xr 9), .int (nI n), .int sl, .int da, .int ti, .int ho, .int dr, .int cr, .int pa, .int pr, .int st, .long mo])], [(xr 6, dzo 15 [.int pm9, .int (nI (dz_ct (dz_kp pl pv da) pn)), va_rf (dz_hd na9 (dz_ct (dz_kp pl pv da) pn)), va_rf (dz_lst na9 (dz_ct (dz_kp pl pv da) pn))])], dz_no G (dz_ct (dz_kp pl pv da) pn) na9 (dz_so (dz_td (dz_kp pl pv da) ra pn)) (dz_nxt na9 (dz_ct (dz_kp pl pv da) pn)) (dz_prv na9), dz_pm G (dz_ct (dz_kp pl pv da) pn) (dz_td (dz_kp pl pv da) ra pn) (dz_td (dz_kp pl pv da) pg pn) (dz_td (dz_kp pl pv da) pf pn) (dz_td (dz_kp pl pv da) pl pn) (dz_td (dz_kp pl pv da) pv pn)]) A) (dz_QX G (dz_np) A) ([.ref xo] : List Value).toArray s 1 5 A) (F0 m 8 ls []) := by
    intro n9
    induction n9 with
    | zero => intro k ck mk nb lr mc hk hck hmk hmu9; exact absurd hmu9 (Nat.not_lt_zero _)
    | succ n9 ih =>
      intro k ck mk nb lr mc hk hck hmk hmu9 H locs hO ls hl
      have hckk := dz_ct_le (dz_kp pl pv da) k
      refine lv_aload_n X.x X.b dX1_tidy_8 rfl (lv_at hl 0 rfl) ?_
      refine dz_F (n := 0) (x := (dz_m "java/util/Iterator" "hasNext" "()Z")) (C := "java/util/LinkedList$ListItr") (k9 := 1) (n9 := 5) (As := []) (rest := []) (wr := [[(xo, dzo 0 [.ref (xr 0), .ref (xr 1), .ref (xr 2), .ref (xr 3), .ref (xr 4), .ref (xr 5), .ref (xr 6), .ref (xr 7), .ref (xr 8), .ref (xr 9), .int (nI n), .int sl, .int da, .int ti, .int ho, .int dr, .int cr, .int pa, .int pr, .int st, .long mo])], dz_no G mk nb (dz_so (dz_tm (dz_kp pl pv da) ra k)) (dz_nxt nb mk) (dz_prv nb), dz_pm G mk (dz_tm (dz_kp pl pv da) ra k) (dz_tm (dz_kp pl pv da) pg k) (dz_tm (dz_kp pl pv da) pf k) (dz_tm (dz_kp pl pv da) pl k) (dz_tm (dz_kp pl pv da) pv k)]) X hO hl ((X.K.1 19 _ rfl).2) (dz_J31_hasNext l G _ q_1 lr (dz_cur nb mk ck) ck (xr 6) mc mk nb (by first | assumption | omega | decide) (by first | assumption | omega | decide)) (dz_F4 q660 q704 q706 q90 q708) (by decide) (by decide +kernel) ⟨Nat.le_of_ble_eq_true rfl, Nat.le_of_ble_eq_true rfl⟩ ⟨(Nat.le_of_ble_eq_true rfl), (Nat.le_of_ble_eq_true rfl), (Nat.le_of_ble_eq_true rfl), (Nat.le_of_ble_eq_true rfl)⟩ [1, 2] [0, 3, 4] rfl rfl rfl (dz_rc X (hO.at1 1 rfl) (r := (RJ31, TJ31, 5)) rfl) rfl rfl (Nat.le_of_ble_eq_true rfl) dX1_tidy_9 (fun E w1 q9 ce9 H locs hpx hO hce hv9 hcl9 => hpx.elim) (fun r w1 H locs hpo hO => ?_)
      obtain ⟨rfl, rfl⟩ := hpo
      have hO : dz_O G.1 dz_CL A s.heap [[(xo, dzo 0 [.ref (xr 0), .ref (xr 1), .ref (xr 2), .ref (xr 3), .ref (xr 4), .ref (xr 5), .ref (xr 6), .ref (xr 7), .ref (xr 8), .ref (xr 9), .int (nI n), .int sl, .int da, .int ti, .int ho, .int dr, .int cr, .int pa, .int pr, .int st, .long mo])], dz_no G mk nb (dz_so (dz_tm (dz_kp pl pv da) ra k)) (dz_nxt nb mk) (dz_prv nb), dz_pm G mk (dz_tm (dz_kp pl pv da) ra k) (dz_tm (dz_kp pl pv da) pg k) (dz_tm (dz_kp pl pv da) pf k) (dz_tm (dz_kp pl pv da) pl k) (dz_tm (dz_kp pl pv da) pv k), [(q_1, dzo 19 [va_rf lr, va_rf (dz_cur nb mk ck), .int (nI ck), .int mc, .ref (xr 6)])], [(xr 6, dzo 15 [.int mc, .int (nI mk), va_rf (dz_hd nb mk), va_rf (dz_lst nb mk)])]] _ _ := hO
      refine W.eq (g2 := F0 m 14 ls [.int (dz_lt ck mk)]) rfl ?_
      refine lv_if_eq (tgt := 54) X.x X.b dX1_tidy_14 (by decide) (fun c_2 => ?_) (fun c_2 => ?_)
      · have hkm : ¬ ck < mk := by intro z; unfold dz_lt at c_2; rw [if_pos z] at c_2; exact absurd c_2 (by decide)
        have hckl := dz_ct_le (dz_kp pl pv da) k
        have hkn : k = pn := by omega
        have hmk2 : mk = ck := by omega
        subst hmk2
        subst hkn
        subst hck
        have hO := hO.sel (v := [dz_no G (dz_ct (dz_kp pl pv da) k) nb (dz_so (dz_tm (dz_kp pl pv da) ra k)) (dz_nxt nb (dz_ct (dz_kp pl pv da) k)) (dz_prv nb), [(xo, dzo 0 [.ref (xr 0), .ref (xr 1), .ref (xr 2), .ref (xr 3), .ref (xr 4), .ref (xr 5), .ref (xr 6), .ref (xr 7), .ref (xr 8), .ref (xr 9), .int (nI n), .int sl, .int da, .int ti, .int ho, .int dr, .int cr, .int pa, .int pr, .int st, .long mo])], dz_pm G (dz_ct (dz_kp pl pv da) k) (dz_tm (dz_kp pl pv da) ra k) (dz_tm (dz_kp pl pv da) pg k) (dz_tm (dz_kp pl pv da) pf k) (dz_tm (dz_kp pl pv da) pl k) (dz_tm (dz_kp pl pv da) pv k), [(q_1, dzo 19 [va_rf lr, va_rf (dz_cur nb (dz_ct (dz_kp pl pv da) k) (dz_ct (dz_kp pl pv da) k)), .int (nI (dz_ct (dz_kp pl pv da) k)), .int mc, .ref (xr 6)])], [(xr 6, dzo 15 [.int mc, .int (nI (dz_ct (dz_kp pl pv da) k)), va_rf (dz_hd nb (dz_ct (dz_kp pl pv da) k)), va_rf (dz_lst nb (dz_ct (dz_kp pl pv da) k))])]]) [1, 0, 2, 3, 4] rfl rfl
        have hO : dz_O G.1 dz_CL A s.heap [dz_no G (dz_ct (dz_kp pl pv da) k) nb (dz_so (dz_td (dz_kp pl pv da) ra k)) (dz_nxt nb (dz_ct (dz_kp pl pv da) k)) (dz_prv nb), [(xo, dzo 0 [.ref (xr 0), .ref (xr 1), .ref (xr 2), .ref (xr 3), .ref (xr 4), .ref (xr 5), .ref (xr 6), .ref (xr 7), .ref (xr 8), .ref (xr 9), .int (nI n), .int sl, .int da, .int ti, .int ho, .int dr, .int cr, .int pa, .int pr, .int st, .long mo])], dz_pm G (dz_ct (dz_kp pl pv da) k) (dz_tm (dz_kp pl pv da) ra k) (dz_tm (dz_kp pl pv da) pg k) (dz_tm (dz_kp pl pv da) pf k) (dz_tm (dz_kp pl pv da) pl k) (dz_tm (dz_kp pl pv da) pv k), [(q_1, dzo 19 [va_rf lr, va_rf (dz_cur nb (dz_ct (dz_kp pl pv da) k) (dz_ct (dz_kp pl pv da) k)), .int (nI (dz_ct (dz_kp pl pv da) k)), .int mc, .ref (xr 6)])], [(xr 6, dzo 15 [.int mc, .int (nI (dz_ct (dz_kp pl pv da) k)), va_rf (dz_hd nb (dz_ct (dz_kp pl pv da) k)), va_rf (dz_lst nb (dz_ct (dz_kp pl pv da) k))])]] _ _ := hO.pcong (fun i hi => by rw [show dz_so (dz_tm (dz_kp pl pv da) ra k) i = dz_so (dz_td (dz_kp pl pv da) ra k) i from congrArg some (dz_tm_td hi)])
        have hO := hO.sel (v := [dz_pm G (dz_ct (dz_kp pl pv da) k) (dz_tm (dz_kp pl pv da) ra k) (dz_tm (dz_kp pl pv da) pg k) (dz_tm (dz_kp pl pv da) pf k) (dz_tm (dz_kp pl pv da) pl k) (dz_tm (dz_kp pl pv da) pv k), dz_no G (dz_ct (dz_kp pl pv da) k) nb (dz_so (dz_td (dz_kp pl pv da) ra k)) (dz_nxt nb (dz_ct (dz_kp pl pv da) k)) (dz_prv nb), [(xo, dzo 0 [.ref (xr 0), .ref (xr 1), .ref (xr 2), .ref (xr 3), .ref (xr 4), .ref (xr 5), .ref (xr 6), .ref (xr 7), .ref (xr 8), .ref (xr 9), .int (nI n), .int sl, .int da, .int ti, .int ho, .int dr, .int cr, .int pa, .int pr, .int st, .long mo])], [(q_1, dzo 19 [va_rf lr, va_rf (dz_cur nb (dz_ct (dz_kp pl pv da) k) (dz_ct (dz_kp pl pv da) k)), .int (nI (dz_ct (dz_kp pl pv da) k)), .int mc, .ref (xr 6)])], [(xr 6, dzo 15 [.int mc, .int (nI (dz_ct (dz_kp pl pv da) k)), va_rf (dz_hd nb (dz_ct (dz_kp pl pv da) k)), va_rf (dz_lst nb (dz_ct (dz_kp pl pv da) k))])]]) [2, 0, 1, 3, 4] rfl rfl
        have hO : dz_O G.1 dz_CL A s.heap [dz_pm G (dz_ct (dz_kp pl pv da) k) (dz_td (dz_kp pl pv da) ra k) (dz_td (dz_kp pl pv da) pg k) (dz_td (dz_kp pl pv da) pf k) (dz_td (dz_kp pl pv da) pl k) (dz_td (dz_kp pl pv da) pv k), dz_no G (dz_ct (dz_kp pl pv da) k) nb (dz_so (dz_td (dz_kp pl pv da) ra k)) (dz_nxt nb (dz_ct (dz_kp pl pv da) k)) (dz_prv nb), [(xo, dzo 0 [.ref (xr 0), .ref (xr 1), .ref (xr 2), .ref (xr 3), .ref (xr 4), .ref (xr 5), .ref (xr 6), .ref (xr 7), .ref (xr 8), .ref (xr 9), .int (nI n), .int sl, .int da, .int ti, .int ho, .int dr, .int cr, .int pa, .int pr, .int st, .long mo])], [(q_1, dzo 19 [va_rf lr, va_rf (dz_cur nb (dz_ct (dz_kp pl pv da) k) (dz_ct (dz_kp pl pv da) k)), .int (nI (dz_ct (dz_kp pl pv da) k)), .int mc, .ref (xr 6)])], [(xr 6, dzo 15 [.int mc, .int (nI (dz_ct (dz_kp pl pv da) k)), va_rf (dz_hd nb (dz_ct (dz_kp pl pv da) k)), va_rf (dz_lst nb (dz_ct (dz_kp pl pv da) k))])]] _ _ := hO.pcong (fun i hi => by rw [dz_tm_td hi, dz_tm_td hi, dz_tm_td hi, dz_tm_td hi, dz_tm_td hi])
        have hO := hO.sel (v := [[(xo, dzo 0 [.ref (xr 0), .ref (xr 1), .ref (xr 2), .ref (xr 3), .ref (xr 4), .ref (xr 5), .ref (xr 6), .ref (xr 7), .ref (xr 8), .ref (xr 9), .int (nI n), .int sl, .int da, .int ti, .int ho, .int dr, .int cr, .int pa, .int pr, .int st, .long mo])], [(xr 6, dzo 15 [.int mc, .int (nI (dz_ct (dz_kp pl pv da) k)), va_rf (dz_hd nb (dz_ct (dz_kp pl pv da) k)), va_rf (dz_lst nb (dz_ct (dz_kp pl pv da) k))])], dz_no G (dz_ct (dz_kp pl pv da) k) nb (dz_so (dz_td (dz_kp pl pv da) ra k)) (dz_nxt nb (dz_ct (dz_kp pl pv da) k)) (dz_prv nb), dz_pm G (dz_ct (dz_kp pl pv da) k) (dz_td (dz_kp pl pv da) ra k) (dz_td (dz_kp pl pv da) pg k) (dz_td (dz_kp pl pv da) pf k) (dz_td (dz_kp pl pv da) pl k) (dz_td (dz_kp pl pv da) pv k)]) [2, 4, 1, 0] rfl rfl
        exact dz_vret X hO rfl (⟨mc, nb, rfl, rfl⟩) (Nat.le_of_ble_eq_true rfl) (Nat.le_of_ble_eq_true rfl) dX1_tidy_54
      · have hkm : ck < mk := by apply Classical.byContradiction; intro z; unfold dz_lt at c_2; rw [if_neg z] at c_2; exact c_2 rfl
        have hckl := dz_ct_le (dz_kp pl pv da) k
        obtain ⟨mm, hmm⟩ : ∃ mm, mk = mm + 1 := ⟨mk - 1, by omega⟩
        subst hmm
        refine lv_aload_n X.x X.b dX1_tidy_17 rfl (lv_at hl 0 rfl) ?_
        refine dz_F (n := 0) (x := (dz_m "java/util/Iterator" "next" "()Ljava/lang/Object;")) (C := "java/util/LinkedList$ListItr") (k9 := 1) (n9 := 5) (As := []) (rest := []) (wr := [[(xo, dzo 0 [.ref (xr 0), .ref (xr 1), .ref (xr 2), .ref (xr 3), .ref (xr 4), .ref (xr 5), .ref (xr 6), .ref (xr 7), .ref (xr 8), .ref (xr 9), .int (nI n), .int sl, .int da, .int ti, .int ho, .int dr, .int cr, .int pa, .int pr, .int st, .long mo])], dz_pm G (mm + 1) (dz_tm (dz_kp pl pv da) ra k) (dz_tm (dz_kp pl pv da) pg k) (dz_tm (dz_kp pl pv da) pf k) (dz_tm (dz_kp pl pv da) pl k) (dz_tm (dz_kp pl pv da) pv k)]) X hO hl ((X.K.1 19 _ rfl).2) (dz_J31_next l G _ q_1 lr ck (xr 6) mc (mm + 1) nb (dz_so (dz_tm (dz_kp pl pv da) ra k)) (by first | assumption | omega | decide) (by first | assumption | omega | decide)) (dz_F4 q710 q953 q955 q90 q957) (by decide) (by decide +kernel) ⟨Nat.le_of_ble_eq_true rfl, Nat.le_of_ble_eq_true rfl⟩ ⟨(Nat.le_of_ble_eq_true rfl), (Nat.le_of_ble_eq_true rfl), (Nat.le_of_ble_eq_true rfl), (Nat.le_of_ble_eq_true rfl)⟩ [3, 4, 1] [0, 2] rfl rfl rfl (dz_rc X (hO.at1 3 rfl) (r := (RJ31, TJ31, 5)) rfl) rfl rfl (Nat.le_of_ble_eq_true rfl) dX1_tidy_18 (fun E w1 q9 ce9 H locs hpx hO hce hv9 hcl9 => hpx.elim) (fun r w1 H locs hpo hO => ?_)
        obtain ⟨rfl, rfl⟩ := hpo
        have hO : dz_O G.1 dz_CL A s.heap [[(xo, dzo 0 [.ref (xr 0), .ref (xr 1), .ref (xr 2), .ref (xr 3), .ref (xr 4), .ref (xr 5), .ref (xr 6), .ref (xr 7), .ref (xr 8), .ref (xr 9), .int (nI n), .int sl, .int da, .int ti, .int ho, .int dr, .int cr, .int pa, .int pr, .int st, .long mo])], dz_pm G (mm + 1) (dz_tm (dz_kp pl pv da) ra k) (dz_tm (dz_kp pl pv da) pg k) (dz_tm (dz_kp pl pv da) pf k) (dz_tm (dz_kp pl pv da) pl k) (dz_tm (dz_kp pl pv da) pv k), [(q_1, dzo 19 [.ref (nb ck), va_rf (dz_cur nb (mm + 1) (ck + 1)), .int (nI (ck + 1)), .int mc, .ref (xr 6)])], [(xr 6, dzo 15 [.int mc, .int (nI (mm + 1)), va_rf (dz_hd nb (mm + 1)), va_rf (dz_lst nb (mm + 1))])], dz_no G (mm + 1) nb (dz_so (dz_tm (dz_kp pl pv da) ra k)) (dz_nxt nb (mm + 1)) (dz_prv nb)] _ _ := hO
        refine W.eq (g2 := F0 m 23 ls [va_rf ((dz_so (dz_tm (dz_kp pl pv da) ra k)) ck)]) rfl ?_
        refine dz_rev (w := .ref (dz_tm (dz_kp pl pv da) ra k ck)) (rfl) ?_
        refine dz_cast X q1448 (Or.inl rfl) (dz_rc X (hO.pn 1 rfl (by omega)) (r := (RX9, TX9, 4)) rfl) dX1_tidy_23 ?_
        refine lv_astore_n (lv' := [(2, .ref (dz_tm (dz_kp pl pv da) ra k ck)), (1, .ref q_1), (0, .ref xo)]) X.x X.b dX1_tidy_26 rfl hl (by decide) rfl (fun ls hl => ?_)
        refine lv_aload_n X.x X.b dX1_tidy_27 rfl (lv_at hl 0 rfl) ?_
        refine dz_getN (v := .int (dz_tm (dz_kp pl pv da) pv k ck)) X (hO.pn 1 rfl (by omega)) in_X9 rfl 3 (by decide) q1623 (Or.inl rfl) rfl dX1_tidy_28 ?_
        refine dz_rei (y := pv k) (by rw [hck]; exact dz_tm_at _ _ _) ?_
        refine lv_if_eq (tgt := 45) X.x X.b dX1_tidy_31 (by decide) (fun c_3 => ?_) (fun c_3 => ?_)
        · have hkp : dz_kp pl pv da k = false := dz_kp_f1 (by rw [c_3]; exact Int32.le_refl 0)
          refine lv_aload_n X.x X.b dX1_tidy_45 rfl (lv_at hl 1 rfl) ?_
          refine dz_F (n := 0) (x := (dz_m "java/util/Iterator" "remove" "()V")) (C := "java/util/LinkedList$ListItr") (k9 := 1) (n9 := 5) (As := []) (rest := []) (wr := [[(xo, dzo 0 [.ref (xr 0), .ref (xr 1), .ref (xr 2), .ref (xr 3), .ref (xr 4), .ref (xr 5), .ref (xr 6), .ref (xr 7), .ref (xr 8), .ref (xr 9), .int (nI n), .int sl, .int da, .int ti, .int ho, .int dr, .int cr, .int pa, .int pr, .int st, .long mo])], dz_pm G (mm + 1) (dz_tm (dz_kp pl pv da) ra k) (dz_tm (dz_kp pl pv da) pg k) (dz_tm (dz_kp pl pv da) pf k) (dz_tm (dz_kp pl pv da) pl k) (dz_tm (dz_kp pl pv da) pv k)]) X hO hl ((X.K.1 19 _ rfl).2) (dz_J31_remove l G _ q_1 (xr 6) mc mm nb (dz_so (dz_tm (dz_kp pl pv da) ra k)) ck (dz_tm (dz_kp pl pv da) ra k ck) (by first | assumption | omega | decide) (by first | assumption | omega | decide) (rfl)) (dz_F4 q1450 q1541 q1543 q90 q1545) (by decide) (by decide +kernel) ⟨Nat.le_of_ble_eq_true rfl, Nat.le_of_ble_eq_true rfl⟩ ⟨(Nat.le_of_ble_eq_true rfl), (Nat.le_of_ble_eq_true rfl), (Nat.le_of_ble_eq_true rfl), (Nat.le_of_ble_eq_true rfl)⟩ [2, 3, 4] [0, 1] rfl rfl rfl (dz_rc X (hO.at1 2 rfl) (r := (RJ31, TJ31, 5)) rfl) rfl rfl (Nat.le_of_ble_eq_true rfl) dX1_tidy_46 (fun E w1 q9 ce9 H locs hpx hO hce hv9 hcl9 => hpx.elim) (fun r w1 H locs hpo hO => ?_)
          obtain ⟨rfl, rfl⟩ := hpo
          have hO : dz_O G.1 dz_CL A s.heap [[(xo, dzo 0 [.ref (xr 0), .ref (xr 1), .ref (xr 2), .ref (xr 3), .ref (xr 4), .ref (xr 5), .ref (xr 6), .ref (xr 7), .ref (xr 8), .ref (xr 9), .int (nI n), .int sl, .int da, .int ti, .int ho, .int dr, .int cr, .int pa, .int pr, .int st, .long mo])], dz_pm G (mm + 1) (dz_tm (dz_kp pl pv da) ra k) (dz_tm (dz_kp pl pv da) pg k) (dz_tm (dz_kp pl pv da) pf k) (dz_tm (dz_kp pl pv da) pl k) (dz_tm (dz_kp pl pv da) pv k), [(q_1, dzo 19 [.null, va_rf (dz_cur (dz_del nb ck) mm ck), .int (nI ck), .int (mc + 1), .ref (xr 6)])], [(xr 6, dzo 15 [.int (mc + 1), .int (nI mm), va_rf (dz_hd (dz_del nb ck) mm), va_rf (dz_lst (dz_del nb ck) mm)])], dz_no G mm (dz_del nb ck) (dz_del (dz_so (dz_tm (dz_kp pl pv da) ra k)) ck) (dz_nxt (dz_del nb ck) mm) (dz_prv (dz_del nb ck))] _ _ := hO
          refine W.eq (g2 := F0 m 51 ls []) rfl ?_
          refine lv_goto (tgt := 8) X.x X.b dX1_tidy_51 (by decide) ?_
          have hO := hO.cong 4 rfl (w1 := dz_no G mm (dz_del nb ck) (dz_so (dz_tm (dz_kp pl pv da) ra (k + 1))) (dz_nxt (dz_del nb ck) mm) (dz_prv (dz_del nb ck))) (by rw [dz_tm_n ra hkp, ← hck, ← dz_so_del])
          have hO : dz_O G.1 dz_CL A s.heap [[(xo, dzo 0 [.ref (xr 0), .ref (xr 1), .ref (xr 2), .ref (xr 3), .ref (xr 4), .ref (xr 5), .ref (xr 6), .ref (xr 7), .ref (xr 8), .ref (xr 9), .int (nI n), .int sl, .int da, .int ti, .int ho, .int dr, .int cr, .int pa, .int pr, .int st, .long mo])], dz_pm G (mm + 1) (dz_tm (dz_kp pl pv da) ra k) (dz_tm (dz_kp pl pv da) pg k) (dz_tm (dz_kp pl pv da) pf k) (dz_tm (dz_kp pl pv da) pl k) (dz_tm (dz_kp pl pv da) pv k), [(q_1, dzo 19 [.null, va_rf (dz_cur (dz_del nb ck) mm ck), .int (nI ck), .int (mc + 1), .ref (xr 6)])], [(xr 6, dzo 15 [.int (mc + 1), .int (nI mm), va_rf (dz_hd (dz_del nb ck) mm), va_rf (dz_lst (dz_del nb ck) mm)])], dz_no G mm (dz_del nb ck) (dz_so (dz_tm (dz_kp pl pv da) ra (k + 1))) (dz_nxt (dz_del nb ck) mm) (dz_prv (dz_del nb ck))] _ _ := hO
          have hO := hO.sel (v := [dz_pm G (mm + 1) (dz_tm (dz_kp pl pv da) ra k) (dz_tm (dz_kp pl pv da) pg k) (dz_tm (dz_kp pl pv da) pf k) (dz_tm (dz_kp pl pv da) pl k) (dz_tm (dz_kp pl pv da) pv k), [(xo, dzo 0 [.ref (xr 0), .ref (xr 1), .ref (xr 2), .ref (xr 3), .ref (xr 4), .ref (xr 5), .ref (xr 6), .ref (xr 7), .ref (xr 8), .ref (xr 9), .int (nI n), .int sl, .int da, .int ti, .int ho, .int dr, .int cr, .int pa, .int pr, .int st, .long mo])], [(q_1, dzo 19 [.null, va_rf (dz_cur (dz_del nb ck) mm ck), .int (nI ck), .int (mc + 1), .ref (xr 6)])], [(xr 6, dzo 15 [.int (mc + 1), .int (nI mm), va_rf (dz_hd (dz_del nb ck) mm), va_rf (dz_lst (dz_del nb ck) mm)])], dz_no G mm (dz_del nb ck) (dz_so (dz_tm (dz_kp pl pv da) ra (k + 1))) (dz_nxt (dz_del nb ck) mm) (dz_prv (dz_del nb ck))]) [1, 0, 2, 3, 4] rfl rfl
          have hO : dz_O G.1 dz_CL A s.heap [dz_pm G mm (dz_tm (dz_kp pl pv da) ra (k + 1)) (dz_tm (dz_kp pl pv da) pg (k + 1)) (dz_tm (dz_kp pl pv da) pf (k + 1)) (dz_tm (dz_kp pl pv da) pl (k + 1)) (dz_tm (dz_kp pl pv da) pv (k + 1)), [(xo, dzo 0 [.ref (xr 0), .ref (xr 1), .ref (xr 2), .ref (xr 3), .ref (xr 4), .ref (xr 5), .ref (xr 6), .ref (xr 7), .ref (xr 8), .ref (xr 9), .int (nI n), .int sl, .int da, .int ti, .int ho, .int dr, .int cr, .int pa, .int pr, .int st, .long mo])], [(q_1, dzo 19 [.null, va_rf (dz_cur (dz_del nb ck) mm ck), .int (nI ck), .int (mc + 1), .ref (xr 6)])], [(xr 6, dzo 15 [.int (mc + 1), .int (nI mm), va_rf (dz_hd (dz_del nb ck) mm), va_rf (dz_lst (dz_del nb ck) mm)])], dz_no G mm (dz_del nb ck) (dz_so (dz_tm (dz_kp pl pv da) ra (k + 1))) (dz_nxt (dz_del nb ck) mm) (dz_prv (dz_del nb ck))] _ _ := hO.pdel (j := ck) (by omega) (fun i hi => by rw [dz_tm_n ra hkp, dz_tm_n pg hkp, dz_tm_n pf hkp, dz_tm_n pl hkp, dz_tm_n pv hkp, ← hck]; unfold dz_del; split <;> rfl)
          have hO := hO.sel (v := [[(xo, dzo 0 [.ref (xr 0), .ref (xr 1), .ref (xr 2), .ref (xr 3), .ref (xr 4), .ref (xr 5), .ref (xr 6), .ref (xr 7), .ref (xr 8), .ref (xr 9), .int (nI n), .int sl, .int da, .int ti, .int ho, .int dr, .int cr, .int pa, .int pr, .int st, .long mo])], [(q_1, dzo 19 [.null, va_rf (dz_cur (dz_del nb ck) mm ck), .int (nI ck), .int (mc + 1), .ref (xr 6)])], [(xr 6, dzo 15 [.int (mc + 1), .int (nI mm), va_rf (dz_hd (dz_del nb ck) mm), va_rf (dz_lst (dz_del nb ck) mm)])], dz_no G mm (dz_del nb ck) (dz_so (dz_tm (dz_kp pl pv da) ra (k + 1))) (dz_nxt (dz_del nb ck) mm) (dz_prv (dz_del nb ck)), dz_pm G mm (dz_tm (dz_kp pl pv da) ra (k + 1)) (dz_tm (dz_kp pl pv da) pg (k + 1)) (dz_tm (dz_kp pl pv da) pf (k + 1)) (dz_tm (dz_kp pl pv da) pl (k + 1)) (dz_tm (dz_kp pl pv da) pv (k + 1))]) [1, 2, 3, 4, 0] rfl rfl
          exact ih (k + 1) ck mm (dz_del nb ck) none (mc + 1) (by omega) (by rw [dz_ct_n hkp, ← hck]) (by omega) (by omega) _ _ hO ls (lv_sub hl [1, 2] rfl)
        · refine lv_aload_n X.x X.b dX1_tidy_34 rfl (lv_at hl 0 rfl) ?_
          refine dz_getN (v := .int (dz_tm (dz_kp pl pv da) pl k ck)) X (hO.pn 1 rfl (by omega)) in_X9 rfl 2 (by decide) q1621 (Or.inl rfl) rfl dX1_tidy_35 ?_
          refine dz_rei (y := pl k) (by rw [hck]; exact dz_tm_at _ _ _) ?_
          refine lv_aload_n X.x X.b dX1_tidy_38 rfl (lv_at hl 2 rfl) ?_
          refine dz_get (v := .int da) X (hO.at1 0 rfl) in_X1 rfl 12 (by decide) q562 (Or.inl rfl) rfl dX1_tidy_39 ?_
          refine lv_icmp_ge (tgt := 51) X.x X.b dX1_tidy_42 (by decide) (fun c_4 => ?_) (fun c_4 => ?_)
          · have hkp : dz_kp pl pv da k = true := dz_kp_t0 hpv (by omega) c_3 (Int32.not_lt.mpr c_4)
            refine lv_goto (tgt := 8) X.x X.b dX1_tidy_51 (by decide) ?_
            have hO := hO.cong 4 rfl (w1 := dz_no G (mm + 1) nb (dz_so (dz_tm (dz_kp pl pv da) ra (k + 1))) (dz_nxt nb (mm + 1)) (dz_prv nb)) (by rw [dz_tm_1 ra hkp])
            have hO : dz_O G.1 dz_CL A s.heap [[(xo, dzo 0 [.ref (xr 0), .ref (xr 1), .ref (xr 2), .ref (xr 3), .ref (xr 4), .ref (xr 5), .ref (xr 6), .ref (xr 7), .ref (xr 8), .ref (xr 9), .int (nI n), .int sl, .int da, .int ti, .int ho, .int dr, .int cr, .int pa, .int pr, .int st, .long mo])], dz_pm G (mm + 1) (dz_tm (dz_kp pl pv da) ra k) (dz_tm (dz_kp pl pv da) pg k) (dz_tm (dz_kp pl pv da) pf k) (dz_tm (dz_kp pl pv da) pl k) (dz_tm (dz_kp pl pv da) pv k), [(q_1, dzo 19 [.ref (nb ck), va_rf (dz_cur nb (mm + 1) (ck + 1)), .int (nI (ck + 1)), .int mc, .ref (xr 6)])], [(xr 6, dzo 15 [.int mc, .int (nI (mm + 1)), va_rf (dz_hd nb (mm + 1)), va_rf (dz_lst nb (mm + 1))])], dz_no G (mm + 1) nb (dz_so (dz_tm (dz_kp pl pv da) ra (k + 1))) (dz_nxt nb (mm + 1)) (dz_prv nb)] _ _ := hO
            have hO := hO.cong 1 rfl (w1 := dz_pm G (mm + 1) (dz_tm (dz_kp pl pv da) ra (k + 1)) (dz_tm (dz_kp pl pv da) pg (k + 1)) (dz_tm (dz_kp pl pv da) pf (k + 1)) (dz_tm (dz_kp pl pv da) pl (k + 1)) (dz_tm (dz_kp pl pv da) pv (k + 1))) (by rw [dz_tm_1 ra hkp, dz_tm_1 pg hkp, dz_tm_1 pf hkp, dz_tm_1 pl hkp, dz_tm_1 pv hkp])
            have hO : dz_O G.1 dz_CL A s.heap [[(xo, dzo 0 [.ref (xr 0), .ref (xr 1), .ref (xr 2), .ref (xr 3), .ref (xr 4), .ref (xr 5), .ref (xr 6), .ref (xr 7), .ref (xr 8), .ref (xr 9), .int (nI n), .int sl, .int da, .int ti, .int ho, .int dr, .int cr, .int pa, .int pr, .int st, .long mo])], dz_pm G (mm + 1) (dz_tm (dz_kp pl pv da) ra (k + 1)) (dz_tm (dz_kp pl pv da) pg (k + 1)) (dz_tm (dz_kp pl pv da) pf (k + 1)) (dz_tm (dz_kp pl pv da) pl (k + 1)) (dz_tm (dz_kp pl pv da) pv (k + 1)), [(q_1, dzo 19 [.ref (nb ck), va_rf (dz_cur nb (mm + 1) (ck + 1)), .int (nI (ck + 1)), .int mc, .ref (xr 6)])], [(xr 6, dzo 15 [.int mc, .int (nI (mm + 1)), va_rf (dz_hd nb (mm + 1)), va_rf (dz_lst nb (mm + 1))])], dz_no G (mm + 1) nb (dz_so (dz_tm (dz_kp pl pv da) ra (k + 1))) (dz_nxt nb (mm + 1)) (dz_prv nb)] _ _ := hO
            have hO := hO.sel (v := [[(xo, dzo 0 [.ref (xr 0), .ref (xr 1), .ref (xr 2), .ref (xr 3), .ref (xr 4), .ref (xr 5), .ref (xr 6), .ref (xr 7), .ref (xr 8), .ref (xr 9), .int (nI n), .int sl, .int da, .int ti, .int ho, .int dr, .int cr, .int pa, .int pr, .int st, .long mo])], [(q_1, dzo 19 [.ref (nb ck), va_rf (dz_cur nb (mm + 1) (ck + 1)), .int (nI (ck + 1)), .int mc, .ref (xr 6)])], [(xr 6, dzo 15 [.int mc, .int (nI (mm + 1)), va_rf (dz_hd nb (mm + 1)), va_rf (dz_lst nb (mm + 1))])], dz_no G (mm + 1) nb (dz_so (dz_tm (dz_kp pl pv da) ra (k + 1))) (dz_nxt nb (mm + 1)) (dz_prv nb), dz_pm G (mm + 1) (dz_tm (dz_kp pl pv da) ra (k + 1)) (dz_tm (dz_kp pl pv da) pg (k + 1)) (dz_tm (dz_kp pl pv da) pf (k + 1)) (dz_tm (dz_kp pl pv da) pl (k + 1)) (dz_tm (dz_kp pl pv da) pv (k + 1))]) [0, 2, 3, 4, 1] rfl rfl
            exact ih (k + 1) (ck + 1) (mm + 1) nb (some (nb ck)) mc (by omega) (by rw [dz_ct_1 hkp, ← hck]) (by omega) (by omega) _ _ hO ls (lv_sub hl [1, 2] rfl)
          · have hkp : dz_kp pl pv da k = false := dz_kp_f2 (Int32.not_le.mp c_4)
            refine lv_aload_n X.x X.b dX1_tidy_45 rfl (lv_at hl 1 rfl) ?_
            refine dz_F (n := 0) (x := (dz_m "java/util/Iterator" "remove" "()V")) (C := "java/util/LinkedList$ListItr") (k9 := 1) (n9 := 5) (As := []) (rest := []) (wr := [[(xo, dzo 0 [.ref (xr 0), .ref (xr 1), .ref (xr 2), .ref (xr 3), .ref (xr 4), .ref (xr 5), .ref (xr 6), .ref (xr 7), .ref (xr 8), .ref (xr 9), .int (nI n), .int sl, .int da, .int ti, .int ho, .int dr, .int cr, .int pa, .int pr, .int st, .long mo])], dz_pm G (mm + 1) (dz_tm (dz_kp pl pv da) ra k) (dz_tm (dz_kp pl pv da) pg k) (dz_tm (dz_kp pl pv da) pf k) (dz_tm (dz_kp pl pv da) pl k) (dz_tm (dz_kp pl pv da) pv k)]) X hO hl ((X.K.1 19 _ rfl).2) (dz_J31_remove l G _ q_1 (xr 6) mc mm nb (dz_so (dz_tm (dz_kp pl pv da) ra k)) ck (dz_tm (dz_kp pl pv da) ra k ck) (by first | assumption | omega | decide) (by first | assumption | omega | decide) (rfl)) (dz_F4 q1450 q1541 q1543 q90 q1545) (by decide) (by decide +kernel) ⟨Nat.le_of_ble_eq_true rfl, Nat.le_of_ble_eq_true rfl⟩ ⟨(Nat.le_of_ble_eq_true rfl), (Nat.le_of_ble_eq_true rfl), (Nat.le_of_ble_eq_true rfl), (Nat.le_of_ble_eq_true rfl)⟩ [2, 3, 4] [0, 1] rfl rfl rfl (dz_rc X (hO.at1 2 rfl) (r := (RJ31, TJ31, 5)) rfl) rfl rfl (Nat.le_of_ble_eq_true rfl) dX1_tidy_46 (fun E w1 q9 ce9 H locs hpx hO hce hv9 hcl9 => hpx.elim) (fun r w1 H locs hpo hO => ?_)
            obtain ⟨rfl, rfl⟩ := hpo
            have hO : dz_O G.1 dz_CL A s.heap [[(xo, dzo 0 [.ref (xr 0), .ref (xr 1), .ref (xr 2), .ref (xr 3), .ref (xr 4), .ref (xr 5), .ref (xr 6), .ref (xr 7), .ref (xr 8), .ref (xr 9), .int (nI n), .int sl, .int da, .int ti, .int ho, .int dr, .int cr, .int pa, .int pr, .int st, .long mo])], dz_pm G (mm + 1) (dz_tm (dz_kp pl pv da) ra k) (dz_tm (dz_kp pl pv da) pg k) (dz_tm (dz_kp pl pv da) pf k) (dz_tm (dz_kp pl pv da) pl k) (dz_tm (dz_kp pl pv da) pv k), [(q_1, dzo 19 [.null, va_rf (dz_cur (dz_del nb ck) mm ck), .int (nI ck), .int (mc + 1), .ref (xr 6)])], [(xr 6, dzo 15 [.int (mc + 1), .int (nI mm), va_rf (dz_hd (dz_del nb ck) mm), va_rf (dz_lst (dz_del nb ck) mm)])], dz_no G mm (dz_del nb ck) (dz_del (dz_so (dz_tm (dz_kp pl pv da) ra k)) ck) (dz_nxt (dz_del nb ck) mm) (dz_prv (dz_del nb ck))] _ _ := hO
            refine W.eq (g2 := F0 m 51 ls []) rfl ?_
            refine lv_goto (tgt := 8) X.x X.b dX1_tidy_51 (by decide) ?_
            have hO := hO.cong 4 rfl (w1 := dz_no G mm (dz_del nb ck) (dz_so (dz_tm (dz_kp pl pv da) ra (k + 1))) (dz_nxt (dz_del nb ck) mm) (dz_prv (dz_del nb ck))) (by rw [dz_tm_n ra hkp, ← hck, ← dz_so_del])
            have hO : dz_O G.1 dz_CL A s.heap [[(xo, dzo 0 [.ref (xr 0), .ref (xr 1), .ref (xr 2), .ref (xr 3), .ref (xr 4), .ref (xr 5), .ref (xr 6), .ref (xr 7), .ref (xr 8), .ref (xr 9), .int (nI n), .int sl, .int da, .int ti, .int ho, .int dr, .int cr, .int pa, .int pr, .int st, .long mo])], dz_pm G (mm + 1) (dz_tm (dz_kp pl pv da) ra k) (dz_tm (dz_kp pl pv da) pg k) (dz_tm (dz_kp pl pv da) pf k) (dz_tm (dz_kp pl pv da) pl k) (dz_tm (dz_kp pl pv da) pv k), [(q_1, dzo 19 [.null, va_rf (dz_cur (dz_del nb ck) mm ck), .int (nI ck), .int (mc + 1), .ref (xr 6)])], [(xr 6, dzo 15 [.int (mc + 1), .int (nI mm), va_rf (dz_hd (dz_del nb ck) mm), va_rf (dz_lst (dz_del nb ck) mm)])], dz_no G mm (dz_del nb ck) (dz_so (dz_tm (dz_kp pl pv da) ra (k + 1))) (dz_nxt (dz_del nb ck) mm) (dz_prv (dz_del nb ck))] _ _ := hO
            have hO := hO.sel (v := [dz_pm G (mm + 1) (dz_tm (dz_kp pl pv da) ra k) (dz_tm (dz_kp pl pv da) pg k) (dz_tm (dz_kp pl pv da) pf k) (dz_tm (dz_kp pl pv da) pl k) (dz_tm (dz_kp pl pv da) pv k), [(xo, dzo 0 [.ref (xr 0), .ref (xr 1), .ref (xr 2), .ref (xr 3), .ref (xr 4), .ref (xr 5), .ref (xr 6), .ref (xr 7), .ref (xr 8), .ref (xr 9), .int (nI n), .int sl, .int da, .int ti, .int ho, .int dr, .int cr, .int pa, .int pr, .int st, .long mo])], [(q_1, dzo 19 [.null, va_rf (dz_cur (dz_del nb ck) mm ck), .int (nI ck), .int (mc + 1), .ref (xr 6)])], [(xr 6, dzo 15 [.int (mc + 1), .int (nI mm), va_rf (dz_hd (dz_del nb ck) mm), va_rf (dz_lst (dz_del nb ck) mm)])], dz_no G mm (dz_del nb ck) (dz_so (dz_tm (dz_kp pl pv da) ra (k + 1))) (dz_nxt (dz_del nb ck) mm) (dz_prv (dz_del nb ck))]) [1, 0, 2, 3, 4] rfl rfl
            have hO : dz_O G.1 dz_CL A s.heap [dz_pm G mm (dz_tm (dz_kp pl pv da) ra (k + 1)) (dz_tm (dz_kp pl pv da) pg (k + 1)) (dz_tm (dz_kp pl pv da) pf (k + 1)) (dz_tm (dz_kp pl pv da) pl (k + 1)) (dz_tm (dz_kp pl pv da) pv (k + 1)), [(xo, dzo 0 [.ref (xr 0), .ref (xr 1), .ref (xr 2), .ref (xr 3), .ref (xr 4), .ref (xr 5), .ref (xr 6), .ref (xr 7), .ref (xr 8), .ref (xr 9), .int (nI n), .int sl, .int da, .int ti, .int ho, .int dr, .int cr, .int pa, .int pr, .int st, .long mo])], [(q_1, dzo 19 [.null, va_rf (dz_cur (dz_del nb ck) mm ck), .int (nI ck), .int (mc + 1), .ref (xr 6)])], [(xr 6, dzo 15 [.int (mc + 1), .int (nI mm), va_rf (dz_hd (dz_del nb ck) mm), va_rf (dz_lst (dz_del nb ck) mm)])], dz_no G mm (dz_del nb ck) (dz_so (dz_tm (dz_kp pl pv da) ra (k + 1))) (dz_nxt (dz_del nb ck) mm) (dz_prv (dz_del nb ck))] _ _ := hO.pdel (j := ck) (by omega) (fun i hi => by rw [dz_tm_n ra hkp, dz_tm_n pg hkp, dz_tm_n pf hkp, dz_tm_n pl hkp, dz_tm_n pv hkp, ← hck]; unfold dz_del; split <;> rfl)
            have hO := hO.sel (v := [[(xo, dzo 0 [.ref (xr 0), .ref (xr 1), .ref (xr 2), .ref (xr 3), .ref (xr 4), .ref (xr 5), .ref (xr 6), .ref (xr 7), .ref (xr 8), .ref (xr 9), .int (nI n), .int sl, .int da, .int ti, .int ho, .int dr, .int cr, .int pa, .int pr, .int st, .long mo])], [(q_1, dzo 19 [.null, va_rf (dz_cur (dz_del nb ck) mm ck), .int (nI ck), .int (mc + 1), .ref (xr 6)])], [(xr 6, dzo 15 [.int (mc + 1), .int (nI mm), va_rf (dz_hd (dz_del nb ck) mm), va_rf (dz_lst (dz_del nb ck) mm)])], dz_no G mm (dz_del nb ck) (dz_so (dz_tm (dz_kp pl pv da) ra (k + 1))) (dz_nxt (dz_del nb ck) mm) (dz_prv (dz_del nb ck)), dz_pm G mm (dz_tm (dz_kp pl pv da) ra (k + 1)) (dz_tm (dz_kp pl pv da) pg (k + 1)) (dz_tm (dz_kp pl pv da) pf (k + 1)) (dz_tm (dz_kp pl pv da) pl (k + 1)) (dz_tm (dz_kp pl pv da) pv (k + 1))]) [1, 2, 3, 4, 0] rfl rfl
            exact ih (k + 1) ck mm (dz_del nb ck) none (mc + 1) (by omega) (by rw [dz_ct_n hkp, ← hck]) (by omega) (by omega) _ _ hO ls (lv_sub hl [1, 2] rfl)
  have hO := hO.cong 1 rfl (w1 := dz_no G pn na (dz_so (dz_tm (dz_kp pl pv da) ra 0)) (dz_nxt na pn) (dz_prv na)) (by rw [dz_tm_0])
  have hO : dz_O G.1 dz_CL A s.heap [[(xo, dzo 0 [.ref (xr 0), .ref (xr 1), .ref (xr 2), .ref (xr 3), .ref (xr 4), .ref (xr 5), .ref (xr 6), .ref (xr 7), .ref (xr 8), .ref (xr 9), .int (nI n), .int sl, .int da, .int ti, .int ho, .int dr, .int cr, .int pa, .int pr, .int st, .long mo])], dz_no G pn na (dz_so (dz_tm (dz_kp pl pv da) ra 0)) (dz_nxt na pn) (dz_prv na), dz_pm G pn ra pg pf pl pv, [(q_1, dzo 19 [.null, va_rf (dz_cur na pn 0), .int 0, .int pm, .ref (xr 6)])], [(xr 6, dzo 15 [.int pm, .int (nI pn), va_rf (dz_hd na pn), va_rf (dz_lst na pn)])]] _ _ := hO
  have hO := hO.cong 2 rfl (w1 := dz_pm G pn (dz_tm (dz_kp pl pv da) ra 0) (dz_tm (dz_kp pl pv da) pg 0) (dz_tm (dz_kp pl pv da) pf 0) (dz_tm (dz_kp pl pv da) pl 0) (dz_tm (dz_kp pl pv da) pv 0)) (by simp only [dz_tm_0])
  have hO : dz_O G.1 dz_CL A s.heap [[(xo, dzo 0 [.ref (xr 0), .ref (xr 1), .ref (xr 2), .ref (xr 3), .ref (xr 4), .ref (xr 5), .ref (xr 6), .ref (xr 7), .ref (xr 8), .ref (xr 9), .int (nI n), .int sl, .int da, .int ti, .int ho, .int dr, .int cr, .int pa, .int pr, .int st, .long mo])], dz_no G pn na (dz_so (dz_tm (dz_kp pl pv da) ra 0)) (dz_nxt na pn) (dz_prv na), dz_pm G pn (dz_tm (dz_kp pl pv da) ra 0) (dz_tm (dz_kp pl pv da) pg 0) (dz_tm (dz_kp pl pv da) pf 0) (dz_tm (dz_kp pl pv da) pl 0) (dz_tm (dz_kp pl pv da) pv 0), [(q_1, dzo 19 [.null, va_rf (dz_cur na pn 0), .int 0, .int pm, .ref (xr 6)])], [(xr 6, dzo 15 [.int pm, .int (nI pn), va_rf (dz_hd na pn), va_rf (dz_lst na pn)])]] _ _ := hO
  have hO := hO.sel (v := [[(xo, dzo 0 [.ref (xr 0), .ref (xr 1), .ref (xr 2), .ref (xr 3), .ref (xr 4), .ref (xr 5), .ref (xr 6), .ref (xr 7), .ref (xr 8), .ref (xr 9), .int (nI n), .int sl, .int da, .int ti, .int ho, .int dr, .int cr, .int pa, .int pr, .int st, .long mo])], [(q_1, dzo 19 [.null, va_rf (dz_cur na pn 0), .int 0, .int pm, .ref (xr 6)])], [(xr 6, dzo 15 [.int pm, .int (nI pn), va_rf (dz_hd na pn), va_rf (dz_lst na pn)])], dz_no G pn na (dz_so (dz_tm (dz_kp pl pv da) ra 0)) (dz_nxt na pn) (dz_prv na), dz_pm G pn (dz_tm (dz_kp pl pv da) ra 0) (dz_tm (dz_kp pl pv da) pg 0) (dz_tm (dz_kp pl pv da) pf 0) (dz_tm (dz_kp pl pv da) pl 0) (dz_tm (dz_kp pl pv da) pv 0)]) [0, 3, 4, 1, 2] rfl rfl
  exact hcut_8 _ 0 0 pn na none pm (by omega) (rfl) (by omega) (Nat.lt_succ_self _) _ _ hO ls (lv_sub hl [0, 1] rfl)
set_option maxHeartbeats 4000000 in
set_option maxRecDepth 100000 in
/-- pass -/
theorem dz_X1_pass (l : Launch) (hst : l.stackTraces = false) (G : dz_G) (sz : Nat) (xo : Nat) (xr : Nat → Nat) (sl : Int32) (da : Int32) (ti : Int32) (ho : Int32) (dr : Int32) (cr : Int32) (pa : Int32) (pr : Int32) (st : Int32) (n : Nat) (mo : Int64) (k : Int32) (dp : Nat → Int32) (pm : Int32) (pn : Nat) (na : Nat → Nat) (ra : Nat → Nat) (pg : Nat → Int32) (pf : Nat → Int32) (pl : Nat → Int32) (pv : Nat → Int32) (hn : n ≤ 24) (hsl : dz_slr sl) (hdr : dz_dr3 n dp) (hp : pn ≤ 8) (hpv : dz_pvr pv pn) : dz_M l G yX1_pass cX1_pass 4 (some FieldType.int) ({ frames := 140, cells := 40, slots := 800, locals := 2100 } : Room) [.ref xo, .int k] [[(xo, dzo 0 [.ref (xr 0), .ref (xr 1), .ref (xr 2), .ref (xr 3), .ref (xr 4), .ref (xr 5), .ref (xr 6), .ref (xr 7), .ref (xr 8), .ref (xr 9), .int (nI n), .int sl, .int da, .int ti, .int ho, .int dr, .int cr, .int pa, .int pr, .int st, .long mo])], [(xr 0, dzS G 24 dp)], [(xr 6, dzo 15 [.int pm, .int (nI pn), va_rf (dz_hd na pn), va_rf (dz_lst na pn)])], dz_no G pn na (dz_so ra) (dz_nxt na pn) (dz_prv na), dz_pm G pn ra pg pf pl pv] sz (fun r w1 => ∃ (pm9 : Int32), ∃ (na9 : Nat → Nat), r = some (.int (dz_pI n sl dp k.toNatClampNeg)) ∧ w1 = [[(xo, dzo 0 [.ref (xr 0), .ref (xr 1), .ref (xr 2), .ref (xr 3), .ref (xr 4), .ref (xr 5), .ref (xr 6), .ref (xr 7), .ref (xr 8), .ref (xr 9), .int (nI n), .int sl, .int (da + k), .int ti, .int ho, .int dr, .int (cr + dz_pI n sl dp k.toNatClampNeg), .int pa, .int pr, .int st, .long mo])], [(xr 0, dzS G 24 (dz_pD n sl dp k.toNatClampNeg))], [(xr 6, dzo 15 [.int pm9, .int (nI (dz_ct (dz_kp pl pv (da + k)) pn)), va_rf (dz_hd na9 (dz_ct (dz_kp pl pv (da + k)) pn)), va_rf (dz_lst na9 (dz_ct (dz_kp pl pv (da + k)) pn))])], dz_no G (dz_ct (dz_kp pl pv (da + k)) pn) na9 (dz_so (dz_td (dz_kp pl pv (da + k)) ra pn)) (dz_nxt na9 (dz_ct (dz_kp pl pv (da + k)) pn)) (dz_prv na9), dz_pm G (dz_ct (dz_kp pl pv (da + k)) pn) (dz_td (dz_kp pl pv (da + k)) ra pn) (dz_td (dz_kp pl pv (da + k)) pg pn) (dz_td (dz_kp pl pv (da + k)) pf pn) (dz_td (dz_kp pl pv (da + k)) pl pn) (dz_td (dz_kp pl pv (da + k)) pv pn)] ∧ dz_kpass da k = 0) (fun E w1 => w1 = [[(xo, dzo 0 [.ref (xr 0), .ref (xr 1), .ref (xr 2), .ref (xr 3), .ref (xr 4), .ref (xr 5), .ref (xr 6), .ref (xr 7), .ref (xr 8), .ref (xr 9), .int (nI n), .int sl, .int da, .int ti, .int ho, .int dr, .int cr, .int pa, .int pr, .int st, .long mo])], [(xr 0, dzS G 24 dp)], [(xr 6, dzo 15 [.int pm, .int (nI pn), va_rf (dz_hd na pn), va_rf (dz_lst na pn)])], dz_no G pn na (dz_so ra) (dz_nxt na pn) (dz_prv na), dz_pm G pn ra pg pf pl pv] ∧ ((E = "java/lang/IllegalArgumentException" ∧ dz_kpass da k = 1) ∨ (E = "java/lang/IllegalStateException" ∧ dz_kpass da k = 2))) := by
  refine dz_start (by decide) (Nat.le_of_ble_eq_true rfl) ?_
  intro p e s m below meth c A ls X hO hsz hl
  have hl : lv_has ls 4 [(0, .ref xo), (1, .int k)] := hl
  refine lv_iload_n X.x X.b dX1_pass_0 rfl (lv_at hl 1 rfl) ?_
  refine lv_iconst (v := 1) X.x X.b dX1_pass_1 (by decide) ?_
  refine lv_bipush (v := 30) X.x X.b dX1_pass_2 (by decide) ?_
  refine dz_S (n := 3) (k9 := 0) (n9 := 0) (As := [.int k, .int 1, .int 30]) (rest := []) (wr := [[(xo, dzo 0 [.ref (xr 0), .ref (xr 1), .ref (xr 2), .ref (xr 3), .ref (xr 4), .ref (xr 5), .ref (xr 6), .ref (xr 7), .ref (xr 8), .ref (xr 9), .int (nI n), .int sl, .int da, .int ti, .int ho, .int dr, .int cr, .int pa, .int pr, .int st, .long mo])], [(xr 0, dzS G 24 dp)], [(xr 6, dzo 15 [.int pm, .int (nI pn), va_rf (dz_hd na pn), va_rf (dz_lst na pn)])], dz_no G pn na (dz_so ra) (dz_nxt na pn) (dz_prv na), dz_pm G pn ra pg pf pl pv]) X hO hl (dz_X1_isBetween l G _ k 1 30 ) (lw_S q1131 q1003 q48 q1004) (by decide +kernel) ⟨Nat.le_of_ble_eq_true rfl, Nat.le_of_ble_eq_true rfl⟩ ⟨(Nat.le_of_ble_eq_true rfl), (Nat.le_of_ble_eq_true rfl), (Nat.le_of_ble_eq_true rfl), (Nat.le_of_ble_eq_true rfl)⟩ [] [0, 1, 2, 3, 4] rfl rfl rfl rfl rfl (Nat.le_of_ble_eq_true rfl) dX1_pass_4 (fun E w1 q9 ce9 H locs hpx hO hce hv9 hcl9 => hpx.elim) (fun r w1 H locs hpo hO => ?_)
  obtain ⟨rfl, rfl⟩ := hpo
  have hO : dz_O G.1 dz_CL A s.heap [[(xo, dzo 0 [.ref (xr 0), .ref (xr 1), .ref (xr 2), .ref (xr 3), .ref (xr 4), .ref (xr 5), .ref (xr 6), .ref (xr 7), .ref (xr 8), .ref (xr 9), .int (nI n), .int sl, .int da, .int ti, .int ho, .int dr, .int cr, .int pa, .int pr, .int st, .long mo])], [(xr 0, dzS G 24 dp)], [(xr 6, dzo 15 [.int pm, .int (nI pn), va_rf (dz_hd na pn), va_rf (dz_lst na pn)])], dz_no G pn na (dz_so ra) (dz_nxt na pn) (dz_prv na), dz_pm G pn ra pg pf pl pv] _ _ := hO
  refine W.eq (g2 := F0 m 7 ls [.int (dz_bi k 1 30)]) rfl ?_
  refine dz_S (n := 1) (k9 := 1) (n9 := 6) (As := [.int (dz_bi k 1 30)]) (rest := []) (wr := [[(xo, dzo 0 [.ref (xr 0), .ref (xr 1), .ref (xr 2), .ref (xr 3), .ref (xr 4), .ref (xr 5), .ref (xr 6), .ref (xr 7), .ref (xr 8), .ref (xr 9), .int (nI n), .int sl, .int da, .int ti, .int ho, .int dr, .int cr, .int pa, .int pr, .int st, .long mo])], [(xr 0, dzS G 24 dp)], [(xr 6, dzo 15 [.int pm, .int (nI pn), va_rf (dz_hd na pn), va_rf (dz_lst na pn)])], dz_no G pn na (dz_so ra) (dz_nxt na pn) (dz_prv na), dz_pm G pn ra pg pf pl pv]) X hO hl (dz_X1_checkArgument l hst G _ (dz_bi k 1 30) ) (lw_S q1132 q1133 q48 q1134) (by decide +kernel) ⟨Nat.le_of_ble_eq_true rfl, Nat.le_of_ble_eq_true rfl⟩ ⟨(Nat.le_of_ble_eq_true rfl), (Nat.le_of_ble_eq_true rfl), (Nat.le_of_ble_eq_true rfl), (Nat.le_of_ble_eq_true rfl)⟩ [] [0, 1, 2, 3, 4] rfl rfl rfl rfl rfl (Nat.le_of_ble_eq_true rfl) dX1_pass_7 ?_ (fun r w1 H locs hpo hO => ?_)
  · intro E w1 q9 ce9 H locs hpx hO hce hv9 hcl9
    obtain ⟨rfl, hpx⟩ := hpx
    have hO : dz_O G.1 dz_CL A s.heap [[(xo, dzo 0 [.ref (xr 0), .ref (xr 1), .ref (xr 2), .ref (xr 3), .ref (xr 4), .ref (xr 5), .ref (xr 6), .ref (xr 7), .ref (xr 8), .ref (xr 9), .int (nI n), .int sl, .int da, .int ti, .int ho, .int dr, .int cr, .int pa, .int pr, .int st, .long mo])], [(xr 0, dzS G 24 dp)], [(xr 6, dzo 15 [.int pm, .int (nI pn), va_rf (dz_hd na pn), va_rf (dz_lst na pn)])], dz_no G pn na (dz_so ra) (dz_nxt na pn) (dz_prv na), dz_pm G pn ra pg pf pl pv] _ _ := hO
    exact dz_out X rfl hO (⟨rfl, by obtain ⟨hE9, hc9⟩ := hpx; rw [hE9]; simp [dz_kpass, hc9]⟩) hce hv9 hcl9 (Nat.le_of_ble_eq_true rfl) (Nat.le_of_ble_eq_true rfl)
  obtain ⟨rfl, rfl, h_1⟩ := hpo
  have hO : dz_O G.1 dz_CL A s.heap [[(xo, dzo 0 [.ref (xr 0), .ref (xr 1), .ref (xr 2), .ref (xr 3), .ref (xr 4), .ref (xr 5), .ref (xr 6), .ref (xr 7), .ref (xr 8), .ref (xr 9), .int (nI n), .int sl, .int da, .int ti, .int ho, .int dr, .int cr, .int pa, .int pr, .int st, .long mo])], [(xr 0, dzS G 24 dp)], [(xr 6, dzo 15 [.int pm, .int (nI pn), va_rf (dz_hd na pn), va_rf (dz_lst na pn)])], dz_no G pn na (dz_so ra) (dz_nxt na pn) (dz_prv na), dz_pm G pn ra pg pf pl pv] _ _ := hO
  refine W.eq (g2 := F0 m 10 ls []) rfl ?_
  refine lv_aload_n X.x X.b dX1_pass_10 rfl (lv_at hl 0 rfl) ?_
  refine dz_get (v := .int da) X (hO.at1 0 rfl) in_X1 rfl 12 (by decide) q562 (Or.inl rfl) rfl dX1_pass_11 ?_
  refine lv_iload_n X.x X.b dX1_pass_14 rfl (lv_at hl 1 rfl) ?_
  refine lv_iadd X.x X.b dX1_pass_15 ?_
  refine lv_sipush (v := 400) X.x X.b dX1_pass_16 (by decide) ?_
  refine lv_icmp_gt (tgt := 26) X.x X.b dX1_pass_19 (by decide) (fun c_2 => ?_) (fun c_2 => ?_)
  · refine lv_iconst (v := 0) X.x X.b dX1_pass_26 (by decide) ?_
    refine dz_S (n := 1) (k9 := 2) (n9 := 12) (As := [.int 0]) (rest := []) (wr := [[(xo, dzo 0 [.ref (xr 0), .ref (xr 1), .ref (xr 2), .ref (xr 3), .ref (xr 4), .ref (xr 5), .ref (xr 6), .ref (xr 7), .ref (xr 8), .ref (xr 9), .int (nI n), .int sl, .int da, .int ti, .int ho, .int dr, .int cr, .int pa, .int pr, .int st, .long mo])], [(xr 0, dzS G 24 dp)], [(xr 6, dzo 15 [.int pm, .int (nI pn), va_rf (dz_hd na pn), va_rf (dz_lst na pn)])], dz_no G pn na (dz_so ra) (dz_nxt na pn) (dz_prv na), dz_pm G pn ra pg pf pl pv]) X hO hl (dz_X1_checkState l hst G _ 0 ) (lw_S q1140 q1141 q48 q1142) (by decide +kernel) ⟨Nat.le_of_ble_eq_true rfl, Nat.le_of_ble_eq_true rfl⟩ ⟨(Nat.le_of_ble_eq_true rfl), (Nat.le_of_ble_eq_true rfl), (Nat.le_of_ble_eq_true rfl), (Nat.le_of_ble_eq_true rfl)⟩ [] [0, 1, 2, 3, 4] rfl rfl rfl rfl rfl (Nat.le_of_ble_eq_true rfl) dX1_pass_27 ?_ (fun r w1 H locs hpo hO => ?_)
    · intro E w1 q9 ce9 H locs hpx hO hce hv9 hcl9
      obtain ⟨rfl, hpx⟩ := hpx
      have hO : dz_O G.1 dz_CL A s.heap [[(xo, dzo 0 [.ref (xr 0), .ref (xr 1), .ref (xr 2), .ref (xr 3), .ref (xr 4), .ref (xr 5), .ref (xr 6), .ref (xr 7), .ref (xr 8), .ref (xr 9), .int (nI n), .int sl, .int da, .int ti, .int ho, .int dr, .int cr, .int pa, .int pr, .int st, .long mo])], [(xr 0, dzS G 24 dp)], [(xr 6, dzo 15 [.int pm, .int (nI pn), va_rf (dz_hd na pn), va_rf (dz_lst na pn)])], dz_no G pn na (dz_so ra) (dz_nxt na pn) (dz_prv na), dz_pm G pn ra pg pf pl pv] _ _ := hO
      exact dz_out X rfl hO (⟨rfl, by obtain ⟨hE9, hc9⟩ := hpx; rw [hE9]; simp [dz_kpass, h_1, c_2, Int32.not_le.mpr c_2, hc9]⟩) hce hv9 hcl9 (Nat.le_of_ble_eq_true rfl) (Nat.le_of_ble_eq_true rfl)
    obtain ⟨rfl, rfl, h_3⟩ := hpo
    have hO : dz_O G.1 dz_CL A s.heap [[(xo, dzo 0 [.ref (xr 0), .ref (xr 1), .ref (xr 2), .ref (xr 3), .ref (xr 4), .ref (xr 5), .ref (xr 6), .ref (xr 7), .ref (xr 8), .ref (xr 9), .int (nI n), .int sl, .int da, .int ti, .int ho, .int dr, .int cr, .int pa, .int pr, .int st, .long mo])], [(xr 0, dzS G 24 dp)], [(xr 6, dzo 15 [.int pm, .int (nI pn), va_rf (dz_hd na pn), va_rf (dz_lst na pn)])], dz_no G pn na (dz_so ra) (dz_nxt na pn) (dz_prv na), dz_pm G pn ra pg pf pl pv] _ _ := hO
    refine W.eq (g2 := F0 m 30 ls []) rfl ?_
    exact absurd rfl h_3
  · refine lv_iconst (v := 1) X.x X.b dX1_pass_22 (by decide) ?_
    refine lv_goto (tgt := 27) X.x X.b dX1_pass_23 (by decide) ?_
    refine dz_S (n := 1) (k9 := 2) (n9 := 12) (As := [.int 1]) (rest := []) (wr := [[(xo, dzo 0 [.ref (xr 0), .ref (xr 1), .ref (xr 2), .ref (xr 3), .ref (xr 4), .ref (xr 5), .ref (xr 6), .ref (xr 7), .ref (xr 8), .ref (xr 9), .int (nI n), .int sl, .int da, .int ti, .int ho, .int dr, .int cr, .int pa, .int pr, .int st, .long mo])], [(xr 0, dzS G 24 dp)], [(xr 6, dzo 15 [.int pm, .int (nI pn), va_rf (dz_hd na pn), va_rf (dz_lst na pn)])], dz_no G pn na (dz_so ra) (dz_nxt na pn) (dz_prv na), dz_pm G pn ra pg pf pl pv]) X hO hl (dz_X1_checkState l hst G _ 1 ) (lw_S q1140 q1141 q48 q1142) (by decide +kernel) ⟨Nat.le_of_ble_eq_true rfl, Nat.le_of_ble_eq_true rfl⟩ ⟨(Nat.le_of_ble_eq_true rfl), (Nat.le_of_ble_eq_true rfl), (Nat.le_of_ble_eq_true rfl), (Nat.le_of_ble_eq_true rfl)⟩ [] [0, 1, 2, 3, 4] rfl rfl rfl rfl rfl (Nat.le_of_ble_eq_true rfl) dX1_pass_27 ?_ (fun r w1 H locs hpo hO => ?_)
    · intro E w1 q9 ce9 H locs hpx hO hce hv9 hcl9
      exact absurd hpx.2.2 (by decide)
    obtain ⟨rfl, rfl, h_4⟩ := hpo
    have hO : dz_O G.1 dz_CL A s.heap [[(xo, dzo 0 [.ref (xr 0), .ref (xr 1), .ref (xr 2), .ref (xr 3), .ref (xr 4), .ref (xr 5), .ref (xr 6), .ref (xr 7), .ref (xr 8), .ref (xr 9), .int (nI n), .int sl, .int da, .int ti, .int ho, .int dr, .int cr, .int pa, .int pr, .int st, .long mo])], [(xr 0, dzS G 24 dp)], [(xr 6, dzo 15 [.int pm, .int (nI pn), va_rf (dz_hd na pn), va_rf (dz_lst na pn)])], dz_no G pn na (dz_so ra) (dz_nxt na pn) (dz_prv na), dz_pm G pn ra pg pf pl pv] _ _ := hO
    refine W.eq (g2 := F0 m 30 ls []) rfl ?_
    obtain ⟨j9, hj1, hj2, hk9⟩ := dz_bi_nat (a := 1) (b := 30) (by decide) h_1 (by decide)
    subst hk9
    have hcj : (nI j9).toNatClampNeg = j9 := nI_clamp (by omega)
    refine lv_iconst (v := 0) X.x X.b dX1_pass_30 (by decide) ?_
    refine lv_istore_n (lv' := [(2, .int 0), (0, .ref xo), (1, .int (nI j9))]) X.x X.b dX1_pass_31 rfl hl (by decide) rfl (fun ls hl => ?_)
    refine lv_iconst (v := 0) X.x X.b dX1_pass_32 (by decide) ?_
    refine lv_istore_n (lv' := [(3, .int 0), (2, .int 0), (0, .ref xo), (1, .int (nI j9))]) X.x X.b dX1_pass_33 rfl hl (by decide) rfl (fun ls hl => ?_)
    have hcut_34 : ∀ (n9 : Nat), ∀ (i : Nat), (i ≤ j9) → j9 - i < n9 → ∀ (H : Heap) (locs : List Loc), dz_O G.1 dz_CL A s.heap [[(xo, dzo 0 [.ref (xr 0), .ref (xr 1), .ref (xr 2), .ref (xr 3), .ref (xr 4), .ref (xr 5), .ref (xr 6), .ref (xr 7), .ref (xr 8), .ref (xr 9), .int (nI n), .int sl, .int (da + nI i), .int ti, .int ho, .int dr, .int cr, .int pa, .int pr, .int st, .long mo])], [(xr 0, dzS G 24 (dz_pD n sl dp i))], [(xr 6, dzo 15 [.int pm, .int (nI pn), va_rf (dz_hd na pn), va_rf (dz_lst na pn)])], dz_no G pn na (dz_so ra) (dz_nxt na pn) (dz_prv na), dz_pm G pn ra pg pf pl pv] H locs → ∀ (ls : Array Slot), lv_has ls 4 [(3, .int (nI i)), (2, .int (dz_pI n sl dp i)), (0, .ref xo), (1, .int (nI j9))] → W p l e ({ frames := 140, cells := 40, slots := 800, locals := 2100 } : Room) s m ([.ref xo, .int (nI j9)] : List Value).toArray below meth c H locs (2 + i) (12 + 25 * i) (vx_MQ below (dz_Q G (fun r w1 => ∃ (pm9 : Int32), ∃ (na9 : Nat → Nat), r = some (.int (dz_pI n sl dp (nI j9).toNatClampNeg)) ∧ w1 = [[(xo, dzo 0 [.ref (xr 0), .ref (xr 1), .ref (xr 2), .ref (xr 3), .ref (xr 4), .ref (xr 5), .ref (xr 6), .ref (xr 7), .ref (xr 8), .ref (xr 9), .int (nI n), .int sl, .int (da + (nI j9)), .int ti, .int ho, .int dr, .int (cr + dz_pI n sl dp (nI j9).toNatClampNeg), .int pa, .int pr, .int st, .long mo])], [(xr 0, dzS G 24 (dz_pD n sl dp (nI j9).toNatClampNeg))], [(xr 6, dzo 15 [.int pm9, .int (nI (dz_ct (dz_kp pl pv (da + (nI j9))) pn)), va_rf (dz_hd na9 (dz_ct (dz_kp pl pv (da + (nI j9))) pn)), va_rf (dz_lst na9 (dz_ct (dz_kp pl pv (da + (nI j9))) pn))])], dz_no G (dz_ct (dz_kp pl pv (da + (nI j9))) pn) na9 (dz_so (dz_td (dz_kp pl pv (da + (nI j9))) ra pn)) (dz_nxt na9 (dz_ct (dz_kp pl pv (da + (nI j9))) pn)) (dz_prv na9), dz_pm G (dz_ct (dz_kp pl pv (da + (nI j9))) pn) (dz_td (dz_kp pl pv (da + (nI j9))) ra pn) (dz_td (dz_kp pl pv (da + (nI j9))) pg pn) (dz_td (dz_kp pl pv (da + (nI j9))) pf pn) (dz_td (dz_kp pl pv (da + (nI j9))) pl pn) (dz_td (dz_kp pl pv (da + (nI j9))) pv pn)] ∧ dz_kpass da (nI j9) = 0) A) (dz_QX G (fun E w1 => w1 = [[(xo, dzo 0 [.ref (xr 0), .ref (xr 1), .ref (xr 2), .ref (xr 3), .ref (xr 4), .ref (xr 5), .ref (xr 6), .ref (xr 7), .ref (xr 8), .ref (xr 9), .int (nI n), .int sl, .int da, .int ti, .int ho, .int dr, .int cr, .int pa, .int pr, .int st, .long mo])], [(xr 0, dzS G 24 dp)], [(xr 6, dzo 15 [.int pm, .int (nI pn), va_rf (dz_hd na pn), va_rf (dz_lst na pn)])], dz_no G pn na (dz_so ra) (dz_nxt na pn) (dz_prv na), dz_pm G pn ra pg pf pl pv] ∧ ((E = "java/lang/IllegalArgumentException" ∧ dz_kpass da (nI j9) = 1) ∨ (E = "java/lang/IllegalStateException" ∧ dz_kpass da (nI j9) = 2))) A) ([.ref xo, .int (nI j9)] : List Value).toArray s 40 800 A) (F0 m 34 ls []) := by
      intro n9
      induction n9 with
      | zero => intro i hi hmu9; exact absurd hmu9 (Nat.not_lt_zero _)
      | succ n9 ih =>
        intro i hi hmu9 H locs hO ls hl
        refine lv_iload_n X.x X.b dX1_pass_34 rfl (lv_at hl 0 rfl) ?_
        refine lv_iload_n X.x X.b dX1_pass_35 rfl (lv_at hl 3 rfl) ?_
        refine lv_icmp_ge (tgt := 62) X.x X.b dX1_pass_36 (by decide) (fun c_5 => ?_) (fun c_5 => ?_)
        · have nc_5 : j9 ≤ i := (nI_leI (a := j9) (b := i) (by omega) (by omega)).mp c_5
          have hij : i = j9 := by omega
          subst hij
          refine lv_aload_n X.x X.b dX1_pass_62 rfl (lv_at hl 2 rfl) ?_
          refine lv_dup X.x X.b dX1_pass_63 rfl ?_
          refine dz_get (v := .int cr) X (hO.at1 0 rfl) in_X1 rfl 16 (by decide) q566 (Or.inl rfl) rfl dX1_pass_64 ?_
          refine lv_iload_n X.x X.b dX1_pass_67 rfl (lv_at hl 1 rfl) ?_
          refine lv_iadd X.x X.b dX1_pass_68 ?_
          refine dz_put (v := .int (cr + dz_pI n sl dp i)) X hO 0 rfl in_X1 tyX1 tyX1_ok nmX1 rfl 16 (by decide) q566 (Or.inl rfl) (Or.inl rfl) rfl rfl (Nat.le_of_ble_eq_true rfl) dX1_pass_69 (fun H locs hO => ?_)
          have hO : dz_O G.1 dz_CL A s.heap [[(xo, dzo 0 [.ref (xr 0), .ref (xr 1), .ref (xr 2), .ref (xr 3), .ref (xr 4), .ref (xr 5), .ref (xr 6), .ref (xr 7), .ref (xr 8), .ref (xr 9), .int (nI n), .int sl, .int (da + nI i), .int ti, .int ho, .int dr, .int (cr + dz_pI n sl dp i), .int pa, .int pr, .int st, .long mo])], [(xr 0, dzS G 24 (dz_pD n sl dp i))], [(xr 6, dzo 15 [.int pm, .int (nI pn), va_rf (dz_hd na pn), va_rf (dz_lst na pn)])], dz_no G pn na (dz_so ra) (dz_nxt na pn) (dz_prv na), dz_pm G pn ra pg pf pl pv] _ _ := hO
          refine lv_aload_n X.x X.b dX1_pass_72 rfl (lv_at hl 2 rfl) ?_
          refine dz_V (n := 0) (k9 := 2 + i + 1) (n9 := 12 + 25 * i + 5) (As := []) (rest := []) (wr := [[(xr 0, dzS G 24 (dz_pD n sl dp i))]]) X hO hl (dz_X1_tidy l G _ xo xr sl (da + nI i) ti ho dr (cr + dz_pI n sl dp i) pa pr st n mo pm pn na ra pg pf pl pv (by first | assumption | omega | decide) (by first | assumption | omega | decide)) (lw_V q1364 q1366 qs15 q48 q1367) (by decide +kernel) ⟨Nat.le_of_ble_eq_true rfl, Nat.le_of_ble_eq_true rfl⟩ ⟨(by first | omega | (dsimp only; omega)), (by first | omega | (dsimp only; omega)), (by first | omega | (dsimp only; omega)), (by first | omega | (dsimp only; omega))⟩ [0, 2, 3, 4] [1] rfl rfl rfl (dz_rc X (hO.at1 0 rfl) (r := (RX1, TX1, 21)) rfl) rfl rfl (Nat.le_of_ble_eq_true rfl) dX1_pass_73 (fun E w1 q9 ce9 H locs hpx hO hce hv9 hcl9 => hpx.elim) (fun r w1 H locs hpo hO => ?_)
          obtain ⟨pm9_6, na9_7, rfl, rfl⟩ := hpo
          have hO : dz_O G.1 dz_CL A s.heap [[(xr 0, dzS G 24 (dz_pD n sl dp i))], [(xo, dzo 0 [.ref (xr 0), .ref (xr 1), .ref (xr 2), .ref (xr 3), .ref (xr 4), .ref (xr 5), .ref (xr 6), .ref (xr 7), .ref (xr 8), .ref (xr 9), .int (nI n), .int sl, .int (da + nI i), .int ti, .int ho, .int dr, .int (cr + dz_pI n sl dp i), .int pa, .int pr, .int st, .long mo])], [(xr 6, dzo 15 [.int pm9_6, .int (nI (dz_ct (dz_kp pl pv (da + nI i)) pn)), va_rf (dz_hd na9_7 (dz_ct (dz_kp pl pv (da + nI i)) pn)), va_rf (dz_lst na9_7 (dz_ct (dz_kp pl pv (da + nI i)) pn))])], dz_no G (dz_ct (dz_kp pl pv (da + nI i)) pn) na9_7 (dz_so (dz_td (dz_kp pl pv (da + nI i)) ra pn)) (dz_nxt na9_7 (dz_ct (dz_kp pl pv (da + nI i)) pn)) (dz_prv na9_7), dz_pm G (dz_ct (dz_kp pl pv (da + nI i)) pn) (dz_td (dz_kp pl pv (da + nI i)) ra pn) (dz_td (dz_kp pl pv (da + nI i)) pg pn) (dz_td (dz_kp pl pv (da + nI i)) pf pn) (dz_td (dz_kp pl pv (da + nI i)) pl pn) (dz_td (dz_kp pl pv (da + nI i)) pv pn)] _ _ := hO
          refine W.eq (g2 := F0 m 76 ls []) rfl ?_
          refine lv_iload_n X.x X.b dX1_pass_76 rfl (lv_at hl 1 rfl) ?_
          have hO := hO.sel (v := [[(xo, dzo 0 [.ref (xr 0), .ref (xr 1), .ref (xr 2), .ref (xr 3), .ref (xr 4), .ref (xr 5), .ref (xr 6), .ref (xr 7), .ref (xr 8), .ref (xr 9), .int (nI n), .int sl, .int (da + nI i), .int ti, .int ho, .int dr, .int (cr + dz_pI n sl dp i), .int pa, .int pr, .int st, .long mo])], [(xr 0, dzS G 24 (dz_pD n sl dp i))], [(xr 6, dzo 15 [.int pm9_6, .int (nI (dz_ct (dz_kp pl pv (da + nI i)) pn)), va_rf (dz_hd na9_7 (dz_ct (dz_kp pl pv (da + nI i)) pn)), va_rf (dz_lst na9_7 (dz_ct (dz_kp pl pv (da + nI i)) pn))])], dz_no G (dz_ct (dz_kp pl pv (da + nI i)) pn) na9_7 (dz_so (dz_td (dz_kp pl pv (da + nI i)) ra pn)) (dz_nxt na9_7 (dz_ct (dz_kp pl pv (da + nI i)) pn)) (dz_prv na9_7), dz_pm G (dz_ct (dz_kp pl pv (da + nI i)) pn) (dz_td (dz_kp pl pv (da + nI i)) ra pn) (dz_td (dz_kp pl pv (da + nI i)) pg pn) (dz_td (dz_kp pl pv (da + nI i)) pf pn) (dz_td (dz_kp pl pv (da + nI i)) pl pn) (dz_td (dz_kp pl pv (da + nI i)) pv pn)]) [1, 0, 2, 3, 4] rfl rfl
          exact dz_iret X hO rfl (⟨pm9_6, na9_7, by rw [hcj], by rw [hcj], by simp [dz_kpass, h_1, c_2, h_4, hi, c_5, nc_5, h_1, c_2, Int32.not_lt.mp c_2, h_4, hi, c_5, Int32.not_lt.mpr c_5, nc_5]⟩) (by first | omega | (dsimp only; omega)) (by first | omega | (dsimp only; omega)) dX1_pass_77
        · have nc_5 : ¬ j9 ≤ i := fun z9 => c_5 ((nI_leI (a := j9) (b := i) (by omega) (by omega)).mpr z9)
          refine lv_iload_n X.x X.b dX1_pass_39 rfl (lv_at hl 1 rfl) ?_
          refine lv_aload_n X.x X.b dX1_pass_40 rfl (lv_at hl 2 rfl) ?_
          refine dz_V (n := 0) (k9 := 2 + i + 1) (n9 := 12 + 25 * i + 25) (As := []) (rest := [.int (dz_pI n sl dp i)]) (wr := [[(xr 6, dzo 15 [.int pm, .int (nI pn), va_rf (dz_hd na pn), va_rf (dz_lst na pn)])], dz_no G pn na (dz_so ra) (dz_nxt na pn) (dz_prv na), dz_pm G pn ra pg pf pl pv]) X hO hl (dz_X1_creep l G _ xo xr sl (da + nI i) ti ho dr cr pa pr st n mo (dz_pD n sl dp i) (by first | assumption | omega | decide) (by first | assumption | omega | decide) (dz_pD_r hsl hdr i)) (lw_V q1349 q1351 qs12 q48 q1352) (by decide +kernel) ⟨Nat.le_of_ble_eq_true rfl, Nat.le_of_ble_eq_true rfl⟩ ⟨(by first | omega | (dsimp only; omega)), (by first | omega | (dsimp only; omega)), (by first | omega | (dsimp only; omega)), (by first | omega | (dsimp only; omega))⟩ [0, 1] [2, 3, 4] rfl rfl rfl (dz_rc X (hO.at1 0 rfl) (r := (RX1, TX1, 21)) rfl) rfl rfl (Nat.le_of_ble_eq_true rfl) dX1_pass_41 (fun E w1 q9 ce9 H locs hpx hO hce hv9 hcl9 => hpx.elim) (fun r w1 H locs hpo hO => ?_)
          obtain ⟨rfl, rfl⟩ := hpo
          have hO : dz_O G.1 dz_CL A s.heap [[(xr 6, dzo 15 [.int pm, .int (nI pn), va_rf (dz_hd na pn), va_rf (dz_lst na pn)])], dz_no G pn na (dz_so ra) (dz_nxt na pn) (dz_prv na), dz_pm G pn ra pg pf pl pv, [(xo, dzo 0 [.ref (xr 0), .ref (xr 1), .ref (xr 2), .ref (xr 3), .ref (xr 4), .ref (xr 5), .ref (xr 6), .ref (xr 7), .ref (xr 8), .ref (xr 9), .int (nI n), .int sl, .int (da + nI i), .int ti, .int ho, .int dr, .int cr, .int pa, .int pr, .int st, .long mo])], [(xr 0, dzS G 24 (dz_cD n sl (dz_pD n sl dp i)))]] _ _ := hO
          refine W.eq (g2 := F0 m 44 ls [.int (dz_cI n sl (dz_pD n sl dp i)), .int (dz_pI n sl dp i)]) rfl ?_
          refine lv_iadd X.x X.b dX1_pass_44 ?_
          refine lv_istore_n (lv' := [(2, .int (dz_pI n sl dp i + dz_cI n sl (dz_pD n sl dp i))), (3, .int (nI i)), (0, .ref xo), (1, .int (nI j9))]) X.x X.b dX1_pass_45 rfl hl (by decide) rfl (fun ls hl => ?_)
          refine lv_aload_n X.x X.b dX1_pass_46 rfl (lv_at hl 2 rfl) ?_
          refine lv_dup X.x X.b dX1_pass_47 rfl ?_
          refine dz_get (v := .int (da + nI i)) X (hO.at1 3 rfl) in_X1 rfl 12 (by decide) q562 (Or.inl rfl) rfl dX1_pass_48 ?_
          refine lv_iconst (v := 1) X.x X.b dX1_pass_51 (by decide) ?_
          refine lv_iadd X.x X.b dX1_pass_52 ?_
          refine dz_put (v := .int (da + nI i + 1)) X hO 3 rfl in_X1 tyX1 tyX1_ok nmX1 rfl 12 (by decide) q562 (Or.inl rfl) (Or.inl rfl) rfl rfl (Nat.le_of_ble_eq_true rfl) dX1_pass_53 (fun H locs hO => ?_)
          have hO : dz_O G.1 dz_CL A s.heap [[(xr 6, dzo 15 [.int pm, .int (nI pn), va_rf (dz_hd na pn), va_rf (dz_lst na pn)])], dz_no G pn na (dz_so ra) (dz_nxt na pn) (dz_prv na), dz_pm G pn ra pg pf pl pv, [(xo, dzo 0 [.ref (xr 0), .ref (xr 1), .ref (xr 2), .ref (xr 3), .ref (xr 4), .ref (xr 5), .ref (xr 6), .ref (xr 7), .ref (xr 8), .ref (xr 9), .int (nI n), .int sl, .int (da + nI i + 1), .int ti, .int ho, .int dr, .int cr, .int pa, .int pr, .int st, .long mo])], [(xr 0, dzS G 24 (dz_cD n sl (dz_pD n sl dp i)))]] _ _ := hO
          refine lv_iinc (v := nI (i + 1)) (lv' := [(3, .int (nI (i + 1))), (2, .int (dz_pI n sl dp i + dz_cI n sl (dz_pD n sl dp i))), (0, .ref xo), (1, .int (nI j9))]) X.x X.b dX1_pass_56 hl (k := 1) rfl (nI_1 i) (by decide) rfl (fun ls hl => ?_)
          refine lv_goto (tgt := 34) X.x X.b dX1_pass_59 (by decide) ?_
          have hl : lv_has ls 4 [(3, .int (nI (i + 1))), (2, .int (dz_pI n sl dp (i + 1))), (0, .ref xo), (1, .int (nI j9))] := hl
          have hO : dz_O G.1 dz_CL A s.heap [[(xr 6, dzo 15 [.int pm, .int (nI pn), va_rf (dz_hd na pn), va_rf (dz_lst na pn)])], dz_no G pn na (dz_so ra) (dz_nxt na pn) (dz_prv na), dz_pm G pn ra pg pf pl pv, [(xo, dzo 0 [.ref (xr 0), .ref (xr 1), .ref (xr 2), .ref (xr 3), .ref (xr 4), .ref (xr 5), .ref (xr 6), .ref (xr 7), .ref (xr 8), .ref (xr 9), .int (nI n), .int sl, .int (da + nI i + 1), .int ti, .int ho, .int dr, .int cr, .int pa, .int pr, .int st, .long mo])], [(xr 0, dzS G 24 (dz_pD n sl dp (i + 1)))]] _ _ := hO
          have hO := hO.cong 3 rfl (w1 := [(xo, dzo 0 [.ref (xr 0), .ref (xr 1), .ref (xr 2), .ref (xr 3), .ref (xr 4), .ref (xr 5), .ref (xr 6), .ref (xr 7), .ref (xr 8), .ref (xr 9), .int (nI n), .int sl, .int (da + nI (i + 1)), .int ti, .int ho, .int dr, .int cr, .int pa, .int pr, .int st, .long mo])]) (by rw [show da + nI (i + 1) = da + nI i + 1 from by rw [← nI_1, Int32.add_assoc]])
          have hO : dz_O G.1 dz_CL A s.heap [[(xr 6, dzo 15 [.int pm, .int (nI pn), va_rf (dz_hd na pn), va_rf (dz_lst na pn)])], dz_no G pn na (dz_so ra) (dz_nxt na pn) (dz_prv na), dz_pm G pn ra pg pf pl pv, [(xo, dzo 0 [.ref (xr 0), .ref (xr 1), .ref (xr 2), .ref (xr 3), .ref (xr 4), .ref (xr 5), .ref (xr 6), .ref (xr 7), .ref (xr 8), .ref (xr 9), .int (nI n), .int sl, .int (da + nI (i + 1)), .int ti, .int ho, .int dr, .int cr, .int pa, .int pr, .int st, .long mo])], [(xr 0, dzS G 24 (dz_pD n sl dp (i + 1)))]] _ _ := hO
          have hO := hO.sel (v := [[(xo, dzo 0 [.ref (xr 0), .ref (xr 1), .ref (xr 2), .ref (xr 3), .ref (xr 4), .ref (xr 5), .ref (xr 6), .ref (xr 7), .ref (xr 8), .ref (xr 9), .int (nI n), .int sl, .int (da + nI (i + 1)), .int ti, .int ho, .int dr, .int cr, .int pa, .int pr, .int st, .long mo])], [(xr 0, dzS G 24 (dz_pD n sl dp (i + 1)))], [(xr 6, dzo 15 [.int pm, .int (nI pn), va_rf (dz_hd na pn), va_rf (dz_lst na pn)])], dz_no G pn na (dz_so ra) (dz_nxt na pn) (dz_prv na), dz_pm G pn ra pg pf pl pv]) [3, 4, 0, 1, 2] rfl rfl
          refine W.widen (k := 2 + (i + 1)) (n := 12 + 25 * (i + 1)) (by first | omega | (dsimp only; omega)) (by first | omega | (dsimp only; omega)) ?_
          exact ih (i + 1) (by first | assumption | omega) (by omega) _ _ hO ls (lv_sub hl [0, 1, 2, 3] rfl)
    have hl : lv_has ls 4 [(3, .int 0), (2, .int (dz_pI n sl dp 0)), (0, .ref xo), (1, .int (nI j9))] := hl
    have hl : lv_has ls 4 [(3, .int (nI 0)), (2, .int (dz_pI n sl dp 0)), (0, .ref xo), (1, .int (nI j9))] := hl
    have hO : dz_O G.1 dz_CL A s.heap [[(xo, dzo 0 [.ref (xr 0), .ref (xr 1), .ref (xr 2), .ref (xr 3), .ref (xr 4), .ref (xr 5), .ref (xr 6), .ref (xr 7), .ref (xr 8), .ref (xr 9), .int (nI n), .int sl, .int da, .int ti, .int ho, .int dr, .int cr, .int pa, .int pr, .int st, .long mo])], [(xr 0, dzS G 24 (dz_pD n sl dp 0))], [(xr 6, dzo 15 [.int pm, .int (nI pn), va_rf (dz_hd na pn), va_rf (dz_lst na pn)])], dz_no G pn na (dz_so ra) (dz_nxt na pn) (dz_prv na), dz_pm G pn ra pg pf pl pv] _ _ := hO
    have hO := hO.cong 0 rfl (w1 := [(xo, dzo 0 [.ref (xr 0), .ref (xr 1), .ref (xr 2), .ref (xr 3), .ref (xr 4), .ref (xr 5), .ref (xr 6), .ref (xr 7), .ref (xr 8), .ref (xr 9), .int (nI n), .int sl, .int (da + nI 0), .int ti, .int ho, .int dr, .int cr, .int pa, .int pr, .int st, .long mo])]) (by rw [show da + nI 0 = da from Int32.add_zero da])
    have hO : dz_O G.1 dz_CL A s.heap [[(xo, dzo 0 [.ref (xr 0), .ref (xr 1), .ref (xr 2), .ref (xr 3), .ref (xr 4), .ref (xr 5), .ref (xr 6), .ref (xr 7), .ref (xr 8), .ref (xr 9), .int (nI n), .int sl, .int (da + nI 0), .int ti, .int ho, .int dr, .int cr, .int pa, .int pr, .int st, .long mo])], [(xr 0, dzS G 24 (dz_pD n sl dp 0))], [(xr 6, dzo 15 [.int pm, .int (nI pn), va_rf (dz_hd na pn), va_rf (dz_lst na pn)])], dz_no G pn na (dz_so ra) (dz_nxt na pn) (dz_prv na), dz_pm G pn ra pg pf pl pv] _ _ := hO
    refine W.widen (k := 2 + 0) (n := 12 + 25 * 0) (Nat.le_of_ble_eq_true rfl) (by first | omega | (dsimp only; omega)) ?_
    exact hcut_34 _ 0 (by first | assumption | omega) (Nat.lt_succ_self _) _ _ hO ls (lv_sub hl [0, 1, 2, 3] rfl)
