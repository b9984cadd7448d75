set_option maxHeartbeats 4000000 in
set_option maxRecDepth 100000 in
/-- checkCell -/
theorem dz_X1_checkCell (l : Launch) (hst : l.stackTraces = false) (G : dz_G) (sz : Nat) (xo : Nat) (xr : Nat → Nat) (sl : Int32) (da : Int32) (ti : Int32) (ho : Int32) (dr : Int32) (cr : Int32) (pa : Int32) (pr : Int32) (st : Int32) (n : Nat) (mo : Int64) (i : Int32)  : dz_M l G yX1_checkCell cX1_checkCell 2 none ({ frames := 60, cells := 1, slots := 6, locals := 900 } : Room) [.ref xo, .int i] [[(xo, dzo 0 [.ref (xr 0), .ref (xr 1), .ref (xr 2), .ref (xr 3), .ref (xr 4), .ref (xr 5), .ref (xr 6), .ref (xr 7), .ref (xr 8), .ref (xr 9), .int (nI n), .int sl, .int da, .int ti, .int ho, .int dr, .int cr, .int pa, .int pr, .int st, .long mo])]] sz (fun r w1 => r = none ∧ w1 = [[(xo, dzo 0 [.ref (xr 0), .ref (xr 1), .ref (xr 2), .ref (xr 3), .ref (xr 4), .ref (xr 5), .ref (xr 6), .ref (xr 7), .ref (xr 8), .ref (xr 9), .int (nI n), .int sl, .int da, .int ti, .int ho, .int dr, .int cr, .int pa, .int pr, .int st, .long mo])]] ∧ ¬ dz_bi i 0 (nI n - 1) = 0) (fun E w1 => w1 = [[(xo, dzo 0 [.ref (xr 0), .ref (xr 1), .ref (xr 2), .ref (xr 3), .ref (xr 4), .ref (xr 5), .ref (xr 6), .ref (xr 7), .ref (xr 8), .ref (xr 9), .int (nI n), .int sl, .int da, .int ti, .int ho, .int dr, .int cr, .int pa, .int pr, .int st, .long mo])]] ∧ E = "java/lang/IndexOutOfBoundsException" ∧ dz_bi i 0 (nI n - 1) = 0) := by
  refine dz_start (by decide) (Nat.le_of_ble_eq_true rfl) ?_
  intro p e s m below meth c A ls X hO hsz hl
  have hl : lv_has ls 2 [(0, .ref xo), (1, .int i)] := hl
  refine lv_iload_n X.x X.b dX1_checkCell_0 rfl (lv_at hl 1 rfl) ?_
  refine lv_aload_n X.x X.b dX1_checkCell_1 rfl (lv_at hl 0 rfl) ?_
  refine dz_get (v := .int (nI n)) X (hO.at1 0 rfl) in_X1 rfl 10 (by decide) q560 (Or.inl rfl) rfl dX1_checkCell_2 ?_
  refine dz_S (n := 2) (k9 := 1) (n9 := 6) (As := [.int i, .int (nI n)]) (rest := []) (wr := [[(xo, dzo 0 [.ref (xr 0), .ref (xr 1), .ref (xr 2), .ref (xr 3), .ref (xr 4), .ref (xr 5), .ref (xr 6), .ref (xr 7), .ref (xr 8), .ref (xr 9), .int (nI n), .int sl, .int da, .int ti, .int ho, .int dr, .int cr, .int pa, .int pr, .int st, .long mo])]]) X hO hl (dz_X1_checkIndex l hst G _ i (nI n) ) (lw_S q1185 q1186 q48 q1187) (by decide +kernel) ⟨Nat.le_of_ble_eq_true rfl, Nat.le_of_ble_eq_true rfl⟩ ⟨(Nat.le_of_ble_eq_true rfl), (Nat.le_of_ble_eq_true rfl), (Nat.le_of_ble_eq_true rfl), (Nat.le_of_ble_eq_true rfl)⟩ [] [0] rfl rfl rfl rfl rfl (Nat.le_of_ble_eq_true rfl) dX1_checkCell_5 ?_ (fun r w1 H locs hpo hO => ?_)
  · intro E w1 q9 ce9 H locs hpx hO hce hv9 hcl9
    obtain ⟨rfl, hpx⟩ := hpx
    have hO : dz_O G.1 dz_CL A s.heap [[(xo, dzo 0 [.ref (xr 0), .ref (xr 1), .ref (xr 2), .ref (xr 3), .ref (xr 4), .ref (xr 5), .ref (xr 6), .ref (xr 7), .ref (xr 8), .ref (xr 9), .int (nI n), .int sl, .int da, .int ti, .int ho, .int dr, .int cr, .int pa, .int pr, .int st, .long mo])]] _ _ := hO
    exact dz_out X rfl hO (⟨rfl, hpx⟩) hce hv9 hcl9 (Nat.le_of_ble_eq_true rfl) (Nat.le_of_ble_eq_true rfl)
  obtain ⟨rfl, rfl, h_1⟩ := hpo
  have hO : dz_O G.1 dz_CL A s.heap [[(xo, dzo 0 [.ref (xr 0), .ref (xr 1), .ref (xr 2), .ref (xr 3), .ref (xr 4), .ref (xr 5), .ref (xr 6), .ref (xr 7), .ref (xr 8), .ref (xr 9), .int (nI n), .int sl, .int da, .int ti, .int ho, .int dr, .int cr, .int pa, .int pr, .int st, .long mo])]] _ _ := hO
  refine W.eq (g2 := F0 m 8 ls []) rfl ?_
  exact dz_vret X hO rfl (⟨rfl, rfl, by first | assumption | omega⟩) (Nat.le_of_ble_eq_true rfl) (Nat.le_of_ble_eq_true rfl) dX1_checkCell_8
set_option maxHeartbeats 4000000 in
set_option maxRecDepth 100000 in
/-- setSlope -/
theorem dz_X1_setSlope (l : Launch) (hst : l.stackTraces = false) (G : dz_G) (sz : Nat) (xo : Nat) (xr : Nat → Nat) (sl : Int32) (da : Int32) (ti : Int32) (ho : Int32) (dr : Int32) (cr : Int32) (pa : Int32) (pr : Int32) (st : Int32) (n : Nat) (mo : Int64) (v : Int32)  : dz_M l G yX1_setSlope cX1_setSlope 3 (some FieldType.int) ({ frames := 80, cells := 5, slots := 30, locals := 1200 } : Room) [.ref xo, .int v] [[(xo, dzo 0 [.ref (xr 0), .ref (xr 1), .ref (xr 2), .ref (xr 3), .ref (xr 4), .ref (xr 5), .ref (xr 6), .ref (xr 7), .ref (xr 8), .ref (xr 9), .int (nI n), .int sl, .int da, .int ti, .int ho, .int dr, .int cr, .int pa, .int pr, .int st, .long mo])]] sz (fun r w1 => r = some (.int sl) ∧ w1 = [[(xo, dzo 0 [.ref (xr 0), .ref (xr 1), .ref (xr 2), .ref (xr 3), .ref (xr 4), .ref (xr 5), .ref (xr 6), .ref (xr 7), .ref (xr 8), .ref (xr 9), .int (nI n), .int v, .int da, .int ti, .int ho, .int dr, .int cr, .int pa, .int pr, .int st, .long mo])]] ∧ dz_ksetSlope v = 0) (fun E w1 => w1 = [[(xo, dzo 0 [.ref (xr 0), .ref (xr 1), .ref (xr 2), .ref (xr 3), .ref (xr 4), .ref (xr 5), .ref (xr 6), .ref (xr 7), .ref (xr 8), .ref (xr 9), .int (nI n), .int sl, .int da, .int ti, .int ho, .int dr, .int cr, .int pa, .int pr, .int st, .long mo])]] ∧ ((E = "java/lang/IllegalArgumentException" ∧ dz_ksetSlope v = 1))) := by
  refine dz_start (by decide) (Nat.le_of_ble_eq_true rfl) ?_
  intro p e s m below meth c A ls X hO hsz hl
  have hl : lv_has ls 3 [(0, .ref xo), (1, .int v)] := hl
  refine lv_iload_n X.x X.b dX1_setSlope_0 rfl (lv_at hl 1 rfl) ?_
  refine lv_iconst (v := 1) X.x X.b dX1_setSlope_1 (by decide) ?_
  refine lv_bipush (v := 50) X.x X.b dX1_setSlope_2 (by decide) ?_
  refine dz_S (n := 3) (k9 := 0) (n9 := 0) (As := [.int v, .int 1, .int 50]) (rest := []) (wr := [[(xo, dzo 0 [.ref (xr 0), .ref (xr 1), .ref (xr 2), .ref (xr 3), .ref (xr 4), .ref (xr 5), .ref (xr 6), .ref (xr 7), .ref (xr 8), .ref (xr 9), .int (nI n), .int sl, .int da, .int ti, .int ho, .int dr, .int cr, .int pa, .int pr, .int st, .long mo])]]) X hO hl (dz_X1_isBetween l G _ v 1 50 ) (lw_S q1131 q1003 q48 q1004) (by decide +kernel) ⟨Nat.le_of_ble_eq_true rfl, Nat.le_of_ble_eq_true rfl⟩ ⟨(Nat.le_of_ble_eq_true rfl), (Nat.le_of_ble_eq_true rfl), (Nat.le_of_ble_eq_true rfl), (Nat.le_of_ble_eq_true rfl)⟩ [] [0] rfl rfl rfl rfl rfl (Nat.le_of_ble_eq_true rfl) dX1_setSlope_4 (fun E w1 q9 ce9 H locs hpx hO hce hv9 hcl9 => hpx.elim) (fun r w1 H locs hpo hO => ?_)
  obtain ⟨rfl, rfl⟩ := hpo
  have hO : dz_O G.1 dz_CL A s.heap [[(xo, dzo 0 [.ref (xr 0), .ref (xr 1), .ref (xr 2), .ref (xr 3), .ref (xr 4), .ref (xr 5), .ref (xr 6), .ref (xr 7), .ref (xr 8), .ref (xr 9), .int (nI n), .int sl, .int da, .int ti, .int ho, .int dr, .int cr, .int pa, .int pr, .int st, .long mo])]] _ _ := hO
  refine W.eq (g2 := F0 m 7 ls [.int (dz_bi v 1 50)]) rfl ?_
  refine dz_S (n := 1) (k9 := 1) (n9 := 6) (As := [.int (dz_bi v 1 50)]) (rest := []) (wr := [[(xo, dzo 0 [.ref (xr 0), .ref (xr 1), .ref (xr 2), .ref (xr 3), .ref (xr 4), .ref (xr 5), .ref (xr 6), .ref (xr 7), .ref (xr 8), .ref (xr 9), .int (nI n), .int sl, .int da, .int ti, .int ho, .int dr, .int cr, .int pa, .int pr, .int st, .long mo])]]) X hO hl (dz_X1_checkArgument l hst G _ (dz_bi v 1 50) ) (lw_S q1132 q1133 q48 q1134) (by decide +kernel) ⟨Nat.le_of_ble_eq_true rfl, Nat.le_of_ble_eq_true rfl⟩ ⟨(Nat.le_of_ble_eq_true rfl), (Nat.le_of_ble_eq_true rfl), (Nat.le_of_ble_eq_true rfl), (Nat.le_of_ble_eq_true rfl)⟩ [] [0] rfl rfl rfl rfl rfl (Nat.le_of_ble_eq_true rfl) dX1_setSlope_7 ?_ (fun r w1 H locs hpo hO => ?_)
  · intro E w1 q9 ce9 H locs hpx hO hce hv9 hcl9
    obtain ⟨rfl, hpx⟩ := hpx
    have hO : dz_O G.1 dz_CL A s.heap [[(xo, dzo 0 [.ref (xr 0), .ref (xr 1), .ref (xr 2), .ref (xr 3), .ref (xr 4), .ref (xr 5), .ref (xr 6), .ref (xr 7), .ref (xr 8), .ref (xr 9), .int (nI n), .int sl, .int da, .int ti, .int ho, .int dr, .int cr, .int pa, .int pr, .int st, .long mo])]] _ _ := hO
    exact dz_out X rfl hO (⟨rfl, by obtain ⟨hE9, hc9⟩ := hpx; rw [hE9]; simp [dz_ksetSlope, hc9]⟩) hce hv9 hcl9 (Nat.le_of_ble_eq_true rfl) (Nat.le_of_ble_eq_true rfl)
  obtain ⟨rfl, rfl, h_1⟩ := hpo
  have hO : dz_O G.1 dz_CL A s.heap [[(xo, dzo 0 [.ref (xr 0), .ref (xr 1), .ref (xr 2), .ref (xr 3), .ref (xr 4), .ref (xr 5), .ref (xr 6), .ref (xr 7), .ref (xr 8), .ref (xr 9), .int (nI n), .int sl, .int da, .int ti, .int ho, .int dr, .int cr, .int pa, .int pr, .int st, .long mo])]] _ _ := hO
  refine W.eq (g2 := F0 m 10 ls []) rfl ?_
  refine lv_aload_n X.x X.b dX1_setSlope_10 rfl (lv_at hl 0 rfl) ?_
  refine dz_get (v := .int sl) X (hO.at1 0 rfl) in_X1 rfl 11 (by decide) q561 (Or.inl rfl) rfl dX1_setSlope_11 ?_
  refine lv_istore_n (lv' := [(2, .int sl), (0, .ref xo), (1, .int v)]) X.x X.b dX1_setSlope_14 rfl hl (by decide) rfl (fun ls hl => ?_)
  refine lv_aload_n X.x X.b dX1_setSlope_15 rfl (lv_at hl 1 rfl) ?_
  refine lv_iload_n X.x X.b dX1_setSlope_16 rfl (lv_at hl 2 rfl) ?_
  refine dz_put (v := .int v) X hO 0 rfl in_X1 tyX1 tyX1_ok nmX1 rfl 11 (by decide) q561 (Or.inl rfl) (Or.inl rfl) rfl rfl (Nat.le_of_ble_eq_true rfl) dX1_setSlope_17 (fun H locs hO => ?_)
  have hO : dz_O G.1 dz_CL A s.heap [[(xo, dzo 0 [.ref (xr 0), .ref (xr 1), .ref (xr 2), .ref (xr 3), .ref (xr 4), .ref (xr 5), .ref (xr 6), .ref (xr 7), .ref (xr 8), .ref (xr 9), .int (nI n), .int v, .int da, .int ti, .int ho, .int dr, .int cr, .int pa, .int pr, .int st, .long mo])]] _ _ := hO
  refine lv_iload_n X.x X.b dX1_setSlope_20 rfl (lv_at hl 0 rfl) ?_
  exact dz_iret X hO rfl (⟨rfl, rfl, by simp [dz_ksetSlope, h_1]⟩) (Nat.le_of_ble_eq_true rfl) (Nat.le_of_ble_eq_true rfl) dX1_setSlope_21
set_option maxHeartbeats 4000000 in
set_option maxRecDepth 100000 in
/-- setTide -/
theorem dz_X1_setTide (l : Launch) (hst : l.stackTraces = false) (G : dz_G) (sz : Nat) (xo : Nat) (xr : Nat → Nat) (sl : Int32) (da : Int32) (ti : Int32) (ho : Int32) (dr : Int32) (cr : Int32) (pa : Int32) (pr : Int32) (st : Int32) (n : Nat) (mo : Int64) (v : Int32)  : dz_M l G yX1_setTide cX1_setTide 3 (some FieldType.int) ({ frames := 80, cells := 5, slots := 30, locals := 1200 } : Room) [.ref xo, .int v] [[(xo, dzo 0 [.ref (xr 0), .ref (xr 1), .ref (xr 2), .ref (xr 3), .ref (xr 4), .ref (xr 5), .ref (xr 6), .ref (xr 7), .ref (xr 8), .ref (xr 9), .int (nI n), .int sl, .int da, .int ti, .int ho, .int dr, .int cr, .int pa, .int pr, .int st, .long mo])]] sz (fun r w1 => r = some (.int ti) ∧ w1 = [[(xo, dzo 0 [.ref (xr 0), .ref (xr 1), .ref (xr 2), .ref (xr 3), .ref (xr 4), .ref (xr 5), .ref (xr 6), .ref (xr 7), .ref (xr 8), .ref (xr 9), .int (nI n), .int sl, .int da, .int v, .int ho, .int dr, .int cr, .int pa, .int pr, .int st, .long mo])]] ∧ dz_ksetTide v = 0) (fun E w1 => w1 = [[(xo, dzo 0 [.ref (xr 0), .ref (xr 1), .ref (xr 2), .ref (xr 3), .ref (xr 4), .ref (xr 5), .ref (xr 6), .ref (xr 7), .ref (xr 8), .ref (xr 9), .int (nI n), .int sl, .int da, .int ti, .int ho, .int dr, .int cr, .int pa, .int pr, .int st, .long mo])]] ∧ ((E = "java/lang/IllegalArgumentException" ∧ dz_ksetTide v = 1))) := by
  refine dz_start (by decide) (Nat.le_of_ble_eq_true rfl) ?_
  intro p e s m below meth c A ls X hO hsz hl
  have hl : lv_has ls 3 [(0, .ref xo), (1, .int v)] := hl
  refine lv_iload_n X.x X.b dX1_setTide_0 rfl (lv_at hl 1 rfl) ?_
  refine lv_iconst (v := 0) X.x X.b dX1_setTide_1 (by decide) ?_
  refine lv_bipush (v := 90) X.x X.b dX1_setTide_2 (by decide) ?_
  refine dz_S (n := 3) (k9 := 0) (n9 := 0) (As := [.int v, .int 0, .int 90]) (rest := []) (wr := [[(xo, dzo 0 [.ref (xr 0), .ref (xr 1), .ref (xr 2), .ref (xr 3), .ref (xr 4), .ref (xr 5), .ref (xr 6), .ref (xr 7), .ref (xr 8), .ref (xr 9), .int (nI n), .int sl, .int da, .int ti, .int ho, .int dr, .int cr, .int pa, .int pr, .int st, .long mo])]]) X hO hl (dz_X1_isBetween l G _ v 0 90 ) (lw_S q1131 q1003 q48 q1004) (by decide +kernel) ⟨Nat.le_of_ble_eq_true rfl, Nat.le_of_ble_eq_true rfl⟩ ⟨(Nat.le_of_ble_eq_true rfl), (Nat.le_of_ble_eq_true rfl), (Nat.le_of_ble_eq_true rfl), (Nat.le_of_ble_eq_true rfl)⟩ [] [0] rfl rfl rfl rfl rfl (Nat.le_of_ble_eq_true rfl) dX1_setTide_4 (fun E w1 q9 ce9 H locs hpx hO hce hv9 hcl9 => hpx.elim) (fun r w1 H locs hpo hO => ?_)
  obtain ⟨rfl, rfl⟩ := hpo
  have hO : dz_O G.1 dz_CL A s.heap [[(xo, dzo 0 [.ref (xr 0), .ref (xr 1), .ref (xr 2), .ref (xr 3), .ref (xr 4), .ref (xr 5), .ref (xr 6), .ref (xr 7), .ref (xr 8), .ref (xr 9), .int (nI n), .int sl, .int da, .int ti, .int ho, .int dr, .int cr, .int pa, .int pr, .int st, .long mo])]] _ _ := hO
  refine W.eq (g2 := F0 m 7 ls [.int (dz_bi v 0 90)]) rfl ?_
  refine dz_S (n := 1) (k9 := 1) (n9 := 6) (As := [.int (dz_bi v 0 90)]) (rest := []) (wr := [[(xo, dzo 0 [.ref (xr 0), .ref (xr 1), .ref (xr 2), .ref (xr 3), .ref (xr 4), .ref (xr 5), .ref (xr 6), .ref (xr 7), .ref (xr 8), .ref (xr 9), .int (nI n), .int sl, .int da, .int ti, .int ho, .int dr, .int cr, .int pa, .int pr, .int st, .long mo])]]) X hO hl (dz_X1_checkArgument l hst G _ (dz_bi v 0 90) ) (lw_S q1132 q1133 q48 q1134) (by decide +kernel) ⟨Nat.le_of_ble_eq_true rfl, Nat.le_of_ble_eq_true rfl⟩ ⟨(Nat.le_of_ble_eq_true rfl), (Nat.le_of_ble_eq_true rfl), (Nat.le_of_ble_eq_true rfl), (Nat.le_of_ble_eq_true rfl)⟩ [] [0] rfl rfl rfl rfl rfl (Nat.le_of_ble_eq_true rfl) dX1_setTide_7 ?_ (fun r w1 H locs hpo hO => ?_)
  · intro E w1 q9 ce9 H locs hpx hO hce hv9 hcl9
    obtain ⟨rfl, hpx⟩ := hpx
    have hO : dz_O G.1 dz_CL A s.heap [[(xo, dzo 0 [.ref (xr 0), .ref (xr 1), .ref (xr 2), .ref (xr 3), .ref (xr 4), .ref (xr 5), .ref (xr 6), .ref (xr 7), .ref (xr 8), .ref (xr 9), .int (nI n), .int sl, .int da, .int ti, .int ho, .int dr, .int cr, .int pa, .int pr, .int st, .long mo])]] _ _ := hO
    exact dz_out X rfl hO (⟨rfl, by obtain ⟨hE9, hc9⟩ := hpx; rw [hE9]; simp [dz_ksetTide, hc9]⟩) hce hv9 hcl9 (Nat.le_of_ble_eq_true rfl) (Nat.le_of_ble_eq_true rfl)
  obtain ⟨rfl, rfl, h_1⟩ := hpo
  have hO : dz_O G.1 dz_CL A s.heap [[(xo, dzo 0 [.ref (xr 0), .ref (xr 1), .ref (xr 2), .ref (xr 3), .ref (xr 4), .ref (xr 5), .ref (xr 6), .ref (xr 7), .ref (xr 8), .ref (xr 9), .int (nI n), .int sl, .int da, .int ti, .int ho, .int dr, .int cr, .int pa, .int pr, .int st, .long mo])]] _ _ := hO
  refine W.eq (g2 := F0 m 10 ls []) rfl ?_
  refine lv_aload_n X.x X.b dX1_setTide_10 rfl (lv_at hl 0 rfl) ?_
  refine dz_get (v := .int ti) X (hO.at1 0 rfl) in_X1 rfl 13 (by decide) q563 (Or.inl rfl) rfl dX1_setTide_11 ?_
  refine lv_istore_n (lv' := [(2, .int ti), (0, .ref xo), (1, .int v)]) X.x X.b dX1_setTide_14 rfl hl (by decide) rfl (fun ls hl => ?_)
  refine lv_aload_n X.x X.b dX1_setTide_15 rfl (lv_at hl 1 rfl) ?_
  refine lv_iload_n X.x X.b dX1_setTide_16 rfl (lv_at hl 2 rfl) ?_
  refine dz_put (v := .int v) X hO 0 rfl in_X1 tyX1 tyX1_ok nmX1 rfl 13 (by decide) q563 (Or.inl rfl) (Or.inl rfl) rfl rfl (Nat.le_of_ble_eq_true rfl) dX1_setTide_17 (fun H locs hO => ?_)
  have hO : dz_O G.1 dz_CL A s.heap [[(xo, dzo 0 [.ref (xr 0), .ref (xr 1), .ref (xr 2), .ref (xr 3), .ref (xr 4), .ref (xr 5), .ref (xr 6), .ref (xr 7), .ref (xr 8), .ref (xr 9), .int (nI n), .int sl, .int da, .int v, .int ho, .int dr, .int cr, .int pa, .int pr, .int st, .long mo])]] _ _ := hO
  refine lv_iload_n X.x X.b dX1_setTide_20 rfl (lv_at hl 0 rfl) ?_
  exact dz_iret X hO rfl (⟨rfl, rfl, by simp [dz_ksetTide, h_1]⟩) (Nat.le_of_ble_eq_true rfl) (Nat.le_of_ble_eq_true rfl) dX1_setTide_21
set_option maxHeartbeats 4000000 in
set_option maxRecDepth 100000 in
/-- setPrice -/
theorem dz_X1_setPrice (l : Launch) (hst : l.stackTraces = false) (G : dz_G) (sz : Nat) (xo : Nat) (xr : Nat → Nat) (sl : Int32) (da : Int32) (ti : Int32) (ho : Int32) (dr : Int32) (cr : Int32) (pa : Int32) (pr : Int32) (st : Int32) (n : Nat) (mo : Int64) (v : Int32)  : dz_M l G yX1_setPrice cX1_setPrice 3 (some FieldType.int) ({ frames := 80, cells := 5, slots := 30, locals := 1200 } : Room) [.ref xo, .int v] [[(xo, dzo 0 [.ref (xr 0), .ref (xr 1), .ref (xr 2), .ref (xr 3), .ref (xr 4), .ref (xr 5), .ref (xr 6), .ref (xr 7), .ref (xr 8), .ref (xr 9), .int (nI n), .int sl, .int da, .int ti, .int ho, .int dr, .int cr, .int pa, .int pr, .int st, .long mo])]] sz (fun r w1 => r = some (.int pr) ∧ w1 = [[(xo, dzo 0 [.ref (xr 0), .ref (xr 1), .ref (xr 2), .ref (xr 3), .ref (xr 4), .ref (xr 5), .ref (xr 6), .ref (xr 7), .ref (xr 8), .ref (xr 9), .int (nI n), .int sl, .int da, .int ti, .int ho, .int dr, .int cr, .int pa, .int v, .int st, .long mo])]] ∧ dz_ksetPrice v = 0) (fun E w1 => w1 = [[(xo, dzo 0 [.ref (xr 0), .ref (xr 1), .ref (xr 2), .ref (xr 3), .ref (xr 4), .ref (xr 5), .ref (xr 6), .ref (xr 7), .ref (xr 8), .ref (xr 9), .int (nI n), .int sl, .int da, .int ti, .int ho, .int dr, .int cr, .int pa, .int pr, .int st, .long mo])]] ∧ ((E = "java/lang/IllegalArgumentException" ∧ dz_ksetPrice v = 1))) := by
  refine dz_start (by decide) (Nat.le_of_ble_eq_true rfl) ?_
  intro p e s m below meth c A ls X hO hsz hl
  have hl : lv_has ls 3 [(0, .ref xo), (1, .int v)] := hl
  refine lv_iload_n X.x X.b dX1_setPrice_0 rfl (lv_at hl 1 rfl) ?_
  refine lv_iconst (v := 0) X.x X.b dX1_setPrice_1 (by decide) ?_
  refine lv_sipush (v := 999) X.x X.b dX1_setPrice_2 (by decide) ?_
  refine dz_S (n := 3) (k9 := 0) (n9 := 0) (As := [.int v, .int 0, .int 999]) (rest := []) (wr := [[(xo, dzo 0 [.ref (xr 0), .ref (xr 1), .ref (xr 2), .ref (xr 3), .ref (xr 4), .ref (xr 5), .ref (xr 6), .ref (xr 7), .ref (xr 8), .ref (xr 9), .int (nI n), .int sl, .int da, .int ti, .int ho, .int dr, .int cr, .int pa, .int pr, .int st, .long mo])]]) X hO hl (dz_X1_isBetween l G _ v 0 999 ) (lw_S q1131 q1003 q48 q1004) (by decide +kernel) ⟨Nat.le_of_ble_eq_true rfl, Nat.le_of_ble_eq_true rfl⟩ ⟨(Nat.le_of_ble_eq_true rfl), (Nat.le_of_ble_eq_true rfl), (Nat.le_of_ble_eq_true rfl), (Nat.le_of_ble_eq_true rfl)⟩ [] [0] rfl rfl rfl rfl rfl (Nat.le_of_ble_eq_true rfl) dX1_setPrice_5 (fun E w1 q9 ce9 H locs hpx hO hce hv9 hcl9 => hpx.elim) (fun r w1 H locs hpo hO => ?_)
  obtain ⟨rfl, rfl⟩ := hpo
  have hO : dz_O G.1 dz_CL A s.heap [[(xo, dzo 0 [.ref (xr 0), .ref (xr 1), .ref (xr 2), .ref (xr 3), .ref (xr 4), .ref (xr 5), .ref (xr 6), .ref (xr 7), .ref (xr 8), .ref (xr 9), .int (nI n), .int sl, .int da, .int ti, .int ho, .int dr, .int cr, .int pa, .int pr, .int st, .long mo])]] _ _ := hO
  refine W.eq (g2 := F0 m 8 ls [.int (dz_bi v 0 999)]) rfl ?_
  refine dz_S (n := 1) (k9 := 1) (n9 := 6) (As := [.int (dz_bi v 0 999)]) (rest := []) (wr := [[(xo, dzo 0 [.ref (xr 0), .ref (xr 1), .ref (xr 2), .ref (xr 3), .ref (xr 4), .ref (xr 5), .ref (xr 6), .ref (xr 7), .ref (xr 8), .ref (xr 9), .int (nI n), .int sl, .int da, .int ti, .int ho, .int dr, .int cr, .int pa, .int pr, .int st, .long mo])]]) X hO hl (dz_X1_checkArgument l hst G _ (dz_bi v 0 999) ) (lw_S q1132 q1133 q48 q1134) (by decide +kernel) ⟨Nat.le_of_ble_eq_true rfl, Nat.le_of_ble_eq_true rfl⟩ ⟨(Nat.le_of_ble_eq_true rfl), (Nat.le_of_ble_eq_true rfl), (Nat.le_of_ble_eq_true rfl), (Nat.le_of_ble_eq_true rfl)⟩ [] [0] rfl rfl rfl rfl rfl (Nat.le_of_ble_eq_true rfl) dX1_setPrice_8 ?_ (fun r w1 H locs hpo hO => ?_)
  · intro E w1 q9 ce9 H locs hpx hO hce hv9 hcl9
    obtain ⟨rfl, hpx⟩ := hpx
    have hO : dz_O G.1 dz_CL A s.heap [[(xo, dzo 0 [.ref (xr 0), .ref (xr 1), .ref (xr 2), .ref (xr 3), .ref (xr 4), .ref (xr 5), .ref (xr 6), .ref (xr 7), .ref (xr 8), .ref (xr 9), .int (nI n), .int sl, .int da, .int ti, .int ho, .int dr, .int cr, .int pa, .int pr, .int st, .long mo])]] _ _ := hO
    exact dz_out X rfl hO (⟨rfl, by obtain ⟨hE9, hc9⟩ := hpx; rw [hE9]; simp [dz_ksetPrice, hc9]⟩) hce hv9 hcl9 (Nat.le_of_ble_eq_true rfl) (Nat.le_of_ble_eq_true rfl)
  obtain ⟨rfl, rfl, h_1⟩ := hpo
  have hO : dz_O G.1 dz_CL A s.heap [[(xo, dzo 0 [.ref (xr 0), .ref (xr 1), .ref (xr 2), .ref (xr 3), .ref (xr 4), .ref (xr 5), .ref (xr 6), .ref (xr 7), .ref (xr 8), .ref (xr 9), .int (nI n), .int sl, .int da, .int ti, .int ho, .int dr, .int cr, .int pa, .int pr, .int st, .long mo])]] _ _ := hO
  refine W.eq (g2 := F0 m 11 ls []) rfl ?_
  refine lv_aload_n X.x X.b dX1_setPrice_11 rfl (lv_at hl 0 rfl) ?_
  refine dz_get (v := .int pr) X (hO.at1 0 rfl) in_X1 rfl 18 (by decide) q568 (Or.inl rfl) rfl dX1_setPrice_12 ?_
  refine lv_istore_n (lv' := [(2, .int pr), (0, .ref xo), (1, .int v)]) X.x X.b dX1_setPrice_15 rfl hl (by decide) rfl (fun ls hl => ?_)
  refine lv_aload_n X.x X.b dX1_setPrice_16 rfl (lv_at hl 1 rfl) ?_
  refine lv_iload_n X.x X.b dX1_setPrice_17 rfl (lv_at hl 2 rfl) ?_
  refine dz_put (v := .int v) X hO 0 rfl in_X1 tyX1 tyX1_ok nmX1 rfl 18 (by decide) q568 (Or.inl rfl) (Or.inl rfl) rfl rfl (Nat.le_of_ble_eq_true rfl) dX1_setPrice_18 (fun H locs hO => ?_)
  have hO : dz_O G.1 dz_CL A s.heap [[(xo, dzo 0 [.ref (xr 0), .ref (xr 1), .ref (xr 2), .ref (xr 3), .ref (xr 4), .ref (xr 5), .ref (xr 6), .ref (xr 7), .ref (xr 8), .ref (xr 9), .int (nI n), .int sl, .int da, .int ti, .int ho, .int dr, .int cr, .int pa, .int v, .int st, .long mo])]] _ _ := hO
  refine lv_iload_n X.x X.b dX1_setPrice_21 rfl (lv_at hl 0 rfl) ?_
  exact dz_iret X hO rfl (⟨rfl, rfl, by simp [dz_ksetPrice, h_1]⟩) (Nat.le_of_ble_eq_true rfl) (Nat.le_of_ble_eq_true rfl) dX1_setPrice_22
set_option maxHeartbeats 4000000 in
set_option maxRecDepth 100000 in
/-- day -/
theorem dz_X1_day (l : Launch) (G : dz_G) (sz : Nat) (xo : Nat) (xr : Nat → Nat) (sl : Int32) (da : Int32) (ti : Int32) (ho : Int32) (dr : Int32) (cr : Int32) (pa : Int32) (pr : Int32) (st : Int32) (n : Nat) (mo : Int64)  : dz_M l G yX1_day cX1_day 1 (some FieldType.int) ({ frames := 20, cells := 0, slots := 0, locals := 300 } : Room) [.ref xo] [[(xo, dzo 0 [.ref (xr 0), .ref (xr 1), .ref (xr 2), .ref (xr 3), .ref (xr 4), .ref (xr 5), .ref (xr 6), .ref (xr 7), .ref (xr 8), .ref (xr 9), .int (nI n), .int sl, .int da, .int ti, .int ho, .int dr, .int cr, .int pa, .int pr, .int st, .long mo])]] sz (fun r w1 => r = some (.int da) ∧ w1 = [[(xo, dzo 0 [.ref (xr 0), .ref (xr 1), .ref (xr 2), .ref (xr 3), .ref (xr 4), .ref (xr 5), .ref (xr 6), .ref (xr 7), .ref (xr 8), .ref (xr 9), .int (nI n), .int sl, .int da, .int ti, .int ho, .int dr, .int cr, .int pa, .int pr, .int st, .long mo])]]) (dz_np) := by
  refine dz_start (by decide) (Nat.le_of_ble_eq_true rfl) ?_
  intro p e s m below meth c A ls X hO hsz hl
  have hl : lv_has ls 1 [(0, .ref xo)] := hl
  refine lv_aload_n X.x X.b dX1_day_0 rfl (lv_at hl 0 rfl) ?_
  refine dz_get (v := .int da) X (hO.at1 0 rfl) in_X1 rfl 12 (by decide) q562 (Or.inl rfl) rfl dX1_day_1 ?_
  exact dz_iret X hO rfl (⟨rfl, rfl⟩) (Nat.le_of_ble_eq_true rfl) (Nat.le_of_ble_eq_true rfl) dX1_day_4
set_option maxHeartbeats 4000000 in
set_option maxRecDepth 100000 in
/-- hopper -/
theorem dz_X1_hopper (l : Launch) (G : dz_G) (sz : Nat) (xo : Nat) (xr : Nat → Nat) (sl : Int32) (da : Int32) (ti : Int32) (ho : Int32) (dr : Int32) (cr : Int32) (pa : Int32) (pr : Int32) (st : Int32) (n : Nat) (mo : Int64)  : dz_M l G yX1_hopper cX1_hopper 1 (some FieldType.int) ({ frames := 20, cells := 0, slots := 0, locals := 300 } : Room) [.ref xo] [[(xo, dzo 0 [.ref (xr 0), .ref (xr 1), .ref (xr 2), .ref (xr 3), .ref (xr 4), .ref (xr 5), .ref (xr 6), .ref (xr 7), .ref (xr 8), .ref (xr 9), .int (nI n), .int sl, .int da, .int ti, .int ho, .int dr, .int cr, .int pa, .int pr, .int st, .long mo])]] sz (fun r w1 => r = some (.int ho) ∧ w1 = [[(xo, dzo 0 [.ref (xr 0), .ref (xr 1), .ref (xr 2), .ref (xr 3), .ref (xr 4), .ref (xr 5), .ref (xr 6), .ref (xr 7), .ref (xr 8), .ref (xr 9), .int (nI n), .int sl, .int da, .int ti, .int ho, .int dr, .int cr, .int pa, .int pr, .int st, .long mo])]]) (dz_np) := by
  refine dz_start (by decide) (Nat.le_of_ble_eq_true rfl) ?_
  intro p e s m below meth c A ls X hO hsz hl
  have hl : lv_has ls 1 [(0, .ref xo)] := hl
  refine lv_aload_n X.x X.b dX1_hopper_0 rfl (lv_at hl 0 rfl) ?_
  refine dz_get (v := .int ho) X (hO.at1 0 rfl) in_X1 rfl 14 (by decide) q564 (Or.inl rfl) rfl dX1_hopper_1 ?_
  exact dz_iret X hO rfl (⟨rfl, rfl⟩) (Nat.le_of_ble_eq_true rfl) (Nat.le_of_ble_eq_true rfl) dX1_hopper_4
set_option maxHeartbeats 4000000 in
set_option maxRecDepth 100000 in
/-- paid -/
theorem dz_X1_paid (l : Launch) (G : dz_G) (sz : Nat) (xo : Nat) (xr : Nat → Nat) (sl : Int32) (da : Int32) (ti : Int32) (ho : Int32) (dr : Int32) (cr : Int32) (pa : Int32) (pr : Int32) (st : Int32) (n : Nat) (mo : Int64)  : dz_M l G yX1_paid cX1_paid 1 (some FieldType.int) ({ frames := 20, cells := 0, slots := 0, locals := 300 } : Room) [.ref xo] [[(xo, dzo 0 [.ref (xr 0), .ref (xr 1), .ref (xr 2), .ref (xr 3), .ref (xr 4), .ref (xr 5), .ref (xr 6), .ref (xr 7), .ref (xr 8), .ref (xr 9), .int (nI n), .int sl, .int da, .int ti, .int ho, .int dr, .int cr, .int pa, .int pr, .int st, .long mo])]] sz (fun r w1 => r = some (.int pa) ∧ w1 = [[(xo, dzo 0 [.ref (xr 0), .ref (xr 1), .ref (xr 2), .ref (xr 3), .ref (xr 4), .ref (xr 5), .ref (xr 6), .ref (xr 7), .ref (xr 8), .ref (xr 9), .int (nI n), .int sl, .int da, .int ti, .int ho, .int dr, .int cr, .int pa, .int pr, .int st, .long mo])]]) (dz_np) := by
  refine dz_start (by decide) (Nat.le_of_ble_eq_true rfl) ?_
  intro p e s m below meth c A ls X hO hsz hl
  have hl : lv_has ls 1 [(0, .ref xo)] := hl
  refine lv_aload_n X.x X.b dX1_paid_0 rfl (lv_at hl 0 rfl) ?_
  refine dz_get (v := .int pa) X (hO.at1 0 rfl) in_X1 rfl 17 (by decide) q567 (Or.inl rfl) rfl dX1_paid_1 ?_
  exact dz_iret X hO rfl (⟨rfl, rfl⟩) (Nat.le_of_ble_eq_true rfl) (Nat.le_of_ble_eq_true rfl) dX1_paid_4
set_option maxHeartbeats 4000000 in
set_option maxRecDepth 100000 in
/-- money -/
theorem dz_X1_money (l : Launch) (G : dz_G) (sz : Nat) (xo : Nat) (xr : Nat → Nat) (sl : Int32) (da : Int32) (ti : Int32) (ho : Int32) (dr : Int32) (cr : Int32) (pa : Int32) (pr : Int32) (st : Int32) (n : Nat) (mo : Int64)  : dz_M l G yX1_money cX1_money 1 (some FieldType.long) ({ frames := 20, cells := 0, slots := 0, locals := 300 } : Room) [.ref xo] [[(xo, dzo 0 [.ref (xr 0), .ref (xr 1), .ref (xr 2), .ref (xr 3), .ref (xr 4), .ref (xr 5), .ref (xr 6), .ref (xr 7), .ref (xr 8), .ref (xr 9), .int (nI n), .int sl, .int da, .int ti, .int ho, .int dr, .int cr, .int pa, .int pr, .int st, .long mo])]] sz (fun r w1 => r = some (.long mo) ∧ w1 = [[(xo, dzo 0 [.ref (xr 0), .ref (xr 1), .ref (xr 2), .ref (xr 3), .ref (xr 4), .ref (xr 5), .ref (xr 6), .ref (xr 7), .ref (xr 8), .ref (xr 9), .int (nI n), .int sl, .int da, .int ti, .int ho, .int dr, .int cr, .int pa, .int pr, .int st, .long mo])]]) (dz_np) := by
  refine dz_start (by decide) (Nat.le_of_ble_eq_true rfl) ?_
  intro p e s m below meth c A ls X hO hsz hl
  have hl : lv_has ls 1 [(0, .ref xo)] := hl
  refine lv_aload_n X.x X.b dX1_money_0 rfl (lv_at hl 0 rfl) ?_
  refine dz_get (v := .long mo) X (hO.at1 0 rfl) in_X1 rfl 20 (by decide) q570 (Or.inl rfl) rfl dX1_money_1 ?_
  exact dz_lret X hO rfl (⟨rfl, rfl⟩) (Nat.le_of_ble_eq_true rfl) (Nat.le_of_ble_eq_true rfl) dX1_money_4
set_option maxHeartbeats 4000000 in
set_option maxRecDepth 100000 in
/-- dredged -/
theorem dz_X1_dredged (l : Launch) (G : dz_G) (sz : Nat) (xo : Nat) (xr : Nat → Nat) (sl : Int32) (da : Int32) (ti : Int32) (ho : Int32) (dr : Int32) (cr : Int32) (pa : Int32) (pr : Int32) (st : Int32) (n : Nat) (mo : Int64)  : dz_M l G yX1_dredged cX1_dredged 1 (some FieldType.int) ({ frames := 20, cells := 0, slots := 0, locals := 300 } : Room) [.ref xo] [[(xo, dzo 0 [.ref (xr 0), .ref (xr 1), .ref (xr 2), .ref (xr 3), .ref (xr 4), .ref (xr 5), .ref (xr 6), .ref (xr 7), .ref (xr 8), .ref (xr 9), .int (nI n), .int sl, .int da, .int ti, .int ho, .int dr, .int cr, .int pa, .int pr, .int st, .long mo])]] sz (fun r w1 => r = some (.int dr) ∧ w1 = [[(xo, dzo 0 [.ref (xr 0), .ref (xr 1), .ref (xr 2), .ref (xr 3), .ref (xr 4), .ref (xr 5), .ref (xr 6), .ref (xr 7), .ref (xr 8), .ref (xr 9), .int (nI n), .int sl, .int da, .int ti, .int ho, .int dr, .int cr, .int pa, .int pr, .int st, .long mo])]]) (dz_np) := by
  refine dz_start (by decide) (Nat.le_of_ble_eq_true rfl) ?_
  intro p e s m below meth c A ls X hO hsz hl
  have hl : lv_has ls 1 [(0, .ref xo)] := hl
  refine lv_aload_n X.x X.b dX1_dredged_0 rfl (lv_at hl 0 rfl) ?_
  refine dz_get (v := .int dr) X (hO.at1 0 rfl) in_X1 rfl 15 (by decide) q565 (Or.inl rfl) rfl dX1_dredged_1 ?_
  exact dz_iret X hO rfl (⟨rfl, rfl⟩) (Nat.le_of_ble_eq_true rfl) (Nat.le_of_ble_eq_true rfl) dX1_dredged_4
set_option maxHeartbeats 4000000 in
set_option maxRecDepth 100000 in
/-- crept -/
theorem dz_X1_crept (l : Launch) (G : dz_G) (sz : Nat) (xo : Nat) (xr : Nat → Nat) (sl : Int32) (da : Int32) (ti : Int32) (ho : Int32) (dr : Int32) (cr : Int32) (pa : Int32) (pr : Int32) (st : Int32) (n : Nat) (mo : Int64)  : dz_M l G yX1_crept cX1_crept 1 (some FieldType.int) ({ frames := 20, cells := 0, slots := 0, locals := 300 } : Room) [.ref xo] [[(xo, dzo 0 [.ref (xr 0), .ref (xr 1), .ref (xr 2), .ref (xr 3), .ref (xr 4), .ref (xr 5), .ref (xr 6), .ref (xr 7), .ref (xr 8), .ref (xr 9), .int (nI n), .int sl, .int da, .int ti, .int ho, .int dr, .int cr, .int pa, .int pr, .int st, .long mo])]] sz (fun r w1 => r = some (.int cr) ∧ w1 = [[(xo, dzo 0 [.ref (xr 0), .ref (xr 1), .ref (xr 2), .ref (xr 3), .ref (xr 4), .ref (xr 5), .ref (xr 6), .ref (xr 7), .ref (xr 8), .ref (xr 9), .int (nI n), .int sl, .int da, .int ti, .int ho, .int dr, .int cr, .int pa, .int pr, .int st, .long mo])]]) (dz_np) := by
  refine dz_start (by decide) (Nat.le_of_ble_eq_true rfl) ?_
  intro p e s m below meth c A ls X hO hsz hl
  have hl : lv_has ls 1 [(0, .ref xo)] := hl
  refine lv_aload_n X.x X.b dX1_crept_0 rfl (lv_at hl 0 rfl) ?_
  refine dz_get (v := .int cr) X (hO.at1 0 rfl) in_X1 rfl 16 (by decide) q566 (Or.inl rfl) rfl dX1_crept_1 ?_
  exact dz_iret X hO rfl (⟨rfl, rfl⟩) (Nat.le_of_ble_eq_true rfl) (Nat.le_of_ble_eq_true rfl) dX1_crept_4
set_option maxHeartbeats 4000000 in
set_option maxRecDepth 100000 in
/-- depth -/
theorem dz_X1_depth (l : Launch) (hst : l.stackTraces = false) (G : dz_G) (sz : Nat) (xo : Nat) (xr : Nat → Nat) (sl : Int32) (da : Int32) (ti : Int32) (ho : Int32) (dr : Int32) (cr : Int32) (pa : Int32) (pr : Int32) (st : Int32) (n : Nat) (mo : Int64) (i : Int32) (dp : Nat → Int32) (hn : n ≤ 24) : dz_M l G yX1_depth cX1_depth 2 (some FieldType.int) ({ frames := 80, cells := 5, slots := 30, locals := 1200 } : Room) [.ref xo, .int i] [[(xo, dzo 0 [.ref (xr 0), .ref (xr 1), .ref (xr 2), .ref (xr 3), .ref (xr 4), .ref (xr 5), .ref (xr 6), .ref (xr 7), .ref (xr 8), .ref (xr 9), .int (nI n), .int sl, .int da, .int ti, .int ho, .int dr, .int cr, .int pa, .int pr, .int st, .long mo])], [(xr 0, dzS G 24 dp)]] sz (fun r w1 => r = some (.int (dp i.toNatClampNeg)) ∧ w1 = [[(xo, dzo 0 [.ref (xr 0), .ref (xr 1), .ref (xr 2), .ref (xr 3), .ref (xr 4), .ref (xr 5), .ref (xr 6), .ref (xr 7), .ref (xr 8), .ref (xr 9), .int (nI n), .int sl, .int da, .int ti, .int ho, .int dr, .int cr, .int pa, .int pr, .int st, .long mo])], [(xr 0, dzS G 24 dp)]] ∧ dz_kcell n i = 0) (fun E w1 => w1 = [[(xo, dzo 0 [.ref (xr 0), .ref (xr 1), .ref (xr 2), .ref (xr 3), .ref (xr 4), .ref (xr 5), .ref (xr 6), .ref (xr 7), .ref (xr 8), .ref (xr 9), .int (nI n), .int sl, .int da, .int ti, .int ho, .int dr, .int cr, .int pa, .int pr, .int st, .long mo])], [(xr 0, dzS G 24 dp)]] ∧ ((E = "java/lang/IndexOutOfBoundsException" ∧ dz_kcell n i = 1))) := by
  refine dz_start (by decide) (Nat.le_of_ble_eq_true rfl) ?_
  intro p e s m below meth c A ls X hO hsz hl
  have hl : lv_has ls 2 [(0, .ref xo), (1, .int i)] := hl
  refine lv_aload_n X.x X.b dX1_depth_0 rfl (lv_at hl 0 rfl) ?_
  refine lv_iload_n X.x X.b dX1_depth_1 rfl (lv_at hl 1 rfl) ?_
  refine dz_V (n := 1) (k9 := 1) (n9 := 6) (As := [.int i]) (rest := []) (wr := [[(xr 0, dzS G 24 dp)]]) X hO hl (dz_X1_checkCell l hst G _ xo xr sl da ti ho dr cr pa pr st n mo i ) (lw_V q1181 q1183 qs8 q48 q1184) (by decide +kernel) ⟨Nat.le_of_ble_eq_true rfl, Nat.le_of_ble_eq_true rfl⟩ ⟨(Nat.le_of_ble_eq_true rfl), (Nat.le_of_ble_eq_true rfl), (Nat.le_of_ble_eq_true rfl), (Nat.le_of_ble_eq_true rfl)⟩ [0] [1] rfl rfl rfl (dz_rc X (hO.at1 0 rfl) (r := (RX1, TX1, 21)) rfl) rfl rfl (Nat.le_of_ble_eq_true rfl) dX1_depth_2 ?_ (fun r w1 H locs hpo hO => ?_)
  · intro E w1 q9 ce9 H locs hpx hO hce hv9 hcl9
    obtain ⟨rfl, hpx⟩ := hpx
    have hO : dz_O G.1 dz_CL A s.heap [[(xr 0, dzS G 24 dp)], [(xo, dzo 0 [.ref (xr 0), .ref (xr 1), .ref (xr 2), .ref (xr 3), .ref (xr 4), .ref (xr 5), .ref (xr 6), .ref (xr 7), .ref (xr 8), .ref (xr 9), .int (nI n), .int sl, .int da, .int ti, .int ho, .int dr, .int cr, .int pa, .int pr, .int st, .long mo])]] _ _ := hO
    have hO := hO.sel (v := [[(xo, dzo 0 [.ref (xr 0), .ref (xr 1), .ref (xr 2), .ref (xr 3), .ref (xr 4), .ref (xr 5), .ref (xr 6), .ref (xr 7), .ref (xr 8), .ref (xr 9), .int (nI n), .int sl, .int da, .int ti, .int ho, .int dr, .int cr, .int pa, .int pr, .int st, .long mo])], [(xr 0, dzS G 24 dp)]]) [1, 0] rfl rfl
    exact dz_out X rfl hO (⟨rfl, by obtain ⟨hE9, hc9⟩ := hpx; rw [hE9]; simp [dz_kcell, hc9]⟩) hce hv9 hcl9 (Nat.le_of_ble_eq_true rfl) (Nat.le_of_ble_eq_true rfl)
  obtain ⟨rfl, rfl, h_1⟩ := hpo
  have hO : dz_O G.1 dz_CL A s.heap [[(xr 0, dzS G 24 dp)], [(xo, dzo 0 [.ref (xr 0), .ref (xr 1), .ref (xr 2), .ref (xr 3), .ref (xr 4), .ref (xr 5), .ref (xr 6), .ref (xr 7), .ref (xr 8), .ref (xr 9), .int (nI n), .int sl, .int da, .int ti, .int ho, .int dr, .int cr, .int pa, .int pr, .int st, .long mo])]] _ _ := hO
  refine W.eq (g2 := F0 m 5 ls []) rfl ?_
  refine lv_aload_n X.x X.b dX1_depth_5 rfl (lv_at hl 0 rfl) ?_
  refine dz_get (v := .ref (xr 0)) X (hO.at1 1 rfl) in_X1 rfl 0 (by decide) q550 (Or.inl rfl) rfl dX1_depth_6 ?_
  obtain ⟨j9, hj9, hi9⟩ := dz_bi_ix (by omega) h_1
  subst hi9
  have hcj : (nI j9).toNatClampNeg = j9 := nI_clamp (by omega)
  refine lv_iload_n X.x X.b dX1_depth_9 rfl (lv_at hl 1 rfl) ?_
  refine dz_sald X (hO.at1 0 rfl) (j := j9) rfl (by omega) (by decide) dX1_depth_10 ?_
  have hO := hO.sel (v := [[(xo, dzo 0 [.ref (xr 0), .ref (xr 1), .ref (xr 2), .ref (xr 3), .ref (xr 4), .ref (xr 5), .ref (xr 6), .ref (xr 7), .ref (xr 8), .ref (xr 9), .int (nI n), .int sl, .int da, .int ti, .int ho, .int dr, .int cr, .int pa, .int pr, .int st, .long mo])], [(xr 0, dzS G 24 dp)]]) [1, 0] rfl rfl
  exact dz_iret X hO rfl (⟨by rw [hcj], rfl, by simp [dz_kcell, h_1]⟩) (Nat.le_of_ble_eq_true rfl) (Nat.le_of_ble_eq_true rfl) dX1_depth_11
set_option maxHeartbeats 4000000 in
set_option maxRecDepth 100000 in
/-- paidDepth -/
theorem dz_X1_paidDepth (l : Launch) (hst : l.stackTraces = false) (G : dz_G) (sz : Nat) (xo : Nat) (xr : Nat → Nat) (sl : Int32) (da : Int32) (ti : Int32) (ho : Int32) (dr : Int32) (cr : Int32) (pa : Int32) (pr : Int32) (st : Int32) (n : Nat) (mo : Int64) (i : Int32) (pd : Nat → Int32) (hn : n ≤ 24) : dz_M l G yX1_paidDepth cX1_paidDepth 2 (some FieldType.int) ({ frames := 80, cells := 5, slots := 30, locals := 1200 } : Room) [.ref xo, .int i] [[(xo, dzo 0 [.ref (xr 0), .ref (xr 1), .ref (xr 2), .ref (xr 3), .ref (xr 4), .ref (xr 5), .ref (xr 6), .ref (xr 7), .ref (xr 8), .ref (xr 9), .int (nI n), .int sl, .int da, .int ti, .int ho, .int dr, .int cr, .int pa, .int pr, .int st, .long mo])], [(xr 2, dzS G 24 pd)]] sz (fun r w1 => r = some (.int (pd i.toNatClampNeg)) ∧ w1 = [[(xo, dzo 0 [.ref (xr 0), .ref (xr 1), .ref (xr 2), .ref (xr 3), .ref (xr 4), .ref (xr 5), .ref (xr 6), .ref (xr 7), .ref (xr 8), .ref (xr 9), .int (nI n), .int sl, .int da, .int ti, .int ho, .int dr, .int cr, .int pa, .int pr, .int st, .long mo])], [(xr 2, dzS G 24 pd)]] ∧ dz_kcell n i = 0) (fun E w1 => w1 = [[(xo, dzo 0 [.ref (xr 0), .ref (xr 1), .ref (xr 2), .ref (xr 3), .ref (xr 4), .ref (xr 5), .ref (xr 6), .ref (xr 7), .ref (xr 8), .ref (xr 9), .int (nI n), .int sl, .int da, .int ti, .int ho, .int dr, .int cr, .int pa, .int pr, .int st, .long mo])], [(xr 2, dzS G 24 pd)]] ∧ ((E = "java/lang/IndexOutOfBoundsException" ∧ dz_kcell n i = 1))) := by
  refine dz_start (by decide) (Nat.le_of_ble_eq_true rfl) ?_
  intro p e s m below meth c A ls X hO hsz hl
  have hl : lv_has ls 2 [(0, .ref xo), (1, .int i)] := hl
  refine lv_aload_n X.x X.b dX1_paidDepth_0 rfl (lv_at hl 0 rfl) ?_
  refine lv_iload_n X.x X.b dX1_paidDepth_1 rfl (lv_at hl 1 rfl) ?_
  refine dz_V (n := 1) (k9 := 1) (n9 := 6) (As := [.int i]) (rest := []) (wr := [[(xr 2, dzS G 24 pd)]]) X hO hl (dz_X1_checkCell l hst G _ xo xr sl da ti ho dr cr pa pr st n mo i ) (lw_V q1181 q1183 qs8 q48 q1184) (by decide +kernel) ⟨Nat.le_of_ble_eq_true rfl, Nat.le_of_ble_eq_true rfl⟩ ⟨(Nat.le_of_ble_eq_true rfl), (Nat.le_of_ble_eq_true rfl), (Nat.le_of_ble_eq_true rfl), (Nat.le_of_ble_eq_true rfl)⟩ [0] [1] rfl rfl rfl (dz_rc X (hO.at1 0 rfl) (r := (RX1, TX1, 21)) rfl) rfl rfl (Nat.le_of_ble_eq_true rfl) dX1_paidDepth_2 ?_ (fun r w1 H locs hpo hO => ?_)
  · intro E w1 q9 ce9 H locs hpx hO hce hv9 hcl9
    obtain ⟨rfl, hpx⟩ := hpx
    have hO : dz_O G.1 dz_CL A s.heap [[(xr 2, dzS G 24 pd)], [(xo, dzo 0 [.ref (xr 0), .ref (xr 1), .ref (xr 2), .ref (xr 3), .ref (xr 4), .ref (xr 5), .ref (xr 6), .ref (xr 7), .ref (xr 8), .ref (xr 9), .int (nI n), .int sl, .int da, .int ti, .int ho, .int dr, .int cr, .int pa, .int pr, .int st, .long mo])]] _ _ := hO
    have hO := hO.sel (v := [[(xo, dzo 0 [.ref (xr 0), .ref (xr 1), .ref (xr 2), .ref (xr 3), .ref (xr 4), .ref (xr 5), .ref (xr 6), .ref (xr 7), .ref (xr 8), .ref (xr 9), .int (nI n), .int sl, .int da, .int ti, .int ho, .int dr, .int cr, .int pa, .int pr, .int st, .long mo])], [(xr 2, dzS G 24 pd)]]) [1, 0] rfl rfl
    exact dz_out X rfl hO (⟨rfl, by obtain ⟨hE9, hc9⟩ := hpx; rw [hE9]; simp [dz_kcell, hc9]⟩) hce hv9 hcl9 (Nat.le_of_ble_eq_true rfl) (Nat.le_of_ble_eq_true rfl)
  obtain ⟨rfl, rfl, h_1⟩ := hpo
  have hO : dz_O G.1 dz_CL A s.heap [[(xr 2, dzS G 24 pd)], [(xo, dzo 0 [.ref (xr 0), .ref (xr 1), .ref (xr 2), .ref (xr 3), .ref (xr 4), .ref (xr 5), .ref (xr 6), .ref (xr 7), .ref (xr 8), .ref (xr 9), .int (nI n), .int sl, .int da, .int ti, .int ho, .int dr, .int cr, .int pa, .int pr, .int st, .long mo])]] _ _ := hO
  refine W.eq (g2 := F0 m 5 ls []) rfl ?_
  refine lv_aload_n X.x X.b dX1_paidDepth_5 rfl (lv_at hl 0 rfl) ?_
  refine dz_get (v := .ref (xr 2)) X (hO.at1 1 rfl) in_X1 rfl 2 (by decide) q552 (Or.inl rfl) rfl dX1_paidDepth_6 ?_
  obtain ⟨j9, hj9, hi9⟩ := dz_bi_ix (by omega) h_1
  subst hi9
  have hcj : (nI j9).toNatClampNeg = j9 := nI_clamp (by omega)
  refine lv_iload_n X.x X.b dX1_paidDepth_9 rfl (lv_at hl 1 rfl) ?_
  refine dz_sald X (hO.at1 0 rfl) (j := j9) rfl (by omega) (by decide) dX1_paidDepth_10 ?_
  have hO := hO.sel (v := [[(xo, dzo 0 [.ref (xr 0), .ref (xr 1), .ref (xr 2), .ref (xr 3), .ref (xr 4), .ref (xr 5), .ref (xr 6), .ref (xr 7), .ref (xr 8), .ref (xr 9), .int (nI n), .int sl, .int da, .int ti, .int ho, .int dr, .int cr, .int pa, .int pr, .int st, .long mo])], [(xr 2, dzS G 24 pd)]]) [1, 0] rfl rfl
  exact dz_iret X hO rfl (⟨by rw [hcj], rfl, by simp [dz_kcell, h_1]⟩) (Nat.le_of_ble_eq_true rfl) (Nat.le_of_ble_eq_true rfl) dX1_paidDepth_11
set_option maxHeartbeats 4000000 in
set_option maxRecDepth 100000 in
/-- addCells -/
theorem dz_X1_addCells (l : Launch) (hst : l.stackTraces = false) (G : dz_G) (sz : Nat) (xo : Nat) (xr : Nat → Nat) (sl : Int32) (da : Int32) (ti : Int32) (ho : Int32) (dr : Int32) (cr : Int32) (pa : Int32) (pr : Int32) (st : Int32) (n : Nat) (mo : Int64) (k : Int32) (v : Int32) (dp : Nat → Int32) (lm : Nat → Int32) (pd : Nat → Int32) (ad : Nat → Int32) (hn : n ≤ 24) : dz_M l G yX1_addCells cX1_addCells 4 (some FieldType.int) ({ frames := 80, cells := 5, slots := 30, locals := 1200 } : Room) [.ref xo, .int k, .int v] [[(xo, dzo 0 [.ref (xr 0), .ref (xr 1), .ref (xr 2), .ref (xr 3), .ref (xr 4), .ref (xr 5), .ref (xr 6), .ref (xr 7), .ref (xr 8), .ref (xr 9), .int (nI n), .int sl, .int da, .int ti, .int ho, .int dr, .int cr, .int pa, .int pr, .int st, .long mo])], [(xr 0, dzS G 24 dp)], [(xr 1, dzS G 24 lm)], [(xr 2, dzS G 24 pd)], [(xr 3, dzS G 24 ad)]] sz (fun r w1 => r = some (.int (nI (n + k.toNatClampNeg))) ∧ w1 = [[(xo, dzo 0 [.ref (xr 0), .ref (xr 1), .ref (xr 2), .ref (xr 3), .ref (xr 4), .ref (xr 5), .ref (xr 6), .ref (xr 7), .ref (xr 8), .ref (xr 9), .int (nI (n + k.toNatClampNeg)), .int sl, .int da, .int ti, .int ho, .int dr, .int cr, .int pa, .int pr, .int st, .long mo])], [(xr 0, dzS G 24 (dz_fill dp n k.toNatClampNeg v))], [(xr 1, dzS G 24 (dz_fill lm n k.toNatClampNeg 100))], [(xr 2, dzS G 24 (dz_fill pd n k.toNatClampNeg v))], [(xr 3, dzS G 24 (dz_fill ad n k.toNatClampNeg v))]] ∧ dz_kaddCells n k v = 0) (fun E w1 => w1 = [[(xo, dzo 0 [.ref (xr 0), .ref (xr 1), .ref (xr 2), .ref (xr 3), .ref (xr 4), .ref (xr 5), .ref (xr 6), .ref (xr 7), .ref (xr 8), .ref (xr 9), .int (nI n), .int sl, .int da, .int ti, .int ho, .int dr, .int cr, .int pa, .int pr, .int st, .long mo])], [(xr 0, dzS G 24 dp)], [(xr 1, dzS G 24 lm)], [(xr 2, dzS G 24 pd)], [(xr 3, dzS G 24 ad)]] ∧ ((E = "java/lang/IllegalArgumentException" ∧ dz_kaddCells n k v = 1) ∨ (E = "java/lang/IllegalStateException" ∧ dz_kaddCells n k v = 2))) := by
  refine dz_start (by decide) (Nat.le_of_ble_eq_true rfl) ?_
  intro p e s m below meth c A ls X hO hsz hl
  have hl : lv_has ls 4 [(0, .ref xo), (1, .int k), (2, .int v)] := hl
  refine lv_iload_n X.x X.b dX1_addCells_0 rfl (lv_at hl 1 rfl) ?_
  refine lv_iconst (v := 1) X.x X.b dX1_addCells_1 (by decide) ?_
  refine lv_bipush (v := 24) X.x X.b dX1_addCells_2 (by decide) ?_
  refine dz_S (n := 3) (k9 := 0) (n9 := 0) (As := [.int k, .int 1, .int 24]) (rest := []) (wr := [[(xo, dzo 0 [.ref (xr 0), .ref (xr 1), .ref (xr 2), .ref (xr 3), .ref (xr 4), .ref (xr 5), .ref (xr 6), .ref (xr 7), .ref (xr 8), .ref (xr 9), .int (nI n), .int sl, .int da, .int ti, .int ho, .int dr, .int cr, .int pa, .int pr, .int st, .long mo])], [(xr 0, dzS G 24 dp)], [(xr 1, dzS G 24 lm)], [(xr 2, dzS G 24 pd)], [(xr 3, dzS G 24 ad)]]) X hO hl (dz_X1_isBetween l G _ k 1 24 ) (lw_S q1131 q1003 q48 q1004) (by decide +kernel) ⟨Nat.le_of_ble_eq_true rfl, Nat.le_of_ble_eq_true rfl⟩ ⟨(Nat.le_of_ble_eq_true rfl), (Nat.le_of_ble_eq_true rfl), (Nat.le_of_ble_eq_true rfl), (Nat.le_of_ble_eq_true rfl)⟩ [] [0, 1, 2, 3, 4] rfl rfl rfl rfl rfl (Nat.le_of_ble_eq_true rfl) dX1_addCells_4 (fun E w1 q9 ce9 H locs hpx hO hce hv9 hcl9 => hpx.elim) (fun r w1 H locs hpo hO => ?_)
  obtain ⟨rfl, rfl⟩ := hpo
  have hO : dz_O G.1 dz_CL A s.heap [[(xo, dzo 0 [.ref (xr 0), .ref (xr 1), .ref (xr 2), .ref (xr 3), .ref (xr 4), .ref (xr 5), .ref (xr 6), .ref (xr 7), .ref (xr 8), .ref (xr 9), .int (nI n), .int sl, .int da, .int ti, .int ho, .int dr, .int cr, .int pa, .int pr, .int st, .long mo])], [(xr 0, dzS G 24 dp)], [(xr 1, dzS G 24 lm)], [(xr 2, dzS G 24 pd)], [(xr 3, dzS G 24 ad)]] _ _ := hO
  refine W.eq (g2 := F0 m 7 ls [.int (dz_bi k 1 24)]) rfl ?_
  refine lv_if_eq (tgt := 25) X.x X.b dX1_addCells_7 (by decide) (fun c_1 => ?_) (fun c_1 => ?_)
  · refine lv_iconst (v := 0) X.x X.b dX1_addCells_25 (by decide) ?_
    refine dz_S (n := 1) (k9 := 1) (n9 := 6) (As := [.int 0]) (rest := []) (wr := [[(xo, dzo 0 [.ref (xr 0), .ref (xr 1), .ref (xr 2), .ref (xr 3), .ref (xr 4), .ref (xr 5), .ref (xr 6), .ref (xr 7), .ref (xr 8), .ref (xr 9), .int (nI n), .int sl, .int da, .int ti, .int ho, .int dr, .int cr, .int pa, .int pr, .int st, .long mo])], [(xr 0, dzS G 24 dp)], [(xr 1, dzS G 24 lm)], [(xr 2, dzS G 24 pd)], [(xr 3, dzS G 24 ad)]]) X hO hl (dz_X1_checkArgument l hst G _ 0 ) (lw_S q1132 q1133 q48 q1134) (by decide +kernel) ⟨Nat.le_of_ble_eq_true rfl, Nat.le_of_ble_eq_true rfl⟩ ⟨(Nat.le_of_ble_eq_true rfl), (Nat.le_of_ble_eq_true rfl), (Nat.le_of_ble_eq_true rfl), (Nat.le_of_ble_eq_true rfl)⟩ [] [0, 1, 2, 3, 4] rfl rfl rfl rfl rfl (Nat.le_of_ble_eq_true rfl) dX1_addCells_26 ?_ (fun r w1 H locs hpo hO => ?_)
    · intro E w1 q9 ce9 H locs hpx hO hce hv9 hcl9
      obtain ⟨rfl, hpx⟩ := hpx
      have hO : dz_O G.1 dz_CL A s.heap [[(xo, dzo 0 [.ref (xr 0), .ref (xr 1), .ref (xr 2), .ref (xr 3), .ref (xr 4), .ref (xr 5), .ref (xr 6), .ref (xr 7), .ref (xr 8), .ref (xr 9), .int (nI n), .int sl, .int da, .int ti, .int ho, .int dr, .int cr, .int pa, .int pr, .int st, .long mo])], [(xr 0, dzS G 24 dp)], [(xr 1, dzS G 24 lm)], [(xr 2, dzS G 24 pd)], [(xr 3, dzS G 24 ad)]] _ _ := hO
      exact dz_out X rfl hO (⟨rfl, by obtain ⟨hE9, hc9⟩ := hpx; rw [hE9]; simp [dz_kaddCells, c_1, hc9]⟩) hce hv9 hcl9 (Nat.le_of_ble_eq_true rfl) (Nat.le_of_ble_eq_true rfl)
    obtain ⟨rfl, rfl, h_2⟩ := hpo
    have hO : dz_O G.1 dz_CL A s.heap [[(xo, dzo 0 [.ref (xr 0), .ref (xr 1), .ref (xr 2), .ref (xr 3), .ref (xr 4), .ref (xr 5), .ref (xr 6), .ref (xr 7), .ref (xr 8), .ref (xr 9), .int (nI n), .int sl, .int da, .int ti, .int ho, .int dr, .int cr, .int pa, .int pr, .int st, .long mo])], [(xr 0, dzS G 24 dp)], [(xr 1, dzS G 24 lm)], [(xr 2, dzS G 24 pd)], [(xr 3, dzS G 24 ad)]] _ _ := hO
    refine W.eq (g2 := F0 m 29 ls []) rfl ?_
    exact absurd rfl h_2
  · refine lv_iload_n X.x X.b dX1_addCells_10 rfl (lv_at hl 2 rfl) ?_
    refine lv_iconst (v := 0) X.x X.b dX1_addCells_11 (by decide) ?_
    refine lv_sipush (v := 200) X.x X.b dX1_addCells_12 (by decide) ?_
    refine dz_S (n := 3) (k9 := 0) (n9 := 0) (As := [.int v, .int 0, .int 200]) (rest := []) (wr := [[(xo, dzo 0 [.ref (xr 0), .ref (xr 1), .ref (xr 2), .ref (xr 3), .ref (xr 4), .ref (xr 5), .ref (xr 6), .ref (xr 7), .ref (xr 8), .ref (xr 9), .int (nI n), .int sl, .int da, .int ti, .int ho, .int dr, .int cr, .int pa, .int pr, .int st, .long mo])], [(xr 0, dzS G 24 dp)], [(xr 1, dzS G 24 lm)], [(xr 2, dzS G 24 pd)], [(xr 3, dzS G 24 ad)]]) X hO hl (dz_X1_isBetween l G _ v 0 200 ) (lw_S q1131 q1003 q48 q1004) (by decide +kernel) ⟨Nat.le_of_ble_eq_true rfl, Nat.le_of_ble_eq_true rfl⟩ ⟨(Nat.le_of_ble_eq_true rfl), (Nat.le_of_ble_eq_true rfl), (Nat.le_of_ble_eq_true rfl), (Nat.le_of_ble_eq_true rfl)⟩ [] [0, 1, 2, 3, 4] rfl rfl rfl rfl rfl (Nat.le_of_ble_eq_true rfl) dX1_addCells_15 (fun E w1 q9 ce9 H locs hpx hO hce hv9 hcl9 => hpx.elim) (fun r w1 H locs hpo hO => ?_)
    obtain ⟨rfl, rfl⟩ := hpo
    have hO : dz_O G.1 dz_CL A s.heap [[(xo, dzo 0 [.ref (xr 0), .ref (xr 1), .ref (xr 2), .ref (xr 3), .ref (xr 4), .ref (xr 5), .ref (xr 6), .ref (xr 7), .ref (xr 8), .ref (xr 9), .int (nI n), .int sl, .int da, .int ti, .int ho, .int dr, .int cr, .int pa, .int pr, .int st, .long mo])], [(xr 0, dzS G 24 dp)], [(xr 1, dzS G 24 lm)], [(xr 2, dzS G 24 pd)], [(xr 3, dzS G 24 ad)]] _ _ := hO
    refine W.eq (g2 := F0 m 18 ls [.int (dz_bi v 0 200)]) rfl ?_
    refine lv_if_eq (tgt := 25) X.x X.b dX1_addCells_18 (by decide) (fun c_3 => ?_) (fun c_3 => ?_)
    · refine lv_iconst (v := 0) X.x X.b dX1_addCells_25 (by decide) ?_
      refine dz_S (n := 1) (k9 := 1) (n9 := 6) (As := [.int 0]) (rest := []) (wr := [[(xo, dzo 0 [.ref (xr 0), .ref (xr 1), .ref (xr 2), .ref (xr 3), .ref (xr 4), .ref (xr 5), .ref (xr 6), .ref (xr 7), .ref (xr 8), .ref (xr 9), .int (nI n), .int sl, .int da, .int ti, .int ho, .int dr, .int cr, .int pa, .int pr, .int st, .long mo])], [(xr 0, dzS G 24 dp)], [(xr 1, dzS G 24 lm)], [(xr 2, dzS G 24 pd)], [(xr 3, dzS G 24 ad)]]) X hO hl (dz_X1_checkArgument l hst G _ 0 ) (lw_S q1132 q1133 q48 q1134) (by decide +kernel) ⟨Nat.le_of_ble_eq_true rfl, Nat.le_of_ble_eq_true rfl⟩ ⟨(Nat.le_of_ble_eq_true rfl), (Nat.le_of_ble_eq_true rfl), (Nat.le_of_ble_eq_true rfl), (Nat.le_of_ble_eq_true rfl)⟩ [] [0, 1, 2, 3, 4] rfl rfl rfl rfl rfl (Nat.le_of_ble_eq_true rfl) dX1_addCells_26 ?_ (fun r w1 H locs hpo hO => ?_)
      · intro E w1 q9 ce9 H locs hpx hO hce hv9 hcl9
        obtain ⟨rfl, hpx⟩ := hpx
        have hO : dz_O G.1 dz_CL A s.heap [[(xo, dzo 0 [.ref (xr 0), .ref (xr 1), .ref (xr 2), .ref (xr 3), .ref (xr 4), .ref (xr 5), .ref (xr 6), .ref (xr 7), .ref (xr 8), .ref (xr 9), .int (nI n), .int sl, .int da, .int ti, .int ho, .int dr, .int cr, .int pa, .int pr, .int st, .long mo])], [(xr 0, dzS G 24 dp)], [(xr 1, dzS G 24 lm)], [(xr 2, dzS G 24 pd)], [(xr 3, dzS G 24 ad)]] _ _ := hO
        exact dz_out X rfl hO (⟨rfl, by obtain ⟨hE9, hc9⟩ := hpx; rw [hE9]; simp [dz_kaddCells, c_1, c_3, hc9]⟩) hce hv9 hcl9 (Nat.le_of_ble_eq_true rfl) (Nat.le_of_ble_eq_true rfl)
      obtain ⟨rfl, rfl, h_4⟩ := hpo
      have hO : dz_O G.1 dz_CL A s.heap [[(xo, dzo 0 [.ref (xr 0), .ref (xr 1), .ref (xr 2), .ref (xr 3), .ref (xr 4), .ref (xr 5), .ref (xr 6), .ref (xr 7), .ref (xr 8), .ref (xr 9), .int (nI n), .int sl, .int da, .int ti, .int ho, .int dr, .int cr, .int pa, .int pr, .int st, .long mo])], [(xr 0, dzS G 24 dp)], [(xr 1, dzS G 24 lm)], [(xr 2, dzS G 24 pd)], [(xr 3, dzS G 24 ad)]] _ _ := hO
      refine W.eq (g2 := F0 m 29 ls []) rfl ?_
      exact absurd rfl h_4
    · refine lv_iconst (v := 1) X.x X.b dX1_addCells_21 (by decide) ?_
      refine lv_goto (tgt := 26) X.x X.b dX1_addCells_22 (by decide) ?_
      refine dz_S (n := 1) (k9 := 1) (n9 := 6) (As := [.int 1]) (rest := []) (wr := [[(xo, dzo 0 [.ref (xr 0), .ref (xr 1), .ref (xr 2), .ref (xr 3), .ref (xr 4), .ref (xr 5), .ref (xr 6), .ref (xr 7), .ref (xr 8), .ref (xr 9), .int (nI n), .int sl, .int da, .int ti, .int ho, .int dr, .int cr, .int pa, .int pr, .int st, .long mo])], [(xr 0, dzS G 24 dp)], [(xr 1, dzS G 24 lm)], [(xr 2, dzS G 24 pd)], [(xr 3, dzS G 24 ad)]]) X hO hl (dz_X1_checkArgument l hst G _ 1 ) (lw_S q1132 q1133 q48 q1134) (by decide +kernel) ⟨Nat.le_of_ble_eq_true rfl, Nat.le_of_ble_eq_true rfl⟩ ⟨(Nat.le_of_ble_eq_true rfl), (Nat.le_of_ble_eq_true rfl), (Nat.le_of_ble_eq_true rfl), (Nat.le_of_ble_eq_true rfl)⟩ [] [0, 1, 2, 3, 4] rfl rfl rfl rfl rfl (Nat.le_of_ble_eq_true rfl) dX1_addCells_26 ?_ (fun r w1 H locs hpo hO => ?_)
      · intro E w1 q9 ce9 H locs hpx hO hce hv9 hcl9
        exact absurd hpx.2.2 (by decide)
      obtain ⟨rfl, rfl, h_5⟩ := hpo
      have hO : dz_O G.1 dz_CL A s.heap [[(xo, dzo 0 [.ref (xr 0), .ref (xr 1), .ref (xr 2), .ref (xr 3), .ref (xr 4), .ref (xr 5), .ref (xr 6), .ref (xr 7), .ref (xr 8), .ref (xr 9), .int (nI n), .int sl, .int da, .int ti, .int ho, .int dr, .int cr, .int pa, .int pr, .int st, .long mo])], [(xr 0, dzS G 24 dp)], [(xr 1, dzS G 24 lm)], [(xr 2, dzS G 24 pd)], [(xr 3, dzS G 24 ad)]] _ _ := hO
      refine W.eq (g2 := F0 m 29 ls []) rfl ?_
      refine lv_aload_n X.x X.b dX1_addCells_29 rfl (lv_at hl 0 rfl) ?_
      refine dz_get (v := .int (nI n)) X (hO.at1 0 rfl) in_X1 rfl 10 (by decide) q560 (Or.inl rfl) rfl dX1_addCells_30 ?_
      refine lv_iload_n X.x X.b dX1_addCells_33 rfl (lv_at hl 1 rfl) ?_
      refine lv_iadd X.x X.b dX1_addCells_34 ?_
      refine lv_bipush (v := 24) X.x X.b dX1_addCells_35 (by decide) ?_
      refine lv_icmp_gt (tgt := 44) X.x X.b dX1_addCells_37 (by decide) (fun c_6 => ?_) (fun c_6 => ?_)
      · refine lv_iconst (v := 0) X.x X.b dX1_addCells_44 (by decide) ?_
        refine dz_S (n := 1) (k9 := 2) (n9 := 12) (As := [.int 0]) (rest := []) (wr := [[(xo, dzo 0 [.ref (xr 0), .ref (xr 1), .ref (xr 2), .ref (xr 3), .ref (xr 4), .ref (xr 5), .ref (xr 6), .ref (xr 7), .ref (xr 8), .ref (xr 9), .int (nI n), .int sl, .int da, .int ti, .int ho, .int dr, .int cr, .int pa, .int pr, .int st, .long mo])], [(xr 0, dzS G 24 dp)], [(xr 1, dzS G 24 lm)], [(xr 2, dzS G 24 pd)], [(xr 3, dzS G 24 ad)]]) X hO hl (dz_X1_checkState l hst G _ 0 ) (lw_S q1140 q1141 q48 q1142) (by decide +kernel) ⟨Nat.le_of_ble_eq_true rfl, Nat.le_of_ble_eq_true rfl⟩ ⟨(Nat.le_of_ble_eq_true rfl), (Nat.le_of_ble_eq_true rfl), (Nat.le_of_ble_eq_true rfl), (Nat.le_of_ble_eq_true rfl)⟩ [] [0, 1, 2, 3, 4] rfl rfl rfl rfl rfl (Nat.le_of_ble_eq_true rfl) dX1_addCells_45 ?_ (fun r w1 H locs hpo hO => ?_)
        · intro E w1 q9 ce9 H locs hpx hO hce hv9 hcl9
          obtain ⟨rfl, hpx⟩ := hpx
          have hO : dz_O G.1 dz_CL A s.heap [[(xo, dzo 0 [.ref (xr 0), .ref (xr 1), .ref (xr 2), .ref (xr 3), .ref (xr 4), .ref (xr 5), .ref (xr 6), .ref (xr 7), .ref (xr 8), .ref (xr 9), .int (nI n), .int sl, .int da, .int ti, .int ho, .int dr, .int cr, .int pa, .int pr, .int st, .long mo])], [(xr 0, dzS G 24 dp)], [(xr 1, dzS G 24 lm)], [(xr 2, dzS G 24 pd)], [(xr 3, dzS G 24 ad)]] _ _ := hO
          exact dz_out X rfl hO (⟨rfl, by obtain ⟨hE9, hc9⟩ := hpx; rw [hE9]; simp [dz_kaddCells, c_1, c_3, h_5, c_6, hc9]⟩) hce hv9 hcl9 (Nat.le_of_ble_eq_true rfl) (Nat.le_of_ble_eq_true rfl)
        obtain ⟨rfl, rfl, h_7⟩ := hpo
        have hO : dz_O G.1 dz_CL A s.heap [[(xo, dzo 0 [.ref (xr 0), .ref (xr 1), .ref (xr 2), .ref (xr 3), .ref (xr 4), .ref (xr 5), .ref (xr 6), .ref (xr 7), .ref (xr 8), .ref (xr 9), .int (nI n), .int sl, .int da, .int ti, .int ho, .int dr, .int cr, .int pa, .int pr, .int st, .long mo])], [(xr 0, dzS G 24 dp)], [(xr 1, dzS G 24 lm)], [(xr 2, dzS G 24 pd)], [(xr 3, dzS G 24 ad)]] _ _ := hO
        refine W.eq (g2 := F0 m 48 ls []) rfl ?_
        exact absurd rfl h_7
      · refine lv_iconst (v := 1) X.x X.b dX1_addCells_40 (by decide) ?_
        refine lv_goto (tgt := 45) X.x X.b dX1_addCells_41 (by decide) ?_
        refine dz_S (n := 1) (k9 := 2) (n9 := 12) (As := [.int 1]) (rest := []) (wr := [[(xo, dzo 0 [.ref (xr 0), .ref (xr 1), .ref (xr 2), .ref (xr 3), .ref (xr 4), .ref (xr 5), .ref (xr 6), .ref (xr 7), .ref (xr 8), .ref (xr 9), .int (nI n), .int sl, .int da, .int ti, .int ho, .int dr, .int cr, .int pa, .int pr, .int st, .long mo])], [(xr 0, dzS G 24 dp)], [(xr 1, dzS G 24 lm)], [(xr 2, dzS G 24 pd)], [(xr 3, dzS G 24 ad)]]) X hO hl (dz_X1_checkState l hst G _ 1 ) (lw_S q1140 q1141 q48 q1142) (by decide +kernel) ⟨Nat.le_of_ble_eq_true rfl, Nat.le_of_ble_eq_true rfl⟩ ⟨(Nat.le_of_ble_eq_true rfl), (Nat.le_of_ble_eq_true rfl), (Nat.le_of_ble_eq_true rfl), (Nat.le_of_ble_eq_true rfl)⟩ [] [0, 1, 2, 3, 4] rfl rfl rfl rfl rfl (Nat.le_of_ble_eq_true rfl) dX1_addCells_45 ?_ (fun r w1 H locs hpo hO => ?_)
        · intro E w1 q9 ce9 H locs hpx hO hce hv9 hcl9
          exact absurd hpx.2.2 (by decide)
        obtain ⟨rfl, rfl, h_8⟩ := hpo
        have hO : dz_O G.1 dz_CL A s.heap [[(xo, dzo 0 [.ref (xr 0), .ref (xr 1), .ref (xr 2), .ref (xr 3), .ref (xr 4), .ref (xr 5), .ref (xr 6), .ref (xr 7), .ref (xr 8), .ref (xr 9), .int (nI n), .int sl, .int da, .int ti, .int ho, .int dr, .int cr, .int pa, .int pr, .int st, .long mo])], [(xr 0, dzS G 24 dp)], [(xr 1, dzS G 24 lm)], [(xr 2, dzS G 24 pd)], [(xr 3, dzS G 24 ad)]] _ _ := hO
        refine W.eq (g2 := F0 m 48 ls []) rfl ?_
        obtain ⟨j9, hj1, hj2, hk9⟩ := dz_bi_nat (a := 1) (b := 24) (by decide) (by assumption : ¬ dz_bi k 1 24 = 0) (by decide)
        subst hk9
        have hs9 : n + j9 ≤ 24 := by have h9 := c_6; rw [nI_add] at h9; first | exact (nI_leI (a := n + j9) (b := 24) (by omega) (by decide)).mp h9 | exact (nI_leI (a := n + j9) (b := 24) (by omega) (by decide)).mp (Int32.not_lt.mp h9)
        have hv9 : v.toInt16.toInt32 = v := dz_bi16 c_3 (by decide)
        refine lv_iconst (v := 0) X.x X.b dX1_addCells_48 (by decide) ?_
        refine lv_istore_n (lv' := [(3, .int 0), (0, .ref xo), (1, .int (nI j9)), (2, .int v)]) X.x X.b dX1_addCells_49 rfl hl (by decide) rfl (fun ls hl => ?_)
        have hcut_50 : ∀ (n9 : Nat), ∀ (i : Nat), (i ≤ j9) → j9 - i < n9 → ∀ (H : Heap) (locs : List Loc), dz_O G.1 dz_CL A s.heap [[(xo, dzo 0 [.ref (xr 0), .ref (xr 1), .ref (xr 2), .ref (xr 3), .ref (xr 4), .ref (xr 5), .ref (xr 6), .ref (xr 7), .ref (xr 8), .ref (xr 9), .int (nI (n + i)), .int sl, .int da, .int ti, .int ho, .int dr, .int cr, .int pa, .int pr, .int st, .long mo])], [(xr 0, dzS G 24 (dz_fill dp n i v))], [(xr 1, dzS G 24 (dz_fill lm n i 100))], [(xr 2, dzS G 24 (dz_fill pd n i v))], [(xr 3, dzS G 24 (dz_fill ad n i v))]] H locs → ∀ (ls : Array Slot), lv_has ls 4 [(3, .int (nI i)), (0, .ref xo), (1, .int (nI j9)), (2, .int v)] → W p l e ({ frames := 80, cells := 5, slots := 30, locals := 1200 } : Room) s m ([.ref xo, .int (nI j9), .int v] : List Value).toArray below meth c H locs 2 12 (vx_MQ below (dz_Q G (fun r w1 => r = some (.int (nI (n + (nI j9).toNatClampNeg))) ∧ w1 = [[(xo, dzo 0 [.ref (xr 0), .ref (xr 1), .ref (xr 2), .ref (xr 3), .ref (xr 4), .ref (xr 5), .ref (xr 6), .ref (xr 7), .ref (xr 8), .ref (xr 9), .int (nI (n + (nI j9).toNatClampNeg)), .int sl, .int da, .int ti, .int ho, .int dr, .int cr, .int pa, .int pr, .int st, .long mo])], [(xr 0, dzS G 24 (dz_fill dp n (nI j9).toNatClampNeg v))], [(xr 1, dzS G 24 (dz_fill lm n (nI j9).toNatClampNeg 100))], [(xr 2, dzS G 24 (dz_fill pd n (nI j9).toNatClampNeg v))], [(xr 3, dzS G 24 (dz_fill ad n (nI j9).toNatClampNeg v))]] ∧ dz_kaddCells n (nI j9) v = 0) A) (dz_QX G (fun E w1 => w1 = [[(xo, dzo 0 [.ref (xr 0), .ref (xr 1), .ref (xr 2), .ref (xr 3), .ref (xr 4), .ref (xr 5), .ref (xr 6), .ref (xr 7), .ref (xr 8), .ref (xr 9), .int (nI n), .int sl, .int da, .int ti, .int ho, .int dr, .int cr, .int pa, .int pr, .int st, .long mo])], [(xr 0, dzS G 24 dp)], [(xr 1, dzS G 24 lm)], [(xr 2, dzS G 24 pd)], [(xr 3, dzS G 24 ad)]] ∧ ((E = "java/lang/IllegalArgumentException" ∧ dz_kaddCells n (nI j9) v = 1) ∨ (E = "java/lang/IllegalStateException" ∧ dz_kaddCells n (nI j9) v = 2))) A) ([.ref xo, .int (nI j9), .int v] : List Value).toArray s 5 30 A) (F0 m 50 ls []) := by
          intro n9
          induction n9 with
          | zero => intro i hi hmu9; exact absurd hmu9 (Nat.not_lt_zero _)
          | succ n9 ih =>
            intro i hi hmu9 H locs hO ls hl
            refine lv_iload_n X.x X.b dX1_addCells_50 rfl (lv_at hl 0 rfl) ?_
            refine lv_iload_n X.x X.b dX1_addCells_51 rfl (lv_at hl 2 rfl) ?_
            refine lv_icmp_ge (tgt := 115) X.x X.b dX1_addCells_52 (by decide) (fun c_9 => ?_) (fun c_9 => ?_)
            · have nc_9 : j9 ≤ i := (nI_leI (a := j9) (b := i) (by omega) (by omega)).mp c_9
              refine lv_aload_n X.x X.b dX1_addCells_115 rfl (lv_at hl 1 rfl) ?_
              refine dz_get (v := .int (nI (n + i))) X (hO.at1 0 rfl) in_X1 rfl 10 (by decide) q560 (Or.inl rfl) rfl dX1_addCells_116 ?_
              exact dz_iret X hO rfl (⟨by rw [nI_clamp (show j9 < 2 ^ 31 by omega), show i = j9 by omega], by rw [nI_clamp (show j9 < 2 ^ 31 by omega), show i = j9 by omega], by simp [dz_kaddCells, c_1, c_3, h_5, c_6, h_8, hi, c_9]⟩) (Nat.le_of_ble_eq_true rfl) (Nat.le_of_ble_eq_true rfl) dX1_addCells_119
            · have nc_9 : ¬ j9 ≤ i := fun z9 => c_9 ((nI_leI (a := j9) (b := i) (by omega) (by omega)).mpr z9)
              refine lv_aload_n X.x X.b dX1_addCells_55 rfl (lv_at hl 1 rfl) ?_
              refine dz_get (v := .ref (xr 0)) X (hO.at1 0 rfl) in_X1 rfl 0 (by decide) q550 (Or.inl rfl) rfl dX1_addCells_56 ?_
              refine lv_aload_n X.x X.b dX1_addCells_59 rfl (lv_at hl 1 rfl) ?_
              refine dz_get (v := .int (nI (n + i))) X (hO.at1 0 rfl) in_X1 rfl 10 (by decide) q560 (Or.inl rfl) rfl dX1_addCells_60 ?_
              refine lv_iload_n X.x X.b dX1_addCells_63 rfl (lv_at hl 3 rfl) ?_
              refine lv_i2s (v := v.toInt16.toInt32) X.x X.b dX1_addCells_64 rfl ?_
              refine dz_rei (y := v) (hv9) ?_
              refine dz_sast X hO 1 rfl (j := n + i) rfl (by omega) (by decide) dX1_addCells_65 (fun H locs hO => ?_)
              have hO : dz_O G.1 dz_CL A s.heap [[(xo, dzo 0 [.ref (xr 0), .ref (xr 1), .ref (xr 2), .ref (xr 3), .ref (xr 4), .ref (xr 5), .ref (xr 6), .ref (xr 7), .ref (xr 8), .ref (xr 9), .int (nI (n + i)), .int sl, .int da, .int ti, .int ho, .int dr, .int cr, .int pa, .int pr, .int st, .long mo])], [(xr 0, dzS G 24 (upd (dz_fill dp n i v) (n + i) (vp_nar .short v)))], [(xr 1, dzS G 24 (dz_fill lm n i 100))], [(xr 2, dzS G 24 (dz_fill pd n i v))], [(xr 3, dzS G 24 (dz_fill ad n i v))]] _ _ := hO
              refine lv_aload_n X.x X.b dX1_addCells_66 rfl (lv_at hl 1 rfl) ?_
              refine dz_get (v := .ref (xr 2)) X (hO.at1 0 rfl) in_X1 rfl 2 (by decide) q552 (Or.inl rfl) rfl dX1_addCells_67 ?_
              refine lv_aload_n X.x X.b dX1_addCells_70 rfl (lv_at hl 1 rfl) ?_
              refine dz_get (v := .int (nI (n + i))) X (hO.at1 0 rfl) in_X1 rfl 10 (by decide) q560 (Or.inl rfl) rfl dX1_addCells_71 ?_
              refine lv_iload_n X.x X.b dX1_addCells_74 rfl (lv_at hl 3 rfl) ?_
              refine lv_i2s (v := v.toInt16.toInt32) X.x X.b dX1_addCells_75 rfl ?_
              refine dz_rei (y := v) (hv9) ?_
              refine dz_sast X hO 3 rfl (j := n + i) rfl (by omega) (by decide) dX1_addCells_76 (fun H locs hO => ?_)
              have hO : dz_O G.1 dz_CL A s.heap [[(xo, dzo 0 [.ref (xr 0), .ref (xr 1), .ref (xr 2), .ref (xr 3), .ref (xr 4), .ref (xr 5), .ref (xr 6), .ref (xr 7), .ref (xr 8), .ref (xr 9), .int (nI (n + i)), .int sl, .int da, .int ti, .int ho, .int dr, .int cr, .int pa, .int pr, .int st, .long mo])], [(xr 0, dzS G 24 (upd (dz_fill dp n i v) (n + i) (vp_nar .short v)))], [(xr 1, dzS G 24 (dz_fill lm n i 100))], [(xr 2, dzS G 24 (upd (dz_fill pd n i v) (n + i) (vp_nar .short v)))], [(xr 3, dzS G 24 (dz_fill ad n i v))]] _ _ := hO
              refine lv_aload_n X.x X.b dX1_addCells_77 rfl (lv_at hl 1 rfl) ?_
              refine dz_get (v := .ref (xr 3)) X (hO.at1 0 rfl) in_X1 rfl 3 (by decide) q553 (Or.inl rfl) rfl dX1_addCells_78 ?_
              refine lv_aload_n X.x X.b dX1_addCells_81 rfl (lv_at hl 1 rfl) ?_
              refine dz_get (v := .int (nI (n + i))) X (hO.at1 0 rfl) in_X1 rfl 10 (by decide) q560 (Or.inl rfl) rfl dX1_addCells_82 ?_
              refine lv_iload_n X.x X.b dX1_addCells_85 rfl (lv_at hl 3 rfl) ?_
              refine lv_i2s (v := v.toInt16.toInt32) X.x X.b dX1_addCells_86 rfl ?_
              refine dz_rei (y := v) (hv9) ?_
              refine dz_sast X hO 4 rfl (j := n + i) rfl (by omega) (by decide) dX1_addCells_87 (fun H locs hO => ?_)
              have hO : dz_O G.1 dz_CL A s.heap [[(xo, dzo 0 [.ref (xr 0), .ref (xr 1), .ref (xr 2), .ref (xr 3), .ref (xr 4), .ref (xr 5), .ref (xr 6), .ref (xr 7), .ref (xr 8), .ref (xr 9), .int (nI (n + i)), .int sl, .int da, .int ti, .int ho, .int dr, .int cr, .int pa, .int pr, .int st, .long mo])], [(xr 0, dzS G 24 (upd (dz_fill dp n i v) (n + i) (vp_nar .short v)))], [(xr 1, dzS G 24 (dz_fill lm n i 100))], [(xr 2, dzS G 24 (upd (dz_fill pd n i v) (n + i) (vp_nar .short v)))], [(xr 3, dzS G 24 (upd (dz_fill ad n i v) (n + i) (vp_nar .short v)))]] _ _ := hO
              refine lv_aload_n X.x X.b dX1_addCells_88 rfl (lv_at hl 1 rfl) ?_
              refine dz_get (v := .ref (xr 1)) X (hO.at1 0 rfl) in_X1 rfl 1 (by decide) q551 (Or.inl rfl) rfl dX1_addCells_89 ?_
              refine lv_aload_n X.x X.b dX1_addCells_92 rfl (lv_at hl 1 rfl) ?_
              refine dz_get (v := .int (nI (n + i))) X (hO.at1 0 rfl) in_X1 rfl 10 (by decide) q560 (Or.inl rfl) rfl dX1_addCells_93 ?_
              refine lv_bipush (v := 100) X.x X.b dX1_addCells_96 (by decide) ?_
              refine dz_sast X hO 2 rfl (j := n + i) rfl (by omega) (by decide) dX1_addCells_98 (fun H locs hO => ?_)
              have hO : dz_O G.1 dz_CL A s.heap [[(xo, dzo 0 [.ref (xr 0), .ref (xr 1), .ref (xr 2), .ref (xr 3), .ref (xr 4), .ref (xr 5), .ref (xr 6), .ref (xr 7), .ref (xr 8), .ref (xr 9), .int (nI (n + i)), .int sl, .int da, .int ti, .int ho, .int dr, .int cr, .int pa, .int pr, .int st, .long mo])], [(xr 0, dzS G 24 (upd (dz_fill dp n i v) (n + i) (vp_nar .short v)))], [(xr 1, dzS G 24 (upd (dz_fill lm n i 100) (n + i) (vp_nar .short 100)))], [(xr 2, dzS G 24 (upd (dz_fill pd n i v) (n + i) (vp_nar .short v)))], [(xr 3, dzS G 24 (upd (dz_fill ad n i v) (n + i) (vp_nar .short v)))]] _ _ := hO
              refine lv_aload_n X.x X.b dX1_addCells_99 rfl (lv_at hl 1 rfl) ?_
              refine lv_dup X.x X.b dX1_addCells_100 rfl ?_
              refine dz_get (v := .int (nI (n + i))) X (hO.at1 0 rfl) in_X1 rfl 10 (by decide) q560 (Or.inl rfl) rfl dX1_addCells_101 ?_
              refine lv_iconst (v := 1) X.x X.b dX1_addCells_104 (by decide) ?_
              refine lv_iadd X.x X.b dX1_addCells_105 ?_
              refine dz_rei (y := nI (n + i + 1)) (nI_add (n + i) 1) ?_
              refine dz_put (v := .int (nI (n + i + 1))) X hO 0 rfl in_X1 tyX1 tyX1_ok nmX1 rfl 10 (by decide) q560 (Or.inl rfl) (Or.inl rfl) rfl rfl (Nat.le_of_ble_eq_true rfl) dX1_addCells_106 (fun H locs hO => ?_)
              have hO : dz_O G.1 dz_CL A s.heap [[(xo, dzo 0 [.ref (xr 0), .ref (xr 1), .ref (xr 2), .ref (xr 3), .ref (xr 4), .ref (xr 5), .ref (xr 6), .ref (xr 7), .ref (xr 8), .ref (xr 9), .int (nI (n + i + 1)), .int sl, .int da, .int ti, .int ho, .int dr, .int cr, .int pa, .int pr, .int st, .long mo])], [(xr 0, dzS G 24 (upd (dz_fill dp n i v) (n + i) (vp_nar .short v)))], [(xr 1, dzS G 24 (upd (dz_fill lm n i 100) (n + i) (vp_nar .short 100)))], [(xr 2, dzS G 24 (upd (dz_fill pd n i v) (n + i) (vp_nar .short v)))], [(xr 3, dzS G 24 (upd (dz_fill ad n i v) (n + i) (vp_nar .short v)))]] _ _ := hO
              refine lv_iinc (v := nI (i + 1)) (lv' := [(3, .int (nI (i + 1))), (0, .ref xo), (1, .int (nI j9)), (2, .int v)]) X.x X.b dX1_addCells_109 hl (k := 0) rfl (nI_1 i) (by decide) rfl (fun ls hl => ?_)
              refine lv_goto (tgt := 50) X.x X.b dX1_addCells_112 (by decide) ?_
              have hO : dz_O G.1 dz_CL A s.heap [[(xo, dzo 0 [.ref (xr 0), .ref (xr 1), .ref (xr 2), .ref (xr 3), .ref (xr 4), .ref (xr 5), .ref (xr 6), .ref (xr 7), .ref (xr 8), .ref (xr 9), .int (nI (n + (i + 1))), .int sl, .int da, .int ti, .int ho, .int dr, .int cr, .int pa, .int pr, .int st, .long mo])], [(xr 0, dzS G 24 (upd (dz_fill dp n i v) (n + i) (vp_nar .short v)))], [(xr 1, dzS G 24 (upd (dz_fill lm n i 100) (n + i) (vp_nar .short 100)))], [(xr 2, dzS G 24 (upd (dz_fill pd n i v) (n + i) (vp_nar .short v)))], [(xr 3, dzS G 24 (upd (dz_fill ad n i v) (n + i) (vp_nar .short v)))]] _ _ := hO
              have hO := hO.cong 1 rfl (w1 := [(xr 0, dzS G 24 (dz_fill dp n (i + 1) v))]) (congrArg (fun z9 => [(xr 0, dzS G 24 z9)]) (show (dz_fill dp n (i + 1) v) = (upd (dz_fill dp n i v) (n + i) (vp_nar .short v)) from by rw [show vp_nar .short v = v from hv9]; exact (dz_fill_s _ _ _ _).symm))
              have hO : dz_O G.1 dz_CL A s.heap [[(xo, dzo 0 [.ref (xr 0), .ref (xr 1), .ref (xr 2), .ref (xr 3), .ref (xr 4), .ref (xr 5), .ref (xr 6), .ref (xr 7), .ref (xr 8), .ref (xr 9), .int (nI (n + (i + 1))), .int sl, .int da, .int ti, .int ho, .int dr, .int cr, .int pa, .int pr, .int st, .long mo])], [(xr 0, dzS G 24 (dz_fill dp n (i + 1) v))], [(xr 1, dzS G 24 (upd (dz_fill lm n i 100) (n + i) (vp_nar .short 100)))], [(xr 2, dzS G 24 (upd (dz_fill pd n i v) (n + i) (vp_nar .short v)))], [(xr 3, dzS G 24 (upd (dz_fill ad n i v) (n + i) (vp_nar .short v)))]] _ _ := hO
              have hO := hO.cong 2 rfl (w1 := [(xr 1, dzS G 24 (dz_fill lm n (i + 1) 100))]) (congrArg (fun z9 => [(xr 1, dzS G 24 z9)]) (show (dz_fill lm n (i + 1) 100) = (upd (dz_fill lm n i 100) (n + i) (vp_nar .short 100)) from by exact (dz_fill_s _ _ _ _).symm))
              have hO : dz_O G.1 dz_CL A s.heap [[(xo, dzo 0 [.ref (xr 0), .ref (xr 1), .ref (xr 2), .ref (xr 3), .ref (xr 4), .ref (xr 5), .ref (xr 6), .ref (xr 7), .ref (xr 8), .ref (xr 9), .int (nI (n + (i + 1))), .int sl, .int da, .int ti, .int ho, .int dr, .int cr, .int pa, .int pr, .int st, .long mo])], [(xr 0, dzS G 24 (dz_fill dp n (i + 1) v))], [(xr 1, dzS G 24 (dz_fill lm n (i + 1) 100))], [(xr 2, dzS G 24 (upd (dz_fill pd n i v) (n + i) (vp_nar .short v)))], [(xr 3, dzS G 24 (upd (dz_fill ad n i v) (n + i) (vp_nar .short v)))]] _ _ := hO
              have hO := hO.cong 3 rfl (w1 := [(xr 2, dzS G 24 (dz_fill pd n (i + 1) v))]) (congrArg (fun z9 => [(xr 2, dzS G 24 z9)]) (show (dz_fill pd n (i + 1) v) = (upd (dz_fill pd n i v) (n + i) (vp_nar .short v)) from by rw [show vp_nar .short v = v from hv9]; exact (dz_fill_s _ _ _ _).symm))
              have hO : dz_O G.1 dz_CL A s.heap [[(xo, dzo 0 [.ref (xr 0), .ref (xr 1), .ref (xr 2), .ref (xr 3), .ref (xr 4), .ref (xr 5), .ref (xr 6), .ref (xr 7), .ref (xr 8), .ref (xr 9), .int (nI (n + (i + 1))), .int sl, .int da, .int ti, .int ho, .int dr, .int cr, .int pa, .int pr, .int st, .long mo])], [(xr 0, dzS G 24 (dz_fill dp n (i + 1) v))], [(xr 1, dzS G 24 (dz_fill lm n (i + 1) 100))], [(xr 2, dzS G 24 (dz_fill pd n (i + 1) v))], [(xr 3, dzS G 24 (upd (dz_fill ad n i v) (n + i) (vp_nar .short v)))]] _ _ := hO
              have hO := hO.cong 4 rfl (w1 := [(xr 3, dzS G 24 (dz_fill ad n (i + 1) v))]) (congrArg (fun z9 => [(xr 3, dzS G 24 z9)]) (show (dz_fill ad n (i + 1) v) = (upd (dz_fill ad n i v) (n + i) (vp_nar .short v)) from by rw [show vp_nar .short v = v from hv9]; exact (dz_fill_s _ _ _ _).symm))
              have hO : dz_O G.1 dz_CL A s.heap [[(xo, dzo 0 [.ref (xr 0), .ref (xr 1), .ref (xr 2), .ref (xr 3), .ref (xr 4), .ref (xr 5), .ref (xr 6), .ref (xr 7), .ref (xr 8), .ref (xr 9), .int (nI (n + (i + 1))), .int sl, .int da, .int ti, .int ho, .int dr, .int cr, .int pa, .int pr, .int st, .long mo])], [(xr 0, dzS G 24 (dz_fill dp n (i + 1) v))], [(xr 1, dzS G 24 (dz_fill lm n (i + 1) 100))], [(xr 2, dzS G 24 (dz_fill pd n (i + 1) v))], [(xr 3, dzS G 24 (dz_fill ad n (i + 1) v))]] _ _ := hO
              exact ih (i + 1) (by first | assumption | omega) (by omega) _ _ hO ls (lv_sub hl [0, 1, 2, 3] rfl)
        have hl : lv_has ls 4 [(3, .int (nI 0)), (0, .ref xo), (1, .int (nI j9)), (2, .int v)] := hl
        have hO : dz_O G.1 dz_CL A s.heap [[(xo, dzo 0 [.ref (xr 0), .ref (xr 1), .ref (xr 2), .ref (xr 3), .ref (xr 4), .ref (xr 5), .ref (xr 6), .ref (xr 7), .ref (xr 8), .ref (xr 9), .int (nI (n + 0)), .int sl, .int da, .int ti, .int ho, .int dr, .int cr, .int pa, .int pr, .int st, .long mo])], [(xr 0, dzS G 24 dp)], [(xr 1, dzS G 24 lm)], [(xr 2, dzS G 24 pd)], [(xr 3, dzS G 24 ad)]] _ _ := hO
        have hO := hO.cong 1 rfl (w1 := [(xr 0, dzS G 24 (dz_fill dp n 0 v))]) (congrArg (fun z9 => [(xr 0, dzS G 24 z9)]) (show (dz_fill dp n 0 v) = dp from by rw [dz_fill_0]))
        have hO : dz_O G.1 dz_CL A s.heap [[(xo, dzo 0 [.ref (xr 0), .ref (xr 1), .ref (xr 2), .ref (xr 3), .ref (xr 4), .ref (xr 5), .ref (xr 6), .ref (xr 7), .ref (xr 8), .ref (xr 9), .int (nI (n + 0)), .int sl, .int da, .int ti, .int ho, .int dr, .int cr, .int pa, .int pr, .int st, .long mo])], [(xr 0, dzS G 24 (dz_fill dp n 0 v))], [(xr 1, dzS G 24 lm)], [(xr 2, dzS G 24 pd)], [(xr 3, dzS G 24 ad)]] _ _ := hO
        have hO := hO.cong 2 rfl (w1 := [(xr 1, dzS G 24 (dz_fill lm n 0 100))]) (congrArg (fun z9 => [(xr 1, dzS G 24 z9)]) (show (dz_fill lm n 0 100) = lm from by rw [dz_fill_0]))
        have hO : dz_O G.1 dz_CL A s.heap [[(xo, dzo 0 [.ref (xr 0), .ref (xr 1), .ref (xr 2), .ref (xr 3), .ref (xr 4), .ref (xr 5), .ref (xr 6), .ref (xr 7), .ref (xr 8), .ref (xr 9), .int (nI (n + 0)), .int sl, .int da, .int ti, .int ho, .int dr, .int cr, .int pa, .int pr, .int st, .long mo])], [(xr 0, dzS G 24 (dz_fill dp n 0 v))], [(xr 1, dzS G 24 (dz_fill lm n 0 100))], [(xr 2, dzS G 24 pd)], [(xr 3, dzS G 24 ad)]] _ _ := hO
        have hO := hO.cong 3 rfl (w1 := [(xr 2, dzS G 24 (dz_fill pd n 0 v))]) (congrArg (fun z9 => [(xr 2, dzS G 24 z9)]) (show (dz_fill pd n 0 v) = pd from by rw [dz_fill_0]))
        have hO : dz_O G.1 dz_CL A s.heap [[(xo, dzo 0 [.ref (xr 0), .ref (xr 1), .ref (xr 2), .ref (xr 3), .ref (xr 4), .ref (xr 5), .ref (xr 6), .ref (xr 7), .ref (xr 8), .ref (xr 9), .int (nI (n + 0)), .int sl, .int da, .int ti, .int ho, .int dr, .int cr, .int pa, .int pr, .int st, .long mo])], [(xr 0, dzS G 24 (dz_fill dp n 0 v))], [(xr 1, dzS G 24 (dz_fill lm n 0 100))], [(xr 2, dzS G 24 (dz_fill pd n 0 v))], [(xr 3, dzS G 24 ad)]] _ _ := hO
        have hO := hO.cong 4 rfl (w1 := [(xr 3, dzS G 24 (dz_fill ad n 0 v))]) (congrArg (fun z9 => [(xr 3, dzS G 24 z9)]) (show (dz_fill ad n 0 v) = ad from by rw [dz_fill_0]))
        have hO : dz_O G.1 dz_CL A s.heap [[(xo, dzo 0 [.ref (xr 0), .ref (xr 1), .ref (xr 2), .ref (xr 3), .ref (xr 4), .ref (xr 5), .ref (xr 6), .ref (xr 7), .ref (xr 8), .ref (xr 9), .int (nI (n + 0)), .int sl, .int da, .int ti, .int ho, .int dr, .int cr, .int pa, .int pr, .int st, .long mo])], [(xr 0, dzS G 24 (dz_fill dp n 0 v))], [(xr 1, dzS G 24 (dz_fill lm n 0 100))], [(xr 2, dzS G 24 (dz_fill pd n 0 v))], [(xr 3, dzS G 24 (dz_fill ad n 0 v))]] _ _ := hO
        exact hcut_50 _ 0 (by first | assumption | omega) (Nat.lt_succ_self _) _ _ hO ls (lv_sub hl [0, 1, 2, 3] rfl)
