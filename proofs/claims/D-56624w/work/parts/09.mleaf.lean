
set_option maxHeartbeats 4000000 in
set_option maxRecDepth 100000 in
/-- in: 1 within, 0 without -/
theorem dz_X3_in (l : Launch) (G : dz_G) (sz : Nat) (v : Int32) (lo : Int32) (hi : Int32)  : dz_M l G yX3_in cX3_in 3 (some FieldType.boolean) ({ frames := 20, cells := 0, slots := 0, locals := 300 } : Room) [.int v, .int lo, .int hi] [] sz (fun r w1 => r = some (.int (dz_bi v lo hi)) ∧ w1 = []) (dz_np) := by
  refine dz_start (by decide) (Nat.le_of_ble_eq_true rfl) ?_
  intro p e s m below meth c A ls X hO hsz hl
  have hl : lv_has ls 3 [(0, .int v), (1, .int lo), (2, .int hi)] := hl
  refine lv_iload_n X.x X.b dX3_in_0 rfl (lv_at hl 0 rfl) ?_
  refine lv_iload_n X.x X.b dX3_in_1 rfl (lv_at hl 1 rfl) ?_
  refine lv_icmp_lt (tgt := 14) X.x X.b dX3_in_2 (by decide) (fun c_1 => ?_) (fun c_1 => ?_)
  · refine lv_iconst (v := 0) X.x X.b dX3_in_14 (by decide) ?_
    exact dz_zret X hO rfl (rfl) (⟨by unfold dz_bi; grind, rfl⟩) (Nat.le_of_ble_eq_true rfl) (Nat.le_of_ble_eq_true rfl) dX3_in_15
  · refine lv_iload_n X.x X.b dX3_in_5 rfl (lv_at hl 0 rfl) ?_
    refine lv_iload_n X.x X.b dX3_in_6 rfl (lv_at hl 2 rfl) ?_
    refine lv_icmp_gt (tgt := 14) X.x X.b dX3_in_7 (by decide) (fun c_2 => ?_) (fun c_2 => ?_)
    · refine lv_iconst (v := 0) X.x X.b dX3_in_14 (by decide) ?_
      exact dz_zret X hO rfl (rfl) (⟨by unfold dz_bi; grind, rfl⟩) (Nat.le_of_ble_eq_true rfl) (Nat.le_of_ble_eq_true rfl) dX3_in_15
    · refine lv_iconst (v := 1) X.x X.b dX3_in_10 (by decide) ?_
      refine lv_goto (tgt := 15) X.x X.b dX3_in_11 (by decide) ?_
      exact dz_zret X hO rfl (rfl) (⟨by unfold dz_bi; grind, rfl⟩) (Nat.le_of_ble_eq_true rfl) (Nat.le_of_ble_eq_true rfl) dX3_in_15
set_option maxHeartbeats 4000000 in
set_option maxRecDepth 100000 in
/-- goesOn: notes the code; 1 where it is 0 -/
theorem dz_X3_goesOn (l : Launch) (G : dz_G) (sz : Nat) (md : Nat) (mr : Nat → Nat) (th : Int32) (sl : Int32) (da : Int32) (ho : Int32) (dr : Int32) (cr : Int32) (ti : Int32) (st : Int32) (pr : Int32) (pa : Int32) (n : Nat) (g : Nat) (pn : Nat) (sn : Nat) (en : Nat) (mo : Int64) (k : Int32)  : dz_M l G yX3_goesOn cX3_goesOn 2 (some FieldType.boolean) ({ frames := 20, cells := 0, slots := 0, locals := 300 } : Room) [.ref md, .int k] [[(md, dzo 2 [.int th, .int (nI n), .ref (mr 2), .ref (mr 3), .ref (mr 4), .ref (mr 5), .ref (mr 6), .int sl, .int da, .int ho, .int dr, .int cr, .int ti, .int (nI g), .ref (mr 14), .ref (mr 15), .ref (mr 16), .int (nI pn), .ref (mr 18), .ref (mr 19), .ref (mr 20), .ref (mr 21), .int (nI sn), .ref (mr 23), .ref (mr 24), .ref (mr 25), .ref (mr 26), .int st, .int pr, .int pa, .long mo, .int (nI en), .ref (mr 32), .ref (mr 33), .ref (mr 34)])]] sz (fun r w1 => r = some (.int (dz_z k)) ∧ w1 = [[(md, dzo 2 [.int k, .int (nI n), .ref (mr 2), .ref (mr 3), .ref (mr 4), .ref (mr 5), .ref (mr 6), .int sl, .int da, .int ho, .int dr, .int cr, .int ti, .int (nI g), .ref (mr 14), .ref (mr 15), .ref (mr 16), .int (nI pn), .ref (mr 18), .ref (mr 19), .ref (mr 20), .ref (mr 21), .int (nI sn), .ref (mr 23), .ref (mr 24), .ref (mr 25), .ref (mr 26), .int st, .int pr, .int pa, .long mo, .int (nI en), .ref (mr 32), .ref (mr 33), .ref (mr 34)])]]) (dz_np) := by
  refine dz_start (by decide) (Nat.le_of_ble_eq_true rfl) ?_
  intro p e s m below meth c A ls X hO hsz hl
  have hl : lv_has ls 2 [(0, .ref md), (1, .int k)] := hl
  refine lv_aload_n X.x X.b dX3_goesOn_0 rfl (lv_at hl 0 rfl) ?_
  refine lv_iload_n X.x X.b dX3_goesOn_1 rfl (lv_at hl 1 rfl) ?_
  refine dz_put (v := .int k) X hO 0 rfl in_X3 tyX3 tyX3_ok nmX3 rfl 0 (by decide) q2196 (Or.inl rfl) (Or.inl rfl) rfl rfl (Nat.le_of_ble_eq_true rfl) dX3_goesOn_2 (fun H locs hO => ?_)
  have hO : dz_O G.1 dz_CL A s.heap [[(md, dzo 2 [.int k, .int (nI n), .ref (mr 2), .ref (mr 3), .ref (mr 4), .ref (mr 5), .ref (mr 6), .int sl, .int da, .int ho, .int dr, .int cr, .int ti, .int (nI g), .ref (mr 14), .ref (mr 15), .ref (mr 16), .int (nI pn), .ref (mr 18), .ref (mr 19), .ref (mr 20), .ref (mr 21), .int (nI sn), .ref (mr 23), .ref (mr 24), .ref (mr 25), .ref (mr 26), .int st, .int pr, .int pa, .long mo, .int (nI en), .ref (mr 32), .ref (mr 33), .ref (mr 34)])]] H locs := hO
  refine lv_iload_n X.x X.b dX3_goesOn_5 rfl (lv_at hl 1 rfl) ?_
  refine lv_if_ne (tgt := 13) X.x X.b dX3_goesOn_6 (by decide) (fun c_1 => ?_) (fun c_1 => ?_)
  · refine lv_iconst (v := 0) X.x X.b dX3_goesOn_13 (by decide) ?_
    exact dz_zret X hO rfl (rfl) (⟨by unfold dz_z; simp_all, rfl⟩) (Nat.le_of_ble_eq_true rfl) (Nat.le_of_ble_eq_true rfl) dX3_goesOn_14
  · refine lv_iconst (v := 1) X.x X.b dX3_goesOn_9 (by decide) ?_
    refine lv_goto (tgt := 14) X.x X.b dX3_goesOn_10 (by decide) ?_
    exact dz_zret X hO rfl (rfl) (⟨by unfold dz_z; simp_all, rfl⟩) (Nat.le_of_ble_eq_true rfl) (Nat.le_of_ble_eq_true rfl) dX3_goesOn_14
set_option maxHeartbeats 4000000 in
set_option maxRecDepth 100000 in
/-- isCell -/
theorem dz_X3_isCell (l : Launch) (G : dz_G) (sz : Nat) (md : Nat) (mr : Nat → Nat) (th : Int32) (sl : Int32) (da : Int32) (ho : Int32) (dr : Int32) (cr : Int32) (ti : Int32) (st : Int32) (pr : Int32) (pa : Int32) (n : Nat) (g : Nat) (pn : Nat) (sn : Nat) (en : Nat) (mo : Int64) (i : Int32)  : dz_M l G yX3_isCell cX3_isCell 2 (some FieldType.boolean) ({ frames := 40, cells := 0, slots := 0, locals := 600 } : Room) [.ref md, .int i] [[(md, dzo 2 [.int th, .int (nI n), .ref (mr 2), .ref (mr 3), .ref (mr 4), .ref (mr 5), .ref (mr 6), .int sl, .int da, .int ho, .int dr, .int cr, .int ti, .int (nI g), .ref (mr 14), .ref (mr 15), .ref (mr 16), .int (nI pn), .ref (mr 18), .ref (mr 19), .ref (mr 20), .ref (mr 21), .int (nI sn), .ref (mr 23), .ref (mr 24), .ref (mr 25), .ref (mr 26), .int st, .int pr, .int pa, .long mo, .int (nI en), .ref (mr 32), .ref (mr 33), .ref (mr 34)])]] sz (fun r w1 => r = some (.int (dz_bi i 0 (nI n - 1))) ∧ w1 = [[(md, dzo 2 [.int th, .int (nI n), .ref (mr 2), .ref (mr 3), .ref (mr 4), .ref (mr 5), .ref (mr 6), .int sl, .int da, .int ho, .int dr, .int cr, .int ti, .int (nI g), .ref (mr 14), .ref (mr 15), .ref (mr 16), .int (nI pn), .ref (mr 18), .ref (mr 19), .ref (mr 20), .ref (mr 21), .int (nI sn), .ref (mr 23), .ref (mr 24), .ref (mr 25), .ref (mr 26), .int st, .int pr, .int pa, .long mo, .int (nI en), .ref (mr 32), .ref (mr 33), .ref (mr 34)])]]) (dz_np) := by
  refine dz_start (by decide) (Nat.le_of_ble_eq_true rfl) ?_
  intro p e s m below meth c A ls X hO hsz hl
  have hl : lv_has ls 2 [(0, .ref md), (1, .int i)] := hl
  refine lv_iload_n X.x X.b dX3_isCell_0 rfl (lv_at hl 1 rfl) ?_
  refine lv_iconst (v := 0) X.x X.b dX3_isCell_1 (by decide) ?_
  refine lv_aload_n X.x X.b dX3_isCell_2 rfl (lv_at hl 0 rfl) ?_
  refine dz_get (v := .int (nI n)) X (hO.at1 0 rfl) in_X3 rfl 1 (by decide) q2197 (Or.inl rfl) rfl dX3_isCell_3 ?_
  refine lv_iconst (v := 1) X.x X.b dX3_isCell_6 (by decide) ?_
  refine lv_isub X.x X.b dX3_isCell_7 ?_
  refine dz_S (n := 3) (k9 := 0) (n9 := 0) (As := [.int i, .int 0, .int (nI n - 1)]) (rest := []) (wr := [[(md, dzo 2 [.int th, .int (nI n), .ref (mr 2), .ref (mr 3), .ref (mr 4), .ref (mr 5), .ref (mr 6), .int sl, .int da, .int ho, .int dr, .int cr, .int ti, .int (nI g), .ref (mr 14), .ref (mr 15), .ref (mr 16), .int (nI pn), .ref (mr 18), .ref (mr 19), .ref (mr 20), .ref (mr 21), .int (nI sn), .ref (mr 23), .ref (mr 24), .ref (mr 25), .ref (mr 26), .int st, .int pr, .int pa, .long mo, .int (nI en), .ref (mr 32), .ref (mr 33), .ref (mr 34)])]]) X hO hl (dz_X3_in l G _ i 0 (nI n - 1) ) (lw_S q2311 q2312 q73 q2313) (by decide +kernel) ⟨Nat.le_of_ble_eq_true rfl, Nat.le_of_ble_eq_true rfl⟩ ⟨(Nat.le_of_ble_eq_true rfl), (Nat.le_of_ble_eq_true rfl), (Nat.le_of_ble_eq_true rfl), (Nat.le_of_ble_eq_true rfl)⟩ [] [0] rfl rfl rfl rfl rfl (Nat.le_of_ble_eq_true rfl) dX3_isCell_8 (fun E w1 q9 ce9 H locs hpx hO hce hv9 hcl9 => hpx.elim) (fun r w1 H locs hpo hO => ?_)
  obtain ⟨rfl, rfl⟩ := hpo
  have hO : dz_O G.1 dz_CL A s.heap [[(md, dzo 2 [.int th, .int (nI n), .ref (mr 2), .ref (mr 3), .ref (mr 4), .ref (mr 5), .ref (mr 6), .int sl, .int da, .int ho, .int dr, .int cr, .int ti, .int (nI g), .ref (mr 14), .ref (mr 15), .ref (mr 16), .int (nI pn), .ref (mr 18), .ref (mr 19), .ref (mr 20), .ref (mr 21), .int (nI sn), .ref (mr 23), .ref (mr 24), .ref (mr 25), .ref (mr 26), .int st, .int pr, .int pa, .long mo, .int (nI en), .ref (mr 32), .ref (mr 33), .ref (mr 34)])]] H locs := hO
  refine W.eq (g2 := F0 m 11 ls [.int (dz_bi i 0 (nI n - 1))]) rfl ?_
  exact dz_zret X hO rfl (dz_bi01 _ _ _) (⟨rfl, rfl⟩) (Nat.le_of_ble_eq_true rfl) (Nat.le_of_ble_eq_true rfl) dX3_isCell_11
set_option maxHeartbeats 4000000 in
set_option maxRecDepth 100000 in
/-- isGround -/
theorem dz_X3_isGround (l : Launch) (G : dz_G) (sz : Nat) (md : Nat) (mr : Nat → Nat) (th : Int32) (sl : Int32) (da : Int32) (ho : Int32) (dr : Int32) (cr : Int32) (ti : Int32) (st : Int32) (pr : Int32) (pa : Int32) (n : Nat) (g : Nat) (pn : Nat) (sn : Nat) (en : Nat) (mo : Int64) (i : Int32)  : dz_M l G yX3_isGround cX3_isGround 2 (some FieldType.boolean) ({ frames := 40, cells := 0, slots := 0, locals := 600 } : Room) [.ref md, .int i] [[(md, dzo 2 [.int th, .int (nI n), .ref (mr 2), .ref (mr 3), .ref (mr 4), .ref (mr 5), .ref (mr 6), .int sl, .int da, .int ho, .int dr, .int cr, .int ti, .int (nI g), .ref (mr 14), .ref (mr 15), .ref (mr 16), .int (nI pn), .ref (mr 18), .ref (mr 19), .ref (mr 20), .ref (mr 21), .int (nI sn), .ref (mr 23), .ref (mr 24), .ref (mr 25), .ref (mr 26), .int st, .int pr, .int pa, .long mo, .int (nI en), .ref (mr 32), .ref (mr 33), .ref (mr 34)])]] sz (fun r w1 => r = some (.int (dz_bi i 0 (nI g - 1))) ∧ w1 = [[(md, dzo 2 [.int th, .int (nI n), .ref (mr 2), .ref (mr 3), .ref (mr 4), .ref (mr 5), .ref (mr 6), .int sl, .int da, .int ho, .int dr, .int cr, .int ti, .int (nI g), .ref (mr 14), .ref (mr 15), .ref (mr 16), .int (nI pn), .ref (mr 18), .ref (mr 19), .ref (mr 20), .ref (mr 21), .int (nI sn), .ref (mr 23), .ref (mr 24), .ref (mr 25), .ref (mr 26), .int st, .int pr, .int pa, .long mo, .int (nI en), .ref (mr 32), .ref (mr 33), .ref (mr 34)])]]) (dz_np) := by
  refine dz_start (by decide) (Nat.le_of_ble_eq_true rfl) ?_
  intro p e s m below meth c A ls X hO hsz hl
  have hl : lv_has ls 2 [(0, .ref md), (1, .int i)] := hl
  refine lv_iload_n X.x X.b dX3_isGround_0 rfl (lv_at hl 1 rfl) ?_
  refine lv_iconst (v := 0) X.x X.b dX3_isGround_1 (by decide) ?_
  refine lv_aload_n X.x X.b dX3_isGround_2 rfl (lv_at hl 0 rfl) ?_
  refine dz_get (v := .int (nI g)) X (hO.at1 0 rfl) in_X3 rfl 13 (by decide) q2209 (Or.inl rfl) rfl dX3_isGround_3 ?_
  refine lv_iconst (v := 1) X.x X.b dX3_isGround_6 (by decide) ?_
  refine lv_isub X.x X.b dX3_isGround_7 ?_
  refine dz_S (n := 3) (k9 := 0) (n9 := 0) (As := [.int i, .int 0, .int (nI g - 1)]) (rest := []) (wr := [[(md, dzo 2 [.int th, .int (nI n), .ref (mr 2), .ref (mr 3), .ref (mr 4), .ref (mr 5), .ref (mr 6), .int sl, .int da, .int ho, .int dr, .int cr, .int ti, .int (nI g), .ref (mr 14), .ref (mr 15), .ref (mr 16), .int (nI pn), .ref (mr 18), .ref (mr 19), .ref (mr 20), .ref (mr 21), .int (nI sn), .ref (mr 23), .ref (mr 24), .ref (mr 25), .ref (mr 26), .int st, .int pr, .int pa, .long mo, .int (nI en), .ref (mr 32), .ref (mr 33), .ref (mr 34)])]]) X hO hl (dz_X3_in l G _ i 0 (nI g - 1) ) (lw_S q2311 q2312 q73 q2313) (by decide +kernel) ⟨Nat.le_of_ble_eq_true rfl, Nat.le_of_ble_eq_true rfl⟩ ⟨(Nat.le_of_ble_eq_true rfl), (Nat.le_of_ble_eq_true rfl), (Nat.le_of_ble_eq_true rfl), (Nat.le_of_ble_eq_true rfl)⟩ [] [0] rfl rfl rfl rfl rfl (Nat.le_of_ble_eq_true rfl) dX3_isGround_8 (fun E w1 q9 ce9 H locs hpx hO hce hv9 hcl9 => hpx.elim) (fun r w1 H locs hpo hO => ?_)
  obtain ⟨rfl, rfl⟩ := hpo
  have hO : dz_O G.1 dz_CL A s.heap [[(md, dzo 2 [.int th, .int (nI n), .ref (mr 2), .ref (mr 3), .ref (mr 4), .ref (mr 5), .ref (mr 6), .int sl, .int da, .int ho, .int dr, .int cr, .int ti, .int (nI g), .ref (mr 14), .ref (mr 15), .ref (mr 16), .int (nI pn), .ref (mr 18), .ref (mr 19), .ref (mr 20), .ref (mr 21), .int (nI sn), .ref (mr 23), .ref (mr 24), .ref (mr 25), .ref (mr 26), .int st, .int pr, .int pa, .long mo, .int (nI en), .ref (mr 32), .ref (mr 33), .ref (mr 34)])]] H locs := hO
  refine W.eq (g2 := F0 m 11 ls [.int (dz_bi i 0 (nI g - 1))]) rfl ?_
  exact dz_zret X hO rfl (dz_bi01 _ _ _) (⟨rfl, rfl⟩) (Nat.le_of_ble_eq_true rfl) (Nat.le_of_ble_eq_true rfl) dX3_isGround_11
set_option maxHeartbeats 4000000 in
set_option maxRecDepth 100000 in
/-- isSurvey -/
theorem dz_X3_isSurvey (l : Launch) (G : dz_G) (sz : Nat) (md : Nat) (mr : Nat → Nat) (th : Int32) (sl : Int32) (da : Int32) (ho : Int32) (dr : Int32) (cr : Int32) (ti : Int32) (st : Int32) (pr : Int32) (pa : Int32) (n : Nat) (g : Nat) (pn : Nat) (sn : Nat) (en : Nat) (mo : Int64) (i : Int32)  : dz_M l G yX3_isSurvey cX3_isSurvey 2 (some FieldType.boolean) ({ frames := 40, cells := 0, slots := 0, locals := 600 } : Room) [.ref md, .int i] [[(md, dzo 2 [.int th, .int (nI n), .ref (mr 2), .ref (mr 3), .ref (mr 4), .ref (mr 5), .ref (mr 6), .int sl, .int da, .int ho, .int dr, .int cr, .int ti, .int (nI g), .ref (mr 14), .ref (mr 15), .ref (mr 16), .int (nI pn), .ref (mr 18), .ref (mr 19), .ref (mr 20), .ref (mr 21), .int (nI sn), .ref (mr 23), .ref (mr 24), .ref (mr 25), .ref (mr 26), .int st, .int pr, .int pa, .long mo, .int (nI en), .ref (mr 32), .ref (mr 33), .ref (mr 34)])]] sz (fun r w1 => r = some (.int (dz_bi i 0 (nI sn - 1))) ∧ w1 = [[(md, dzo 2 [.int th, .int (nI n), .ref (mr 2), .ref (mr 3), .ref (mr 4), .ref (mr 5), .ref (mr 6), .int sl, .int da, .int ho, .int dr, .int cr, .int ti, .int (nI g), .ref (mr 14), .ref (mr 15), .ref (mr 16), .int (nI pn), .ref (mr 18), .ref (mr 19), .ref (mr 20), .ref (mr 21), .int (nI sn), .ref (mr 23), .ref (mr 24), .ref (mr 25), .ref (mr 26), .int st, .int pr, .int pa, .long mo, .int (nI en), .ref (mr 32), .ref (mr 33), .ref (mr 34)])]]) (dz_np) := by
  refine dz_start (by decide) (Nat.le_of_ble_eq_true rfl) ?_
  intro p e s m below meth c A ls X hO hsz hl
  have hl : lv_has ls 2 [(0, .ref md), (1, .int i)] := hl
  refine lv_iload_n X.x X.b dX3_isSurvey_0 rfl (lv_at hl 1 rfl) ?_
  refine lv_iconst (v := 0) X.x X.b dX3_isSurvey_1 (by decide) ?_
  refine lv_aload_n X.x X.b dX3_isSurvey_2 rfl (lv_at hl 0 rfl) ?_
  refine dz_get (v := .int (nI sn)) X (hO.at1 0 rfl) in_X3 rfl 22 (by decide) q2218 (Or.inl rfl) rfl dX3_isSurvey_3 ?_
  refine lv_iconst (v := 1) X.x X.b dX3_isSurvey_6 (by decide) ?_
  refine lv_isub X.x X.b dX3_isSurvey_7 ?_
  refine dz_S (n := 3) (k9 := 0) (n9 := 0) (As := [.int i, .int 0, .int (nI sn - 1)]) (rest := []) (wr := [[(md, dzo 2 [.int th, .int (nI n), .ref (mr 2), .ref (mr 3), .ref (mr 4), .ref (mr 5), .ref (mr 6), .int sl, .int da, .int ho, .int dr, .int cr, .int ti, .int (nI g), .ref (mr 14), .ref (mr 15), .ref (mr 16), .int (nI pn), .ref (mr 18), .ref (mr 19), .ref (mr 20), .ref (mr 21), .int (nI sn), .ref (mr 23), .ref (mr 24), .ref (mr 25), .ref (mr 26), .int st, .int pr, .int pa, .long mo, .int (nI en), .ref (mr 32), .ref (mr 33), .ref (mr 34)])]]) X hO hl (dz_X3_in l G _ i 0 (nI sn - 1) ) (lw_S q2311 q2312 q73 q2313) (by decide +kernel) ⟨Nat.le_of_ble_eq_true rfl, Nat.le_of_ble_eq_true rfl⟩ ⟨(Nat.le_of_ble_eq_true rfl), (Nat.le_of_ble_eq_true rfl), (Nat.le_of_ble_eq_true rfl), (Nat.le_of_ble_eq_true rfl)⟩ [] [0] rfl rfl rfl rfl rfl (Nat.le_of_ble_eq_true rfl) dX3_isSurvey_8 (fun E w1 q9 ce9 H locs hpx hO hce hv9 hcl9 => hpx.elim) (fun r w1 H locs hpo hO => ?_)
  obtain ⟨rfl, rfl⟩ := hpo
  have hO : dz_O G.1 dz_CL A s.heap [[(md, dzo 2 [.int th, .int (nI n), .ref (mr 2), .ref (mr 3), .ref (mr 4), .ref (mr 5), .ref (mr 6), .int sl, .int da, .int ho, .int dr, .int cr, .int ti, .int (nI g), .ref (mr 14), .ref (mr 15), .ref (mr 16), .int (nI pn), .ref (mr 18), .ref (mr 19), .ref (mr 20), .ref (mr 21), .int (nI sn), .ref (mr 23), .ref (mr 24), .ref (mr 25), .ref (mr 26), .int st, .int pr, .int pa, .long mo, .int (nI en), .ref (mr 32), .ref (mr 33), .ref (mr 34)])]] H locs := hO
  refine W.eq (g2 := F0 m 11 ls [.int (dz_bi i 0 (nI sn - 1))]) rfl ?_
  exact dz_zret X hO rfl (dz_bi01 _ _ _) (⟨rfl, rfl⟩) (Nat.le_of_ble_eq_true rfl) (Nat.le_of_ble_eq_true rfl) dX3_isSurvey_11
