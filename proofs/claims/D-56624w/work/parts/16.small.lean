def dz_sm (o : Option Nat) : Int32 := match o with
  | none => 0
  | some _ => 1
set_option maxHeartbeats 4000000 in
set_option maxRecDepth 100000 in
/-- the constructor that does nothing -/
theorem dz_J24_init (l : Launch) (G : dz_G) (sz : Nat) (q : Nat)  : dz_M l G yJ24_init cJ24_init 1 none ({ frames := 20, cells := 0, slots := 0, locals := 300 } : Room) [.ref q] [] sz (fun r w1 => r = none ∧ w1 = []) (dz_np) := by
  refine dz_start (by decide) (Nat.le_of_ble_eq_true rfl) ?_
  intro p e s m below meth c A ls X hO hsz hl
  have hl : lv_has ls 1 [(0, .ref q)] := hl
  refine lv_aload_n X.x X.b dJ24_init_0 rfl (lv_at hl 0 rfl) ?_
  refine dz_objInit X hl q1200 dJ24_init_1 (Nat.le_of_ble_eq_true rfl) (Nat.le_of_ble_eq_true rfl) (Nat.le_of_ble_eq_true rfl) ?_
  exact dz_vret X hO rfl (⟨rfl, rfl⟩) (Nat.le_of_ble_eq_true rfl) (Nat.le_of_ble_eq_true rfl) dJ24_init_4
set_option maxHeartbeats 4000000 in
set_option maxRecDepth 100000 in
/-- the constructor that does nothing -/
theorem dz_J1_init (l : Launch) (G : dz_G) (sz : Nat) (q : Nat)  : dz_M l G yJ1_init cJ1_init 1 none ({ frames := 20, cells := 0, slots := 0, locals := 300 } : Room) [.ref q] [] sz (fun r w1 => r = none ∧ w1 = []) (dz_np) := by
  refine dz_start (by decide) (Nat.le_of_ble_eq_true rfl) ?_
  intro p e s m below meth c A ls X hO hsz hl
  have hl : lv_has ls 1 [(0, .ref q)] := hl
  refine lv_aload_n X.x X.b dJ1_init_0 rfl (lv_at hl 0 rfl) ?_
  refine dz_objInit X hl q152 dJ1_init_1 (Nat.le_of_ble_eq_true rfl) (Nat.le_of_ble_eq_true rfl) (Nat.le_of_ble_eq_true rfl) ?_
  exact dz_vret X hO rfl (⟨rfl, rfl⟩) (Nat.le_of_ble_eq_true rfl) (Nat.le_of_ble_eq_true rfl) dJ1_init_4
set_option maxHeartbeats 4000000 in
set_option maxRecDepth 100000 in
/-- a limit event is made -/
theorem dz_X5_init (l : Launch) (G : dz_G) (sz : Nat) (q : Nat) (a : Int32) (b : Int32)  : dz_M l G yX5_init cX5_init 3 none ({ frames := 40, cells := 0, slots := 0, locals := 600 } : Room) [.ref q, .int a, .int b] [[(q, dzo 4 [.int 0, .int 0])]] sz (fun r w1 => r = none ∧ w1 = [[(q, dzo 4 [.int a, .int b])]]) (dz_np) := by
  refine dz_start (by decide) (Nat.le_of_ble_eq_true rfl) ?_
  intro p e s m below meth c A ls X hO hsz hl
  have hl : lv_has ls 3 [(0, .ref q), (1, .int a), (2, .int b)] := hl
  refine lv_aload_n X.x X.b dX5_init_0 rfl (lv_at hl 0 rfl) ?_
  refine dz_I (ret1 := none) (n := 0) (k9 := 0) (n9 := 0) (As := []) (rest := []) (wr := [[(q, dzo 4 [.int 0, .int 0])]]) X hO hl (dz_J24_init l G _ q ) q1199 q78 q1197 q1198 rfl (by decide +kernel) ⟨Nat.le_of_ble_eq_true rfl, Nat.le_of_ble_eq_true rfl⟩ ⟨(Nat.le_of_ble_eq_true rfl), (Nat.le_of_ble_eq_true rfl), (Nat.le_of_ble_eq_true rfl), (Nat.le_of_ble_eq_true rfl)⟩ [] [0] rfl rfl rfl rfl rfl (Nat.le_of_ble_eq_true rfl) dX5_init_1 (fun E w1 q9 ce9 H locs hpx hO hce hv9 hcl9 => hpx.elim) (fun r w1 H locs hpo hO => ?_)
  obtain ⟨rfl, rfl⟩ := hpo
  have hO : dz_O G.1 dz_CL A s.heap [[(q, dzo 4 [.int 0, .int 0])]] _ _ := hO
  refine W.eq (g2 := F0 m 4 ls []) rfl ?_
  refine lv_aload_n X.x X.b dX5_init_4 rfl (lv_at hl 0 rfl) ?_
  refine lv_iload_n X.x X.b dX5_init_5 rfl (lv_at hl 1 rfl) ?_
  refine dz_put (v := .int a) X hO 0 rfl in_X5 tyX5 tyX5_ok nmX5 rfl 0 (by decide) q1201 (Or.inl rfl) (Or.inr ⟨rfl, rfl, rfl⟩) rfl rfl (Nat.le_of_ble_eq_true rfl) dX5_init_6 (fun H locs hO => ?_)
  have hO : dz_O G.1 dz_CL A s.heap [[(q, dzo 4 [.int a, .int 0])]] _ _ := hO
  refine lv_aload_n X.x X.b dX5_init_9 rfl (lv_at hl 0 rfl) ?_
  refine lv_iload_n X.x X.b dX5_init_10 rfl (lv_at hl 2 rfl) ?_
  refine dz_put (v := .int b) X hO 0 rfl in_X5 tyX5 tyX5_ok nmX5 rfl 1 (by decide) q1202 (Or.inl rfl) (Or.inr ⟨rfl, rfl, rfl⟩) rfl rfl (Nat.le_of_ble_eq_true rfl) dX5_init_11 (fun H locs hO => ?_)
  have hO : dz_O G.1 dz_CL A s.heap [[(q, dzo 4 [.int a, .int b])]] _ _ := hO
  exact dz_vret X hO rfl (⟨rfl, rfl⟩) (Nat.le_of_ble_eq_true rfl) (Nat.le_of_ble_eq_true rfl) dX5_init_14
set_option maxHeartbeats 4000000 in
set_option maxRecDepth 100000 in
/-- a settlement is made -/
theorem dz_X11_init (l : Launch) (G : dz_G) (sz : Nat) (q : Nat) (a : Nat)  : dz_M l G yX11_init cX11_init 2 none ({ frames := 40, cells := 0, slots := 0, locals := 600 } : Room) [.ref q, .ref a] [[(q, dzo 10 [.null])]] sz (fun r w1 => r = none ∧ w1 = [[(q, dzo 10 [.ref a])]]) (dz_np) := by
  refine dz_start (by decide) (Nat.le_of_ble_eq_true rfl) ?_
  intro p e s m below meth c A ls X hO hsz hl
  have hl : lv_has ls 2 [(0, .ref q), (1, .ref a)] := hl
  refine lv_aload_n X.x X.b dX11_init_0 rfl (lv_at hl 0 rfl) ?_
  refine dz_I (ret1 := none) (n := 0) (k9 := 0) (n9 := 0) (As := []) (rest := []) (wr := [[(q, dzo 10 [.null])]]) X hO hl (dz_J24_init l G _ q ) q1199 q78 q2022 q1198 rfl (by decide +kernel) ⟨Nat.le_of_ble_eq_true rfl, Nat.le_of_ble_eq_true rfl⟩ ⟨(Nat.le_of_ble_eq_true rfl), (Nat.le_of_ble_eq_true rfl), (Nat.le_of_ble_eq_true rfl), (Nat.le_of_ble_eq_true rfl)⟩ [] [0] rfl rfl rfl rfl rfl (Nat.le_of_ble_eq_true rfl) dX11_init_1 (fun E w1 q9 ce9 H locs hpx hO hce hv9 hcl9 => hpx.elim) (fun r w1 H locs hpo hO => ?_)
  obtain ⟨rfl, rfl⟩ := hpo
  have hO : dz_O G.1 dz_CL A s.heap [[(q, dzo 10 [.null])]] _ _ := hO
  refine W.eq (g2 := F0 m 4 ls []) rfl ?_
  refine lv_aload_n X.x X.b dX11_init_4 rfl (lv_at hl 0 rfl) ?_
  refine lv_aload_n X.x X.b dX11_init_5 rfl (lv_at hl 1 rfl) ?_
  refine dz_put (v := .ref a) X hO 0 rfl in_X11 tyX11 tyX11_ok nmX11 rfl 0 (by decide) q2023 (Or.inl rfl) (Or.inr ⟨rfl, rfl, rfl⟩) rfl rfl (Nat.le_of_ble_eq_true rfl) dX11_init_6 (fun H locs hO => ?_)
  have hO : dz_O G.1 dz_CL A s.heap [[(q, dzo 10 [.ref a])]] _ _ := hO
  exact dz_vret X hO rfl (⟨rfl, rfl⟩) (Nat.le_of_ble_eq_true rfl) (Nat.le_of_ble_eq_true rfl) dX11_init_9
set_option maxHeartbeats 4000000 in
set_option maxRecDepth 100000 in
/-- a dispute event is made -/
theorem dz_X12_init (l : Launch) (G : dz_G) (sz : Nat) (q : Nat) (a : Int32) (b : Nat)  : dz_M l G yX12_init cX12_init 3 none ({ frames := 40, cells := 0, slots := 0, locals := 600 } : Room) [.ref q, .int a, .ref b] [[(q, dzo 11 [.int 0, .null])]] sz (fun r w1 => r = none ∧ w1 = [[(q, dzo 11 [.int a, .ref b])]]) (dz_np) := by
  refine dz_start (by decide) (Nat.le_of_ble_eq_true rfl) ?_
  intro p e s m below meth c A ls X hO hsz hl
  have hl : lv_has ls 3 [(0, .ref q), (1, .int a), (2, .ref b)] := hl
  refine lv_aload_n X.x X.b dX12_init_0 rfl (lv_at hl 0 rfl) ?_
  refine dz_I (ret1 := none) (n := 0) (k9 := 0) (n9 := 0) (As := []) (rest := []) (wr := [[(q, dzo 11 [.int 0, .null])]]) X hO hl (dz_J24_init l G _ q ) q1199 q78 q2070 q1198 rfl (by decide +kernel) ⟨Nat.le_of_ble_eq_true rfl, Nat.le_of_ble_eq_true rfl⟩ ⟨(Nat.le_of_ble_eq_true rfl), (Nat.le_of_ble_eq_true rfl), (Nat.le_of_ble_eq_true rfl), (Nat.le_of_ble_eq_true rfl)⟩ [] [0] rfl rfl rfl rfl rfl (Nat.le_of_ble_eq_true rfl) dX12_init_1 (fun E w1 q9 ce9 H locs hpx hO hce hv9 hcl9 => hpx.elim) (fun r w1 H locs hpo hO => ?_)
  obtain ⟨rfl, rfl⟩ := hpo
  have hO : dz_O G.1 dz_CL A s.heap [[(q, dzo 11 [.int 0, .null])]] _ _ := hO
  refine W.eq (g2 := F0 m 4 ls []) rfl ?_
  refine lv_aload_n X.x X.b dX12_init_4 rfl (lv_at hl 0 rfl) ?_
  refine lv_iload_n X.x X.b dX12_init_5 rfl (lv_at hl 1 rfl) ?_
  refine dz_put (v := .int a) X hO 0 rfl in_X12 tyX12 tyX12_ok nmX12 rfl 0 (by decide) q2071 (Or.inl rfl) (Or.inr ⟨rfl, rfl, rfl⟩) rfl rfl (Nat.le_of_ble_eq_true rfl) dX12_init_6 (fun H locs hO => ?_)
  have hO : dz_O G.1 dz_CL A s.heap [[(q, dzo 11 [.int a, .null])]] _ _ := hO
  refine lv_aload_n X.x X.b dX12_init_9 rfl (lv_at hl 0 rfl) ?_
  refine lv_aload_n X.x X.b dX12_init_10 rfl (lv_at hl 2 rfl) ?_
  refine dz_put (v := .ref b) X hO 0 rfl in_X12 tyX12 tyX12_ok nmX12 rfl 1 (by decide) q2072 (Or.inl rfl) (Or.inr ⟨rfl, rfl, rfl⟩) rfl rfl (Nat.le_of_ble_eq_true rfl) dX12_init_11 (fun H locs hO => ?_)
  have hO : dz_O G.1 dz_CL A s.heap [[(q, dzo 11 [.int a, .ref b])]] _ _ := hO
  exact dz_vret X hO rfl (⟨rfl, rfl⟩) (Nat.le_of_ble_eq_true rfl) (Nat.le_of_ble_eq_true rfl) dX12_init_14
set_option maxHeartbeats 4000000 in
set_option maxRecDepth 100000 in
/-- a ground is made -/
theorem dz_X8_init (l : Launch) (G : dz_G) (sz : Nat) (q : Nat) (a : Int32) (b : Int32)  : dz_M l G yX8_init cX8_init 3 none ({ frames := 40, cells := 0, slots := 0, locals := 600 } : Room) [.ref q, .int a, .int b] [[(q, dzo 7 [.int 0, .int 0, .int 0])]] sz (fun r w1 => r = none ∧ w1 = [[(q, dzo 7 [.int a, .int b, .int 0])]]) (dz_np) := by
  refine dz_start (by decide) (Nat.le_of_ble_eq_true rfl) ?_
  intro p e s m below meth c A ls X hO hsz hl
  have hl : lv_has ls 3 [(0, .ref q), (1, .int a), (2, .int b)] := hl
  refine lv_aload_n X.x X.b dX8_init_0 rfl (lv_at hl 0 rfl) ?_
  refine dz_objInit X hl q1561 dX8_init_1 (Nat.le_of_ble_eq_true rfl) (Nat.le_of_ble_eq_true rfl) (Nat.le_of_ble_eq_true rfl) ?_
  refine lv_aload_n X.x X.b dX8_init_4 rfl (lv_at hl 0 rfl) ?_
  refine lv_iload_n X.x X.b dX8_init_5 rfl (lv_at hl 1 rfl) ?_
  refine dz_put (v := .int a) X hO 0 rfl in_X8 tyX8 tyX8_ok nmX8 rfl 0 (by decide) q1562 (Or.inl rfl) (Or.inr ⟨rfl, rfl, rfl⟩) rfl rfl (Nat.le_of_ble_eq_true rfl) dX8_init_6 (fun H locs hO => ?_)
  have hO : dz_O G.1 dz_CL A s.heap [[(q, dzo 7 [.int a, .int 0, .int 0])]] _ _ := hO
  refine lv_aload_n X.x X.b dX8_init_9 rfl (lv_at hl 0 rfl) ?_
  refine lv_iload_n X.x X.b dX8_init_10 rfl (lv_at hl 2 rfl) ?_
  refine dz_put (v := .int b) X hO 0 rfl in_X8 tyX8 tyX8_ok nmX8 rfl 1 (by decide) q1564 (Or.inl rfl) (Or.inr ⟨rfl, rfl, rfl⟩) rfl rfl (Nat.le_of_ble_eq_true rfl) dX8_init_11 (fun H locs hO => ?_)
  have hO : dz_O G.1 dz_CL A s.heap [[(q, dzo 7 [.int a, .int b, .int 0])]] _ _ := hO
  exact dz_vret X hO rfl (⟨rfl, rfl⟩) (Nat.le_of_ble_eq_true rfl) (Nat.le_of_ble_eq_true rfl) dX8_init_14
set_option maxHeartbeats 4000000 in
set_option maxRecDepth 100000 in
/-- a permit is made -/
theorem dz_X9_init (l : Launch) (G : dz_G) (sz : Nat) (q : Nat) (a : Int32) (b : Int32) (d : Int32) (v : Int32)  : dz_M l G yX9_init cX9_init 5 none ({ frames := 40, cells := 0, slots := 0, locals := 600 } : Room) [.ref q, .int a, .int b, .int d, .int v] [[(q, dzo 8 [.int 0, .int 0, .int 0, .int 0])]] sz (fun r w1 => r = none ∧ w1 = [[(q, dzo 8 [.int a, .int b, .int d, .int v])]]) (dz_np) := by
  refine dz_start (by decide) (Nat.le_of_ble_eq_true rfl) ?_
  intro p e s m below meth c A ls X hO hsz hl
  have hl : lv_has ls 5 [(0, .ref q), (1, .int a), (2, .int b), (3, .int d), (4, .int v)] := hl
  refine lv_aload_n X.x X.b dX9_init_0 rfl (lv_at hl 0 rfl) ?_
  refine dz_objInit X hl q1617 dX9_init_1 (Nat.le_of_ble_eq_true rfl) (Nat.le_of_ble_eq_true rfl) (Nat.le_of_ble_eq_true rfl) ?_
  refine lv_aload_n X.x X.b dX9_init_4 rfl (lv_at hl 0 rfl) ?_
  refine lv_iload_n X.x X.b dX9_init_5 rfl (lv_at hl 1 rfl) ?_
  refine dz_put (v := .int a) X hO 0 rfl in_X9 tyX9 tyX9_ok nmX9 rfl 0 (by decide) q1618 (Or.inl rfl) (Or.inr ⟨rfl, rfl, rfl⟩) rfl rfl (Nat.le_of_ble_eq_true rfl) dX9_init_6 (fun H locs hO => ?_)
  have hO : dz_O G.1 dz_CL A s.heap [[(q, dzo 8 [.int a, .int 0, .int 0, .int 0])]] _ _ := hO
  refine lv_aload_n X.x X.b dX9_init_9 rfl (lv_at hl 0 rfl) ?_
  refine lv_iload_n X.x X.b dX9_init_10 rfl (lv_at hl 2 rfl) ?_
  refine dz_put (v := .int b) X hO 0 rfl in_X9 tyX9 tyX9_ok nmX9 rfl 1 (by decide) q1619 (Or.inl rfl) (Or.inr ⟨rfl, rfl, rfl⟩) rfl rfl (Nat.le_of_ble_eq_true rfl) dX9_init_11 (fun H locs hO => ?_)
  have hO : dz_O G.1 dz_CL A s.heap [[(q, dzo 8 [.int a, .int b, .int 0, .int 0])]] _ _ := hO
  refine lv_aload_n X.x X.b dX9_init_14 rfl (lv_at hl 0 rfl) ?_
  refine lv_iload_n X.x X.b dX9_init_15 rfl (lv_at hl 3 rfl) ?_
  refine dz_put (v := .int d) X hO 0 rfl in_X9 tyX9 tyX9_ok nmX9 rfl 2 (by decide) q1620 (Or.inl rfl) (Or.inr ⟨rfl, rfl, rfl⟩) rfl rfl (Nat.le_of_ble_eq_true rfl) dX9_init_16 (fun H locs hO => ?_)
  have hO : dz_O G.1 dz_CL A s.heap [[(q, dzo 8 [.int a, .int b, .int d, .int 0])]] _ _ := hO
  refine lv_aload_n X.x X.b dX9_init_19 rfl (lv_at hl 0 rfl) ?_
  refine lv_iload X.x X.b dX9_init_20 (lv_at hl 4 rfl) ?_
  refine dz_put (v := .int v) X hO 0 rfl in_X9 tyX9 tyX9_ok nmX9 rfl 3 (by decide) q1622 (Or.inl rfl) (Or.inl rfl) rfl rfl (Nat.le_of_ble_eq_true rfl) dX9_init_22 (fun H locs hO => ?_)
  have hO : dz_O G.1 dz_CL A s.heap [[(q, dzo 8 [.int a, .int b, .int d, .int v])]] _ _ := hO
  exact dz_vret X hO rfl (⟨rfl, rfl⟩) (Nat.le_of_ble_eq_true rfl) (Nat.le_of_ble_eq_true rfl) dX9_init_25
set_option maxHeartbeats 4000000 in
set_option maxRecDepth 100000 in
/-- a survey is made -/
theorem dz_X10_init (l : Launch) (G : dz_G) (sz : Nat) (q : Nat) (a : Int32) (b : Int32) (d : Int32) (t : Nat)  : dz_M l G yX10_init cX10_init 5 none ({ frames := 40, cells := 0, slots := 0, locals := 600 } : Room) [.ref q, .int a, .int b, .int d, .ref t] [[(q, dzo 9 [.int 0, .int 0, .int 0, .null, .int 0])]] sz (fun r w1 => r = none ∧ w1 = [[(q, dzo 9 [.int a, .int b, .int d, .ref t, .int 0])]]) (dz_np) := by
  refine dz_start (by decide) (Nat.le_of_ble_eq_true rfl) ?_
  intro p e s m below meth c A ls X hO hsz hl
  have hl : lv_has ls 5 [(0, .ref q), (1, .int a), (2, .int b), (3, .int d), (4, .ref t)] := hl
  refine lv_aload_n X.x X.b dX10_init_0 rfl (lv_at hl 0 rfl) ?_
  refine dz_objInit X hl q1712 dX10_init_1 (Nat.le_of_ble_eq_true rfl) (Nat.le_of_ble_eq_true rfl) (Nat.le_of_ble_eq_true rfl) ?_
  refine lv_aload_n X.x X.b dX10_init_4 rfl (lv_at hl 0 rfl) ?_
  refine lv_iload_n X.x X.b dX10_init_5 rfl (lv_at hl 1 rfl) ?_
  refine dz_put (v := .int a) X hO 0 rfl in_X10 tyX10 tyX10_ok nmX10 rfl 0 (by decide) q1713 (Or.inl rfl) (Or.inr ⟨rfl, rfl, rfl⟩) rfl rfl (Nat.le_of_ble_eq_true rfl) dX10_init_6 (fun H locs hO => ?_)
  have hO : dz_O G.1 dz_CL A s.heap [[(q, dzo 9 [.int a, .int 0, .int 0, .null, .int 0])]] _ _ := hO
  refine lv_aload_n X.x X.b dX10_init_9 rfl (lv_at hl 0 rfl) ?_
  refine lv_iload_n X.x X.b dX10_init_10 rfl (lv_at hl 2 rfl) ?_
  refine dz_put (v := .int b) X hO 0 rfl in_X10 tyX10 tyX10_ok nmX10 rfl 1 (by decide) q1714 (Or.inl rfl) (Or.inr ⟨rfl, rfl, rfl⟩) rfl rfl (Nat.le_of_ble_eq_true rfl) dX10_init_11 (fun H locs hO => ?_)
  have hO : dz_O G.1 dz_CL A s.heap [[(q, dzo 9 [.int a, .int b, .int 0, .null, .int 0])]] _ _ := hO
  refine lv_aload_n X.x X.b dX10_init_14 rfl (lv_at hl 0 rfl) ?_
  refine lv_iload_n X.x X.b dX10_init_15 rfl (lv_at hl 3 rfl) ?_
  refine dz_put (v := .int d) X hO 0 rfl in_X10 tyX10 tyX10_ok nmX10 rfl 2 (by decide) q1715 (Or.inl rfl) (Or.inr ⟨rfl, rfl, rfl⟩) rfl rfl (Nat.le_of_ble_eq_true rfl) dX10_init_16 (fun H locs hO => ?_)
  have hO : dz_O G.1 dz_CL A s.heap [[(q, dzo 9 [.int a, .int b, .int d, .null, .int 0])]] _ _ := hO
  refine lv_aload_n X.x X.b dX10_init_19 rfl (lv_at hl 0 rfl) ?_
  refine lv_aload X.x X.b dX10_init_20 (lv_at hl 4 rfl) ?_
  refine dz_put (v := .ref t) X hO 0 rfl in_X10 tyX10 tyX10_ok nmX10 rfl 3 (by decide) q1717 (Or.inl rfl) (Or.inr ⟨rfl, rfl, rfl⟩) rfl rfl (Nat.le_of_ble_eq_true rfl) dX10_init_22 (fun H locs hO => ?_)
  have hO : dz_O G.1 dz_CL A s.heap [[(q, dzo 9 [.int a, .int b, .int d, .ref t, .int 0])]] _ _ := hO
  exact dz_vret X hO rfl (⟨rfl, rfl⟩) (Nat.le_of_ble_eq_true rfl) (Nat.le_of_ble_eq_true rfl) dX10_init_25
set_option maxHeartbeats 4000000 in
set_option maxRecDepth 100000 in
/-- cell of an event -/
theorem dz_X5_cell (l : Launch) (G : dz_G) (sz : Nat) (n : Nat) (ea : Nat → Nat) (sa : Nat → Nat) (ev : Nat → dz_evt) (k : Nat) (c9 : Nat) (v9 : Int32) (hk : k < n) (he : ev k = dz_eL c9 v9) : dz_M l G yX5_cell cX5_cell 1 (some FieldType.int) ({ frames := 20, cells := 0, slots := 0, locals := 300 } : Room) [.ref (ea k)] [dz_ep G n ea sa ev] sz (fun r w1 => r = some (.int (nI c9)) ∧ w1 = [dz_ep G n ea sa ev]) (dz_np) := by
  refine dz_start (by decide) (Nat.le_of_ble_eq_true rfl) ?_
  intro p e s m below meth c A ls X hO hsz hl
  have hl : lv_has ls 1 [(0, .ref (ea k))] := hl
  refine lv_aload_n X.x X.b dX5_cell_0 rfl (lv_at hl 0 rfl) ?_
  refine dz_get (v := .int (nI c9)) X (hO.pnE 0 rfl hk (show (ea k, dz_evc G sa (ev k)) = (ea k, dz_evc G sa (dz_eL c9 v9)) by rw [he])) in_X5 rfl 0 (by decide) q1201 (Or.inl rfl) rfl dX5_cell_1 ?_
  exact dz_iret X hO rfl (⟨rfl, rfl⟩) (Nat.le_of_ble_eq_true rfl) (Nat.le_of_ble_eq_true rfl) dX5_cell_4
set_option maxHeartbeats 4000000 in
set_option maxRecDepth 100000 in
/-- limit of an event -/
theorem dz_X5_limit (l : Launch) (G : dz_G) (sz : Nat) (n : Nat) (ea : Nat → Nat) (sa : Nat → Nat) (ev : Nat → dz_evt) (k : Nat) (c9 : Nat) (v9 : Int32) (hk : k < n) (he : ev k = dz_eL c9 v9) : dz_M l G yX5_limit cX5_limit 1 (some FieldType.int) ({ frames := 20, cells := 0, slots := 0, locals := 300 } : Room) [.ref (ea k)] [dz_ep G n ea sa ev] sz (fun r w1 => r = some (.int v9) ∧ w1 = [dz_ep G n ea sa ev]) (dz_np) := by
  refine dz_start (by decide) (Nat.le_of_ble_eq_true rfl) ?_
  intro p e s m below meth c A ls X hO hsz hl
  have hl : lv_has ls 1 [(0, .ref (ea k))] := hl
  refine lv_aload_n X.x X.b dX5_limit_0 rfl (lv_at hl 0 rfl) ?_
  refine dz_get (v := .int v9) X (hO.pnE 0 rfl hk (show (ea k, dz_evc G sa (ev k)) = (ea k, dz_evc G sa (dz_eL c9 v9)) by rw [he])) in_X5 rfl 1 (by decide) q1202 (Or.inl rfl) rfl dX5_limit_1 ?_
  exact dz_iret X hO rfl (⟨rfl, rfl⟩) (Nat.le_of_ble_eq_true rfl) (Nat.le_of_ble_eq_true rfl) dX5_limit_4
set_option maxHeartbeats 4000000 in
set_option maxRecDepth 100000 in
/-- cell of an event -/
theorem dz_X12_cell (l : Launch) (G : dz_G) (sz : Nat) (n : Nat) (ea : Nat → Nat) (sa : Nat → Nat) (ev : Nat → dz_evt) (k : Nat) (c9 : Nat) (b9 : Bool) (hk : k < n) (he : ev k = dz_eD c9 b9) : dz_M l G yX12_cell cX12_cell 1 (some FieldType.int) ({ frames := 20, cells := 0, slots := 0, locals := 300 } : Room) [.ref (ea k)] [dz_ep G n ea sa ev] sz (fun r w1 => r = some (.int (nI c9)) ∧ w1 = [dz_ep G n ea sa ev]) (dz_np) := by
  refine dz_start (by decide) (Nat.le_of_ble_eq_true rfl) ?_
  intro p e s m below meth c A ls X hO hsz hl
  have hl : lv_has ls 1 [(0, .ref (ea k))] := hl
  refine lv_aload_n X.x X.b dX12_cell_0 rfl (lv_at hl 0 rfl) ?_
  refine dz_get (v := .int (nI c9)) X (hO.pnE 0 rfl hk (show (ea k, dz_evc G sa (ev k)) = (ea k, dz_evc G sa (dz_eD c9 b9)) by rw [he])) in_X12 rfl 0 (by decide) q2071 (Or.inl rfl) rfl dX12_cell_1 ?_
  exact dz_iret X hO rfl (⟨rfl, rfl⟩) (Nat.le_of_ble_eq_true rfl) (Nat.le_of_ble_eq_true rfl) dX12_cell_4
set_option maxHeartbeats 4000000 in
set_option maxRecDepth 100000 in
/-- side of an event -/
theorem dz_X12_side (l : Launch) (G : dz_G) (sz : Nat) (n : Nat) (ea : Nat → Nat) (sa : Nat → Nat) (ev : Nat → dz_evt) (k : Nat) (c9 : Nat) (b9 : Bool) (hk : k < n) (he : ev k = dz_eD c9 b9) : dz_M l G yX12_side cX12_side 1 (some (FieldType.object "Dredgeledger$Side")) ({ frames := 20, cells := 0, slots := 0, locals := 300 } : Room) [.ref (ea k)] [dz_ep G n ea sa ev] sz (fun r w1 => r = some (.ref (G.2.2.1 (if b9 then 6 else 7))) ∧ w1 = [dz_ep G n ea sa ev]) (dz_np) := by
  refine dz_start (by decide) (Nat.le_of_ble_eq_true rfl) ?_
  intro p e s m below meth c A ls X hO hsz hl
  have hl : lv_has ls 1 [(0, .ref (ea k))] := hl
  refine lv_aload_n X.x X.b dX12_side_0 rfl (lv_at hl 0 rfl) ?_
  refine dz_get (v := .ref (G.2.2.1 (if b9 then 6 else 7))) X (hO.pnE 0 rfl hk (show (ea k, dz_evc G sa (ev k)) = (ea k, dz_evc G sa (dz_eD c9 b9)) by rw [he])) in_X12 rfl 1 (by decide) q2072 (Or.inl rfl) rfl dX12_side_1 ?_
  exact dz_aret X hO rfl (Or.inl ⟨_, rfl⟩) (Or.inr ⟨_, rfl⟩) (⟨rfl, rfl⟩) (Nat.le_of_ble_eq_true rfl) (Nat.le_of_ble_eq_true rfl) dX12_side_4
set_option maxHeartbeats 4000000 in
set_option maxRecDepth 100000 in
/-- survey of an event -/
theorem dz_X11_survey (l : Launch) (G : dz_G) (sz : Nat) (n : Nat) (ea : Nat → Nat) (sa : Nat → Nat) (ev : Nat → dz_evt) (k : Nat) (s9 : Nat) (hk : k < n) (he : ev k = dz_eS s9) : dz_M l G yX11_survey cX11_survey 1 (some (FieldType.object "Dredgeledger$Survey")) ({ frames := 20, cells := 0, slots := 0, locals := 300 } : Room) [.ref (ea k)] [dz_ep G n ea sa ev] sz (fun r w1 => r = some (.ref (sa s9)) ∧ w1 = [dz_ep G n ea sa ev]) (dz_np) := by
  refine dz_start (by decide) (Nat.le_of_ble_eq_true rfl) ?_
  intro p e s m below meth c A ls X hO hsz hl
  have hl : lv_has ls 1 [(0, .ref (ea k))] := hl
  refine lv_aload_n X.x X.b dX11_survey_0 rfl (lv_at hl 0 rfl) ?_
  refine dz_get (v := .ref (sa s9)) X (hO.pnE 0 rfl hk (show (ea k, dz_evc G sa (ev k)) = (ea k, dz_evc G sa (dz_eS s9)) by rw [he])) in_X11 rfl 0 (by decide) q2023 (Or.inl rfl) rfl dX11_survey_1 ?_
  exact dz_aret X hO rfl (Or.inl ⟨_, rfl⟩) (Or.inr ⟨_, rfl⟩) (⟨rfl, rfl⟩) (Nat.le_of_ble_eq_true rfl) (Nat.le_of_ble_eq_true rfl) dX11_survey_4
set_option maxHeartbeats 4000000 in
set_option maxRecDepth 100000 in
/-- bars -/
theorem dz_X14_bars (l : Launch) (G : dz_G) (sz : Nat) (q : Nat)  : dz_M l G yX14_bars cX14_bars 1 (some FieldType.boolean) ({ frames := 20, cells := 0, slots := 0, locals := 300 } : Room) [.ref q] [] sz (fun r w1 => r = some (.int 1) ∧ w1 = []) (dz_np) := by
  refine dz_start (by decide) (Nat.le_of_ble_eq_true rfl) ?_
  intro p e s m below meth c A ls X hO hsz hl
  have hl : lv_has ls 1 [(0, .ref q)] := hl
  refine lv_iconst (v := 1) X.x X.b dX14_bars_0 (by decide) ?_
  exact dz_zret X hO rfl (rfl) (⟨rfl, rfl⟩) (Nat.le_of_ble_eq_true rfl) (Nat.le_of_ble_eq_true rfl) dX14_bars_1
set_option maxHeartbeats 4000000 in
set_option maxRecDepth 100000 in
/-- bars -/
theorem dz_X15_bars (l : Launch) (G : dz_G) (sz : Nat) (q : Nat)  : dz_M l G yX15_bars cX15_bars 1 (some FieldType.boolean) ({ frames := 20, cells := 0, slots := 0, locals := 300 } : Room) [.ref q] [] sz (fun r w1 => r = some (.int 0) ∧ w1 = []) (dz_np) := by
  refine dz_start (by decide) (Nat.le_of_ble_eq_true rfl) ?_
  intro p e s m below meth c A ls X hO hsz hl
  have hl : lv_has ls 1 [(0, .ref q)] := hl
  refine lv_iconst (v := 0) X.x X.b dX15_bars_0 (by decide) ?_
  exact dz_zret X hO rfl (rfl) (⟨rfl, rfl⟩) (Nat.le_of_ble_eq_true rfl) (Nat.le_of_ble_eq_true rfl) dX15_bars_1
set_option maxHeartbeats 4000000 in
set_option maxRecDepth 100000 in
/-- deed of an entry -/
theorem dz_X7_deed (l : Launch) (G : dz_G) (sz : Nat) (q : Nat) (d : Option Nat) (y : Int32) (u : Int32)  : dz_M l G yX7_deed cX7_deed 1 (some (FieldType.object "Deed")) ({ frames := 20, cells := 0, slots := 0, locals := 300 } : Room) [.ref q] [[(q, dzo 6 [va_rf d, .int y, .int u])]] sz (fun r w1 => r = some (va_rf d) ∧ w1 = [[(q, dzo 6 [va_rf d, .int y, .int u])]]) (dz_np) := by
  refine dz_start (by decide) (Nat.le_of_ble_eq_true rfl) ?_
  intro p e s m below meth c A ls X hO hsz hl
  have hl : lv_has ls 1 [(0, .ref q)] := hl
  refine lv_aload_n X.x X.b dX7_deed_0 rfl (lv_at hl 0 rfl) ?_
  refine dz_get (v := va_rf d) X (hO.at1 0 rfl) in_X7 rfl 0 (by decide) q1279 (Or.inl rfl) rfl dX7_deed_1 ?_
  exact dz_aret X hO rfl (Or.inl ⟨_, rfl⟩) (va_rf_or _) (⟨rfl, rfl⟩) (Nat.le_of_ble_eq_true rfl) (Nat.le_of_ble_eq_true rfl) dX7_deed_4
set_option maxHeartbeats 4000000 in
set_option maxRecDepth 100000 in
/-- day of an entry -/
theorem dz_X7_day (l : Launch) (G : dz_G) (sz : Nat) (q : Nat) (d : Option Nat) (y : Int32) (u : Int32)  : dz_M l G yX7_day cX7_day 1 (some FieldType.int) ({ frames := 20, cells := 0, slots := 0, locals := 300 } : Room) [.ref q] [[(q, dzo 6 [va_rf d, .int y, .int u])]] sz (fun r w1 => r = some (.int y) ∧ w1 = [[(q, dzo 6 [va_rf d, .int y, .int u])]]) (dz_np) := by
  refine dz_start (by decide) (Nat.le_of_ble_eq_true rfl) ?_
  intro p e s m below meth c A ls X hO hsz hl
  have hl : lv_has ls 1 [(0, .ref q)] := hl
  refine lv_aload_n X.x X.b dX7_day_0 rfl (lv_at hl 0 rfl) ?_
  refine dz_get (v := .int y) X (hO.at1 0 rfl) in_X7 rfl 1 (by decide) q1280 (Or.inl rfl) rfl dX7_day_1 ?_
  exact dz_iret X hO rfl (⟨rfl, rfl⟩) (Nat.le_of_ble_eq_true rfl) (Nat.le_of_ble_eq_true rfl) dX7_day_4
set_option maxHeartbeats 4000000 in
set_option maxRecDepth 100000 in
/-- number of an entry -/
theorem dz_X7_number (l : Launch) (G : dz_G) (sz : Nat) (q : Nat) (d : Option Nat) (y : Int32) (u : Int32)  : dz_M l G yX7_number cX7_number 1 (some FieldType.int) ({ frames := 20, cells := 0, slots := 0, locals := 300 } : Room) [.ref q] [[(q, dzo 6 [va_rf d, .int y, .int u])]] sz (fun r w1 => r = some (.int u) ∧ w1 = [[(q, dzo 6 [va_rf d, .int y, .int u])]]) (dz_np) := by
  refine dz_start (by decide) (Nat.le_of_ble_eq_true rfl) ?_
  intro p e s m below meth c A ls X hO hsz hl
  have hl : lv_has ls 1 [(0, .ref q)] := hl
  refine lv_aload_n X.x X.b dX7_number_0 rfl (lv_at hl 0 rfl) ?_
  refine dz_get (v := .int u) X (hO.at1 0 rfl) in_X7 rfl 2 (by decide) q1281 (Or.inl rfl) rfl dX7_number_1 ?_
  exact dz_iret X hO rfl (⟨rfl, rfl⟩) (Nat.le_of_ble_eq_true rfl) (Nat.le_of_ble_eq_true rfl) dX7_number_4
set_option maxHeartbeats 4000000 in
set_option maxRecDepth 100000 in
/-- holds -/
theorem dz_X9_holds (l : Launch) (G : dz_G) (sz : Nat) (n : Nat) (pa : Nat → Nat) (pg : Nat → Int32) (pf : Nat → Int32) (pl : Nat → Int32) (pv : Nat → Int32) (k : Nat) (a : Int32) (da : Int32) (hk : k < n) : dz_M l G yX9_holds cX9_holds 3 (some FieldType.boolean) ({ frames := 40, cells := 0, slots := 0, locals := 600 } : Room) [.ref (pa k), .int a, .int da] [dz_pm G n pa pg pf pl pv] sz (fun r w1 => r = some (.int (dz_hold pg pf pl da a k)) ∧ w1 = [dz_pm G n pa pg pf pl pv]) (dz_np) := by
  refine dz_start (by decide) (Nat.le_of_ble_eq_true rfl) ?_
  intro p e s m below meth c A ls X hO hsz hl
  have hl : lv_has ls 3 [(0, .ref (pa k)), (1, .int a), (2, .int da)] := hl
  refine lv_aload_n X.x X.b dX9_holds_0 rfl (lv_at hl 0 rfl) ?_
  refine dz_get (v := .int (pg k)) X (hO.pn 0 rfl hk) in_X9 rfl 0 (by decide) q1618 (Or.inl rfl) rfl dX9_holds_1 ?_
  refine lv_iload_n X.x X.b dX9_holds_4 rfl (lv_at hl 1 rfl) ?_
  refine lv_icmp_ne (tgt := 27) X.x X.b dX9_holds_5 (by decide) (fun c_1 => ?_) (fun c_1 => ?_)
  · refine lv_iconst (v := 0) X.x X.b dX9_holds_27 (by decide) ?_
    exact dz_zret X hO rfl (rfl) (⟨by unfold dz_hold; have := dz_bi_cases da (pf k) (pl k); grind, rfl⟩) (Nat.le_of_ble_eq_true rfl) (Nat.le_of_ble_eq_true rfl) dX9_holds_28
  · refine lv_iload_n X.x X.b dX9_holds_8 rfl (lv_at hl 2 rfl) ?_
    refine lv_aload_n X.x X.b dX9_holds_9 rfl (lv_at hl 0 rfl) ?_
    refine dz_get (v := .int (pf k)) X (hO.pn 0 rfl hk) in_X9 rfl 1 (by decide) q1619 (Or.inl rfl) rfl dX9_holds_10 ?_
    refine lv_aload_n X.x X.b dX9_holds_13 rfl (lv_at hl 0 rfl) ?_
    refine dz_get (v := .int (pl k)) X (hO.pn 0 rfl hk) in_X9 rfl 2 (by decide) q1620 (Or.inl rfl) rfl dX9_holds_14 ?_
    refine dz_SN (n := 3) (k9 := 0) (n9 := 0) (As := [.int da, .int (pf k), .int (pl k)]) (rest := []) (wr := [dz_pm G n pa pg pf pl pv]) X hO hl (dz_X1_isBetween l G _ da (pf k) (pl k) ) q1004 q48 q1678 q1003 (by decide +kernel) ⟨Nat.le_of_ble_eq_true rfl, Nat.le_of_ble_eq_true rfl⟩ ⟨(Nat.le_of_ble_eq_true rfl), (Nat.le_of_ble_eq_true rfl), (Nat.le_of_ble_eq_true rfl), (Nat.le_of_ble_eq_true rfl)⟩ [] [0] rfl rfl rfl rfl rfl (Nat.le_of_ble_eq_true rfl) dX9_holds_17 (fun E w1 q9 ce9 H locs hpx hO hce hv9 hcl9 => hpx.elim) (fun r w1 H locs hpo hO => ?_)
    obtain ⟨rfl, rfl⟩ := hpo
    have hO : dz_O G.1 dz_CL A s.heap [dz_pm G n pa pg pf pl pv] _ _ := hO
    refine W.eq (g2 := F0 m 20 ls [.int (dz_bi da (pf k) (pl k))]) rfl ?_
    refine lv_if_eq (tgt := 27) X.x X.b dX9_holds_20 (by decide) (fun c_2 => ?_) (fun c_2 => ?_)
    · refine lv_iconst (v := 0) X.x X.b dX9_holds_27 (by decide) ?_
      exact dz_zret X hO rfl (rfl) (⟨by unfold dz_hold; have := dz_bi_cases da (pf k) (pl k); grind, rfl⟩) (Nat.le_of_ble_eq_true rfl) (Nat.le_of_ble_eq_true rfl) dX9_holds_28
    · refine lv_iconst (v := 1) X.x X.b dX9_holds_23 (by decide) ?_
      refine lv_goto (tgt := 28) X.x X.b dX9_holds_24 (by decide) ?_
      exact dz_zret X hO rfl (rfl) (⟨by unfold dz_hold; have := dz_bi_cases da (pf k) (pl k); grind, rfl⟩) (Nat.le_of_ble_eq_true rfl) (Nat.le_of_ble_eq_true rfl) dX9_holds_28
set_option maxHeartbeats 4000000 in
set_option maxRecDepth 100000 in
/-- tells -/
theorem dz_X10_tells (l : Launch) (G : dz_G) (sz : Nat) (n : Nat) (sa : Nat → Nat) (ta : Nat → Nat) (fn : Nat → Nat) (tn : Nat → Nat) (sw : Nat → Int32) (sd : Nat → Int32) (tt : Nat → Int32) (k : Nat) (ce : Nat) (hk : k < n) (hf : fn k ≤ tn k) (ht : tn k < 24) (hc : ce < 24) : dz_M l G yX10_tells cX10_tells 2 (some FieldType.boolean) ({ frames := 40, cells := 0, slots := 0, locals := 600 } : Room) [.ref (sa k), .int (nI ce)] [dz_sv G n sa ta fn sw sd, dz_tp G n ta fn tn tt] sz (fun r w1 => r = some (.int (dz_tl fn tn k ce)) ∧ w1 = [dz_sv G n sa ta fn sw sd, dz_tp G n ta fn tn tt]) (dz_np) := by
  refine dz_start (by decide) (Nat.le_of_ble_eq_true rfl) ?_
  intro p e s m below meth c A ls X hO hsz hl
  have hl : lv_has ls 2 [(0, .ref (sa k)), (1, .int (nI ce))] := hl
  refine lv_iload_n X.x X.b dX10_tells_0 rfl (lv_at hl 1 rfl) ?_
  refine lv_aload_n X.x X.b dX10_tells_1 rfl (lv_at hl 0 rfl) ?_
  refine dz_get (v := .int (nI (fn k))) X (hO.pn 0 rfl hk) in_X10 rfl 1 (by decide) q1714 (Or.inl rfl) rfl dX10_tells_2 ?_
  refine lv_aload_n X.x X.b dX10_tells_5 rfl (lv_at hl 0 rfl) ?_
  refine dz_get (v := .int (nI (fn k))) X (hO.pn 0 rfl hk) in_X10 rfl 1 (by decide) q1714 (Or.inl rfl) rfl dX10_tells_6 ?_
  refine lv_aload_n X.x X.b dX10_tells_9 rfl (lv_at hl 0 rfl) ?_
  refine dz_get (v := .ref (ta k)) X (hO.pn 0 rfl hk) in_X10 rfl 3 (by decide) q1717 (Or.inl rfl) rfl dX10_tells_10 ?_
  refine dz_alen (v := nI (tn k - fn k + 1)) X (hO.pn 1 rfl hk) 1 rfl (by first | rfl | decide) dX10_tells_13 ?_
  refine lv_iadd X.x X.b dX10_tells_14 ?_
  refine dz_rei (y := nI (fn k + (tn k - fn k + 1))) (nI_add (fn k) (tn k - fn k + 1)) ?_
  refine lv_iconst (v := 1) X.x X.b dX10_tells_15 (by decide) ?_
  refine lv_isub X.x X.b dX10_tells_16 ?_
  refine dz_rei (y := nI (tn k)) (by rw [show fn k + (tn k - fn k + 1) = tn k + 1 by omega, nI_pred]) ?_
  refine dz_SN (n := 3) (k9 := 0) (n9 := 0) (As := [.int (nI ce), .int (nI (fn k)), .int (nI (tn k))]) (rest := []) (wr := [dz_sv G n sa ta fn sw sd, dz_tp G n ta fn tn tt]) X hO hl (dz_X1_isBetween l G _ (nI ce) (nI (fn k)) (nI (tn k)) ) q1004 q48 q1002 q1003 (by decide +kernel) ⟨Nat.le_of_ble_eq_true rfl, Nat.le_of_ble_eq_true rfl⟩ ⟨(Nat.le_of_ble_eq_true rfl), (Nat.le_of_ble_eq_true rfl), (Nat.le_of_ble_eq_true rfl), (Nat.le_of_ble_eq_true rfl)⟩ [] [0, 1] rfl rfl rfl rfl rfl (Nat.le_of_ble_eq_true rfl) dX10_tells_17 (fun E w1 q9 ce9 H locs hpx hO hce hv9 hcl9 => hpx.elim) (fun r w1 H locs hpo hO => ?_)
  obtain ⟨rfl, rfl⟩ := hpo
  have hO : dz_O G.1 dz_CL A s.heap [dz_sv G n sa ta fn sw sd, dz_tp G n ta fn tn tt] _ _ := hO
  refine W.eq (g2 := F0 m 20 ls [.int (dz_bi (nI ce) (nI (fn k)) (nI (tn k)))]) rfl ?_
  exact dz_zret X hO rfl (dz_bi01 _ _ _) (⟨by rw [dz_tl_bi (by omega) (by omega) (by omega)], rfl⟩) (Nat.le_of_ble_eq_true rfl) (Nat.le_of_ble_eq_true rfl) dX10_tells_20
set_option maxHeartbeats 4000000 in
set_option maxRecDepth 100000 in
/-- of -/
theorem dz_X10_of (l : Launch) (G : dz_G) (sz : Nat) (n : Nat) (sa : Nat → Nat) (ta : Nat → Nat) (fn : Nat → Nat) (tn : Nat → Nat) (sw : Nat → Int32) (sd : Nat → Int32) (tt : Nat → Int32) (k : Nat) (ce : Nat) (hk : k < n) (hf : fn k ≤ ce) (ht : ce ≤ tn k) (h24 : tn k < 24) : dz_M l G yX10_of cX10_of 2 (some FieldType.int) ({ frames := 40, cells := 0, slots := 0, locals := 600 } : Room) [.ref (sa k), .int (nI ce)] [dz_sv G n sa ta fn sw sd, dz_tp G n ta fn tn tt] sz (fun r w1 => r = some (.int (tt (24 * k + ce))) ∧ w1 = [dz_sv G n sa ta fn sw sd, dz_tp G n ta fn tn tt]) (dz_np) := by
  refine dz_start (by decide) (Nat.le_of_ble_eq_true rfl) ?_
  intro p e s m below meth c A ls X hO hsz hl
  have hl : lv_has ls 2 [(0, .ref (sa k)), (1, .int (nI ce))] := hl
  refine lv_aload_n X.x X.b dX10_of_0 rfl (lv_at hl 0 rfl) ?_
  refine dz_get (v := .ref (ta k)) X (hO.pn 0 rfl hk) in_X10 rfl 3 (by decide) q1717 (Or.inl rfl) rfl dX10_of_1 ?_
  refine lv_iload_n X.x X.b dX10_of_4 rfl (lv_at hl 1 rfl) ?_
  refine lv_aload_n X.x X.b dX10_of_5 rfl (lv_at hl 0 rfl) ?_
  refine dz_get (v := .int (nI (fn k))) X (hO.pn 0 rfl hk) in_X10 rfl 1 (by decide) q1714 (Or.inl rfl) rfl dX10_of_6 ?_
  refine lv_isub X.x X.b dX10_of_9 ?_
  refine dz_sald X (hO.pn 1 rfl hk) (j := ce - fn k) (pk_sub (by omega)) (by omega) (by omega) dX10_of_10 ?_
  refine dz_rev (w := .int (tt (24 * k + fn k + (ce - fn k)))) rfl ?_
  exact dz_iret X hO rfl (⟨by rw [show 24 * k + fn k + (ce - fn k) = 24 * k + ce by omega], rfl⟩) (Nat.le_of_ble_eq_true rfl) (Nat.le_of_ble_eq_true rfl) dX10_of_11
set_option maxHeartbeats 4000000 in
set_option maxRecDepth 100000 in
/-- a chain is made -/
theorem dz_X2_init (l : Launch) (G : dz_G) (sz : Nat) (q : Nat)  : dz_M l G yX2_init cX2_init 1 none ({ frames := 20, cells := 0, slots := 0, locals := 300 } : Room) [.ref q] [[(q, dzo 1 [.null, .null])]] sz (fun r w1 => r = none ∧ w1 = [[(q, dzo 1 [.null, .null])]]) (dz_np) := by
  refine dz_start (by decide) (Nat.le_of_ble_eq_true rfl) ?_
  intro p e s m below meth c A ls X hO hsz hl
  have hl : lv_has ls 1 [(0, .ref q)] := hl
  refine lv_aload_n X.x X.b dX2_init_0 rfl (lv_at hl 0 rfl) ?_
  refine dz_objInit X hl q522 dX2_init_1 (Nat.le_of_ble_eq_true rfl) (Nat.le_of_ble_eq_true rfl) (Nat.le_of_ble_eq_true rfl) ?_
  exact dz_vret X hO rfl (⟨rfl, rfl⟩) (Nat.le_of_ble_eq_true rfl) (Nat.le_of_ble_eq_true rfl) dX2_init_4
set_option maxHeartbeats 4000000 in
set_option maxRecDepth 100000 in
/-- a link is made -/
theorem dz_X6_init (l : Launch) (G : dz_G) (sz : Nat) (q : Nat) (v : Nat)  : dz_M l G yX6_init cX6_init 2 none ({ frames := 20, cells := 0, slots := 0, locals := 300 } : Room) [.ref q, .ref v] [[(q, dzo 5 [.null, .null])]] sz (fun r w1 => r = none ∧ w1 = [[(q, dzo 5 [.ref v, .null])]]) (dz_np) := by
  refine dz_start (by decide) (Nat.le_of_ble_eq_true rfl) ?_
  intro p e s m below meth c A ls X hO hsz hl
  have hl : lv_has ls 2 [(0, .ref q), (1, .ref v)] := hl
  refine lv_aload_n X.x X.b dX6_init_0 rfl (lv_at hl 0 rfl) ?_
  refine dz_objInit X hl q1217 dX6_init_1 (Nat.le_of_ble_eq_true rfl) (Nat.le_of_ble_eq_true rfl) (Nat.le_of_ble_eq_true rfl) ?_
  refine lv_aload_n X.x X.b dX6_init_4 rfl (lv_at hl 0 rfl) ?_
  refine lv_aload_n X.x X.b dX6_init_5 rfl (lv_at hl 1 rfl) ?_
  refine dz_put (v := .ref v) X hO 0 rfl in_X6 tyX6 tyX6_ok nmX6 rfl 0 (by decide) q1218 (Or.inl rfl) (Or.inr ⟨rfl, rfl, rfl⟩) rfl rfl (Nat.le_of_ble_eq_true rfl) dX6_init_6 (fun H locs hO => ?_)
  have hO : dz_O G.1 dz_CL A s.heap [[(q, dzo 5 [.ref v, .null])]] _ _ := hO
  exact dz_vret X hO rfl (⟨rfl, rfl⟩) (Nat.le_of_ble_eq_true rfl) (Nat.le_of_ble_eq_true rfl) dX6_init_9
set_option maxHeartbeats 4000000 in
set_option maxRecDepth 100000 in
/-- a thing is added to the chain -/
theorem dz_X2_add (l : Launch) (G : dz_G) (sz : Nat) (ch : Nat) (v : Nat) (n : Nat) (la : Nat → Nat) (it : Nat → Option Nat)  : dz_M l G yX2_add cX2_add 3 none ({ frames := 40, cells := 1, slots := 2, locals := 600 } : Room) [.ref ch, .ref v] [[(ch, dzo 1 [va_rf (dz_hd la n), va_rf (dz_lst la n)])], dz_lk G n la it (dz_nxt la n)] sz (fun r w1 => ∃ (q : Nat), r = none ∧ w1 = [[(ch, dzo 1 [va_rf (dz_hd (dz_nup la n q) (n + 1)), va_rf (dz_lst (dz_nup la n q) (n + 1))])], dz_lk G (n + 1) (dz_nup la n q) (va_up it n (some v)) (dz_nxt (dz_nup la n q) (n + 1))]) (dz_np) := by
  refine dz_start (by decide) (Nat.le_of_ble_eq_true rfl) ?_
  intro p e s m below meth c A ls X hO hsz hl
  have hl : lv_has ls 3 [(0, .ref ch), (1, .ref v)] := hl
  rcases Nat.eq_zero_or_pos n with hn0 | hn0
  · subst hn0
    have hO : dz_O G.1 dz_CL A s.heap [[(ch, dzo 1 [.null, va_rf (dz_lst la 0)])], dz_lk G 0 la it (dz_nxt la 0)] _ _ := hO
    have hO : dz_O G.1 dz_CL A s.heap [[(ch, dzo 1 [.null, .null])], dz_lk G 0 la it (dz_nxt la 0)] _ _ := hO
    refine dz_new X hO 5 in_X6 tyX6 tyX6_ok q1212 q1213 q80 rfl [.null, .null] dz_dfX6 (Nat.le_of_ble_eq_true rfl) (Nat.le_of_ble_eq_true rfl) dX2_add_0 (fun q_1 H hO => ?_)
    have hO : dz_O G.1 dz_CL A s.heap [[(ch, dzo 1 [.null, .null])], dz_lk G 0 la it (dz_nxt la 0), [(q_1, dzo 5 [.null, .null])]] _ _ := hO
    refine W.widen (k := 1) (n := 2) (Nat.le_of_ble_eq_true rfl) (Nat.le_of_ble_eq_true rfl) ?_
    refine lv_dup X.x X.b dX2_add_3 rfl ?_
    refine lv_aload_n X.x X.b dX2_add_4 rfl (lv_at hl 1 rfl) ?_
    refine dz_I (ret1 := none) (n := 1) (k9 := 1) (n9 := 2) (As := [.ref v]) (rest := [.ref q_1]) (wr := [[(ch, dzo 1 [.null, .null])], dz_lk G 0 la it (dz_nxt la 0)]) X hO hl (dz_X6_init l G _ q_1 v ) q1216 q80 q1214 q1215 rfl (by decide +kernel) ⟨Nat.le_of_ble_eq_true rfl, Nat.le_of_ble_eq_true rfl⟩ ⟨(Nat.le_of_ble_eq_true rfl), (Nat.le_of_ble_eq_true rfl), (Nat.le_of_ble_eq_true rfl), (Nat.le_of_ble_eq_true rfl)⟩ [2] [0, 1] rfl rfl rfl rfl rfl (Nat.le_of_ble_eq_true rfl) dX2_add_5 (fun E w1 q9 ce9 H locs hpx hO hce hv9 hcl9 => hpx.elim) (fun r w1 H locs hpo hO => ?_)
    obtain ⟨rfl, rfl⟩ := hpo
    have hO : dz_O G.1 dz_CL A s.heap [[(ch, dzo 1 [.null, .null])], dz_lk G 0 la it (dz_nxt la 0), [(q_1, dzo 5 [.ref v, .null])]] _ _ := hO
    refine W.eq (g2 := F0 m 8 ls [.ref q_1]) rfl ?_
    refine lv_astore_n (lv' := [(2, .ref q_1), (0, .ref ch), (1, .ref v)]) X.x X.b dX2_add_8 rfl hl (by decide) rfl (fun ls hl => ?_)
    refine lv_aload_n X.x X.b dX2_add_9 rfl (lv_at hl 1 rfl) ?_
    refine dz_get (v := .null) X (hO.at1 0 rfl) in_X2 rfl 0 (by decide) q524 (Or.inl rfl) rfl dX2_add_10 ?_
    refine lv_ifnonnullN X.x X.b dX2_add_13 ?_
    refine lv_aload_n X.x X.b dX2_add_16 rfl (lv_at hl 1 rfl) ?_
    refine lv_aload_n X.x X.b dX2_add_17 rfl (lv_at hl 0 rfl) ?_
    refine dz_put (v := .ref q_1) X hO 0 rfl in_X2 tyX2 tyX2_ok nmX2 rfl 0 (by decide) q524 (Or.inl rfl) (Or.inl rfl) rfl rfl (Nat.le_of_ble_eq_true rfl) dX2_add_18 (fun H locs hO => ?_)
    have hO : dz_O G.1 dz_CL A s.heap [[(ch, dzo 1 [.ref q_1, .null])], dz_lk G 0 la it (dz_nxt la 0), [(q_1, dzo 5 [.ref v, .null])]] _ _ := hO
    refine lv_goto (tgt := 32) X.x X.b dX2_add_21 (by decide) ?_
    refine lv_aload_n X.x X.b dX2_add_32 rfl (lv_at hl 1 rfl) ?_
    refine lv_aload_n X.x X.b dX2_add_33 rfl (lv_at hl 0 rfl) ?_
    refine dz_put (v := .ref q_1) X hO 0 rfl in_X2 tyX2 tyX2_ok nmX2 rfl 1 (by decide) q525 (Or.inl rfl) (Or.inl rfl) rfl rfl (Nat.le_of_ble_eq_true rfl) dX2_add_34 (fun H locs hO => ?_)
    have hO : dz_O G.1 dz_CL A s.heap [[(ch, dzo 1 [.ref q_1, .ref q_1])], dz_lk G 0 la it (dz_nxt la 0), [(q_1, dzo 5 [.ref v, .null])]] _ _ := hO
    have hO := hO.sel (v := [dz_lk G 0 la it (dz_nxt la 0), [(q_1, dzo 5 [.ref v, .null])], [(ch, dzo 1 [.ref q_1, .ref q_1])]]) [1, 2, 0] rfl rfl
    have hO : dz_O G.1 dz_CL A s.heap [dz_lk G (0 + 1) (dz_nup la 0 q_1) (va_up it 0 (some v)) (dz_nxt (dz_nup la 0 q_1) (0 + 1)), [(ch, dzo 1 [.ref q_1, .ref q_1])]] _ _ := hO.padd (fun i hi => absurd hi (Nat.not_lt_zero i)) (by rw [dz_nup_at, dz_vu_at, dz_nxt_last]; rfl)
    have hO := hO.cong 1 rfl (w1 := [(ch, dzo 1 [va_rf (dz_hd (dz_nup la 0 q_1) (0 + 1)), va_rf (dz_lst (dz_nup la 0 q_1) (0 + 1))])]) (by rw [dz_hd_s, dz_lst_s, dz_nup_at]; rfl)
    have hO : dz_O G.1 dz_CL A s.heap [dz_lk G (0 + 1) (dz_nup la 0 q_1) (va_up it 0 (some v)) (dz_nxt (dz_nup la 0 q_1) (0 + 1)), [(ch, dzo 1 [va_rf (dz_hd (dz_nup la 0 q_1) (0 + 1)), va_rf (dz_lst (dz_nup la 0 q_1) (0 + 1))])]] _ _ := hO
    have hO := hO.sel (v := [[(ch, dzo 1 [va_rf (dz_hd (dz_nup la 0 q_1) (0 + 1)), va_rf (dz_lst (dz_nup la 0 q_1) (0 + 1))])], dz_lk G (0 + 1) (dz_nup la 0 q_1) (va_up it 0 (some v)) (dz_nxt (dz_nup la 0 q_1) (0 + 1))]) [1, 0] rfl rfl
    exact dz_vret X hO rfl (⟨q_1, rfl, rfl⟩) (Nat.le_of_ble_eq_true rfl) (Nat.le_of_ble_eq_true rfl) dX2_add_37
  · obtain ⟨m9, hm9⟩ : ∃ m9, n = m9 + 1 := ⟨n - 1, by omega⟩
    subst hm9
    have hO : dz_O G.1 dz_CL A s.heap [[(ch, dzo 1 [.ref (la 0), va_rf (dz_lst la (m9 + 1))])], dz_lk G (m9 + 1) la it (dz_nxt la (m9 + 1))] _ _ := hO
    have hO : dz_O G.1 dz_CL A s.heap [[(ch, dzo 1 [.ref (la 0), .ref (la m9)])], dz_lk G (m9 + 1) la it (dz_nxt la (m9 + 1))] _ _ := hO
    refine dz_new X hO 5 in_X6 tyX6 tyX6_ok q1212 q1213 q80 rfl [.null, .null] dz_dfX6 (Nat.le_of_ble_eq_true rfl) (Nat.le_of_ble_eq_true rfl) dX2_add_0 (fun q_2 H hO => ?_)
    have hO : dz_O G.1 dz_CL A s.heap [[(ch, dzo 1 [.ref (la 0), .ref (la m9)])], dz_lk G (m9 + 1) la it (dz_nxt la (m9 + 1)), [(q_2, dzo 5 [.null, .null])]] _ _ := hO
    refine W.widen (k := 1) (n := 2) (Nat.le_of_ble_eq_true rfl) (Nat.le_of_ble_eq_true rfl) ?_
    refine lv_dup X.x X.b dX2_add_3 rfl ?_
    refine lv_aload_n X.x X.b dX2_add_4 rfl (lv_at hl 1 rfl) ?_
    refine dz_I (ret1 := none) (n := 1) (k9 := 1) (n9 := 2) (As := [.ref v]) (rest := [.ref q_2]) (wr := [[(ch, dzo 1 [.ref (la 0), .ref (la m9)])], dz_lk G (m9 + 1) la it (dz_nxt la (m9 + 1))]) X hO hl (dz_X6_init l G _ q_2 v ) q1216 q80 q1214 q1215 rfl (by decide +kernel) ⟨Nat.le_of_ble_eq_true rfl, Nat.le_of_ble_eq_true rfl⟩ ⟨(Nat.le_of_ble_eq_true rfl), (Nat.le_of_ble_eq_true rfl), (Nat.le_of_ble_eq_true rfl), (Nat.le_of_ble_eq_true rfl)⟩ [2] [0, 1] rfl rfl rfl rfl rfl (Nat.le_of_ble_eq_true rfl) dX2_add_5 (fun E w1 q9 ce9 H locs hpx hO hce hv9 hcl9 => hpx.elim) (fun r w1 H locs hpo hO => ?_)
    obtain ⟨rfl, rfl⟩ := hpo
    have hO : dz_O G.1 dz_CL A s.heap [[(ch, dzo 1 [.ref (la 0), .ref (la m9)])], dz_lk G (m9 + 1) la it (dz_nxt la (m9 + 1)), [(q_2, dzo 5 [.ref v, .null])]] _ _ := hO
    refine W.eq (g2 := F0 m 8 ls [.ref q_2]) rfl ?_
    refine lv_astore_n (lv' := [(2, .ref q_2), (0, .ref ch), (1, .ref v)]) X.x X.b dX2_add_8 rfl hl (by decide) rfl (fun ls hl => ?_)
    refine lv_aload_n X.x X.b dX2_add_9 rfl (lv_at hl 1 rfl) ?_
    refine dz_get (v := .ref (la 0)) X (hO.at1 0 rfl) in_X2 rfl 0 (by decide) q524 (Or.inl rfl) rfl dX2_add_10 ?_
    refine lv_ifnonnull (tgt := 24) X.x X.b dX2_add_13 (by decide) ?_
    refine lv_aload_n X.x X.b dX2_add_24 rfl (lv_at hl 1 rfl) ?_
    refine dz_get (v := .ref (la m9)) X (hO.at1 0 rfl) in_X2 rfl 1 (by decide) q525 (Or.inl rfl) rfl dX2_add_25 ?_
    refine lv_aload_n X.x X.b dX2_add_28 rfl (lv_at hl 0 rfl) ?_
    refine dz_putNA (v := .ref q_2) X (hO.pn 1 rfl (by omega)) in_X6 tyX6 tyX6_ok nmX6 rfl 1 (by decide) q1220 (Or.inl rfl) rfl rfl rfl (Nat.le_of_ble_eq_true rfl) dX2_add_29 (fun H1 i9 g9 z9 o9 => ?_)
    have hO := (hO.pnput (k := 1) (i := m9) rfl (by omega) (j := i9) g9 z9 o9).cong 1 rfl (w1 := dz_lk G (m9 + 1) la it (va_up (dz_nxt la (m9 + 1)) m9 (some q_2))) (dz_pn_cong (fun i9 _ => by by_cases h9 : i9 = m9 <;> simp [va_up, upd, h9, va_rf]))
    have hO : dz_O G.1 dz_CL A s.heap [[(ch, dzo 1 [.ref (la 0), .ref (la m9)])], dz_lk G (m9 + 1) la it (va_up (dz_nxt la (m9 + 1)) m9 (some q_2)), [(q_2, dzo 5 [.ref v, .null])]] H1 _ := hO
    revert hO
    generalize H1 = H; generalize locs ++ _ = locs; intro hO
    refine lv_aload_n X.x X.b dX2_add_32 rfl (lv_at hl 1 rfl) ?_
    refine lv_aload_n X.x X.b dX2_add_33 rfl (lv_at hl 0 rfl) ?_
    refine dz_put (v := .ref q_2) X hO 0 rfl in_X2 tyX2 tyX2_ok nmX2 rfl 1 (by decide) q525 (Or.inl rfl) (Or.inl rfl) rfl rfl (Nat.le_of_ble_eq_true rfl) dX2_add_34 (fun H locs hO => ?_)
    have hO : dz_O G.1 dz_CL A s.heap [[(ch, dzo 1 [.ref (la 0), .ref q_2])], dz_lk G (m9 + 1) la it (va_up (dz_nxt la (m9 + 1)) m9 (some q_2)), [(q_2, dzo 5 [.ref v, .null])]] _ _ := hO
    have hO := hO.sel (v := [dz_lk G (m9 + 1) la it (va_up (dz_nxt la (m9 + 1)) m9 (some q_2)), [(q_2, dzo 5 [.ref v, .null])], [(ch, dzo 1 [.ref (la 0), .ref q_2])]]) [1, 2, 0] rfl rfl
    have hO : dz_O G.1 dz_CL A s.heap [dz_lk G (m9 + 1 + 1) (dz_nup la (m9 + 1) q_2) (va_up it (m9 + 1) (some v)) (dz_nxt (dz_nup la (m9 + 1) q_2) (m9 + 1 + 1)), [(ch, dzo 1 [.ref (la 0), .ref q_2])]] _ _ := hO.padd (fun i hi => by rw [dz_nup_lt hi, dz_vu_lt hi, dz_nxt_add hi]) (by rw [dz_nup_at, dz_vu_at, dz_nxt_last]; rfl)
    have hO := hO.cong 1 rfl (w1 := [(ch, dzo 1 [va_rf (dz_hd (dz_nup la (m9 + 1) q_2) (m9 + 1 + 1)), va_rf (dz_lst (dz_nup la (m9 + 1) q_2) (m9 + 1 + 1))])]) (by rw [dz_hd_s, dz_lst_s, dz_nup_at]; rw [dz_nup_lt (Nat.succ_pos _)]; rfl)
    have hO : dz_O G.1 dz_CL A s.heap [dz_lk G (m9 + 1 + 1) (dz_nup la (m9 + 1) q_2) (va_up it (m9 + 1) (some v)) (dz_nxt (dz_nup la (m9 + 1) q_2) (m9 + 1 + 1)), [(ch, dzo 1 [va_rf (dz_hd (dz_nup la (m9 + 1) q_2) (m9 + 1 + 1)), va_rf (dz_lst (dz_nup la (m9 + 1) q_2) (m9 + 1 + 1))])]] _ _ := hO
    have hO := hO.sel (v := [[(ch, dzo 1 [va_rf (dz_hd (dz_nup la (m9 + 1) q_2) (m9 + 1 + 1)), va_rf (dz_lst (dz_nup la (m9 + 1) q_2) (m9 + 1 + 1))])], dz_lk G (m9 + 1 + 1) (dz_nup la (m9 + 1) q_2) (va_up it (m9 + 1) (some v)) (dz_nxt (dz_nup la (m9 + 1) q_2) (m9 + 1 + 1))]) [1, 0] rfl rfl
    exact dz_vret X hO rfl (⟨q_2, rfl, rfl⟩) (Nat.le_of_ble_eq_true rfl) (Nat.le_of_ble_eq_true rfl) dX2_add_37
set_option maxHeartbeats 4000000 in
set_option maxRecDepth 100000 in
/-- an iterator over the chain is made -/
theorem dz_X13_init (l : Launch) (G : dz_G) (sz : Nat) (q : Nat) (ch : Nat) (fo : Option Nat) (lo : Option Nat)  : dz_M l G yX13_init cX13_init 2 none ({ frames := 20, cells := 0, slots := 0, locals := 300 } : Room) [.ref q, .ref ch] [[(q, dzo 12 [.null, .null])], [(ch, dzo 1 [va_rf fo, va_rf lo])]] sz (fun r w1 => r = none ∧ w1 = [[(q, dzo 12 [va_rf fo, .ref ch])], [(ch, dzo 1 [va_rf fo, va_rf lo])]]) (dz_np) := by
  refine dz_start (by decide) (Nat.le_of_ble_eq_true rfl) ?_
  intro p e s m below meth c A ls X hO hsz hl
  have hl : lv_has ls 2 [(0, .ref q), (1, .ref ch)] := hl
  refine lv_aload_n X.x X.b dX13_init_0 rfl (lv_at hl 0 rfl) ?_
  refine lv_aload_n X.x X.b dX13_init_1 rfl (lv_at hl 1 rfl) ?_
  refine dz_put (v := .ref ch) X hO 0 rfl in_X13 tyX13 tyX13_ok nmX13 rfl 1 (by decide) q653 (Or.inl rfl) (Or.inr ⟨rfl, rfl, rfl⟩) rfl rfl (Nat.le_of_ble_eq_true rfl) dX13_init_2 (fun H locs hO => ?_)
  have hO : dz_O G.1 dz_CL A s.heap [[(q, dzo 12 [.null, .ref ch])], [(ch, dzo 1 [va_rf fo, va_rf lo])]] _ _ := hO
  refine lv_aload_n X.x X.b dX13_init_5 rfl (lv_at hl 0 rfl) ?_
  refine dz_objInit X hl q651 dX13_init_6 (Nat.le_of_ble_eq_true rfl) (Nat.le_of_ble_eq_true rfl) (Nat.le_of_ble_eq_true rfl) ?_
  refine lv_aload_n X.x X.b dX13_init_9 rfl (lv_at hl 0 rfl) ?_
  refine lv_aload_n X.x X.b dX13_init_10 rfl (lv_at hl 0 rfl) ?_
  refine dz_get (v := .ref ch) X (hO.at1 0 rfl) in_X13 rfl 1 (by decide) q653 (Or.inl rfl) rfl dX13_init_11 ?_
  refine dz_getN (v := va_rf fo) X (hO.at1 1 rfl) in_X2 rfl 0 (by decide) q523 (Or.inl rfl) rfl dX13_init_14 ?_
  refine dz_put (v := va_rf fo) X hO 0 rfl in_X13 tyX13 tyX13_ok nmX13 rfl 0 (by decide) q652 (Or.inl rfl) (Or.inl rfl) (by cases fo <;> rfl) (by cases fo <;> rfl) (Nat.le_of_ble_eq_true rfl) dX13_init_17 (fun H locs hO => ?_)
  have hO : dz_O G.1 dz_CL A s.heap [[(q, dzo 12 [va_rf fo, .ref ch])], [(ch, dzo 1 [va_rf fo, va_rf lo])]] _ _ := hO
  exact dz_vret X hO rfl (⟨rfl, rfl⟩) (Nat.le_of_ble_eq_true rfl) (Nat.le_of_ble_eq_true rfl) dX13_init_20
set_option maxHeartbeats 4000000 in
set_option maxRecDepth 100000 in
/-- iterator of the chain -/
theorem dz_X2_iterator (l : Launch) (G : dz_G) (sz : Nat) (ch : Nat) (fo : Option Nat) (lo : Option Nat)  : dz_M l G yX2_iterator cX2_iterator 1 (some (FieldType.object "java/util/Iterator")) ({ frames := 40, cells := 1, slots := 2, locals := 600 } : Room) [.ref ch] [[(ch, dzo 1 [va_rf fo, va_rf lo])]] sz (fun r w1 => ∃ (q : Nat), r = some (.ref q) ∧ w1 = [[(q, dzo 12 [va_rf fo, .ref ch])], [(ch, dzo 1 [va_rf fo, va_rf lo])]]) (dz_np) := by
  refine dz_start (by decide) (Nat.le_of_ble_eq_true rfl) ?_
  intro p e s m below meth c A ls X hO hsz hl
  have hl : lv_has ls 1 [(0, .ref ch)] := hl
  refine dz_new X hO 12 in_X13 tyX13 tyX13_ok q646 q647 q105 rfl [.null, .null] dz_dfX13 (Nat.le_of_ble_eq_true rfl) (Nat.le_of_ble_eq_true rfl) dX2_iterator_0 (fun q_1 H hO => ?_)
  have hO : dz_O G.1 dz_CL A s.heap [[(ch, dzo 1 [va_rf fo, va_rf lo])], [(q_1, dzo 12 [.null, .null])]] _ _ := hO
  refine W.widen (k := 1) (n := 2) (Nat.le_of_ble_eq_true rfl) (Nat.le_of_ble_eq_true rfl) ?_
  refine lv_dup X.x X.b dX2_iterator_3 rfl ?_
  refine lv_aload_n X.x X.b dX2_iterator_4 rfl (lv_at hl 0 rfl) ?_
  refine dz_I (ret1 := none) (n := 1) (k9 := 1) (n9 := 2) (As := [.ref ch]) (rest := [.ref q_1]) (wr := []) X hO hl (dz_X13_init l G _ q_1 ch fo lo ) q650 q105 q648 q649 rfl (by decide +kernel) ⟨Nat.le_of_ble_eq_true rfl, Nat.le_of_ble_eq_true rfl⟩ ⟨(Nat.le_of_ble_eq_true rfl), (Nat.le_of_ble_eq_true rfl), (Nat.le_of_ble_eq_true rfl), (Nat.le_of_ble_eq_true rfl)⟩ [1, 0] [] rfl rfl rfl rfl rfl (Nat.le_of_ble_eq_true rfl) dX2_iterator_5 (fun E w1 q9 ce9 H locs hpx hO hce hv9 hcl9 => hpx.elim) (fun r w1 H locs hpo hO => ?_)
  obtain ⟨rfl, rfl⟩ := hpo
  have hO : dz_O G.1 dz_CL A s.heap [[(q_1, dzo 12 [va_rf fo, .ref ch])], [(ch, dzo 1 [va_rf fo, va_rf lo])]] _ _ := hO
  refine W.eq (g2 := F0 m 8 ls [.ref q_1]) rfl ?_
  exact dz_aret X hO rfl (Or.inl ⟨_, rfl⟩) (Or.inr ⟨_, rfl⟩) (⟨q_1, rfl, rfl⟩) (Nat.le_of_ble_eq_true rfl) (Nat.le_of_ble_eq_true rfl) dX2_iterator_8
set_option maxHeartbeats 4000000 in
set_option maxRecDepth 100000 in
theorem dz_X13_hasNext (l : Launch) (G : dz_G) (sz : Nat) (q : Nat) (ch : Nat) (fo : Option Nat)  : dz_M l G yX13_hasNext cX13_hasNext 1 (some FieldType.boolean) ({ frames := 20, cells := 0, slots := 0, locals := 300 } : Room) [.ref q] [[(q, dzo 12 [va_rf fo, .ref ch])]] sz (fun r w1 => r = some (.int (dz_sm fo)) ∧ w1 = [[(q, dzo 12 [va_rf fo, .ref ch])]]) (dz_np) := by
  cases fo with
  | none =>
    refine dz_start (by decide) (Nat.le_of_ble_eq_true rfl) ?_
    intro p e s m below meth c A ls X hO hsz hl
    have hl : lv_has ls 1 [(0, .ref q)] := hl
    refine lv_aload_n X.x X.b dX13_hasNext_0 rfl (lv_at hl 0 rfl) ?_
    refine dz_get (v := .null) X (hO.at1 0 rfl) in_X13 rfl 0 (by decide) q652 (Or.inl rfl) rfl dX13_hasNext_1 ?_
    refine lv_ifnullN (tgt := 11) X.x X.b dX13_hasNext_4 (by decide) ?_
    refine lv_iconst (v := 0) X.x X.b dX13_hasNext_11 (by decide) ?_
    exact dz_zret X hO rfl (rfl) (⟨by rfl, rfl⟩) (Nat.le_of_ble_eq_true rfl) (Nat.le_of_ble_eq_true rfl) dX13_hasNext_12
  | some fo =>
    refine dz_start (by decide) (Nat.le_of_ble_eq_true rfl) ?_
    intro p e s m below meth c A ls X hO hsz hl
    have hl : lv_has ls 1 [(0, .ref q)] := hl
    refine lv_aload_n X.x X.b dX13_hasNext_0 rfl (lv_at hl 0 rfl) ?_
    refine dz_get (v := .ref fo) X (hO.at1 0 rfl) in_X13 rfl 0 (by decide) q652 (Or.inl rfl) rfl dX13_hasNext_1 ?_
    refine lv_ifnull X.x X.b dX13_hasNext_4 ?_
    refine lv_iconst (v := 1) X.x X.b dX13_hasNext_7 (by decide) ?_
    refine lv_goto (tgt := 12) X.x X.b dX13_hasNext_8 (by decide) ?_
    exact dz_zret X hO rfl (rfl) (⟨by rfl, rfl⟩) (Nat.le_of_ble_eq_true rfl) (Nat.le_of_ble_eq_true rfl) dX13_hasNext_12
set_option maxHeartbeats 4000000 in
set_option maxRecDepth 100000 in
/-- next -/
theorem dz_X13_next (l : Launch) (G : dz_G) (sz : Nat) (q : Nat) (ch : Nat) (n : Nat) (la : Nat → Nat) (it : Nat → Option Nat) (nx : Nat → Option Nat) (k : Nat) (v : Nat) (hk : k < n) (hit : it k = some v) : dz_M l G yX13_next cX13_next 2 (some (FieldType.object "java/lang/Object")) ({ frames := 20, cells := 0, slots := 0, locals := 300 } : Room) [.ref q] [[(q, dzo 12 [.ref (la k), .ref ch])], dz_lk G n la it nx] sz (fun r w1 => r = some (.ref v) ∧ w1 = [[(q, dzo 12 [va_rf (nx k), .ref ch])], dz_lk G n la it nx]) (dz_np) := by
  refine dz_start (by decide) (Nat.le_of_ble_eq_true rfl) ?_
  intro p e s m below meth c A ls X hO hsz hl
  have hl : lv_has ls 2 [(0, .ref q)] := hl
  refine lv_aload_n X.x X.b dX13_next_0 rfl (lv_at hl 0 rfl) ?_
  refine dz_get (v := .ref (la k)) X (hO.at1 0 rfl) in_X13 rfl 0 (by decide) q652 (Or.inl rfl) rfl dX13_next_1 ?_
  refine dz_getN (v := va_rf (it k)) X (hO.pn 1 rfl hk) in_X6 rfl 0 (by decide) q1219 (Or.inl rfl) rfl dX13_next_4 ?_
  refine dz_rev (w := .ref v) (by rw [hit]; rfl) ?_
  refine lv_astore_n (lv' := [(1, .ref v), (0, .ref q)]) X.x X.b dX13_next_7 rfl hl (by decide) rfl (fun ls hl => ?_)
  refine lv_aload_n X.x X.b dX13_next_8 rfl (lv_at hl 1 rfl) ?_
  refine lv_aload_n X.x X.b dX13_next_9 rfl (lv_at hl 1 rfl) ?_
  refine dz_get (v := .ref (la k)) X (hO.at1 0 rfl) in_X13 rfl 0 (by decide) q652 (Or.inl rfl) rfl dX13_next_10 ?_
  refine dz_getN (v := va_rf (nx k)) X (hO.pn 1 rfl hk) in_X6 rfl 1 (by decide) q1221 (Or.inl rfl) rfl dX13_next_13 ?_
  refine dz_put (v := va_rf (nx k)) X hO 0 rfl in_X13 tyX13 tyX13_ok nmX13 rfl 0 (by decide) q652 (Or.inl rfl) (Or.inl rfl) (by cases (nx k) <;> rfl) (by cases (nx k) <;> rfl) (Nat.le_of_ble_eq_true rfl) dX13_next_16 (fun H locs hO => ?_)
  have hO : dz_O G.1 dz_CL A s.heap [[(q, dzo 12 [va_rf (nx k), .ref ch])], dz_lk G n la it nx] _ _ := hO
  refine lv_aload_n X.x X.b dX13_next_19 rfl (lv_at hl 0 rfl) ?_
  exact dz_aret X hO rfl (Or.inl ⟨_, rfl⟩) (Or.inr ⟨_, rfl⟩) (⟨rfl, rfl⟩) (Nat.le_of_ble_eq_true rfl) (Nat.le_of_ble_eq_true rfl) dX13_next_20
