set_option maxHeartbeats 4000000 in
set_option maxRecDepth 100000 in
/-- a builder is made -/
theorem dz_J8_init (l : Launch) (G : dz_G) (sz : Nat) (sb : Nat)  : dz_M l G yJ8_init cJ8_init 2 none ({ frames := 40, cells := 1, slots := 16, locals := 600 } : Room) [.ref sb, .int 16] [[(sb, dzo 21 [.null, .int 0, .int 0, .int 0])]] sz (fun r w1 => ∃ (ar9 : Nat), r = none ∧ w1 = [[(sb, dzo 21 [.ref ar9, .int 0, .int 0, .int 0])], [(ar9, dzB G 16 (fun _ => 0))]]) (dz_np) := by
  refine dz_start (by decide) (Nat.le_of_ble_eq_true rfl) ?_
  intro p e s m below meth c A ls X hO hsz hl
  have hl : lv_has ls 2 [(0, .ref sb), (1, .int 16)] := hl
  refine lv_aload_n X.x X.b dJ8_init_0 rfl (lv_at hl 0 rfl) ?_
  refine dz_objInit X hl q211 dJ8_init_1 (Nat.le_of_ble_eq_true rfl) (Nat.le_of_ble_eq_true rfl) (Nat.le_of_ble_eq_true rfl) ?_
  refine dz_gets (v := .int 1) X hO X.st.2.2.2.2.2.2.2.2.2.2.2.2.1 q212 (Or.inl rfl) dJ8_init_4 ?_
  refine lv_if_eq (tgt := 25) X.x X.b dJ8_init_7 (by decide) (fun c_1 => absurd c_1 (by decide)) (fun _ => ?_)
  refine lv_aload_n X.x X.b dJ8_init_10 rfl (lv_at hl 0 rfl) ?_
  refine lv_iload_n X.x X.b dJ8_init_11 rfl (lv_at hl 1 rfl) ?_
  refine dz_newaB X hO (j := 16) (by decide) (by decide) (by decide) (Nat.le_of_ble_eq_true rfl) (Nat.le_of_ble_eq_true rfl) dJ8_init_12 (fun q_2 H hO => ?_)
  have hO : dz_O G.1 dz_CL A s.heap [[(sb, dzo 21 [.null, .int 0, .int 0, .int 0])], [(q_2, dzB G 16 (fun _ => 0))]] _ _ := hO
  refine W.widen (k := 1) (n := 16) (Nat.le_of_ble_eq_true rfl) (Nat.le_of_ble_eq_true rfl) ?_
  refine dz_put (v := .ref q_2) X hO 0 rfl in_J9 tyJ9 tyJ9_ok nmJ9 rfl 0 (by decide) q221 (Or.inl rfl) (Or.inl rfl) rfl rfl (Nat.le_of_ble_eq_true rfl) dJ8_init_14 (fun H locs hO => ?_)
  have hO : dz_O G.1 dz_CL A s.heap [[(sb, dzo 21 [.ref q_2, .int 0, .int 0, .int 0])], [(q_2, dzB G 16 (fun _ => 0))]] _ _ := hO
  refine lv_aload_n X.x X.b dJ8_init_17 rfl (lv_at hl 0 rfl) ?_
  refine lv_iconst (v := 0) X.x X.b dJ8_init_18 (by decide) ?_
  refine dz_put (v := .int 0) X hO 0 rfl in_J9 tyJ9 tyJ9_ok nmJ9 rfl 1 (by decide) q222 (Or.inl rfl) (Or.inl rfl) rfl rfl (Nat.le_of_ble_eq_true rfl) dJ8_init_19 (fun H locs hO => ?_)
  have hO : dz_O G.1 dz_CL A s.heap [[(sb, dzo 21 [.ref q_2, .int 0, .int 0, .int 0])], [(q_2, dzB G 16 (fun _ => 0))]] _ _ := hO
  refine lv_goto (tgt := 38) X.x X.b dJ8_init_22 (by decide) ?_
  exact dz_vret X hO rfl (⟨q_2, rfl, rfl⟩) (Nat.le_of_ble_eq_true rfl) (Nat.le_of_ble_eq_true rfl) dJ8_init_38
set_option maxHeartbeats 4000000 in
set_option maxRecDepth 100000 in
/-- a builder is made -/
theorem dz_J9_init (l : Launch) (G : dz_G) (sz : Nat) (sb : Nat)  : dz_M l G yJ9_init cJ9_init 1 none ({ frames := 60, cells := 1, slots := 16, locals := 900 } : Room) [.ref sb] [[(sb, dzo 21 [.null, .int 0, .int 0, .int 0])]] sz (fun r w1 => ∃ (ar9 : Nat), r = none ∧ w1 = [[(sb, dzo 21 [.ref ar9, .int 0, .int 0, .int 0])], [(ar9, dzB G 16 (fun _ => 0))]]) (dz_np) := by
  refine dz_start (by decide) (Nat.le_of_ble_eq_true rfl) ?_
  intro p e s m below meth c A ls X hO hsz hl
  have hl : lv_has ls 1 [(0, .ref sb)] := hl
  refine lv_aload_n X.x X.b dJ9_init_0 rfl (lv_at hl 0 rfl) ?_
  refine lv_bipush (v := 16) X.x X.b dJ9_init_1 (by decide) ?_
  refine dz_I (ret1 := none) (n := 1) (k9 := 1) (n9 := 16) (As := [.int 16]) (rest := []) (wr := []) X hO hl (dz_J8_init l G _ sb ) q210 q57 q208 q209 rfl (by decide +kernel) ⟨Nat.le_of_ble_eq_true rfl, Nat.le_of_ble_eq_true rfl⟩ ⟨(Nat.le_of_ble_eq_true rfl), (Nat.le_of_ble_eq_true rfl), (Nat.le_of_ble_eq_true rfl), (Nat.le_of_ble_eq_true rfl)⟩ [0] [] rfl rfl rfl rfl rfl (Nat.le_of_ble_eq_true rfl) dJ9_init_3 (fun E w1 q9 ce9 H locs hpx hO hce hv9 hcl9 => hpx.elim) (fun r w1 H locs hpo hO => ?_)
  obtain ⟨ar9_1, rfl, rfl⟩ := hpo
  have hO : dz_O G.1 dz_CL A s.heap [[(sb, dzo 21 [.ref ar9_1, .int 0, .int 0, .int 0])], [(ar9_1, dzB G 16 (fun _ => 0))]] _ _ := hO
  refine W.eq (g2 := F0 m 6 ls []) rfl ?_
  exact dz_vret X hO rfl (⟨ar9_1, rfl, rfl⟩) (Nat.le_of_ble_eq_true rfl) (Nat.le_of_ble_eq_true rfl) dJ9_init_6
set_option maxHeartbeats 4000000 in
set_option maxRecDepth 100000 in
/-- isLatin1 -/
theorem dz_J8_isLatin1 (l : Launch) (G : dz_G) (sz : Nat) (sb : Nat) (ar : Nat) (n : Nat)  : dz_M l G yJ8_isLatin1 cJ8_isLatin1 1 (some FieldType.boolean) ({ frames := 20, cells := 0, slots := 0, locals := 300 } : Room) [.ref sb] [[(sb, dzo 21 [.ref ar, .int 0, .int 0, .int (nI n)])]] sz (fun r w1 => r = some (.int 1) ∧ w1 = [[(sb, dzo 21 [.ref ar, .int 0, .int 0, .int (nI n)])]]) (dz_np) := by
  refine dz_start (by decide) (Nat.le_of_ble_eq_true rfl) ?_
  intro p e s m below meth c A ls X hO hsz hl
  have hl : lv_has ls 1 [(0, .ref sb)] := hl
  refine dz_gets (v := .int 1) X hO X.st.2.2.2.2.2.2.2.2.2.2.2.2.1 q212 (Or.inl rfl) dJ8_isLatin1_0 ?_
  refine lv_if_eq (tgt := 17) X.x X.b dJ8_isLatin1_3 (by decide) (fun c_1 => absurd c_1 (by decide)) (fun _ => ?_)
  refine lv_aload_n X.x X.b dJ8_isLatin1_6 rfl (lv_at hl 0 rfl) ?_
  refine dz_get (v := .int 0) X (hO.at1 0 rfl) in_J9 rfl 1 (by decide) q222 (Or.inl rfl) rfl dJ8_isLatin1_7 ?_
  refine lv_if_ne (tgt := 17) X.x X.b dJ8_isLatin1_10 (by decide) (fun c_2 => absurd (by decide) c_2) (fun _ => ?_)
  refine lv_iconst (v := 1) X.x X.b dJ8_isLatin1_13 (by decide) ?_
  refine lv_goto (tgt := 18) X.x X.b dJ8_isLatin1_14 (by decide) ?_
  exact dz_zret X hO rfl (rfl) (⟨rfl, rfl⟩) (Nat.le_of_ble_eq_true rfl) (Nat.le_of_ble_eq_true rfl) dJ8_isLatin1_18
set_option maxHeartbeats 4000000 in
set_option maxRecDepth 100000 in
/-- getValue -/
theorem dz_J8_getValue (l : Launch) (G : dz_G) (sz : Nat) (sb : Nat) (ar : Nat) (n : Nat)  : dz_M l G yJ8_getValue cJ8_getValue 1 (some (FieldType.array FieldType.byte)) ({ frames := 20, cells := 0, slots := 0, locals := 300 } : Room) [.ref sb] [[(sb, dzo 21 [.ref ar, .int 0, .int 0, .int (nI n)])]] sz (fun r w1 => r = some (.ref ar) ∧ w1 = [[(sb, dzo 21 [.ref ar, .int 0, .int 0, .int (nI n)])]]) (dz_np) := by
  refine dz_start (by decide) (Nat.le_of_ble_eq_true rfl) ?_
  intro p e s m below meth c A ls X hO hsz hl
  have hl : lv_has ls 1 [(0, .ref sb)] := hl
  refine lv_aload_n X.x X.b dJ8_getValue_0 rfl (lv_at hl 0 rfl) ?_
  refine dz_get (v := .ref ar) X (hO.at1 0 rfl) in_J9 rfl 0 (by decide) q221 (Or.inl rfl) rfl dJ8_getValue_1 ?_
  exact dz_aret X hO rfl (Or.inr ⟨_, rfl⟩) (Or.inr ⟨_, rfl⟩) (⟨rfl, rfl⟩) (Nat.le_of_ble_eq_true rfl) (Nat.le_of_ble_eq_true rfl) dJ8_getValue_4
set_option maxHeartbeats 4000000 in
set_option maxRecDepth 100000 in
/-- length -/
theorem dz_J8_length (l : Launch) (G : dz_G) (sz : Nat) (sb : Nat) (ar : Nat) (n : Nat)  : dz_M l G yJ8_length cJ8_length 1 (some FieldType.int) ({ frames := 20, cells := 0, slots := 0, locals := 300 } : Room) [.ref sb] [[(sb, dzo 21 [.ref ar, .int 0, .int 0, .int (nI n)])]] sz (fun r w1 => r = some (.int (nI n)) ∧ w1 = [[(sb, dzo 21 [.ref ar, .int 0, .int 0, .int (nI n)])]]) (dz_np) := by
  refine dz_start (by decide) (Nat.le_of_ble_eq_true rfl) ?_
  intro p e s m below meth c A ls X hO hsz hl
  have hl : lv_has ls 1 [(0, .ref sb)] := hl
  refine lv_aload_n X.x X.b dJ8_length_0 rfl (lv_at hl 0 rfl) ?_
  refine dz_get (v := .int (nI n)) X (hO.at1 0 rfl) in_J9 rfl 3 (by decide) q224 (Or.inl rfl) rfl dJ8_length_1 ?_
  exact dz_iret X hO rfl (⟨rfl, rfl⟩) (Nat.le_of_ble_eq_true rfl) (Nat.le_of_ble_eq_true rfl) dJ8_length_4
set_option maxHeartbeats 4000000 in
set_option maxRecDepth 100000 in
/-- length -/
theorem dz_J9_length (l : Launch) (G : dz_G) (sz : Nat) (sb : Nat) (ar : Nat) (n : Nat)  : dz_M l G yJ9_length cJ9_length 1 (some FieldType.int) ({ frames := 40, cells := 0, slots := 0, locals := 600 } : Room) [.ref sb] [[(sb, dzo 21 [.ref ar, .int 0, .int 0, .int (nI n)])]] sz (fun r w1 => r = some (.int (nI n)) ∧ w1 = [[(sb, dzo 21 [.ref ar, .int 0, .int 0, .int (nI n)])]]) (dz_np) := by
  refine dz_start (by decide) (Nat.le_of_ble_eq_true rfl) ?_
  intro p e s m below meth c A ls X hO hsz hl
  have hl : lv_has ls 1 [(0, .ref sb)] := hl
  refine lv_aload_n X.x X.b dJ9_length_0 rfl (lv_at hl 0 rfl) ?_
  refine dz_SU (n := 0) (C := "java/lang/StringBuilder") (k9 := 0) (n9 := 0) (As := []) (rest := []) (wr := []) X hO hl ((X.K.1 21 _ rfl).2) (dz_J8_length l G _ sb ar n ) (va_cwSU 0 X.ts (dz_SU4 q405 q401 q233 q400 q57 q406) rfl rfl rfl (by decide +kernel) ⟨Nat.le_of_ble_eq_true rfl, Nat.le_of_ble_eq_true rfl⟩) ⟨(Nat.le_of_ble_eq_true rfl), (Nat.le_of_ble_eq_true rfl), (Nat.le_of_ble_eq_true rfl), (Nat.le_of_ble_eq_true rfl)⟩ [0] [] rfl rfl rfl (dz_rc X (hO.at1 0 rfl) (r := (RJ9, TJ9, 4)) rfl) rfl rfl (Nat.le_of_ble_eq_true rfl) dJ9_length_1 (fun E w1 q9 ce9 H locs hpx hO hce hv9 hcl9 => hpx.elim) (fun r w1 H locs hpo hO => ?_)
  obtain ⟨rfl, rfl⟩ := hpo
  have hO : dz_O G.1 dz_CL A s.heap [[(sb, dzo 21 [.ref ar, .int 0, .int 0, .int (nI n)])]] _ _ := hO
  refine W.eq (g2 := F0 m 4 ls [.int (nI n)]) rfl ?_
  exact dz_iret X hO rfl (⟨rfl, rfl⟩) (Nat.le_of_ble_eq_true rfl) (Nat.le_of_ble_eq_true rfl) dJ9_length_4
set_option maxHeartbeats 4000000 in
set_option maxRecDepth 100000 in
/-- canEncode -/
theorem dz_J16_canEncode (l : Launch) (G : dz_G) (sz : Nat) (ch : Int32) (hch : ¬ 255 < ch) : dz_M l G yJ16_canEncode cJ16_canEncode 1 (some FieldType.boolean) ({ frames := 20, cells := 0, slots := 0, locals := 300 } : Room) [.int ch] [] sz (fun r w1 => r = some (.int 1) ∧ w1 = []) (dz_np) := by
  refine dz_start (by decide) (Nat.le_of_ble_eq_true rfl) ?_
  intro p e s m below meth c A ls X hO hsz hl
  have hl : lv_has ls 1 [(0, .int ch)] := hl
  refine lv_iload_n X.x X.b dJ16_canEncode_0 rfl (lv_at hl 0 rfl) ?_
  refine lv_sipush (v := 255) X.x X.b dJ16_canEncode_1 (by decide) ?_
  refine lv_icmp_gt (tgt := 11) X.x X.b dJ16_canEncode_4 (by decide) (fun c_1 => absurd c_1 (hch)) (fun _ => ?_)
  refine lv_iconst (v := 1) X.x X.b dJ16_canEncode_7 (by decide) ?_
  refine lv_goto (tgt := 12) X.x X.b dJ16_canEncode_8 (by decide) ?_
  exact dz_zret X hO rfl (rfl) (⟨rfl, rfl⟩) (Nat.le_of_ble_eq_true rfl) (Nat.le_of_ble_eq_true rfl) dJ16_canEncode_12
set_option maxHeartbeats 4000000 in
set_option maxRecDepth 100000 in
/-- newCapacity -/
theorem dz_J8_newCapacity (l : Launch) (G : dz_G) (sz : Nat) (sb : Nat) (ar : Nat) (cap : Nat) (f : Nat → Int32) (n : Nat) (q : Nat) (hq : cap < q) (hq2 : q ≤ 121) : dz_M l G yJ8_newCapacity cJ8_newCapacity 6 (some FieldType.int) ({ frames := 40, cells := 0, slots := 0, locals := 600 } : Room) [.ref sb, .int (nI q)] [[(sb, dzo 21 [.ref ar, .int 0, .int 0, .int (nI n)])], [(ar, dzB G cap f)]] sz (fun r w1 => r = some (.int (nI (dz_gw cap q))) ∧ w1 = [[(sb, dzo 21 [.ref ar, .int 0, .int 0, .int (nI n)])], [(ar, dzB G cap f)]]) (dz_np) := by
  refine dz_start (by decide) (Nat.le_of_ble_eq_true rfl) ?_
  intro p e s m below meth c A ls X hO hsz hl
  have hl : lv_has ls 6 [(0, .ref sb), (1, .int (nI q))] := hl
  refine lv_aload_n X.x X.b dJ8_newCapacity_0 rfl (lv_at hl 0 rfl) ?_
  refine dz_get (v := .ref ar) X (hO.at1 0 rfl) in_J9 rfl 0 (by decide) q221 (Or.inl rfl) rfl dJ8_newCapacity_1 ?_
  refine dz_alen (v := nI cap) X (hO.at1 1 rfl) 4 rfl (by first | rfl | decide) dJ8_newCapacity_4 ?_
  refine lv_istore_n (lv' := [(2, .int (nI cap)), (0, .ref sb), (1, .int (nI q))]) X.x X.b dJ8_newCapacity_5 rfl hl (by decide) rfl (fun ls hl => ?_)
  refine lv_iload_n X.x X.b dJ8_newCapacity_6 rfl (lv_at hl 2 rfl) ?_
  refine lv_aload_n X.x X.b dJ8_newCapacity_7 rfl (lv_at hl 1 rfl) ?_
  refine dz_get (v := .int 0) X (hO.at1 0 rfl) in_J9 rfl 1 (by decide) q222 (Or.inl rfl) rfl dJ8_newCapacity_8 ?_
  refine lv_ishl X.x X.b dJ8_newCapacity_11 ?_
  refine dz_rei (y := nI q) (sb_shl0 _) ?_
  refine lv_istore_n (lv' := [(3, .int (nI q)), (2, .int (nI cap)), (0, .ref sb), (1, .int (nI q))]) X.x X.b dJ8_newCapacity_12 rfl hl (by decide) rfl (fun ls hl => ?_)
  refine lv_iload_n X.x X.b dJ8_newCapacity_13 rfl (lv_at hl 0 rfl) ?_
  refine lv_iload_n X.x X.b dJ8_newCapacity_14 rfl (lv_at hl 1 rfl) ?_
  refine lv_isub X.x X.b dJ8_newCapacity_15 ?_
  refine dz_rei (y := nI (q - cap)) (pk_sub (by omega)) ?_
  refine lv_istore (lv' := [(4, .int (nI (q - cap))), (3, .int (nI q)), (2, .int (nI cap)), (0, .ref sb), (1, .int (nI q))]) X.x X.b dJ8_newCapacity_16 hl (by decide) rfl (fun ls hl => ?_)
  refine lv_iload_n X.x X.b dJ8_newCapacity_18 rfl (lv_at hl 2 rfl) ?_
  refine lv_iload X.x X.b dJ8_newCapacity_19 (lv_at hl 0 rfl) ?_
  refine lv_iload_n X.x X.b dJ8_newCapacity_21 rfl (lv_at hl 2 rfl) ?_
  refine lv_iconst (v := 2) X.x X.b dJ8_newCapacity_22 (by decide) ?_
  refine lv_aload_n X.x X.b dJ8_newCapacity_23 rfl (lv_at hl 3 rfl) ?_
  refine dz_get (v := .int 0) X (hO.at1 0 rfl) in_J9 rfl 1 (by decide) q222 (Or.inl rfl) rfl dJ8_newCapacity_24 ?_
  refine lv_ishl X.x X.b dJ8_newCapacity_27 ?_
  refine dz_rei (y := 2) (sb_shl0 2) ?_
  refine lv_iadd X.x X.b dJ8_newCapacity_28 ?_
  refine dz_rei (y := nI (cap + 2)) (nI_add cap 2) ?_
  refine dz_S (n := 3) (k9 := 0) (n9 := 0) (As := [.int (nI cap), .int (nI (q - cap)), .int (nI (cap + 2))]) (rest := []) (wr := [[(sb, dzo 21 [.ref ar, .int 0, .int 0, .int (nI n)])], [(ar, dzB G cap f)]]) X hO hl (dz_J12_newLength l G _ cap (q - cap) (cap + 2) (by split <;> omega) (by omega)) (lw_S q255 q256 q61 q257) (by decide +kernel) ⟨Nat.le_of_ble_eq_true rfl, Nat.le_of_ble_eq_true rfl⟩ ⟨(Nat.le_of_ble_eq_true rfl), (Nat.le_of_ble_eq_true rfl), (Nat.le_of_ble_eq_true rfl), (Nat.le_of_ble_eq_true rfl)⟩ [] [0, 1] rfl rfl rfl rfl rfl (Nat.le_of_ble_eq_true rfl) dJ8_newCapacity_29 (fun E w1 q9 ce9 H locs hpx hO hce hv9 hcl9 => hpx.elim) (fun r w1 H locs hpo hO => ?_)
  obtain ⟨rfl, rfl⟩ := hpo
  have hO : dz_O G.1 dz_CL A s.heap [[(sb, dzo 21 [.ref ar, .int 0, .int 0, .int (nI n)])], [(ar, dzB G cap f)]] _ _ := hO
  refine W.eq (g2 := F0 m 32 ls [.int (nI (cap + (if (q - cap) < (cap + 2) then (cap + 2) else (q - cap))))]) rfl ?_
  have hgw := dz_gw_le hq hq2
  refine dz_rei (y := nI (dz_gw cap q)) (rfl) ?_
  refine lv_istore (lv' := [(5, .int (nI (dz_gw cap q))), (4, .int (nI (q - cap))), (3, .int (nI q)), (2, .int (nI cap)), (0, .ref sb), (1, .int (nI q))]) X.x X.b dJ8_newCapacity_32 hl (by decide) rfl (fun ls hl => ?_)
  refine lv_iload X.x X.b dJ8_newCapacity_34 (lv_at hl 0 rfl) ?_
  refine lv_ldc (v := 2147483647) X.x X.b X.own (X.ts _ q265) dJ8_newCapacity_36 ?_
  refine lv_icmp_ne (tgt := 51) X.x X.b dJ8_newCapacity_38 (by decide) (fun _ => ?_) (fun c_1 => absurd c_1 (fun z => by have h9 := (nI_eq (a := dz_gw cap q) (b := 2147483647) (by omega) (by decide)).mp z; omega))
  refine lv_iload X.x X.b dJ8_newCapacity_51 (lv_at hl 0 rfl) ?_
  refine lv_aload_n X.x X.b dJ8_newCapacity_53 rfl (lv_at hl 4 rfl) ?_
  refine dz_get (v := .int 0) X (hO.at1 0 rfl) in_J9 rfl 1 (by decide) q222 (Or.inl rfl) rfl dJ8_newCapacity_54 ?_
  refine lv_ishr X.x X.b dJ8_newCapacity_57 ?_
  refine dz_rei (y := nI (dz_gw cap q)) (sb_shr0 _) ?_
  exact dz_iret X hO rfl (⟨rfl, rfl⟩) (Nat.le_of_ble_eq_true rfl) (Nat.le_of_ble_eq_true rfl) dJ8_newCapacity_58
set_option maxHeartbeats 4000000 in
set_option maxRecDepth 100000 in
/-- copyOf: bytes -/
theorem dz_J14_copyOf (l : Launch) (G : dz_G) (sz : Nat) (ar : Nat) (cap : Nat) (f : Nat → Int32) (c2 : Nat) (hc : cap < c2) (hc2 : c2 ≤ 242) (hf : sb_Fit f) (hz : dz_zf cap f) : dz_M l G yJ14_copyOf cJ14_copyOf 3 (some (FieldType.array FieldType.byte)) ({ frames := 20, cells := 1, slots := 242, locals := 300 } : Room) [.ref ar, .int (nI c2)] [[(ar, dzB G cap f)]] sz (fun r w1 => ∃ (q9 : Nat), r = some (.ref q9) ∧ w1 = [[(ar, dzB G cap f)], [(q9, dzB G c2 f)]]) (dz_np) := by
  refine dz_start (by decide) (Nat.le_of_ble_eq_true rfl) ?_
  intro p e s m below meth c A ls X hO hsz hl
  have hl : lv_has ls 3 [(0, .ref ar), (1, .int (nI c2))] := hl
  refine lv_iload_n X.x X.b dJ14_copyOf_0 rfl (lv_at hl 1 rfl) ?_
  refine lv_aload_n X.x X.b dJ14_copyOf_1 rfl (lv_at hl 0 rfl) ?_
  refine dz_alen (v := nI cap) X (hO.at1 0 rfl) 4 rfl (by first | rfl | decide) dJ14_copyOf_2 ?_
  refine lv_icmp_ne (tgt := 14) X.x X.b dJ14_copyOf_3 (by decide) (fun _ => ?_) (fun c_1 => absurd c_1 (fun z => by have h9 := (nI_eq (a := c2) (b := cap) (by omega) (by omega)).mp z; omega))
  refine lv_iload_n X.x X.b dJ14_copyOf_14 rfl (lv_at hl 1 rfl) ?_
  refine dz_newaB X hO (j := c2) rfl (by omega) (dz_bytes (by omega) (by decide)) (Nat.le_of_ble_eq_true rfl) (by first | omega | (dsimp only; omega)) dJ14_copyOf_15 (fun q_2 H hO => ?_)
  have hO : dz_O G.1 dz_CL A s.heap [[(ar, dzB G cap f)], [(q_2, dzB G c2 (fun _ => 0))]] _ _ := hO
  refine W.widen (k := 1) (n := 242) (Nat.le_of_ble_eq_true rfl) (by first | omega | (dsimp only; omega)) ?_
  refine lv_astore_n (lv' := [(2, .ref q_2), (0, .ref ar), (1, .int (nI c2))]) X.x X.b dJ14_copyOf_17 rfl hl (by decide) rfl (fun ls hl => ?_)
  refine lv_aload_n X.x X.b dJ14_copyOf_18 rfl (lv_at hl 1 rfl) ?_
  refine lv_iconst (v := 0) X.x X.b dJ14_copyOf_19 (by decide) ?_
  refine lv_aload_n X.x X.b dJ14_copyOf_20 rfl (lv_at hl 0 rfl) ?_
  refine lv_iconst (v := 0) X.x X.b dJ14_copyOf_21 (by decide) ?_
  refine lv_aload_n X.x X.b dJ14_copyOf_22 rfl (lv_at hl 1 rfl) ?_
  refine dz_alen (v := nI cap) X (hO.at1 0 rfl) 4 rfl (by first | rfl | decide) dJ14_copyOf_23 ?_
  refine lv_iload_n X.x X.b dJ14_copyOf_24 rfl (lv_at hl 2 rfl) ?_
  refine dz_mmin X hl q276 (Nat.le_of_ble_eq_true rfl) (Nat.le_of_ble_eq_true rfl) (Nat.le_of_ble_eq_true rfl) (Nat.le_of_ble_eq_true rfl) (Nat.le_of_ble_eq_true rfl) dJ14_copyOf_25 ?_
  refine dz_rei (y := nI cap) (by unfold dz_min; rw [if_neg (Int32.not_lt.mpr ((nI_leI (by omega) (by omega)).mpr (Nat.le_of_lt hc)))]) ?_
  refine dz_copyB X hl q279 hO (i := 0) (j := 0) (k := cap) (by decide) (by decide) rfl (by omega) (by omega) ⟨by omega, by omega⟩ (fun x9 _ => hf _) (Nat.le_of_ble_eq_true rfl) (Nat.le_of_ble_eq_true rfl) (Nat.le_of_ble_eq_true rfl) dJ14_copyOf_28 (fun H locs hO => ?_)
  have hO : dz_O G.1 dz_CL A s.heap [[(ar, dzB G cap f)], [(q_2, dzB G c2 (va_cpy f (fun _ => 0) 0 0 cap))]] _ _ := hO
  refine lv_aload_n X.x X.b dJ14_copyOf_31 rfl (lv_at hl 0 rfl) ?_
  have hO := hO.cong 1 rfl (w1 := [(q_2, dzB G c2 f)]) (congrArg (fun z9 => [(q_2, dzB G c2 z9)]) (show f = (va_cpy f (fun _ => 0) 0 0 cap) from by exact (dz_cpy_z hz).symm))
  have hO : dz_O G.1 dz_CL A s.heap [[(ar, dzB G cap f)], [(q_2, dzB G c2 f)]] _ _ := hO
  exact dz_aret X hO rfl (Or.inr ⟨_, rfl⟩) (Or.inr ⟨_, rfl⟩) (⟨q_2, rfl, rfl⟩) (Nat.le_of_ble_eq_true rfl) (Nat.le_of_ble_eq_true rfl) dJ14_copyOf_32
set_option maxHeartbeats 4000000 in
set_option maxRecDepth 100000 in
/-- ensureCapacityInternal -/
theorem dz_J8_ensureCapacityInternal (l : Launch) (G : dz_G) (sz : Nat) (sb : Nat) (ar : Nat) (cap : Nat) (f : Nat → Int32) (n : Nat) (q : Nat) (hq : q ≤ 121) (hcap : cap ≤ 242) (hf : sb_Fit f) (hz : dz_zf cap f) : dz_M l G yJ8_ensureCapacityInternal cJ8_ensureCapacityInternal 3 none ({ frames := 80, cells := 1, slots := 242, locals := 1200 } : Room) [.ref sb, .int (nI q)] [[(sb, dzo 21 [.ref ar, .int 0, .int 0, .int (nI n)])], [(ar, dzB G cap f)]] sz (fun r w1 => ∃ (ar9 : Nat), ∃ (cap9 : Nat), r = none ∧ w1 = [[(sb, dzo 21 [.ref ar9, .int 0, .int 0, .int (nI n)])], [(ar9, dzB G cap9 f)]] ∧ q ≤ cap9 ∧ cap9 ≤ 242) (dz_np) := by
  refine dz_start (by decide) (Nat.le_of_ble_eq_true rfl) ?_
  intro p e s m below meth c A ls X hO hsz hl
  have hl : lv_has ls 3 [(0, .ref sb), (1, .int (nI q))] := hl
  refine lv_aload_n X.x X.b dJ8_ensureCapacityInternal_0 rfl (lv_at hl 0 rfl) ?_
  refine dz_get (v := .ref ar) X (hO.at1 0 rfl) in_J9 rfl 0 (by decide) q221 (Or.inl rfl) rfl dJ8_ensureCapacityInternal_1 ?_
  refine dz_alen (v := nI cap) X (hO.at1 1 rfl) 4 rfl (by first | rfl | decide) dJ8_ensureCapacityInternal_4 ?_
  refine lv_aload_n X.x X.b dJ8_ensureCapacityInternal_5 rfl (lv_at hl 0 rfl) ?_
  refine dz_get (v := .int 0) X (hO.at1 0 rfl) in_J9 rfl 1 (by decide) q222 (Or.inl rfl) rfl dJ8_ensureCapacityInternal_6 ?_
  refine lv_ishr X.x X.b dJ8_ensureCapacityInternal_9 ?_
  refine dz_rei (y := nI cap) (sb_shr0 _) ?_
  refine lv_istore_n (lv' := [(2, .int (nI cap)), (0, .ref sb), (1, .int (nI q))]) X.x X.b dJ8_ensureCapacityInternal_10 rfl hl (by decide) rfl (fun ls hl => ?_)
  refine lv_iload_n X.x X.b dJ8_ensureCapacityInternal_11 rfl (lv_at hl 2 rfl) ?_
  refine lv_iload_n X.x X.b dJ8_ensureCapacityInternal_12 rfl (lv_at hl 0 rfl) ?_
  refine lv_isub X.x X.b dJ8_ensureCapacityInternal_13 ?_
  refine lv_if_le (tgt := 38) X.x X.b dJ8_ensureCapacityInternal_14 (by decide) (fun c_1 => ?_) (fun c_1 => ?_)
  · have hqc := (dz_sle (by omega) (by omega)).mp c_1
    exact dz_vret X hO rfl (⟨ar, cap, rfl, rfl, by first | assumption | omega, by first | assumption | omega⟩) (Nat.le_of_ble_eq_true rfl) (Nat.le_of_ble_eq_true rfl) dJ8_ensureCapacityInternal_38
  · have hqc : cap < q := by have h9 := mt (dz_sle (q := q) (c := cap) (by omega) (by omega)).mpr c_1; omega
    have hgw := dz_gw_le hqc hq
    refine lv_aload_n X.x X.b dJ8_ensureCapacityInternal_17 rfl (lv_at hl 1 rfl) ?_
    refine lv_aload_n X.x X.b dJ8_ensureCapacityInternal_18 rfl (lv_at hl 1 rfl) ?_
    refine dz_get (v := .ref ar) X (hO.at1 0 rfl) in_J9 rfl 0 (by decide) q221 (Or.inl rfl) rfl dJ8_ensureCapacityInternal_19 ?_
    refine lv_aload_n X.x X.b dJ8_ensureCapacityInternal_22 rfl (lv_at hl 1 rfl) ?_
    refine lv_iload_n X.x X.b dJ8_ensureCapacityInternal_23 rfl (lv_at hl 2 rfl) ?_
    refine dz_U (n := 1) (C := "java/lang/StringBuilder") (owner := "java/lang/AbstractStringBuilder") (x := dz_m "java/lang/AbstractStringBuilder" "newCapacity" "(I)I") (k9 := 0) (n9 := 0) (As := [.int (nI q)]) (rest := [.ref ar, .ref sb]) (wr := []) X hO hl (dz_J8_newCapacity l G _ sb ar cap f n q (by first | assumption | omega | decide) (by first | assumption | omega | decide)) (dz_cuP 1 X.ts q251 q2539 q204 (va_Nw.use rfl (X.nw q252 rfl)) q253 q57 q254 (by decide +kernel) ⟨Nat.le_of_ble_eq_true rfl, Nat.le_of_ble_eq_true rfl⟩) ⟨(Nat.le_of_ble_eq_true rfl), (Nat.le_of_ble_eq_true rfl), (Nat.le_of_ble_eq_true rfl), (Nat.le_of_ble_eq_true rfl)⟩ [0, 1] [] rfl rfl rfl (dz_rc X (hO.at1 0 rfl) (r := (RJ9, TJ9, 4)) rfl) rfl rfl (Nat.le_of_ble_eq_true rfl) dJ8_ensureCapacityInternal_24 (fun E w1 q9 ce9 H locs hpx hO hce hv9 hcl9 => hpx.elim) (fun r w1 H locs hpo hO => ?_)
    obtain ⟨rfl, rfl⟩ := hpo
    have hO : dz_O G.1 dz_CL A s.heap [[(sb, dzo 21 [.ref ar, .int 0, .int 0, .int (nI n)])], [(ar, dzB G cap f)]] _ _ := hO
    refine W.eq (g2 := F0 m 27 ls [.int (nI (dz_gw cap q)), .ref ar, .ref sb]) rfl ?_
    refine lv_aload_n X.x X.b dJ8_ensureCapacityInternal_27 rfl (lv_at hl 1 rfl) ?_
    refine dz_get (v := .int 0) X (hO.at1 0 rfl) in_J9 rfl 1 (by decide) q222 (Or.inl rfl) rfl dJ8_ensureCapacityInternal_28 ?_
    refine lv_ishl X.x X.b dJ8_ensureCapacityInternal_31 ?_
    refine dz_rei (y := nI (dz_gw cap q)) (sb_shl0 _) ?_
    refine dz_S (n := 2) (k9 := 1) (n9 := 242) (As := [.ref ar, .int (nI (dz_gw cap q))]) (rest := [.ref sb]) (wr := [[(sb, dzo 21 [.ref ar, .int 0, .int 0, .int (nI n)])]]) X hO hl (dz_J14_copyOf l G _ ar cap f (dz_gw cap q) (by first | assumption | omega | decide) (by first | assumption | omega | decide) (by first | assumption | omega | decide) (by first | assumption | omega | decide)) (lw_S q266 q267 q63 q268) (by decide +kernel) ⟨Nat.le_of_ble_eq_true rfl, Nat.le_of_ble_eq_true rfl⟩ ⟨(Nat.le_of_ble_eq_true rfl), (Nat.le_of_ble_eq_true rfl), (Nat.le_of_ble_eq_true rfl), (Nat.le_of_ble_eq_true rfl)⟩ [1] [0] rfl rfl rfl rfl rfl (Nat.le_of_ble_eq_true rfl) dJ8_ensureCapacityInternal_32 (fun E w1 q9 ce9 H locs hpx hO hce hv9 hcl9 => hpx.elim) (fun r w1 H locs hpo hO => ?_)
    obtain ⟨q9_2, rfl, rfl⟩ := hpo
    have hO : dz_O G.1 dz_CL A s.heap [[(sb, dzo 21 [.ref ar, .int 0, .int 0, .int (nI n)])], [(ar, dzB G cap f)], [(q9_2, dzB G (dz_gw cap q) f)]] _ _ := hO
    refine W.eq (g2 := F0 m 35 ls [.ref q9_2, .ref sb]) rfl ?_
    refine dz_put (v := .ref q9_2) X hO 0 rfl in_J9 tyJ9 tyJ9_ok nmJ9 rfl 0 (by decide) q221 (Or.inl rfl) (Or.inl rfl) rfl rfl (Nat.le_of_ble_eq_true rfl) dJ8_ensureCapacityInternal_35 (fun H locs hO => ?_)
    have hO : dz_O G.1 dz_CL A s.heap [[(sb, dzo 21 [.ref q9_2, .int 0, .int 0, .int (nI n)])], [(ar, dzB G cap f)], [(q9_2, dzB G (dz_gw cap q) f)]] _ _ := hO
    have hO := hO.sel (v := [[(sb, dzo 21 [.ref q9_2, .int 0, .int 0, .int (nI n)])], [(q9_2, dzB G (dz_gw cap q) f)]]) [0, 2] rfl rfl
    exact dz_vret X hO rfl (⟨q9_2, (dz_gw cap q), rfl, rfl, by first | assumption | omega, by first | assumption | omega⟩) (Nat.le_of_ble_eq_true rfl) (Nat.le_of_ble_eq_true rfl) dJ8_ensureCapacityInternal_38
set_option maxHeartbeats 4000000 in
set_option maxRecDepth 100000 in
/-- append of a letter -/
theorem dz_J8_append_3 (l : Launch) (G : dz_G) (sz : Nat) (sb : Nat) (ar : Nat) (cap : Nat) (f : Nat → Int32) (n : Nat) (ch : Int32) (hn : n + 1 ≤ 121) (hnc : n ≤ cap) (hcap : cap ≤ 242) (hf : sb_Fit f) (hz : dz_zf n f) (hch : ¬ 255 < ch) : dz_M l G yJ8_append_3 cJ8_append_3 2 (some (FieldType.object "java/lang/AbstractStringBuilder")) ({ frames := 100, cells := 1, slots := 242, locals := 1500 } : Room) [.ref sb, .int ch] [[(sb, dzo 21 [.ref ar, .int 0, .int 0, .int (nI n)])], [(ar, dzB G cap f)]] sz (fun r w1 => ∃ (ar9 : Nat), ∃ (cap9 : Nat), r = some (.ref sb) ∧ w1 = [[(sb, dzo 21 [.ref ar9, .int 0, .int 0, .int (nI (n + 1))])], [(ar9, dzB G cap9 (dz_a1 f n ch))]] ∧ n + 1 ≤ cap9 ∧ cap9 ≤ 242) (dz_np) := by
  refine dz_start (by decide) (Nat.le_of_ble_eq_true rfl) ?_
  intro p e s m below meth c A ls X hO hsz hl
  have hl : lv_has ls 2 [(0, .ref sb), (1, .int ch)] := hl
  refine lv_aload_n X.x X.b dJ8_append_3_0 rfl (lv_at hl 0 rfl) ?_
  refine lv_aload_n X.x X.b dJ8_append_3_1 rfl (lv_at hl 0 rfl) ?_
  refine dz_get (v := .int (nI n)) X (hO.at1 0 rfl) in_J9 rfl 3 (by decide) q224 (Or.inl rfl) rfl dJ8_append_3_2 ?_
  refine lv_iconst (v := 1) X.x X.b dJ8_append_3_5 (by decide) ?_
  refine lv_iadd X.x X.b dJ8_append_3_6 ?_
  refine dz_rei (y := nI (n + 1)) (nI_add n 1) ?_
  refine dz_U (n := 1) (C := "java/lang/StringBuilder") (owner := "java/lang/AbstractStringBuilder") (x := dz_m "java/lang/AbstractStringBuilder" "ensureCapacityInternal" "(I)V") (k9 := 1) (n9 := 242) (As := [.int (nI (n + 1))]) (rest := []) (wr := []) X hO hl (dz_J8_ensureCapacityInternal l G _ sb ar cap f n (n + 1) (by first | assumption | omega | decide) (by first | assumption | omega | decide) (by first | assumption | omega | decide) (dz_zf_w hz hnc)) (dz_cuP 1 X.ts q247 q2538 q204 (va_Nw.use rfl (X.nw q248 rfl)) q249 q57 q250 (by decide +kernel) ⟨Nat.le_of_ble_eq_true rfl, Nat.le_of_ble_eq_true rfl⟩) ⟨(Nat.le_of_ble_eq_true rfl), (Nat.le_of_ble_eq_true rfl), (Nat.le_of_ble_eq_true rfl), (Nat.le_of_ble_eq_true rfl)⟩ [0, 1] [] rfl rfl rfl (dz_rc X (hO.at1 0 rfl) (r := (RJ9, TJ9, 4)) rfl) rfl rfl (Nat.le_of_ble_eq_true rfl) dJ8_append_3_7 (fun E w1 q9 ce9 H locs hpx hO hce hv9 hcl9 => hpx.elim) (fun r w1 H locs hpo hO => ?_)
  obtain ⟨ar9_1, cap9_2, rfl, rfl, hc1_3, hc2_4⟩ := hpo
  have hO : dz_O G.1 dz_CL A s.heap [[(sb, dzo 21 [.ref ar9_1, .int 0, .int 0, .int (nI n)])], [(ar9_1, dzB G cap9_2 f)]] _ _ := hO
  refine W.eq (g2 := F0 m 10 ls []) rfl ?_
  refine lv_aload_n X.x X.b dJ8_append_3_10 rfl (lv_at hl 0 rfl) ?_
  refine dz_U (n := 0) (C := "java/lang/StringBuilder") (owner := "java/lang/AbstractStringBuilder") (x := dz_m "java/lang/AbstractStringBuilder" "isLatin1" "()Z") (k9 := 1) (n9 := 242) (As := []) (rest := []) (wr := [[(ar9_1, dzB G cap9_2 f)]]) X hO hl (dz_J8_isLatin1 l G _ sb ar9_1 n ) (va_cwU 0 X.ts (dz_U4 q282 q284 q285 q283 q57 q286) rfl rfl rfl rfl (by decide +kernel) ⟨Nat.le_of_ble_eq_true rfl, Nat.le_of_ble_eq_true rfl⟩) ⟨(Nat.le_of_ble_eq_true rfl), (Nat.le_of_ble_eq_true rfl), (Nat.le_of_ble_eq_true rfl), (Nat.le_of_ble_eq_true rfl)⟩ [0] [1] rfl rfl rfl (dz_rc X (hO.at1 0 rfl) (r := (RJ9, TJ9, 4)) rfl) rfl rfl (Nat.le_of_ble_eq_true rfl) dJ8_append_3_11 (fun E w1 q9 ce9 H locs hpx hO hce hv9 hcl9 => hpx.elim) (fun r w1 H locs hpo hO => ?_)
  obtain ⟨rfl, rfl⟩ := hpo
  have hO : dz_O G.1 dz_CL A s.heap [[(ar9_1, dzB G cap9_2 f)], [(sb, dzo 21 [.ref ar9_1, .int 0, .int 0, .int (nI n)])]] _ _ := hO
  refine W.eq (g2 := F0 m 14 ls [.int 1]) rfl ?_
  refine lv_if_eq (tgt := 45) X.x X.b dJ8_append_3_14 (by decide) (fun c_5 => absurd c_5 (by decide)) (fun _ => ?_)
  refine lv_iload_n X.x X.b dJ8_append_3_17 rfl (lv_at hl 1 rfl) ?_
  refine dz_S (n := 1) (k9 := 1) (n9 := 242) (As := [.int ch]) (rest := []) (wr := [[(ar9_1, dzB G cap9_2 f)], [(sb, dzo 21 [.ref ar9_1, .int 0, .int 0, .int (nI n)])]]) X hO hl (dz_J16_canEncode l G _ ch (by first | assumption | omega | decide)) (lw_S q1036 q1037 q66 q1038) (by decide +kernel) ⟨Nat.le_of_ble_eq_true rfl, Nat.le_of_ble_eq_true rfl⟩ ⟨(Nat.le_of_ble_eq_true rfl), (Nat.le_of_ble_eq_true rfl), (Nat.le_of_ble_eq_true rfl), (Nat.le_of_ble_eq_true rfl)⟩ [] [0, 1] rfl rfl rfl rfl rfl (Nat.le_of_ble_eq_true rfl) dJ8_append_3_18 (fun E w1 q9 ce9 H locs hpx hO hce hv9 hcl9 => hpx.elim) (fun r w1 H locs hpo hO => ?_)
  obtain ⟨rfl, rfl⟩ := hpo
  have hO : dz_O G.1 dz_CL A s.heap [[(ar9_1, dzB G cap9_2 f)], [(sb, dzo 21 [.ref ar9_1, .int 0, .int 0, .int (nI n)])]] _ _ := hO
  refine W.eq (g2 := F0 m 21 ls [.int 1]) rfl ?_
  refine lv_if_eq (tgt := 45) X.x X.b dJ8_append_3_21 (by decide) (fun c_6 => absurd c_6 (by decide)) (fun _ => ?_)
  refine lv_aload_n X.x X.b dJ8_append_3_24 rfl (lv_at hl 0 rfl) ?_
  refine dz_get (v := .ref ar9_1) X (hO.at1 1 rfl) in_J9 rfl 0 (by decide) q221 (Or.inl rfl) rfl dJ8_append_3_25 ?_
  refine lv_aload_n X.x X.b dJ8_append_3_28 rfl (lv_at hl 0 rfl) ?_
  refine lv_dup X.x X.b dJ8_append_3_29 rfl ?_
  refine dz_get (v := .int (nI n)) X (hO.at1 1 rfl) in_J9 rfl 3 (by decide) q224 (Or.inl rfl) rfl dJ8_append_3_30 ?_
  refine lv_dup_x1 X.x X.b dJ8_append_3_33 rfl rfl ?_
  refine lv_iconst (v := 1) X.x X.b dJ8_append_3_34 (by decide) ?_
  refine lv_iadd X.x X.b dJ8_append_3_35 ?_
  refine dz_rei (y := nI (n + 1)) (nI_add n 1) ?_
  refine dz_put (v := .int (nI (n + 1))) X hO 1 rfl in_J9 tyJ9 tyJ9_ok nmJ9 rfl 3 (by decide) q224 (Or.inl rfl) (Or.inl rfl) rfl rfl (Nat.le_of_ble_eq_true rfl) dJ8_append_3_36 (fun H locs hO => ?_)
  have hO : dz_O G.1 dz_CL A s.heap [[(ar9_1, dzB G cap9_2 f)], [(sb, dzo 21 [.ref ar9_1, .int 0, .int 0, .int (nI (n + 1))])]] _ _ := hO
  refine lv_iload_n X.x X.b dJ8_append_3_39 rfl (lv_at hl 1 rfl) ?_
  refine lv_i2b (v := ch.toInt8.toInt32) X.x X.b dJ8_append_3_40 rfl ?_
  refine dz_bast X hO 0 rfl (j := n) rfl (by omega) (by omega) dJ8_append_3_41 (fun H locs hO => ?_)
  have hO : dz_O G.1 dz_CL A s.heap [[(ar9_1, dzB G cap9_2 (upd f n (vp_nar .byte ch.toInt8.toInt32)))], [(sb, dzo 21 [.ref ar9_1, .int 0, .int 0, .int (nI (n + 1))])]] _ _ := hO
  refine lv_goto (tgt := 75) X.x X.b dJ8_append_3_42 (by decide) ?_
  refine lv_aload_n X.x X.b dJ8_append_3_75 rfl (lv_at hl 0 rfl) ?_
  have hO : dz_O G.1 dz_CL A s.heap [[(ar9_1, dzB G cap9_2 (dz_a1 f n ch))], [(sb, dzo 21 [.ref ar9_1, .int 0, .int 0, .int (nI (n + 1))])]] _ _ := hO
  have hO := hO.sel (v := [[(sb, dzo 21 [.ref ar9_1, .int 0, .int 0, .int (nI (n + 1))])], [(ar9_1, dzB G cap9_2 (dz_a1 f n ch))]]) [1, 0] rfl rfl
  exact dz_aret X hO rfl (Or.inl ⟨_, rfl⟩) (Or.inr ⟨_, rfl⟩) (⟨ar9_1, cap9_2, rfl, rfl, by first | assumption | omega, by first | assumption | omega⟩) (Nat.le_of_ble_eq_true rfl) (Nat.le_of_ble_eq_true rfl) dJ8_append_3_76
set_option maxHeartbeats 4000000 in
set_option maxRecDepth 100000 in
/-- append of a letter -/
theorem dz_J9_append_3 (l : Launch) (G : dz_G) (sz : Nat) (sb : Nat) (ar : Nat) (cap : Nat) (f : Nat → Int32) (n : Nat) (ch : Int32) (hn : n + 1 ≤ 121) (hnc : n ≤ cap) (hcap : cap ≤ 242) (hf : sb_Fit f) (hz : dz_zf n f) (hch : ¬ 255 < ch) : dz_M l G yJ9_append_3 cJ9_append_3 2 (some (FieldType.object "java/lang/StringBuilder")) ({ frames := 120, cells := 1, slots := 242, locals := 1800 } : Room) [.ref sb, .int ch] [[(sb, dzo 21 [.ref ar, .int 0, .int 0, .int (nI n)])], [(ar, dzB G cap f)]] sz (fun r w1 => ∃ (ar9 : Nat), ∃ (cap9 : Nat), r = some (.ref sb) ∧ w1 = [[(sb, dzo 21 [.ref ar9, .int 0, .int 0, .int (nI (n + 1))])], [(ar9, dzB G cap9 (dz_a1 f n ch))]] ∧ n + 1 ≤ cap9 ∧ cap9 ≤ 242) (dz_np) := by
  refine dz_start (by decide) (Nat.le_of_ble_eq_true rfl) ?_
  intro p e s m below meth c A ls X hO hsz hl
  have hl : lv_has ls 2 [(0, .ref sb), (1, .int ch)] := hl
  refine lv_aload_n X.x X.b dJ9_append_3_0 rfl (lv_at hl 0 rfl) ?_
  refine lv_iload_n X.x X.b dJ9_append_3_1 rfl (lv_at hl 1 rfl) ?_
  refine dz_SU (n := 1) (C := "java/lang/StringBuilder") (k9 := 1) (n9 := 242) (As := [.int ch]) (rest := []) (wr := []) X hO hl ((X.K.1 21 _ rfl).2) (dz_J8_append_3 l G _ sb ar cap f n ch (by first | assumption | omega | decide) (by first | assumption | omega | decide) (by first | assumption | omega | decide) (by first | assumption | omega | decide) (by first | assumption | omega | decide) (by first | assumption | omega | decide)) (va_cwSU 1 X.ts (dz_SU4 q1033 q2545 q233 q1034 q57 q1035) rfl rfl rfl (by decide +kernel) ⟨Nat.le_of_ble_eq_true rfl, Nat.le_of_ble_eq_true rfl⟩) ⟨(Nat.le_of_ble_eq_true rfl), (Nat.le_of_ble_eq_true rfl), (Nat.le_of_ble_eq_true rfl), (Nat.le_of_ble_eq_true rfl)⟩ [0, 1] [] rfl rfl rfl (dz_rc X (hO.at1 0 rfl) (r := (RJ9, TJ9, 4)) rfl) rfl rfl (Nat.le_of_ble_eq_true rfl) dJ9_append_3_2 (fun E w1 q9 ce9 H locs hpx hO hce hv9 hcl9 => hpx.elim) (fun r w1 H locs hpo hO => ?_)
  obtain ⟨ar9_1, cap9_2, rfl, rfl, hc1_3, hc2_4⟩ := hpo
  have hO : dz_O G.1 dz_CL A s.heap [[(sb, dzo 21 [.ref ar9_1, .int 0, .int 0, .int (nI (n + 1))])], [(ar9_1, dzB G cap9_2 (dz_a1 f n ch))]] _ _ := hO
  refine W.eq (g2 := F0 m 5 ls [.ref sb]) rfl ?_
  refine lv_pop X.x X.b dJ9_append_3_5 rfl ?_
  refine lv_aload_n X.x X.b dJ9_append_3_6 rfl (lv_at hl 0 rfl) ?_
  exact dz_aret X hO rfl (Or.inl ⟨_, rfl⟩) (Or.inr ⟨_, rfl⟩) (⟨ar9_1, cap9_2, rfl, rfl, by first | assumption | omega, by first | assumption | omega⟩) (Nat.le_of_ble_eq_true rfl) (Nat.le_of_ble_eq_true rfl) dJ9_append_3_7
set_option maxHeartbeats 4000000 in
set_option maxRecDepth 100000 in
/-- stringSize -/
theorem dz_J17_stringSize_1 (l : Launch) (G : dz_G) (sz : Nat) (v : Nat) (hv : v < 10) : dz_M l G yJ17_stringSize cJ17_stringSize 4 (some FieldType.int) ({ frames := 20, cells := 0, slots := 0, locals := 300 } : Room) [.int (nI v)] [] sz (fun r w1 => r = some (.int 1) ∧ w1 = []) (dz_np) := by
  refine dz_start (by decide) (Nat.le_of_ble_eq_true rfl) ?_
  intro p e s m below meth c A ls X hO hsz hl
  have hl : lv_has ls 4 [(0, .int (nI v))] := hl
  refine lv_iconst (v := 1) X.x X.b dJ17_stringSize_0 (by decide) ?_
  refine lv_istore_n (lv' := [(1, .int 1), (0, .int (nI v))]) X.x X.b dJ17_stringSize_1 rfl hl (by decide) rfl (fun ls hl => ?_)
  refine lv_iload_n X.x X.b dJ17_stringSize_2 rfl (lv_at hl 1 rfl) ?_
  refine lv_if_lt (tgt := 11) X.x X.b dJ17_stringSize_3 (by decide) (fun c_1 => absurd c_1 (nI_pos (by omega))) (fun _ => ?_)
  refine lv_iconst (v := 0) X.x X.b dJ17_stringSize_6 (by decide) ?_
  refine lv_istore_n (lv' := [(1, .int 0), (0, .int (nI v))]) X.x X.b dJ17_stringSize_7 rfl hl (by decide) rfl (fun ls hl => ?_)
  refine lv_iload_n X.x X.b dJ17_stringSize_8 rfl (lv_at hl 1 rfl) ?_
  refine lv_ineg X.x X.b dJ17_stringSize_9 ?_
  refine lv_istore_n (lv' := [(0, .int (-(nI v))), (1, .int 0)]) X.x X.b dJ17_stringSize_10 rfl hl (by decide) rfl (fun ls hl => ?_)
  refine lv_bipush (v := (-10)) X.x X.b dJ17_stringSize_11 (by decide) ?_
  refine lv_istore_n (lv' := [(2, .int (-10)), (0, .int (-(nI v))), (1, .int 0)]) X.x X.b dJ17_stringSize_13 rfl hl (by decide) rfl (fun ls hl => ?_)
  refine lv_iconst (v := 1) X.x X.b dJ17_stringSize_14 (by decide) ?_
  refine lv_istore_n (lv' := [(3, .int 1), (2, .int (-10)), (0, .int (-(nI v))), (1, .int 0)]) X.x X.b dJ17_stringSize_15 rfl hl (by decide) rfl (fun ls hl => ?_)
  refine lv_iload_n X.x X.b dJ17_stringSize_16 rfl (lv_at hl 0 rfl) ?_
  refine lv_bipush (v := 10) X.x X.b dJ17_stringSize_17 (by decide) ?_
  refine lv_icmp_ge (tgt := 42) X.x X.b dJ17_stringSize_19 (by decide) (fun c_2 => absurd c_2 (by decide)) (fun _ => ?_)
  refine lv_iload_n X.x X.b dJ17_stringSize_22 rfl (lv_at hl 2 rfl) ?_
  refine lv_iload_n X.x X.b dJ17_stringSize_23 rfl (lv_at hl 1 rfl) ?_
  refine lv_icmp_le (tgt := 31) X.x X.b dJ17_stringSize_24 (by decide) (fun c_3 => absurd c_3 (Int32.not_le.mpr (dz_ng1 v hv))) (fun _ => ?_)
  refine lv_iload_n X.x X.b dJ17_stringSize_27 rfl (lv_at hl 0 rfl) ?_
  refine lv_iload_n X.x X.b dJ17_stringSize_28 rfl (lv_at hl 3 rfl) ?_
  refine lv_iadd X.x X.b dJ17_stringSize_29 ?_
  refine dz_rei (y := 1) (by decide) ?_
  exact dz_iret X hO rfl (⟨rfl, rfl⟩) (Nat.le_of_ble_eq_true rfl) (Nat.le_of_ble_eq_true rfl) dJ17_stringSize_30
set_option maxHeartbeats 4000000 in
set_option maxRecDepth 100000 in
/-- getChars -/
theorem dz_J17_getChars_1 (l : Launch) (G : dz_G) (sz : Nat) (ar : Nat) (cap : Nat) (f : Nat → Int32) (b : Nat) (v : Nat) (hv : v < 10) (hb : b + 1 ≤ cap) (hcap : cap ≤ 242) : dz_M l G yJ17_getChars cJ17_getChars 7 (some FieldType.int) ({ frames := 20, cells := 0, slots := 0, locals := 300 } : Room) [.int (nI v), .int (nI (b + 1)), .ref ar] [[(ar, dzB G cap f)]] sz (fun r w1 => r = some (.int (nI b)) ∧ w1 = [[(ar, dzB G cap (dz_dg f b v))]]) (dz_np) := by
  refine dz_start (by decide) (Nat.le_of_ble_eq_true rfl) ?_
  intro p e s m below meth c A ls X hO hsz hl
  have hl : lv_has ls 7 [(0, .int (nI v)), (1, .int (nI (b + 1))), (2, .ref ar)] := hl
  refine lv_iload_n X.x X.b dJ17_getChars_0 rfl (lv_at hl 1 rfl) ?_
  refine lv_istore (lv' := [(5, .int (nI (b + 1))), (0, .int (nI v)), (1, .int (nI (b + 1))), (2, .ref ar)]) X.x X.b dJ17_getChars_1 hl (by decide) rfl (fun ls hl => ?_)
  refine lv_iload_n X.x X.b dJ17_getChars_3 rfl (lv_at hl 1 rfl) ?_
  refine lv_if_ge (tgt := 11) X.x X.b dJ17_getChars_4 (by decide) (fun _ => ?_) (fun c_1 => absurd (nI_pos' (by omega)) c_1)
  refine lv_iconst (v := 0) X.x X.b dJ17_getChars_11 (by decide) ?_
  refine lv_istore (lv' := [(6, .int 0), (5, .int (nI (b + 1))), (0, .int (nI v)), (1, .int (nI (b + 1))), (2, .ref ar)]) X.x X.b dJ17_getChars_12 hl (by decide) rfl (fun ls hl => ?_)
  refine lv_iload X.x X.b dJ17_getChars_14 (lv_at hl 0 rfl) ?_
  refine lv_if_ne (tgt := 22) X.x X.b dJ17_getChars_16 (by decide) (fun c_2 => absurd (by decide) c_2) (fun _ => ?_)
  refine lv_iload_n X.x X.b dJ17_getChars_19 rfl (lv_at hl 2 rfl) ?_
  refine lv_ineg X.x X.b dJ17_getChars_20 ?_
  refine lv_istore_n (lv' := [(0, .int (-(nI v))), (6, .int 0), (5, .int (nI (b + 1))), (1, .int (nI (b + 1))), (2, .ref ar)]) X.x X.b dJ17_getChars_21 rfl hl (by decide) rfl (fun ls hl => ?_)
  refine lv_iload_n X.x X.b dJ17_getChars_22 rfl (lv_at hl 0 rfl) ?_
  refine lv_bipush (v := (-100)) X.x X.b dJ17_getChars_23 (by decide) ?_
  refine lv_icmp_gt (tgt := 72) X.x X.b dJ17_getChars_25 (by decide) (fun _ => ?_) (fun c_3 => absurd (dz_ng4 v (by omega)) c_3)
  refine lv_aload_n X.x X.b dJ17_getChars_72 rfl (lv_at hl 4 rfl) ?_
  refine lv_iinc (v := nI b) (lv' := [(5, .int (nI b)), (0, .int (-(nI v))), (6, .int 0), (1, .int (nI (b + 1))), (2, .ref ar)]) X.x X.b dJ17_getChars_73 hl (k := 2) rfl (pk_m1 b) (by decide) rfl (fun ls hl => ?_)
  refine lv_iload X.x X.b dJ17_getChars_76 (lv_at hl 0 rfl) ?_
  refine dz_gets (v := .ref (G.2.2.1 12)) X hO X.st.2.2.2.2.2.2.2.2.2.2.2.2.2.1 q369 (Or.inl rfl) dJ17_getChars_78 ?_
  refine lv_iload_n X.x X.b dJ17_getChars_81 rfl (lv_at hl 1 rfl) ?_
  refine lv_ineg X.x X.b dJ17_getChars_82 ?_
  refine dz_rei (y := nI v) (dz_ng6 v (by omega)) ?_
  refine dz_tb (v := .int (dz_ones.getD v 0)) X hO X.st.2.2.2.2.2.2.2.2.2.2.2.2.2.2.1 (j := v) rfl (by omega) (by decide) rfl dJ17_getChars_83 ?_
  refine dz_bast X hO 0 rfl (j := b) rfl (by omega) (by omega) dJ17_getChars_84 (fun H locs hO => ?_)
  have hO : dz_O G.1 dz_CL A s.heap [[(ar, dzB G cap (upd f b (vp_nar .byte (dz_ones.getD v 0))))]] _ _ := hO
  refine lv_iload_n X.x X.b dJ17_getChars_85 rfl (lv_at hl 1 rfl) ?_
  refine lv_bipush (v := (-9)) X.x X.b dJ17_getChars_86 (by decide) ?_
  refine lv_icmp_ge (tgt := 104) X.x X.b dJ17_getChars_88 (by decide) (fun _ => ?_) (fun c_4 => absurd (dz_ng7 v hv) c_4)
  refine lv_iload X.x X.b dJ17_getChars_104 (lv_at hl 2 rfl) ?_
  refine lv_if_eq (tgt := 118) X.x X.b dJ17_getChars_106 (by decide) (fun _ => ?_) (fun c_5 => absurd (by decide) c_5)
  refine lv_iload X.x X.b dJ17_getChars_118 (lv_at hl 0 rfl) ?_
  have hO := hO.cong 0 rfl (w1 := [(ar, dzB G cap (dz_dg f b v))]) (congrArg (fun z9 => [(ar, dzB G cap z9)]) (show (dz_dg f b v) = (upd f b (vp_nar .byte (dz_ones.getD v 0))) from by unfold dz_dg; rw [if_pos hv]; rfl))
  have hO : dz_O G.1 dz_CL A s.heap [[(ar, dzB G cap (dz_dg f b v))]] _ _ := hO
  exact dz_iret X hO rfl (⟨rfl, rfl⟩) (Nat.le_of_ble_eq_true rfl) (Nat.le_of_ble_eq_true rfl) dJ17_getChars_120
set_option maxHeartbeats 4000000 in
set_option maxRecDepth 100000 in
/-- stringSize -/
theorem dz_J17_stringSize_2 (l : Launch) (G : dz_G) (sz : Nat) (v : Nat) (hv : v < 100) (hv0 : 10 ≤ v) : dz_M l G yJ17_stringSize cJ17_stringSize 4 (some FieldType.int) ({ frames := 20, cells := 0, slots := 0, locals := 300 } : Room) [.int (nI v)] [] sz (fun r w1 => r = some (.int 2) ∧ w1 = []) (dz_np) := by
  refine dz_start (by decide) (Nat.le_of_ble_eq_true rfl) ?_
  intro p e s m below meth c A ls X hO hsz hl
  have hl : lv_has ls 4 [(0, .int (nI v))] := hl
  refine lv_iconst (v := 1) X.x X.b dJ17_stringSize_0 (by decide) ?_
  refine lv_istore_n (lv' := [(1, .int 1), (0, .int (nI v))]) X.x X.b dJ17_stringSize_1 rfl hl (by decide) rfl (fun ls hl => ?_)
  refine lv_iload_n X.x X.b dJ17_stringSize_2 rfl (lv_at hl 1 rfl) ?_
  refine lv_if_lt (tgt := 11) X.x X.b dJ17_stringSize_3 (by decide) (fun c_1 => absurd c_1 (nI_pos (by omega))) (fun _ => ?_)
  refine lv_iconst (v := 0) X.x X.b dJ17_stringSize_6 (by decide) ?_
  refine lv_istore_n (lv' := [(1, .int 0), (0, .int (nI v))]) X.x X.b dJ17_stringSize_7 rfl hl (by decide) rfl (fun ls hl => ?_)
  refine lv_iload_n X.x X.b dJ17_stringSize_8 rfl (lv_at hl 1 rfl) ?_
  refine lv_ineg X.x X.b dJ17_stringSize_9 ?_
  refine lv_istore_n (lv' := [(0, .int (-(nI v))), (1, .int 0)]) X.x X.b dJ17_stringSize_10 rfl hl (by decide) rfl (fun ls hl => ?_)
  refine lv_bipush (v := (-10)) X.x X.b dJ17_stringSize_11 (by decide) ?_
  refine lv_istore_n (lv' := [(2, .int (-10)), (0, .int (-(nI v))), (1, .int 0)]) X.x X.b dJ17_stringSize_13 rfl hl (by decide) rfl (fun ls hl => ?_)
  refine lv_iconst (v := 1) X.x X.b dJ17_stringSize_14 (by decide) ?_
  refine lv_istore_n (lv' := [(3, .int 1), (2, .int (-10)), (0, .int (-(nI v))), (1, .int 0)]) X.x X.b dJ17_stringSize_15 rfl hl (by decide) rfl (fun ls hl => ?_)
  refine lv_iload_n X.x X.b dJ17_stringSize_16 rfl (lv_at hl 0 rfl) ?_
  refine lv_bipush (v := 10) X.x X.b dJ17_stringSize_17 (by decide) ?_
  refine lv_icmp_ge (tgt := 42) X.x X.b dJ17_stringSize_19 (by decide) (fun c_2 => absurd c_2 (by decide)) (fun _ => ?_)
  refine lv_iload_n X.x X.b dJ17_stringSize_22 rfl (lv_at hl 2 rfl) ?_
  refine lv_iload_n X.x X.b dJ17_stringSize_23 rfl (lv_at hl 1 rfl) ?_
  refine lv_icmp_le (tgt := 31) X.x X.b dJ17_stringSize_24 (by decide) (fun _ => ?_) (fun c_3 => absurd ((dz_ng2 v hv hv0).1) c_3)
  refine lv_bipush (v := 10) X.x X.b dJ17_stringSize_31 (by decide) ?_
  refine lv_iload_n X.x X.b dJ17_stringSize_33 rfl (lv_at hl 1 rfl) ?_
  refine lv_imul X.x X.b dJ17_stringSize_34 ?_
  refine dz_rei (y := (-100)) (by decide) ?_
  refine lv_istore_n (lv' := [(2, .int (-100)), (3, .int 1), (0, .int (-(nI v))), (1, .int 0)]) X.x X.b dJ17_stringSize_35 rfl hl (by decide) rfl (fun ls hl => ?_)
  refine lv_iinc (v := 2) (lv' := [(3, .int 2), (2, .int (-100)), (0, .int (-(nI v))), (1, .int 0)]) X.x X.b dJ17_stringSize_36 hl (k := 1) rfl (by decide) (by decide) rfl (fun ls hl => ?_)
  refine lv_goto (tgt := 16) X.x X.b dJ17_stringSize_39 (by decide) ?_
  refine lv_iload_n X.x X.b dJ17_stringSize_16 rfl (lv_at hl 0 rfl) ?_
  refine lv_bipush (v := 10) X.x X.b dJ17_stringSize_17 (by decide) ?_
  refine lv_icmp_ge (tgt := 42) X.x X.b dJ17_stringSize_19 (by decide) (fun c_4 => absurd c_4 (by decide)) (fun _ => ?_)
  refine lv_iload_n X.x X.b dJ17_stringSize_22 rfl (lv_at hl 2 rfl) ?_
  refine lv_iload_n X.x X.b dJ17_stringSize_23 rfl (lv_at hl 1 rfl) ?_
  refine lv_icmp_le (tgt := 31) X.x X.b dJ17_stringSize_24 (by decide) (fun c_5 => absurd c_5 (Int32.not_le.mpr (dz_ng2 v hv hv0).2)) (fun _ => ?_)
  refine lv_iload_n X.x X.b dJ17_stringSize_27 rfl (lv_at hl 0 rfl) ?_
  refine lv_iload_n X.x X.b dJ17_stringSize_28 rfl (lv_at hl 3 rfl) ?_
  refine lv_iadd X.x X.b dJ17_stringSize_29 ?_
  refine dz_rei (y := 2) (by decide) ?_
  exact dz_iret X hO rfl (⟨rfl, rfl⟩) (Nat.le_of_ble_eq_true rfl) (Nat.le_of_ble_eq_true rfl) dJ17_stringSize_30
set_option maxHeartbeats 4000000 in
set_option maxRecDepth 100000 in
/-- getChars -/
theorem dz_J17_getChars_2 (l : Launch) (G : dz_G) (sz : Nat) (ar : Nat) (cap : Nat) (f : Nat → Int32) (b : Nat) (v : Nat) (hv : v < 100) (hv0 : 10 ≤ v) (hb : b + 2 ≤ cap) (hcap : cap ≤ 242) : dz_M l G yJ17_getChars cJ17_getChars 7 (some FieldType.int) ({ frames := 20, cells := 0, slots := 0, locals := 300 } : Room) [.int (nI v), .int (nI (b + 2)), .ref ar] [[(ar, dzB G cap f)]] sz (fun r w1 => r = some (.int (nI b)) ∧ w1 = [[(ar, dzB G cap (dz_dg f b v))]]) (dz_np) := by
  refine dz_start (by decide) (Nat.le_of_ble_eq_true rfl) ?_
  intro p e s m below meth c A ls X hO hsz hl
  have hl : lv_has ls 7 [(0, .int (nI v)), (1, .int (nI (b + 2))), (2, .ref ar)] := hl
  refine lv_iload_n X.x X.b dJ17_getChars_0 rfl (lv_at hl 1 rfl) ?_
  refine lv_istore (lv' := [(5, .int (nI (b + 2))), (0, .int (nI v)), (1, .int (nI (b + 2))), (2, .ref ar)]) X.x X.b dJ17_getChars_1 hl (by decide) rfl (fun ls hl => ?_)
  refine lv_iload_n X.x X.b dJ17_getChars_3 rfl (lv_at hl 1 rfl) ?_
  refine lv_if_ge (tgt := 11) X.x X.b dJ17_getChars_4 (by decide) (fun _ => ?_) (fun c_1 => absurd (nI_pos' (by omega)) c_1)
  refine lv_iconst (v := 0) X.x X.b dJ17_getChars_11 (by decide) ?_
  refine lv_istore (lv' := [(6, .int 0), (5, .int (nI (b + 2))), (0, .int (nI v)), (1, .int (nI (b + 2))), (2, .ref ar)]) X.x X.b dJ17_getChars_12 hl (by decide) rfl (fun ls hl => ?_)
  refine lv_iload X.x X.b dJ17_getChars_14 (lv_at hl 0 rfl) ?_
  refine lv_if_ne (tgt := 22) X.x X.b dJ17_getChars_16 (by decide) (fun c_2 => absurd (by decide) c_2) (fun _ => ?_)
  refine lv_iload_n X.x X.b dJ17_getChars_19 rfl (lv_at hl 2 rfl) ?_
  refine lv_ineg X.x X.b dJ17_getChars_20 ?_
  refine lv_istore_n (lv' := [(0, .int (-(nI v))), (6, .int 0), (5, .int (nI (b + 2))), (1, .int (nI (b + 2))), (2, .ref ar)]) X.x X.b dJ17_getChars_21 rfl hl (by decide) rfl (fun ls hl => ?_)
  refine lv_iload_n X.x X.b dJ17_getChars_22 rfl (lv_at hl 0 rfl) ?_
  refine lv_bipush (v := (-100)) X.x X.b dJ17_getChars_23 (by decide) ?_
  refine lv_icmp_gt (tgt := 72) X.x X.b dJ17_getChars_25 (by decide) (fun _ => ?_) (fun c_3 => absurd (dz_ng4 v (by omega)) c_3)
  refine lv_aload_n X.x X.b dJ17_getChars_72 rfl (lv_at hl 4 rfl) ?_
  refine lv_iinc (v := nI (b + 1)) (lv' := [(5, .int (nI (b + 1))), (0, .int (-(nI v))), (6, .int 0), (1, .int (nI (b + 2))), (2, .ref ar)]) X.x X.b dJ17_getChars_73 hl (k := 2) rfl (pk_m1 (b + 1)) (by decide) rfl (fun ls hl => ?_)
  refine lv_iload X.x X.b dJ17_getChars_76 (lv_at hl 0 rfl) ?_
  refine dz_gets (v := .ref (G.2.2.1 12)) X hO X.st.2.2.2.2.2.2.2.2.2.2.2.2.2.1 q369 (Or.inl rfl) dJ17_getChars_78 ?_
  refine lv_iload_n X.x X.b dJ17_getChars_81 rfl (lv_at hl 1 rfl) ?_
  refine lv_ineg X.x X.b dJ17_getChars_82 ?_
  refine dz_rei (y := nI v) (dz_ng6 v (by omega)) ?_
  refine dz_tb (v := .int (dz_ones.getD v 0)) X hO X.st.2.2.2.2.2.2.2.2.2.2.2.2.2.2.1 (j := v) rfl (by omega) (by decide) rfl dJ17_getChars_83 ?_
  refine dz_bast X hO 0 rfl (j := b + 1) rfl (by omega) (by omega) dJ17_getChars_84 (fun H locs hO => ?_)
  have hO : dz_O G.1 dz_CL A s.heap [[(ar, dzB G cap (upd f (b + 1) (vp_nar .byte (dz_ones.getD v 0))))]] _ _ := hO
  refine lv_iload_n X.x X.b dJ17_getChars_85 rfl (lv_at hl 1 rfl) ?_
  refine lv_bipush (v := (-9)) X.x X.b dJ17_getChars_86 (by decide) ?_
  refine lv_icmp_ge (tgt := 104) X.x X.b dJ17_getChars_88 (by decide) (fun c_4 => absurd c_4 (dz_ng8 v hv hv0)) (fun _ => ?_)
  refine lv_aload_n X.x X.b dJ17_getChars_91 rfl (lv_at hl 4 rfl) ?_
  refine lv_iinc (v := nI b) (lv' := [(5, .int (nI b)), (0, .int (-(nI v))), (6, .int 0), (1, .int (nI (b + 2))), (2, .ref ar)]) X.x X.b dJ17_getChars_92 hl (k := 0) rfl (pk_m1 b) (by decide) rfl (fun ls hl => ?_)
  refine lv_iload X.x X.b dJ17_getChars_95 (lv_at hl 0 rfl) ?_
  refine dz_gets (v := .ref (G.2.2.1 13)) X hO X.st.2.2.2.2.2.2.2.2.2.2.2.2.2.2.2.1 q371 (Or.inl rfl) dJ17_getChars_97 ?_
  refine lv_iload_n X.x X.b dJ17_getChars_100 rfl (lv_at hl 1 rfl) ?_
  refine lv_ineg X.x X.b dJ17_getChars_101 ?_
  refine dz_rei (y := nI v) (dz_ng6 v (by omega)) ?_
  refine dz_tb (v := .int (dz_tens.getD v 0)) X hO X.st.2.2.2.2.2.2.2.2.2.2.2.2.2.2.2.2.1 (j := v) rfl (by omega) (by decide) rfl dJ17_getChars_102 ?_
  refine dz_bast X hO 0 rfl (j := b) rfl (by omega) (by omega) dJ17_getChars_103 (fun H locs hO => ?_)
  have hO : dz_O G.1 dz_CL A s.heap [[(ar, dzB G cap (upd (upd f (b + 1) (vp_nar .byte (dz_ones.getD v 0))) b (vp_nar .byte (dz_tens.getD v 0))))]] _ _ := hO
  refine lv_iload X.x X.b dJ17_getChars_104 (lv_at hl 2 rfl) ?_
  refine lv_if_eq (tgt := 118) X.x X.b dJ17_getChars_106 (by decide) (fun _ => ?_) (fun c_5 => absurd (by decide) c_5)
  refine lv_iload X.x X.b dJ17_getChars_118 (lv_at hl 0 rfl) ?_
  have hO := hO.cong 0 rfl (w1 := [(ar, dzB G cap (dz_dg f b v))]) (congrArg (fun z9 => [(ar, dzB G cap z9)]) (show (dz_dg f b v) = (upd (upd f (b + 1) (vp_nar .byte (dz_ones.getD v 0))) b (vp_nar .byte (dz_tens.getD v 0))) from by unfold dz_dg; rw [if_neg (by omega), if_pos hv]; rfl))
  have hO : dz_O G.1 dz_CL A s.heap [[(ar, dzB G cap (dz_dg f b v))]] _ _ := hO
  exact dz_iret X hO rfl (⟨rfl, rfl⟩) (Nat.le_of_ble_eq_true rfl) (Nat.le_of_ble_eq_true rfl) dJ17_getChars_120
set_option maxHeartbeats 4000000 in
set_option maxRecDepth 100000 in
/-- stringSize -/
theorem dz_J17_stringSize_3 (l : Launch) (G : dz_G) (sz : Nat) (v : Nat) (hv : v < 301) (hv0 : 100 ≤ v) : dz_M l G yJ17_stringSize cJ17_stringSize 4 (some FieldType.int) ({ frames := 20, cells := 0, slots := 0, locals := 300 } : Room) [.int (nI v)] [] sz (fun r w1 => r = some (.int 3) ∧ w1 = []) (dz_np) := by
  refine dz_start (by decide) (Nat.le_of_ble_eq_true rfl) ?_
  intro p e s m below meth c A ls X hO hsz hl
  have hl : lv_has ls 4 [(0, .int (nI v))] := hl
  refine lv_iconst (v := 1) X.x X.b dJ17_stringSize_0 (by decide) ?_
  refine lv_istore_n (lv' := [(1, .int 1), (0, .int (nI v))]) X.x X.b dJ17_stringSize_1 rfl hl (by decide) rfl (fun ls hl => ?_)
  refine lv_iload_n X.x X.b dJ17_stringSize_2 rfl (lv_at hl 1 rfl) ?_
  refine lv_if_lt (tgt := 11) X.x X.b dJ17_stringSize_3 (by decide) (fun c_1 => absurd c_1 (nI_pos (by omega))) (fun _ => ?_)
  refine lv_iconst (v := 0) X.x X.b dJ17_stringSize_6 (by decide) ?_
  refine lv_istore_n (lv' := [(1, .int 0), (0, .int (nI v))]) X.x X.b dJ17_stringSize_7 rfl hl (by decide) rfl (fun ls hl => ?_)
  refine lv_iload_n X.x X.b dJ17_stringSize_8 rfl (lv_at hl 1 rfl) ?_
  refine lv_ineg X.x X.b dJ17_stringSize_9 ?_
  refine lv_istore_n (lv' := [(0, .int (-(nI v))), (1, .int 0)]) X.x X.b dJ17_stringSize_10 rfl hl (by decide) rfl (fun ls hl => ?_)
  refine lv_bipush (v := (-10)) X.x X.b dJ17_stringSize_11 (by decide) ?_
  refine lv_istore_n (lv' := [(2, .int (-10)), (0, .int (-(nI v))), (1, .int 0)]) X.x X.b dJ17_stringSize_13 rfl hl (by decide) rfl (fun ls hl => ?_)
  refine lv_iconst (v := 1) X.x X.b dJ17_stringSize_14 (by decide) ?_
  refine lv_istore_n (lv' := [(3, .int 1), (2, .int (-10)), (0, .int (-(nI v))), (1, .int 0)]) X.x X.b dJ17_stringSize_15 rfl hl (by decide) rfl (fun ls hl => ?_)
  refine lv_iload_n X.x X.b dJ17_stringSize_16 rfl (lv_at hl 0 rfl) ?_
  refine lv_bipush (v := 10) X.x X.b dJ17_stringSize_17 (by decide) ?_
  refine lv_icmp_ge (tgt := 42) X.x X.b dJ17_stringSize_19 (by decide) (fun c_2 => absurd c_2 (by decide)) (fun _ => ?_)
  refine lv_iload_n X.x X.b dJ17_stringSize_22 rfl (lv_at hl 2 rfl) ?_
  refine lv_iload_n X.x X.b dJ17_stringSize_23 rfl (lv_at hl 1 rfl) ?_
  refine lv_icmp_le (tgt := 31) X.x X.b dJ17_stringSize_24 (by decide) (fun _ => ?_) (fun c_3 => absurd ((dz_ng3 v hv hv0).1) c_3)
  refine lv_bipush (v := 10) X.x X.b dJ17_stringSize_31 (by decide) ?_
  refine lv_iload_n X.x X.b dJ17_stringSize_33 rfl (lv_at hl 1 rfl) ?_
  refine lv_imul X.x X.b dJ17_stringSize_34 ?_
  refine dz_rei (y := (-100)) (by decide) ?_
  refine lv_istore_n (lv' := [(2, .int (-100)), (3, .int 1), (0, .int (-(nI v))), (1, .int 0)]) X.x X.b dJ17_stringSize_35 rfl hl (by decide) rfl (fun ls hl => ?_)
  refine lv_iinc (v := 2) (lv' := [(3, .int 2), (2, .int (-100)), (0, .int (-(nI v))), (1, .int 0)]) X.x X.b dJ17_stringSize_36 hl (k := 1) rfl (by decide) (by decide) rfl (fun ls hl => ?_)
  refine lv_goto (tgt := 16) X.x X.b dJ17_stringSize_39 (by decide) ?_
  refine lv_iload_n X.x X.b dJ17_stringSize_16 rfl (lv_at hl 0 rfl) ?_
  refine lv_bipush (v := 10) X.x X.b dJ17_stringSize_17 (by decide) ?_
  refine lv_icmp_ge (tgt := 42) X.x X.b dJ17_stringSize_19 (by decide) (fun c_4 => absurd c_4 (by decide)) (fun _ => ?_)
  refine lv_iload_n X.x X.b dJ17_stringSize_22 rfl (lv_at hl 2 rfl) ?_
  refine lv_iload_n X.x X.b dJ17_stringSize_23 rfl (lv_at hl 1 rfl) ?_
  refine lv_icmp_le (tgt := 31) X.x X.b dJ17_stringSize_24 (by decide) (fun _ => ?_) (fun c_5 => absurd ((dz_ng3 v hv hv0).2.1) c_5)
  refine lv_bipush (v := 10) X.x X.b dJ17_stringSize_31 (by decide) ?_
  refine lv_iload_n X.x X.b dJ17_stringSize_33 rfl (lv_at hl 1 rfl) ?_
  refine lv_imul X.x X.b dJ17_stringSize_34 ?_
  refine dz_rei (y := (-1000)) (by decide) ?_
  refine lv_istore_n (lv' := [(2, .int (-1000)), (3, .int 2), (0, .int (-(nI v))), (1, .int 0)]) X.x X.b dJ17_stringSize_35 rfl hl (by decide) rfl (fun ls hl => ?_)
  refine lv_iinc (v := 3) (lv' := [(3, .int 3), (2, .int (-1000)), (0, .int (-(nI v))), (1, .int 0)]) X.x X.b dJ17_stringSize_36 hl (k := 1) rfl (by decide) (by decide) rfl (fun ls hl => ?_)
  refine lv_goto (tgt := 16) X.x X.b dJ17_stringSize_39 (by decide) ?_
  refine lv_iload_n X.x X.b dJ17_stringSize_16 rfl (lv_at hl 0 rfl) ?_
  refine lv_bipush (v := 10) X.x X.b dJ17_stringSize_17 (by decide) ?_
  refine lv_icmp_ge (tgt := 42) X.x X.b dJ17_stringSize_19 (by decide) (fun c_6 => absurd c_6 (by decide)) (fun _ => ?_)
  refine lv_iload_n X.x X.b dJ17_stringSize_22 rfl (lv_at hl 2 rfl) ?_
  refine lv_iload_n X.x X.b dJ17_stringSize_23 rfl (lv_at hl 1 rfl) ?_
  refine lv_icmp_le (tgt := 31) X.x X.b dJ17_stringSize_24 (by decide) (fun c_7 => absurd c_7 (Int32.not_le.mpr (dz_ng3 v hv hv0).2.2)) (fun _ => ?_)
  refine lv_iload_n X.x X.b dJ17_stringSize_27 rfl (lv_at hl 0 rfl) ?_
  refine lv_iload_n X.x X.b dJ17_stringSize_28 rfl (lv_at hl 3 rfl) ?_
  refine lv_iadd X.x X.b dJ17_stringSize_29 ?_
  refine dz_rei (y := 3) (by decide) ?_
  exact dz_iret X hO rfl (⟨rfl, rfl⟩) (Nat.le_of_ble_eq_true rfl) (Nat.le_of_ble_eq_true rfl) dJ17_stringSize_30
set_option maxHeartbeats 4000000 in
set_option maxRecDepth 100000 in
/-- getChars -/
theorem dz_J17_getChars_3 (l : Launch) (G : dz_G) (sz : Nat) (ar : Nat) (cap : Nat) (f : Nat → Int32) (b : Nat) (v : Nat) (hv : v < 301) (hv0 : 100 ≤ v) (hb : b + 3 ≤ cap) (hcap : cap ≤ 242) : dz_M l G yJ17_getChars cJ17_getChars 7 (some FieldType.int) ({ frames := 20, cells := 0, slots := 0, locals := 300 } : Room) [.int (nI v), .int (nI (b + 3)), .ref ar] [[(ar, dzB G cap f)]] sz (fun r w1 => r = some (.int (nI b)) ∧ w1 = [[(ar, dzB G cap (dz_dg f b v))]]) (dz_np) := by
  refine dz_start (by decide) (Nat.le_of_ble_eq_true rfl) ?_
  intro p e s m below meth c A ls X hO hsz hl
  have hl : lv_has ls 7 [(0, .int (nI v)), (1, .int (nI (b + 3))), (2, .ref ar)] := hl
  refine lv_iload_n X.x X.b dJ17_getChars_0 rfl (lv_at hl 1 rfl) ?_
  refine lv_istore (lv' := [(5, .int (nI (b + 3))), (0, .int (nI v)), (1, .int (nI (b + 3))), (2, .ref ar)]) X.x X.b dJ17_getChars_1 hl (by decide) rfl (fun ls hl => ?_)
  refine lv_iload_n X.x X.b dJ17_getChars_3 rfl (lv_at hl 1 rfl) ?_
  refine lv_if_ge (tgt := 11) X.x X.b dJ17_getChars_4 (by decide) (fun _ => ?_) (fun c_1 => absurd (nI_pos' (by omega)) c_1)
  refine lv_iconst (v := 0) X.x X.b dJ17_getChars_11 (by decide) ?_
  refine lv_istore (lv' := [(6, .int 0), (5, .int (nI (b + 3))), (0, .int (nI v)), (1, .int (nI (b + 3))), (2, .ref ar)]) X.x X.b dJ17_getChars_12 hl (by decide) rfl (fun ls hl => ?_)
  refine lv_iload X.x X.b dJ17_getChars_14 (lv_at hl 0 rfl) ?_
  refine lv_if_ne (tgt := 22) X.x X.b dJ17_getChars_16 (by decide) (fun c_2 => absurd (by decide) c_2) (fun _ => ?_)
  refine lv_iload_n X.x X.b dJ17_getChars_19 rfl (lv_at hl 2 rfl) ?_
  refine lv_ineg X.x X.b dJ17_getChars_20 ?_
  refine lv_istore_n (lv' := [(0, .int (-(nI v))), (6, .int 0), (5, .int (nI (b + 3))), (1, .int (nI (b + 3))), (2, .ref ar)]) X.x X.b dJ17_getChars_21 rfl hl (by decide) rfl (fun ls hl => ?_)
  refine lv_iload_n X.x X.b dJ17_getChars_22 rfl (lv_at hl 0 rfl) ?_
  refine lv_bipush (v := (-100)) X.x X.b dJ17_getChars_23 (by decide) ?_
  refine lv_icmp_gt (tgt := 72) X.x X.b dJ17_getChars_25 (by decide) (fun c_3 => absurd c_3 (Int32.not_lt.mpr (dz_ng3 v hv hv0).2.1)) (fun _ => ?_)
  refine lv_iload_n X.x X.b dJ17_getChars_28 rfl (lv_at hl 0 rfl) ?_
  refine lv_bipush (v := 100) X.x X.b dJ17_getChars_29 (by decide) ?_
  refine lv_idiv X.x X.b dJ17_getChars_31 (by decide) ?_
  refine dz_rei (y := (-(nI (v / 100)))) ((dz_ng5 v hv).1) ?_
  refine lv_istore_n (lv' := [(3, .int (-(nI (v / 100)))), (0, .int (-(nI v))), (6, .int 0), (5, .int (nI (b + 3))), (1, .int (nI (b + 3))), (2, .ref ar)]) X.x X.b dJ17_getChars_32 rfl hl (by decide) rfl (fun ls hl => ?_)
  refine lv_iload_n X.x X.b dJ17_getChars_33 rfl (lv_at hl 0 rfl) ?_
  refine lv_bipush (v := 100) X.x X.b dJ17_getChars_34 (by decide) ?_
  refine lv_imul X.x X.b dJ17_getChars_36 ?_
  refine lv_iload_n X.x X.b dJ17_getChars_37 rfl (lv_at hl 1 rfl) ?_
  refine lv_isub X.x X.b dJ17_getChars_38 ?_
  refine dz_rei (y := nI (v % 100)) ((dz_ng5 v hv).2.1) ?_
  refine lv_istore (lv' := [(4, .int (nI (v % 100))), (3, .int (-(nI (v / 100)))), (0, .int (-(nI v))), (6, .int 0), (5, .int (nI (b + 3))), (1, .int (nI (b + 3))), (2, .ref ar)]) X.x X.b dJ17_getChars_39 hl (by decide) rfl (fun ls hl => ?_)
  refine lv_iload_n X.x X.b dJ17_getChars_41 rfl (lv_at hl 1 rfl) ?_
  refine lv_istore_n (lv' := [(0, .int (-(nI (v / 100)))), (4, .int (nI (v % 100))), (3, .int (-(nI (v / 100)))), (6, .int 0), (5, .int (nI (b + 3))), (1, .int (nI (b + 3))), (2, .ref ar)]) X.x X.b dJ17_getChars_42 rfl hl (by decide) rfl (fun ls hl => ?_)
  refine lv_aload_n X.x X.b dJ17_getChars_43 rfl (lv_at hl 6 rfl) ?_
  refine lv_iinc (v := nI (b + 2)) (lv' := [(5, .int (nI (b + 2))), (0, .int (-(nI (v / 100)))), (4, .int (nI (v % 100))), (3, .int (-(nI (v / 100)))), (6, .int 0), (1, .int (nI (b + 3))), (2, .ref ar)]) X.x X.b dJ17_getChars_44 hl (k := 4) rfl (pk_m1 (b + 2)) (by decide) rfl (fun ls hl => ?_)
  refine lv_iload X.x X.b dJ17_getChars_47 (lv_at hl 0 rfl) ?_
  refine dz_gets (v := .ref (G.2.2.1 12)) X hO X.st.2.2.2.2.2.2.2.2.2.2.2.2.2.1 q369 (Or.inl rfl) dJ17_getChars_49 ?_
  refine lv_iload X.x X.b dJ17_getChars_52 (lv_at hl 2 rfl) ?_
  refine dz_tb (v := .int (dz_ones.getD (v % 100) 0)) X hO X.st.2.2.2.2.2.2.2.2.2.2.2.2.2.2.1 (j := v % 100) rfl (by omega) (by decide) rfl dJ17_getChars_54 ?_
  refine dz_bast X hO 0 rfl (j := b + 2) rfl (by omega) (by omega) dJ17_getChars_55 (fun H locs hO => ?_)
  have hO : dz_O G.1 dz_CL A s.heap [[(ar, dzB G cap (upd f (b + 2) (vp_nar .byte (dz_ones.getD (v % 100) 0))))]] _ _ := hO
  refine lv_aload_n X.x X.b dJ17_getChars_56 rfl (lv_at hl 6 rfl) ?_
  refine lv_iinc (v := nI (b + 1)) (lv' := [(5, .int (nI (b + 1))), (0, .int (-(nI (v / 100)))), (4, .int (nI (v % 100))), (3, .int (-(nI (v / 100)))), (6, .int 0), (1, .int (nI (b + 3))), (2, .ref ar)]) X.x X.b dJ17_getChars_57 hl (k := 0) rfl (pk_m1 (b + 1)) (by decide) rfl (fun ls hl => ?_)
  refine lv_iload X.x X.b dJ17_getChars_60 (lv_at hl 0 rfl) ?_
  refine dz_gets (v := .ref (G.2.2.1 13)) X hO X.st.2.2.2.2.2.2.2.2.2.2.2.2.2.2.2.1 q371 (Or.inl rfl) dJ17_getChars_62 ?_
  refine lv_iload X.x X.b dJ17_getChars_65 (lv_at hl 2 rfl) ?_
  refine dz_tb (v := .int (dz_tens.getD (v % 100) 0)) X hO X.st.2.2.2.2.2.2.2.2.2.2.2.2.2.2.2.2.1 (j := v % 100) rfl (by omega) (by decide) rfl dJ17_getChars_67 ?_
  refine dz_bast X hO 0 rfl (j := b + 1) rfl (by omega) (by omega) dJ17_getChars_68 (fun H locs hO => ?_)
  have hO : dz_O G.1 dz_CL A s.heap [[(ar, dzB G cap (upd (upd f (b + 2) (vp_nar .byte (dz_ones.getD (v % 100) 0))) (b + 1) (vp_nar .byte (dz_tens.getD (v % 100) 0))))]] _ _ := hO
  refine lv_goto (tgt := 22) X.x X.b dJ17_getChars_69 (by decide) ?_
  refine lv_iload_n X.x X.b dJ17_getChars_22 rfl (lv_at hl 1 rfl) ?_
  refine lv_bipush (v := (-100)) X.x X.b dJ17_getChars_23 (by decide) ?_
  refine lv_icmp_gt (tgt := 72) X.x X.b dJ17_getChars_25 (by decide) (fun _ => ?_) (fun c_4 => absurd ((dz_ng5 v hv).2.2.2.1) c_4)
  refine lv_aload_n X.x X.b dJ17_getChars_72 rfl (lv_at hl 6 rfl) ?_
  refine lv_iinc (v := nI b) (lv' := [(5, .int (nI b)), (0, .int (-(nI (v / 100)))), (4, .int (nI (v % 100))), (3, .int (-(nI (v / 100)))), (6, .int 0), (1, .int (nI (b + 3))), (2, .ref ar)]) X.x X.b dJ17_getChars_73 hl (k := 0) rfl (pk_m1 b) (by decide) rfl (fun ls hl => ?_)
  refine lv_iload X.x X.b dJ17_getChars_76 (lv_at hl 0 rfl) ?_
  refine dz_gets (v := .ref (G.2.2.1 12)) X hO X.st.2.2.2.2.2.2.2.2.2.2.2.2.2.1 q369 (Or.inl rfl) dJ17_getChars_78 ?_
  refine lv_iload_n X.x X.b dJ17_getChars_81 rfl (lv_at hl 1 rfl) ?_
  refine lv_ineg X.x X.b dJ17_getChars_82 ?_
  refine dz_rei (y := nI (v / 100)) ((dz_ng5 v hv).2.2.1) ?_
  refine dz_tb (v := .int (dz_ones.getD (v / 100) 0)) X hO X.st.2.2.2.2.2.2.2.2.2.2.2.2.2.2.1 (j := v / 100) rfl (by omega) (by decide) rfl dJ17_getChars_83 ?_
  refine dz_bast X hO 0 rfl (j := b) rfl (by omega) (by omega) dJ17_getChars_84 (fun H locs hO => ?_)
  have hO : dz_O G.1 dz_CL A s.heap [[(ar, dzB G cap (upd (upd (upd f (b + 2) (vp_nar .byte (dz_ones.getD (v % 100) 0))) (b + 1) (vp_nar .byte (dz_tens.getD (v % 100) 0))) b (vp_nar .byte (dz_ones.getD (v / 100) 0))))]] _ _ := hO
  refine lv_iload_n X.x X.b dJ17_getChars_85 rfl (lv_at hl 1 rfl) ?_
  refine lv_bipush (v := (-9)) X.x X.b dJ17_getChars_86 (by decide) ?_
  refine lv_icmp_ge (tgt := 104) X.x X.b dJ17_getChars_88 (by decide) (fun _ => ?_) (fun c_5 => absurd ((dz_ng5 v hv).2.2.2.2) c_5)
  refine lv_iload X.x X.b dJ17_getChars_104 (lv_at hl 4 rfl) ?_
  refine lv_if_eq (tgt := 118) X.x X.b dJ17_getChars_106 (by decide) (fun _ => ?_) (fun c_6 => absurd (by decide) c_6)
  refine lv_iload X.x X.b dJ17_getChars_118 (lv_at hl 0 rfl) ?_
  have hO := hO.cong 0 rfl (w1 := [(ar, dzB G cap (dz_dg f b v))]) (congrArg (fun z9 => [(ar, dzB G cap z9)]) (show (dz_dg f b v) = (upd (upd (upd f (b + 2) (vp_nar .byte (dz_ones.getD (v % 100) 0))) (b + 1) (vp_nar .byte (dz_tens.getD (v % 100) 0))) b (vp_nar .byte (dz_ones.getD (v / 100) 0))) from by unfold dz_dg; rw [if_neg (by omega), if_neg (by omega)]; rfl))
  have hO : dz_O G.1 dz_CL A s.heap [[(ar, dzB G cap (dz_dg f b v))]] _ _ := hO
  exact dz_iret X hO rfl (⟨rfl, rfl⟩) (Nat.le_of_ble_eq_true rfl) (Nat.le_of_ble_eq_true rfl) dJ17_getChars_120
set_option maxHeartbeats 4000000 in
set_option maxRecDepth 100000 in
/-- append of a number -/
theorem dz_J8_append_2 (l : Launch) (G : dz_G) (sz : Nat) (sb : Nat) (ar : Nat) (cap : Nat) (f : Nat → Int32) (n : Nat) (v : Nat) (hn : n + 3 ≤ 121) (hnc : n ≤ cap) (hcap : cap ≤ 242) (hf : sb_Fit f) (hz : dz_zf n f) (hv3 : v < 301) : dz_M l G yJ8_append_2 cJ8_append_2 4 (some (FieldType.object "java/lang/AbstractStringBuilder")) ({ frames := 100, cells := 1, slots := 242, locals := 1500 } : Room) [.ref sb, .int (nI v)] [[(sb, dzo 21 [.ref ar, .int 0, .int 0, .int (nI n)])], [(ar, dzB G cap f)]] sz (fun r w1 => ∃ (ar9 : Nat), ∃ (cap9 : Nat), r = some (.ref sb) ∧ w1 = [[(sb, dzo 21 [.ref ar9, .int 0, .int 0, .int (nI (n + dz_sz v))])], [(ar9, dzB G cap9 (dz_dg f n v))]] ∧ n + dz_sz v ≤ cap9 ∧ cap9 ≤ 242) (dz_np) := by
  refine dz_start (by decide) (Nat.le_of_ble_eq_true rfl) ?_
  intro p e s m below meth c A ls X hO hsz hl
  have hl : lv_has ls 4 [(0, .ref sb), (1, .int (nI v))] := hl
  rcases (show v < 10 ∨ (v < 100 ∧ 10 ≤ v) ∨ (v < 301 ∧ 100 ≤ v) by omega) with hv | ⟨hv, hv0⟩ | ⟨hv, hv0⟩
  · have hsz9 : dz_sz v = 1 := by unfold dz_sz; rw [if_pos hv]
    refine lv_aload_n X.x X.b dJ8_append_2_0 rfl (lv_at hl 0 rfl) ?_
    refine dz_get (v := .int (nI n)) X (hO.at1 0 rfl) in_J9 rfl 3 (by decide) q224 (Or.inl rfl) rfl dJ8_append_2_1 ?_
    refine lv_istore_n (lv' := [(2, .int (nI n)), (0, .ref sb), (1, .int (nI v))]) X.x X.b dJ8_append_2_4 rfl hl (by decide) rfl (fun ls hl => ?_)
    refine lv_iload_n X.x X.b dJ8_append_2_5 rfl (lv_at hl 0 rfl) ?_
    refine lv_iload_n X.x X.b dJ8_append_2_6 rfl (lv_at hl 2 rfl) ?_
    refine dz_S (n := 1) (k9 := 0) (n9 := 0) (As := [.int (nI v)]) (rest := [.int (nI n)]) (wr := [[(sb, dzo 21 [.ref ar, .int 0, .int 0, .int (nI n)])], [(ar, dzB G cap f)]]) X hO hl (dz_J17_stringSize_1 l G _ v (by first | assumption | omega | decide)) (lw_S q363 q364 q68 q365) (by decide +kernel) ⟨Nat.le_of_ble_eq_true rfl, Nat.le_of_ble_eq_true rfl⟩ ⟨(Nat.le_of_ble_eq_true rfl), (Nat.le_of_ble_eq_true rfl), (Nat.le_of_ble_eq_true rfl), (Nat.le_of_ble_eq_true rfl)⟩ [] [0, 1] rfl rfl rfl rfl rfl (Nat.le_of_ble_eq_true rfl) dJ8_append_2_7 (fun E w1 q9 ce9 H locs hpx hO hce hv9 hcl9 => hpx.elim) (fun r w1 H locs hpo hO => ?_)
    obtain ⟨rfl, rfl⟩ := hpo
    have hO : dz_O G.1 dz_CL A s.heap [[(sb, dzo 21 [.ref ar, .int 0, .int 0, .int (nI n)])], [(ar, dzB G cap f)]] _ _ := hO
    refine W.eq (g2 := F0 m 10 ls [.int 1, .int (nI n)]) rfl ?_
    refine lv_iadd X.x X.b dJ8_append_2_10 ?_
    refine dz_rei (y := nI (n + 1)) (nI_add n 1) ?_
    refine lv_istore_n (lv' := [(3, .int (nI (n + 1))), (2, .int (nI n)), (0, .ref sb), (1, .int (nI v))]) X.x X.b dJ8_append_2_11 rfl hl (by decide) rfl (fun ls hl => ?_)
    refine lv_aload_n X.x X.b dJ8_append_2_12 rfl (lv_at hl 2 rfl) ?_
    refine lv_iload_n X.x X.b dJ8_append_2_13 rfl (lv_at hl 0 rfl) ?_
    refine dz_U (n := 1) (C := "java/lang/StringBuilder") (owner := "java/lang/AbstractStringBuilder") (x := dz_m "java/lang/AbstractStringBuilder" "ensureCapacityInternal" "(I)V") (k9 := 1) (n9 := 242) (As := [.int (nI (n + 1))]) (rest := []) (wr := []) X hO hl (dz_J8_ensureCapacityInternal l G _ sb ar cap f n (n + 1) (by first | assumption | omega | decide) (by first | assumption | omega | decide) (by first | assumption | omega | decide) (dz_zf_w hz hnc)) (dz_cuP 1 X.ts q247 q2538 q204 (va_Nw.use rfl (X.nw q248 rfl)) q249 q57 q250 (by decide +kernel) ⟨Nat.le_of_ble_eq_true rfl, Nat.le_of_ble_eq_true rfl⟩) ⟨(Nat.le_of_ble_eq_true rfl), (Nat.le_of_ble_eq_true rfl), (Nat.le_of_ble_eq_true rfl), (Nat.le_of_ble_eq_true rfl)⟩ [0, 1] [] rfl rfl rfl (dz_rc X (hO.at1 0 rfl) (r := (RJ9, TJ9, 4)) rfl) rfl rfl (Nat.le_of_ble_eq_true rfl) dJ8_append_2_14 (fun E w1 q9 ce9 H locs hpx hO hce hv9 hcl9 => hpx.elim) (fun r w1 H locs hpo hO => ?_)
    obtain ⟨ar9_1, cap9_2, rfl, rfl, hc1_3, hc2_4⟩ := hpo
    have hO : dz_O G.1 dz_CL A s.heap [[(sb, dzo 21 [.ref ar9_1, .int 0, .int 0, .int (nI n)])], [(ar9_1, dzB G cap9_2 f)]] _ _ := hO
    refine W.eq (g2 := F0 m 17 ls []) rfl ?_
    refine lv_aload_n X.x X.b dJ8_append_2_17 rfl (lv_at hl 2 rfl) ?_
    refine dz_U (n := 0) (C := "java/lang/StringBuilder") (owner := "java/lang/AbstractStringBuilder") (x := dz_m "java/lang/AbstractStringBuilder" "isLatin1" "()Z") (k9 := 1) (n9 := 242) (As := []) (rest := []) (wr := [[(ar9_1, dzB G cap9_2 f)]]) X hO hl (dz_J8_isLatin1 l G _ sb ar9_1 n ) (va_cwU 0 X.ts (dz_U4 q282 q284 q285 q283 q57 q286) rfl rfl rfl rfl (by decide +kernel) ⟨Nat.le_of_ble_eq_true rfl, Nat.le_of_ble_eq_true rfl⟩) ⟨(Nat.le_of_ble_eq_true rfl), (Nat.le_of_ble_eq_true rfl), (Nat.le_of_ble_eq_true rfl), (Nat.le_of_ble_eq_true rfl)⟩ [0] [1] rfl rfl rfl (dz_rc X (hO.at1 0 rfl) (r := (RJ9, TJ9, 4)) rfl) rfl rfl (Nat.le_of_ble_eq_true rfl) dJ8_append_2_18 (fun E w1 q9 ce9 H locs hpx hO hce hv9 hcl9 => hpx.elim) (fun r w1 H locs hpo hO => ?_)
    obtain ⟨rfl, rfl⟩ := hpo
    have hO : dz_O G.1 dz_CL A s.heap [[(ar9_1, dzB G cap9_2 f)], [(sb, dzo 21 [.ref ar9_1, .int 0, .int 0, .int (nI n)])]] _ _ := hO
    refine W.eq (g2 := F0 m 21 ls [.int 1]) rfl ?_
    refine lv_if_eq (tgt := 37) X.x X.b dJ8_append_2_21 (by decide) (fun c_5 => absurd c_5 (by decide)) (fun _ => ?_)
    refine lv_iload_n X.x X.b dJ8_append_2_24 rfl (lv_at hl 3 rfl) ?_
    refine lv_iload_n X.x X.b dJ8_append_2_25 rfl (lv_at hl 0 rfl) ?_
    refine lv_aload_n X.x X.b dJ8_append_2_26 rfl (lv_at hl 2 rfl) ?_
    refine dz_get (v := .ref ar9_1) X (hO.at1 1 rfl) in_J9 rfl 0 (by decide) q221 (Or.inl rfl) rfl dJ8_append_2_27 ?_
    refine dz_S (n := 3) (k9 := 1) (n9 := 242) (As := [.int (nI v), .int (nI (n + 1)), .ref ar9_1]) (rest := []) (wr := [[(sb, dzo 21 [.ref ar9_1, .int 0, .int 0, .int (nI n)])]]) X hO hl (dz_J17_getChars_1 l G _ ar9_1 cap9_2 f n v (by first | assumption | omega | decide) (by first | assumption | omega | decide) (by first | assumption | omega | decide)) (lw_S q366 q367 q68 q368) (by decide +kernel) ⟨Nat.le_of_ble_eq_true rfl, Nat.le_of_ble_eq_true rfl⟩ ⟨(Nat.le_of_ble_eq_true rfl), (Nat.le_of_ble_eq_true rfl), (Nat.le_of_ble_eq_true rfl), (Nat.le_of_ble_eq_true rfl)⟩ [0] [1] rfl rfl rfl rfl rfl (Nat.le_of_ble_eq_true rfl) dJ8_append_2_30 (fun E w1 q9 ce9 H locs hpx hO hce hv9 hcl9 => hpx.elim) (fun r w1 H locs hpo hO => ?_)
    obtain ⟨rfl, rfl⟩ := hpo
    have hO : dz_O G.1 dz_CL A s.heap [[(sb, dzo 21 [.ref ar9_1, .int 0, .int 0, .int (nI n)])], [(ar9_1, dzB G cap9_2 (dz_dg f n v))]] _ _ := hO
    refine W.eq (g2 := F0 m 33 ls [.int (nI n)]) rfl ?_
    refine lv_pop X.x X.b dJ8_append_2_33 rfl ?_
    refine lv_goto (tgt := 48) X.x X.b dJ8_append_2_34 (by decide) ?_
    refine lv_aload_n X.x X.b dJ8_append_2_48 rfl (lv_at hl 2 rfl) ?_
    refine lv_iload_n X.x X.b dJ8_append_2_49 rfl (lv_at hl 0 rfl) ?_
    refine dz_put (v := .int (nI (n + 1))) X hO 0 rfl in_J9 tyJ9 tyJ9_ok nmJ9 rfl 3 (by decide) q224 (Or.inl rfl) (Or.inl rfl) rfl rfl (Nat.le_of_ble_eq_true rfl) dJ8_append_2_50 (fun H locs hO => ?_)
    have hO : dz_O G.1 dz_CL A s.heap [[(sb, dzo 21 [.ref ar9_1, .int 0, .int 0, .int (nI (n + 1))])], [(ar9_1, dzB G cap9_2 (dz_dg f n v))]] _ _ := hO
    refine lv_aload_n X.x X.b dJ8_append_2_53 rfl (lv_at hl 2 rfl) ?_
    have hO := hO.cong 0 rfl (w1 := [(sb, dzo 21 [.ref ar9_1, .int 0, .int 0, .int (nI (n + dz_sz v))])]) (by rw [hsz9])
    have hO : dz_O G.1 dz_CL A s.heap [[(sb, dzo 21 [.ref ar9_1, .int 0, .int 0, .int (nI (n + dz_sz v))])], [(ar9_1, dzB G cap9_2 (dz_dg f n v))]] _ _ := hO
    exact dz_aret X hO rfl (Or.inl ⟨_, rfl⟩) (Or.inr ⟨_, rfl⟩) (⟨ar9_1, cap9_2, rfl, rfl, by omega, by omega⟩) (Nat.le_of_ble_eq_true rfl) (Nat.le_of_ble_eq_true rfl) dJ8_append_2_54
  · have hsz9 : dz_sz v = 2 := by unfold dz_sz; rw [if_neg (by omega), if_pos hv]
    refine lv_aload_n X.x X.b dJ8_append_2_0 rfl (lv_at hl 0 rfl) ?_
    refine dz_get (v := .int (nI n)) X (hO.at1 0 rfl) in_J9 rfl 3 (by decide) q224 (Or.inl rfl) rfl dJ8_append_2_1 ?_
    refine lv_istore_n (lv' := [(2, .int (nI n)), (0, .ref sb), (1, .int (nI v))]) X.x X.b dJ8_append_2_4 rfl hl (by decide) rfl (fun ls hl => ?_)
    refine lv_iload_n X.x X.b dJ8_append_2_5 rfl (lv_at hl 0 rfl) ?_
    refine lv_iload_n X.x X.b dJ8_append_2_6 rfl (lv_at hl 2 rfl) ?_
    refine dz_S (n := 1) (k9 := 0) (n9 := 0) (As := [.int (nI v)]) (rest := [.int (nI n)]) (wr := [[(sb, dzo 21 [.ref ar, .int 0, .int 0, .int (nI n)])], [(ar, dzB G cap f)]]) X hO hl (dz_J17_stringSize_2 l G _ v (by first | assumption | omega | decide) (by first | assumption | omega | decide)) (lw_S q363 q364 q68 q365) (by decide +kernel) ⟨Nat.le_of_ble_eq_true rfl, Nat.le_of_ble_eq_true rfl⟩ ⟨(Nat.le_of_ble_eq_true rfl), (Nat.le_of_ble_eq_true rfl), (Nat.le_of_ble_eq_true rfl), (Nat.le_of_ble_eq_true rfl)⟩ [] [0, 1] rfl rfl rfl rfl rfl (Nat.le_of_ble_eq_true rfl) dJ8_append_2_7 (fun E w1 q9 ce9 H locs hpx hO hce hv9 hcl9 => hpx.elim) (fun r w1 H locs hpo hO => ?_)
    obtain ⟨rfl, rfl⟩ := hpo
    have hO : dz_O G.1 dz_CL A s.heap [[(sb, dzo 21 [.ref ar, .int 0, .int 0, .int (nI n)])], [(ar, dzB G cap f)]] _ _ := hO
    refine W.eq (g2 := F0 m 10 ls [.int 2, .int (nI n)]) rfl ?_
    refine lv_iadd X.x X.b dJ8_append_2_10 ?_
    refine dz_rei (y := nI (n + 2)) (nI_add n 2) ?_
    refine lv_istore_n (lv' := [(3, .int (nI (n + 2))), (2, .int (nI n)), (0, .ref sb), (1, .int (nI v))]) X.x X.b dJ8_append_2_11 rfl hl (by decide) rfl (fun ls hl => ?_)
    refine lv_aload_n X.x X.b dJ8_append_2_12 rfl (lv_at hl 2 rfl) ?_
    refine lv_iload_n X.x X.b dJ8_append_2_13 rfl (lv_at hl 0 rfl) ?_
    refine dz_U (n := 1) (C := "java/lang/StringBuilder") (owner := "java/lang/AbstractStringBuilder") (x := dz_m "java/lang/AbstractStringBuilder" "ensureCapacityInternal" "(I)V") (k9 := 1) (n9 := 242) (As := [.int (nI (n + 2))]) (rest := []) (wr := []) X hO hl (dz_J8_ensureCapacityInternal l G _ sb ar cap f n (n + 2) (by first | assumption | omega | decide) (by first | assumption | omega | decide) (by first | assumption | omega | decide) (dz_zf_w hz hnc)) (dz_cuP 1 X.ts q247 q2538 q204 (va_Nw.use rfl (X.nw q248 rfl)) q249 q57 q250 (by decide +kernel) ⟨Nat.le_of_ble_eq_true rfl, Nat.le_of_ble_eq_true rfl⟩) ⟨(Nat.le_of_ble_eq_true rfl), (Nat.le_of_ble_eq_true rfl), (Nat.le_of_ble_eq_true rfl), (Nat.le_of_ble_eq_true rfl)⟩ [0, 1] [] rfl rfl rfl (dz_rc X (hO.at1 0 rfl) (r := (RJ9, TJ9, 4)) rfl) rfl rfl (Nat.le_of_ble_eq_true rfl) dJ8_append_2_14 (fun E w1 q9 ce9 H locs hpx hO hce hv9 hcl9 => hpx.elim) (fun r w1 H locs hpo hO => ?_)
    obtain ⟨ar9_6, cap9_7, rfl, rfl, hc1_8, hc2_9⟩ := hpo
    have hO : dz_O G.1 dz_CL A s.heap [[(sb, dzo 21 [.ref ar9_6, .int 0, .int 0, .int (nI n)])], [(ar9_6, dzB G cap9_7 f)]] _ _ := hO
    refine W.eq (g2 := F0 m 17 ls []) rfl ?_
    refine lv_aload_n X.x X.b dJ8_append_2_17 rfl (lv_at hl 2 rfl) ?_
    refine dz_U (n := 0) (C := "java/lang/StringBuilder") (owner := "java/lang/AbstractStringBuilder") (x := dz_m "java/lang/AbstractStringBuilder" "isLatin1" "()Z") (k9 := 1) (n9 := 242) (As := []) (rest := []) (wr := [[(ar9_6, dzB G cap9_7 f)]]) X hO hl (dz_J8_isLatin1 l G _ sb ar9_6 n ) (va_cwU 0 X.ts (dz_U4 q282 q284 q285 q283 q57 q286) rfl rfl rfl rfl (by decide +kernel) ⟨Nat.le_of_ble_eq_true rfl, Nat.le_of_ble_eq_true rfl⟩) ⟨(Nat.le_of_ble_eq_true rfl), (Nat.le_of_ble_eq_true rfl), (Nat.le_of_ble_eq_true rfl), (Nat.le_of_ble_eq_true rfl)⟩ [0] [1] rfl rfl rfl (dz_rc X (hO.at1 0 rfl) (r := (RJ9, TJ9, 4)) rfl) rfl rfl (Nat.le_of_ble_eq_true rfl) dJ8_append_2_18 (fun E w1 q9 ce9 H locs hpx hO hce hv9 hcl9 => hpx.elim) (fun r w1 H locs hpo hO => ?_)
    obtain ⟨rfl, rfl⟩ := hpo
    have hO : dz_O G.1 dz_CL A s.heap [[(ar9_6, dzB G cap9_7 f)], [(sb, dzo 21 [.ref ar9_6, .int 0, .int 0, .int (nI n)])]] _ _ := hO
    refine W.eq (g2 := F0 m 21 ls [.int 1]) rfl ?_
    refine lv_if_eq (tgt := 37) X.x X.b dJ8_append_2_21 (by decide) (fun c_10 => absurd c_10 (by decide)) (fun _ => ?_)
    refine lv_iload_n X.x X.b dJ8_append_2_24 rfl (lv_at hl 3 rfl) ?_
    refine lv_iload_n X.x X.b dJ8_append_2_25 rfl (lv_at hl 0 rfl) ?_
    refine lv_aload_n X.x X.b dJ8_append_2_26 rfl (lv_at hl 2 rfl) ?_
    refine dz_get (v := .ref ar9_6) X (hO.at1 1 rfl) in_J9 rfl 0 (by decide) q221 (Or.inl rfl) rfl dJ8_append_2_27 ?_
    refine dz_S (n := 3) (k9 := 1) (n9 := 242) (As := [.int (nI v), .int (nI (n + 2)), .ref ar9_6]) (rest := []) (wr := [[(sb, dzo 21 [.ref ar9_6, .int 0, .int 0, .int (nI n)])]]) X hO hl (dz_J17_getChars_2 l G _ ar9_6 cap9_7 f n v (by first | assumption | omega | decide) (by first | assumption | omega | decide) (by first | assumption | omega | decide) (by first | assumption | omega | decide)) (lw_S q366 q367 q68 q368) (by decide +kernel) ⟨Nat.le_of_ble_eq_true rfl, Nat.le_of_ble_eq_true rfl⟩ ⟨(Nat.le_of_ble_eq_true rfl), (Nat.le_of_ble_eq_true rfl), (Nat.le_of_ble_eq_true rfl), (Nat.le_of_ble_eq_true rfl)⟩ [0] [1] rfl rfl rfl rfl rfl (Nat.le_of_ble_eq_true rfl) dJ8_append_2_30 (fun E w1 q9 ce9 H locs hpx hO hce hv9 hcl9 => hpx.elim) (fun r w1 H locs hpo hO => ?_)
    obtain ⟨rfl, rfl⟩ := hpo
    have hO : dz_O G.1 dz_CL A s.heap [[(sb, dzo 21 [.ref ar9_6, .int 0, .int 0, .int (nI n)])], [(ar9_6, dzB G cap9_7 (dz_dg f n v))]] _ _ := hO
    refine W.eq (g2 := F0 m 33 ls [.int (nI n)]) rfl ?_
    refine lv_pop X.x X.b dJ8_append_2_33 rfl ?_
    refine lv_goto (tgt := 48) X.x X.b dJ8_append_2_34 (by decide) ?_
    refine lv_aload_n X.x X.b dJ8_append_2_48 rfl (lv_at hl 2 rfl) ?_
    refine lv_iload_n X.x X.b dJ8_append_2_49 rfl (lv_at hl 0 rfl) ?_
    refine dz_put (v := .int (nI (n + 2))) X hO 0 rfl in_J9 tyJ9 tyJ9_ok nmJ9 rfl 3 (by decide) q224 (Or.inl rfl) (Or.inl rfl) rfl rfl (Nat.le_of_ble_eq_true rfl) dJ8_append_2_50 (fun H locs hO => ?_)
    have hO : dz_O G.1 dz_CL A s.heap [[(sb, dzo 21 [.ref ar9_6, .int 0, .int 0, .int (nI (n + 2))])], [(ar9_6, dzB G cap9_7 (dz_dg f n v))]] _ _ := hO
    refine lv_aload_n X.x X.b dJ8_append_2_53 rfl (lv_at hl 2 rfl) ?_
    have hO := hO.cong 0 rfl (w1 := [(sb, dzo 21 [.ref ar9_6, .int 0, .int 0, .int (nI (n + dz_sz v))])]) (by rw [hsz9])
    have hO : dz_O G.1 dz_CL A s.heap [[(sb, dzo 21 [.ref ar9_6, .int 0, .int 0, .int (nI (n + dz_sz v))])], [(ar9_6, dzB G cap9_7 (dz_dg f n v))]] _ _ := hO
    exact dz_aret X hO rfl (Or.inl ⟨_, rfl⟩) (Or.inr ⟨_, rfl⟩) (⟨ar9_6, cap9_7, rfl, rfl, by omega, by omega⟩) (Nat.le_of_ble_eq_true rfl) (Nat.le_of_ble_eq_true rfl) dJ8_append_2_54
  · have hsz9 : dz_sz v = 3 := by unfold dz_sz; rw [if_neg (by omega), if_neg (by omega)]
    refine lv_aload_n X.x X.b dJ8_append_2_0 rfl (lv_at hl 0 rfl) ?_
    refine dz_get (v := .int (nI n)) X (hO.at1 0 rfl) in_J9 rfl 3 (by decide) q224 (Or.inl rfl) rfl dJ8_append_2_1 ?_
    refine lv_istore_n (lv' := [(2, .int (nI n)), (0, .ref sb), (1, .int (nI v))]) X.x X.b dJ8_append_2_4 rfl hl (by decide) rfl (fun ls hl => ?_)
    refine lv_iload_n X.x X.b dJ8_append_2_5 rfl (lv_at hl 0 rfl) ?_
    refine lv_iload_n X.x X.b dJ8_append_2_6 rfl (lv_at hl 2 rfl) ?_
    refine dz_S (n := 1) (k9 := 0) (n9 := 0) (As := [.int (nI v)]) (rest := [.int (nI n)]) (wr := [[(sb, dzo 21 [.ref ar, .int 0, .int 0, .int (nI n)])], [(ar, dzB G cap f)]]) X hO hl (dz_J17_stringSize_3 l G _ v (by first | assumption | omega | decide) (by first | assumption | omega | decide)) (lw_S q363 q364 q68 q365) (by decide +kernel) ⟨Nat.le_of_ble_eq_true rfl, Nat.le_of_ble_eq_true rfl⟩ ⟨(Nat.le_of_ble_eq_true rfl), (Nat.le_of_ble_eq_true rfl), (Nat.le_of_ble_eq_true rfl), (Nat.le_of_ble_eq_true rfl)⟩ [] [0, 1] rfl rfl rfl rfl rfl (Nat.le_of_ble_eq_true rfl) dJ8_append_2_7 (fun E w1 q9 ce9 H locs hpx hO hce hv9 hcl9 => hpx.elim) (fun r w1 H locs hpo hO => ?_)
    obtain ⟨rfl, rfl⟩ := hpo
    have hO : dz_O G.1 dz_CL A s.heap [[(sb, dzo 21 [.ref ar, .int 0, .int 0, .int (nI n)])], [(ar, dzB G cap f)]] _ _ := hO
    refine W.eq (g2 := F0 m 10 ls [.int 3, .int (nI n)]) rfl ?_
    refine lv_iadd X.x X.b dJ8_append_2_10 ?_
    refine dz_rei (y := nI (n + 3)) (nI_add n 3) ?_
    refine lv_istore_n (lv' := [(3, .int (nI (n + 3))), (2, .int (nI n)), (0, .ref sb), (1, .int (nI v))]) X.x X.b dJ8_append_2_11 rfl hl (by decide) rfl (fun ls hl => ?_)
    refine lv_aload_n X.x X.b dJ8_append_2_12 rfl (lv_at hl 2 rfl) ?_
    refine lv_iload_n X.x X.b dJ8_append_2_13 rfl (lv_at hl 0 rfl) ?_
    refine dz_U (n := 1) (C := "java/lang/StringBuilder") (owner := "java/lang/AbstractStringBuilder") (x := dz_m "java/lang/AbstractStringBuilder" "ensureCapacityInternal" "(I)V") (k9 := 1) (n9 := 242) (As := [.int (nI (n + 3))]) (rest := []) (wr := []) X hO hl (dz_J8_ensureCapacityInternal l G _ sb ar cap f n (n + 3) (by first | assumption | omega | decide) (by first | assumption | omega | decide) (by first | assumption | omega | decide) (dz_zf_w hz hnc)) (dz_cuP 1 X.ts q247 q2538 q204 (va_Nw.use rfl (X.nw q248 rfl)) q249 q57 q250 (by decide +kernel) ⟨Nat.le_of_ble_eq_true rfl, Nat.le_of_ble_eq_true rfl⟩) ⟨(Nat.le_of_ble_eq_true rfl), (Nat.le_of_ble_eq_true rfl), (Nat.le_of_ble_eq_true rfl), (Nat.le_of_ble_eq_true rfl)⟩ [0, 1] [] rfl rfl rfl (dz_rc X (hO.at1 0 rfl) (r := (RJ9, TJ9, 4)) rfl) rfl rfl (Nat.le_of_ble_eq_true rfl) dJ8_append_2_14 (fun E w1 q9 ce9 H locs hpx hO hce hv9 hcl9 => hpx.elim) (fun r w1 H locs hpo hO => ?_)
    obtain ⟨ar9_11, cap9_12, rfl, rfl, hc1_13, hc2_14⟩ := hpo
    have hO : dz_O G.1 dz_CL A s.heap [[(sb, dzo 21 [.ref ar9_11, .int 0, .int 0, .int (nI n)])], [(ar9_11, dzB G cap9_12 f)]] _ _ := hO
    refine W.eq (g2 := F0 m 17 ls []) rfl ?_
    refine lv_aload_n X.x X.b dJ8_append_2_17 rfl (lv_at hl 2 rfl) ?_
    refine dz_U (n := 0) (C := "java/lang/StringBuilder") (owner := "java/lang/AbstractStringBuilder") (x := dz_m "java/lang/AbstractStringBuilder" "isLatin1" "()Z") (k9 := 1) (n9 := 242) (As := []) (rest := []) (wr := [[(ar9_11, dzB G cap9_12 f)]]) X hO hl (dz_J8_isLatin1 l G _ sb ar9_11 n ) (va_cwU 0 X.ts (dz_U4 q282 q284 q285 q283 q57 q286) rfl rfl rfl rfl (by decide +kernel) ⟨Nat.le_of_ble_eq_true rfl, Nat.le_of_ble_eq_true rfl⟩) ⟨(Nat.le_of_ble_eq_true rfl), (Nat.le_of_ble_eq_true rfl), (Nat.le_of_ble_eq_true rfl), (Nat.le_of_ble_eq_true rfl)⟩ [0] [1] rfl rfl rfl (dz_rc X (hO.at1 0 rfl) (r := (RJ9, TJ9, 4)) rfl) rfl rfl (Nat.le_of_ble_eq_true rfl) dJ8_append_2_18 (fun E w1 q9 ce9 H locs hpx hO hce hv9 hcl9 => hpx.elim) (fun r w1 H locs hpo hO => ?_)
    obtain ⟨rfl, rfl⟩ := hpo
    have hO : dz_O G.1 dz_CL A s.heap [[(ar9_11, dzB G cap9_12 f)], [(sb, dzo 21 [.ref ar9_11, .int 0, .int 0, .int (nI n)])]] _ _ := hO
    refine W.eq (g2 := F0 m 21 ls [.int 1]) rfl ?_
    refine lv_if_eq (tgt := 37) X.x X.b dJ8_append_2_21 (by decide) (fun c_15 => absurd c_15 (by decide)) (fun _ => ?_)
    refine lv_iload_n X.x X.b dJ8_append_2_24 rfl (lv_at hl 3 rfl) ?_
    refine lv_iload_n X.x X.b dJ8_append_2_25 rfl (lv_at hl 0 rfl) ?_
    refine lv_aload_n X.x X.b dJ8_append_2_26 rfl (lv_at hl 2 rfl) ?_
    refine dz_get (v := .ref ar9_11) X (hO.at1 1 rfl) in_J9 rfl 0 (by decide) q221 (Or.inl rfl) rfl dJ8_append_2_27 ?_
    refine dz_S (n := 3) (k9 := 1) (n9 := 242) (As := [.int (nI v), .int (nI (n + 3)), .ref ar9_11]) (rest := []) (wr := [[(sb, dzo 21 [.ref ar9_11, .int 0, .int 0, .int (nI n)])]]) X hO hl (dz_J17_getChars_3 l G _ ar9_11 cap9_12 f n v (by first | assumption | omega | decide) (by first | assumption | omega | decide) (by first | assumption | omega | decide) (by first | assumption | omega | decide)) (lw_S q366 q367 q68 q368) (by decide +kernel) ⟨Nat.le_of_ble_eq_true rfl, Nat.le_of_ble_eq_true rfl⟩ ⟨(Nat.le_of_ble_eq_true rfl), (Nat.le_of_ble_eq_true rfl), (Nat.le_of_ble_eq_true rfl), (Nat.le_of_ble_eq_true rfl)⟩ [0] [1] rfl rfl rfl rfl rfl (Nat.le_of_ble_eq_true rfl) dJ8_append_2_30 (fun E w1 q9 ce9 H locs hpx hO hce hv9 hcl9 => hpx.elim) (fun r w1 H locs hpo hO => ?_)
    obtain ⟨rfl, rfl⟩ := hpo
    have hO : dz_O G.1 dz_CL A s.heap [[(sb, dzo 21 [.ref ar9_11, .int 0, .int 0, .int (nI n)])], [(ar9_11, dzB G cap9_12 (dz_dg f n v))]] _ _ := hO
    refine W.eq (g2 := F0 m 33 ls [.int (nI n)]) rfl ?_
    refine lv_pop X.x X.b dJ8_append_2_33 rfl ?_
    refine lv_goto (tgt := 48) X.x X.b dJ8_append_2_34 (by decide) ?_
    refine lv_aload_n X.x X.b dJ8_append_2_48 rfl (lv_at hl 2 rfl) ?_
    refine lv_iload_n X.x X.b dJ8_append_2_49 rfl (lv_at hl 0 rfl) ?_
    refine dz_put (v := .int (nI (n + 3))) X hO 0 rfl in_J9 tyJ9 tyJ9_ok nmJ9 rfl 3 (by decide) q224 (Or.inl rfl) (Or.inl rfl) rfl rfl (Nat.le_of_ble_eq_true rfl) dJ8_append_2_50 (fun H locs hO => ?_)
    have hO : dz_O G.1 dz_CL A s.heap [[(sb, dzo 21 [.ref ar9_11, .int 0, .int 0, .int (nI (n + 3))])], [(ar9_11, dzB G cap9_12 (dz_dg f n v))]] _ _ := hO
    refine lv_aload_n X.x X.b dJ8_append_2_53 rfl (lv_at hl 2 rfl) ?_
    have hO := hO.cong 0 rfl (w1 := [(sb, dzo 21 [.ref ar9_11, .int 0, .int 0, .int (nI (n + dz_sz v))])]) (by rw [hsz9])
    have hO : dz_O G.1 dz_CL A s.heap [[(sb, dzo 21 [.ref ar9_11, .int 0, .int 0, .int (nI (n + dz_sz v))])], [(ar9_11, dzB G cap9_12 (dz_dg f n v))]] _ _ := hO
    exact dz_aret X hO rfl (Or.inl ⟨_, rfl⟩) (Or.inr ⟨_, rfl⟩) (⟨ar9_11, cap9_12, rfl, rfl, by omega, by omega⟩) (Nat.le_of_ble_eq_true rfl) (Nat.le_of_ble_eq_true rfl) dJ8_append_2_54
set_option maxHeartbeats 4000000 in
set_option maxRecDepth 100000 in
/-- append of a number -/
theorem dz_J9_append_2 (l : Launch) (G : dz_G) (sz : Nat) (sb : Nat) (ar : Nat) (cap : Nat) (f : Nat → Int32) (n : Nat) (v : Nat) (hn : n + 3 ≤ 121) (hnc : n ≤ cap) (hcap : cap ≤ 242) (hf : sb_Fit f) (hz : dz_zf n f) (hv3 : v < 301) : dz_M l G yJ9_append_2 cJ9_append_2 2 (some (FieldType.object "java/lang/StringBuilder")) ({ frames := 120, cells := 1, slots := 242, locals := 1800 } : Room) [.ref sb, .int (nI v)] [[(sb, dzo 21 [.ref ar, .int 0, .int 0, .int (nI n)])], [(ar, dzB G cap f)]] sz (fun r w1 => ∃ (ar9 : Nat), ∃ (cap9 : Nat), r = some (.ref sb) ∧ w1 = [[(sb, dzo 21 [.ref ar9, .int 0, .int 0, .int (nI (n + dz_sz v))])], [(ar9, dzB G cap9 (dz_dg f n v))]] ∧ n + dz_sz v ≤ cap9 ∧ cap9 ≤ 242) (dz_np) := by
  refine dz_start (by decide) (Nat.le_of_ble_eq_true rfl) ?_
  intro p e s m below meth c A ls X hO hsz hl
  have hl : lv_has ls 2 [(0, .ref sb), (1, .int (nI v))] := hl
  refine lv_aload_n X.x X.b dJ9_append_2_0 rfl (lv_at hl 0 rfl) ?_
  refine lv_iload_n X.x X.b dJ9_append_2_1 rfl (lv_at hl 1 rfl) ?_
  refine dz_SU (n := 1) (C := "java/lang/StringBuilder") (k9 := 1) (n9 := 242) (As := [.int (nI v)]) (rest := []) (wr := []) X hO hl ((X.K.1 21 _ rfl).2) (dz_J8_append_2 l G _ sb ar cap f n v (by first | assumption | omega | decide) (by first | assumption | omega | decide) (by first | assumption | omega | decide) (by first | assumption | omega | decide) (by first | assumption | omega | decide) (by first | assumption | omega | decide)) (va_cwSU 1 X.ts (dz_SU4 q360 q2543 q233 q361 q57 q362) rfl rfl rfl (by decide +kernel) ⟨Nat.le_of_ble_eq_true rfl, Nat.le_of_ble_eq_true rfl⟩) ⟨(Nat.le_of_ble_eq_true rfl), (Nat.le_of_ble_eq_true rfl), (Nat.le_of_ble_eq_true rfl), (Nat.le_of_ble_eq_true rfl)⟩ [0, 1] [] rfl rfl rfl (dz_rc X (hO.at1 0 rfl) (r := (RJ9, TJ9, 4)) rfl) rfl rfl (Nat.le_of_ble_eq_true rfl) dJ9_append_2_2 (fun E w1 q9 ce9 H locs hpx hO hce hv9 hcl9 => hpx.elim) (fun r w1 H locs hpo hO => ?_)
  obtain ⟨ar9_1, cap9_2, rfl, rfl, hc1_3, hc2_4⟩ := hpo
  have hO : dz_O G.1 dz_CL A s.heap [[(sb, dzo 21 [.ref ar9_1, .int 0, .int 0, .int (nI (n + dz_sz v))])], [(ar9_1, dzB G cap9_2 (dz_dg f n v))]] _ _ := hO
  refine W.eq (g2 := F0 m 5 ls [.ref sb]) rfl ?_
  refine lv_pop X.x X.b dJ9_append_2_5 rfl ?_
  refine lv_aload_n X.x X.b dJ9_append_2_6 rfl (lv_at hl 0 rfl) ?_
  exact dz_aret X hO rfl (Or.inl ⟨_, rfl⟩) (Or.inr ⟨_, rfl⟩) (⟨ar9_1, cap9_2, rfl, rfl, by first | assumption | omega, by first | assumption | omega⟩) (Nat.le_of_ble_eq_true rfl) (Nat.le_of_ble_eq_true rfl) dJ9_append_2_7
set_option maxHeartbeats 4000000 in
set_option maxRecDepth 100000 in
/-- checkLength -/
theorem dz_J14_checkLength (l : Launch) (G : dz_G) (sz : Nat) (n : Nat) (hn : n ≤ 242) : dz_M l G yJ14_checkLength cJ14_checkLength 2 none ({ frames := 20, cells := 0, slots := 0, locals := 300 } : Room) [.int 0, .int (nI n)] [] sz (fun r w1 => r = none ∧ w1 = []) (dz_np) := by
  refine dz_start (by decide) (Nat.le_of_ble_eq_true rfl) ?_
  intro p e s m below meth c A ls X hO hsz hl
  have hl : lv_has ls 2 [(0, .int 0), (1, .int (nI n))] := hl
  refine lv_iload_n X.x X.b dJ14_checkLength_0 rfl (lv_at hl 1 rfl) ?_
  refine lv_iload_n X.x X.b dJ14_checkLength_1 rfl (lv_at hl 0 rfl) ?_
  refine lv_icmp_ge (tgt := 37) X.x X.b dJ14_checkLength_2 (by decide) (fun _ => ?_) (fun c_1 => absurd (nI_pos' (by omega)) c_1)
  exact dz_vret X hO rfl (⟨rfl, rfl⟩) (Nat.le_of_ble_eq_true rfl) (Nat.le_of_ble_eq_true rfl) dJ14_checkLength_37
set_option maxHeartbeats 4000000 in
set_option maxRecDepth 100000 in
/-- copyOfRange -/
theorem dz_J14_copyOfRangeByte (l : Launch) (G : dz_G) (sz : Nat) (ar : Nat) (cap : Nat) (f : Nat → Int32) (n : Nat) (hn : n ≤ cap) (hcap : cap ≤ 242) (hf : sb_Fit f) (hz : dz_zf n f) : dz_M l G yJ14_copyOfRangeByte cJ14_copyOfRangeByte 5 (some (FieldType.array FieldType.byte)) ({ frames := 40, cells := 1, slots := 242, locals := 600 } : Room) [.ref ar, .int 0, .int (nI n)] [[(ar, dzB G cap f)]] sz (fun r w1 => ∃ (q9 : Nat), r = some (.ref q9) ∧ w1 = [[(ar, dzB G cap f)], [(q9, dzB G n f)]]) (dz_np) := by
  refine dz_start (by decide) (Nat.le_of_ble_eq_true rfl) ?_
  intro p e s m below meth c A ls X hO hsz hl
  have hl : lv_has ls 5 [(0, .ref ar), (1, .int 0), (2, .int (nI n))] := hl
  refine lv_iload_n X.x X.b dJ14_copyOfRangeByte_0 rfl (lv_at hl 1 rfl) ?_
  refine lv_iload_n X.x X.b dJ14_copyOfRangeByte_1 rfl (lv_at hl 2 rfl) ?_
  refine dz_S (n := 2) (k9 := 0) (n9 := 0) (As := [.int 0, .int (nI n)]) (rest := []) (wr := [[(ar, dzB G cap f)]]) X hO hl (dz_J14_checkLength l G _ n (by first | assumption | omega | decide)) (lw_S q414 q415 q63 q416) (by decide +kernel) ⟨Nat.le_of_ble_eq_true rfl, Nat.le_of_ble_eq_true rfl⟩ ⟨(Nat.le_of_ble_eq_true rfl), (Nat.le_of_ble_eq_true rfl), (Nat.le_of_ble_eq_true rfl), (Nat.le_of_ble_eq_true rfl)⟩ [] [0] rfl rfl rfl rfl rfl (Nat.le_of_ble_eq_true rfl) dJ14_copyOfRangeByte_2 (fun E w1 q9 ce9 H locs hpx hO hce hv9 hcl9 => hpx.elim) (fun r w1 H locs hpo hO => ?_)
  obtain ⟨rfl, rfl⟩ := hpo
  have hO : dz_O G.1 dz_CL A s.heap [[(ar, dzB G cap f)]] _ _ := hO
  refine W.eq (g2 := F0 m 5 ls []) rfl ?_
  refine lv_iload_n X.x X.b dJ14_copyOfRangeByte_5 rfl (lv_at hl 2 rfl) ?_
  refine lv_iload_n X.x X.b dJ14_copyOfRangeByte_6 rfl (lv_at hl 1 rfl) ?_
  refine lv_isub X.x X.b dJ14_copyOfRangeByte_7 ?_
  refine dz_rei (y := nI n) (Int32.sub_zero _) ?_
  refine lv_istore_n (lv' := [(3, .int (nI n)), (0, .ref ar), (1, .int 0), (2, .int (nI n))]) X.x X.b dJ14_copyOfRangeByte_8 rfl hl (by decide) rfl (fun ls hl => ?_)
  refine lv_iload_n X.x X.b dJ14_copyOfRangeByte_9 rfl (lv_at hl 0 rfl) ?_
  refine dz_newaB X hO (j := n) rfl (by omega) (dz_bytes (by omega) (by decide)) (Nat.le_of_ble_eq_true rfl) (by first | omega | (dsimp only; omega)) dJ14_copyOfRangeByte_10 (fun q_1 H hO => ?_)
  have hO : dz_O G.1 dz_CL A s.heap [[(ar, dzB G cap f)], [(q_1, dzB G n (fun _ => 0))]] _ _ := hO
  refine W.widen (k := 1) (n := 242) (Nat.le_of_ble_eq_true rfl) (by first | omega | (dsimp only; omega)) ?_
  refine lv_astore (lv' := [(4, .ref q_1), (3, .int (nI n)), (0, .ref ar), (1, .int 0), (2, .int (nI n))]) X.x X.b dJ14_copyOfRangeByte_12 hl (by decide) rfl (fun ls hl => ?_)
  refine lv_aload_n X.x X.b dJ14_copyOfRangeByte_14 rfl (lv_at hl 2 rfl) ?_
  refine lv_iload_n X.x X.b dJ14_copyOfRangeByte_15 rfl (lv_at hl 3 rfl) ?_
  refine lv_aload X.x X.b dJ14_copyOfRangeByte_16 (lv_at hl 0 rfl) ?_
  refine lv_iconst (v := 0) X.x X.b dJ14_copyOfRangeByte_18 (by decide) ?_
  refine lv_aload_n X.x X.b dJ14_copyOfRangeByte_19 rfl (lv_at hl 2 rfl) ?_
  refine dz_alen (v := nI cap) X (hO.at1 0 rfl) 4 rfl (by first | rfl | decide) dJ14_copyOfRangeByte_20 ?_
  refine lv_iload_n X.x X.b dJ14_copyOfRangeByte_21 rfl (lv_at hl 3 rfl) ?_
  refine lv_isub X.x X.b dJ14_copyOfRangeByte_22 ?_
  refine dz_rei (y := nI cap) (Int32.sub_zero _) ?_
  refine lv_iload_n X.x X.b dJ14_copyOfRangeByte_23 rfl (lv_at hl 1 rfl) ?_
  refine dz_mmin X hl q276 (Nat.le_of_ble_eq_true rfl) (Nat.le_of_ble_eq_true rfl) (Nat.le_of_ble_eq_true rfl) (Nat.le_of_ble_eq_true rfl) (Nat.le_of_ble_eq_true rfl) dJ14_copyOfRangeByte_24 ?_
  refine dz_rei (y := nI n) (if h9 : n = cap then (by subst h9; unfold dz_min; rw [if_neg (fun z => Int32.lt_irrefl z)]) else (by unfold dz_min; rw [if_pos ((nI_ltI (by omega) (by omega)).mpr (by omega))])) ?_
  refine dz_copyB X hl q279 hO (i := 0) (j := 0) (k := n) (by decide) (by decide) rfl (by omega) (by omega) ⟨by omega, by omega⟩ (fun x9 _ => hf _) (Nat.le_of_ble_eq_true rfl) (Nat.le_of_ble_eq_true rfl) (Nat.le_of_ble_eq_true rfl) dJ14_copyOfRangeByte_27 (fun H locs hO => ?_)
  have hO : dz_O G.1 dz_CL A s.heap [[(ar, dzB G cap f)], [(q_1, dzB G n (va_cpy f (fun _ => 0) 0 0 n))]] _ _ := hO
  refine lv_aload X.x X.b dJ14_copyOfRangeByte_30 (lv_at hl 0 rfl) ?_
  have hO := hO.cong 1 rfl (w1 := [(q_1, dzB G n f)]) (congrArg (fun z9 => [(q_1, dzB G n z9)]) (show f = (va_cpy f (fun _ => 0) 0 0 n) from by exact (dz_cpy_z hz).symm))
  have hO : dz_O G.1 dz_CL A s.heap [[(ar, dzB G cap f)], [(q_1, dzB G n f)]] _ _ := hO
  exact dz_aret X hO rfl (Or.inr ⟨_, rfl⟩) (Or.inr ⟨_, rfl⟩) (⟨q_1, rfl, rfl⟩) (Nat.le_of_ble_eq_true rfl) (Nat.le_of_ble_eq_true rfl) dJ14_copyOfRangeByte_32
set_option maxHeartbeats 4000000 in
set_option maxRecDepth 100000 in
/-- copyOfRange -/
theorem dz_J14_copyOfRange (l : Launch) (G : dz_G) (sz : Nat) (ar : Nat) (cap : Nat) (f : Nat → Int32) (n : Nat) (hn : n ≤ cap) (hcap : cap ≤ 242) (hf : sb_Fit f) (hz : dz_zf n f) : dz_M l G yJ14_copyOfRange cJ14_copyOfRange 3 (some (FieldType.array FieldType.byte)) ({ frames := 60, cells := 1, slots := 242, locals := 900 } : Room) [.ref ar, .int 0, .int (nI n)] [[(ar, dzB G cap f)]] sz (fun r w1 => ∃ (q9 : Nat), r = some (.ref q9) ∧ w1 = [[(ar, dzB G cap f)], [(q9, dzB G n f)]]) (dz_np) := by
  refine dz_start (by decide) (Nat.le_of_ble_eq_true rfl) ?_
  intro p e s m below meth c A ls X hO hsz hl
  have hl : lv_has ls 3 [(0, .ref ar), (1, .int 0), (2, .int (nI n))] := hl
  refine lv_iload_n X.x X.b dJ14_copyOfRange_0 rfl (lv_at hl 1 rfl) ?_
  refine lv_if_ne (tgt := 10) X.x X.b dJ14_copyOfRange_1 (by decide) (fun c_1 => absurd (by decide) c_1) (fun _ => ?_)
  refine lv_iload_n X.x X.b dJ14_copyOfRange_4 rfl (lv_at hl 2 rfl) ?_
  refine lv_aload_n X.x X.b dJ14_copyOfRange_5 rfl (lv_at hl 0 rfl) ?_
  refine dz_alen (v := nI cap) X (hO.at1 0 rfl) 4 rfl (by first | rfl | decide) dJ14_copyOfRange_6 ?_
  refine lv_icmp_eq (tgt := 17) X.x X.b dJ14_copyOfRange_7 (by decide) (fun c_2 => ?_) (fun c_2 => ?_)
  · have nc_2 : n = cap := (nI_eq (a := n) (b := cap) (by omega) (by omega)).mp c_2
    have hnc9 : n = cap := by omega
    subst hnc9
    refine lv_aload_n X.x X.b dJ14_copyOfRange_17 rfl (lv_at hl 0 rfl) ?_
    refine dz_cloneB X hl q269 hO hf (Nat.le_of_ble_eq_true rfl) (Nat.le_of_ble_eq_true rfl) (Nat.le_of_ble_eq_true rfl) (Nat.le_of_ble_eq_true rfl) (by first | omega | (dsimp only; omega)) dJ14_copyOfRange_18 (fun q_3 H hO => ?_)
    have hO : dz_O G.1 dz_CL A s.heap [[(ar, dzB G n f)], [(q_3, dzB G n f)]] _ _ := hO
    refine W.widen (k := 1) (n := 242) (Nat.le_of_ble_eq_true rfl) (by first | omega | (dsimp only; omega)) ?_
    refine dz_castB (k := 1) X q275 hO rfl dJ14_copyOfRange_21 ?_
    exact dz_aret X hO rfl (Or.inr ⟨_, rfl⟩) (Or.inr ⟨_, rfl⟩) (⟨q_3, rfl, rfl⟩) (Nat.le_of_ble_eq_true rfl) (Nat.le_of_ble_eq_true rfl) dJ14_copyOfRange_24
  · have nc_2 : ¬ n = cap := fun z9 => c_2 ((nI_eq (a := n) (b := cap) (by omega) (by omega)).mpr z9)
    refine lv_aload_n X.x X.b dJ14_copyOfRange_10 rfl (lv_at hl 0 rfl) ?_
    refine lv_iload_n X.x X.b dJ14_copyOfRange_11 rfl (lv_at hl 1 rfl) ?_
    refine lv_iload_n X.x X.b dJ14_copyOfRange_12 rfl (lv_at hl 2 rfl) ?_
    refine dz_S (n := 3) (k9 := 1) (n9 := 242) (As := [.ref ar, .int 0, .int (nI n)]) (rest := []) (wr := []) X hO hl (dz_J14_copyOfRangeByte l G _ ar cap f n (by first | assumption | omega | decide) (by first | assumption | omega | decide) (by first | assumption | omega | decide) (by first | assumption | omega | decide)) (lw_S q411 q412 q63 q413) (by decide +kernel) ⟨Nat.le_of_ble_eq_true rfl, Nat.le_of_ble_eq_true rfl⟩ ⟨(Nat.le_of_ble_eq_true rfl), (Nat.le_of_ble_eq_true rfl), (Nat.le_of_ble_eq_true rfl), (Nat.le_of_ble_eq_true rfl)⟩ [0] [] rfl rfl rfl rfl rfl (Nat.le_of_ble_eq_true rfl) dJ14_copyOfRange_13 (fun E w1 q9 ce9 H locs hpx hO hce hv9 hcl9 => hpx.elim) (fun r w1 H locs hpo hO => ?_)
    obtain ⟨q9_4, rfl, rfl⟩ := hpo
    have hO : dz_O G.1 dz_CL A s.heap [[(ar, dzB G cap f)], [(q9_4, dzB G n f)]] _ _ := hO
    refine W.eq (g2 := F0 m 16 ls [.ref q9_4]) rfl ?_
    exact dz_aret X hO rfl (Or.inr ⟨_, rfl⟩) (Or.inr ⟨_, rfl⟩) (⟨q9_4, rfl, rfl⟩) (Nat.le_of_ble_eq_true rfl) (Nat.le_of_ble_eq_true rfl) dJ14_copyOfRange_16
set_option maxHeartbeats 4000000 in
set_option maxRecDepth 100000 in
/-- a string of a builder -/
theorem dz_J10_init_2 (l : Launch) (G : dz_G) (sz : Nat) (q : Nat) (ar : Nat) (cap : Nat) (f : Nat → Int32) (n : Nat) (sb : Nat) (hn : n ≤ cap) (hcap : cap ≤ 242) (hf : sb_Fit f) (hz : dz_zf n f) : dz_M l G yJ10_init_2 cJ10_init_2 5 none ({ frames := 80, cells := 1, slots := 242, locals := 1200 } : Room) [.ref q, .ref sb, .null] [[(q, dzo 22 [.null, .int 0, .int 0, .int 0])], [(sb, dzo 21 [.ref ar, .int 0, .int 0, .int (nI n)])], [(ar, dzB G cap f)]] sz (fun r w1 => ∃ (q9 : Nat), r = none ∧ w1 = [[(q, dzo 22 [.ref q9, .int 0, .int 0, .int 0])], [(sb, dzo 21 [.ref ar, .int 0, .int 0, .int (nI n)])], [(ar, dzB G cap f)], [(q9, dzB G n f)]]) (dz_np) := by
  refine dz_start (by decide) (Nat.le_of_ble_eq_true rfl) ?_
  intro p e s m below meth c A ls X hO hsz hl
  have hl : lv_has ls 5 [(0, .ref q), (1, .ref sb), (2, .null)] := hl
  refine lv_aload_n X.x X.b dJ10_init_2_0 rfl (lv_at hl 0 rfl) ?_
  refine dz_objInit X hl q393 dJ10_init_2_1 (Nat.le_of_ble_eq_true rfl) (Nat.le_of_ble_eq_true rfl) (Nat.le_of_ble_eq_true rfl) ?_
  refine lv_aload_n X.x X.b dJ10_init_2_4 rfl (lv_at hl 1 rfl) ?_
  refine dz_U (n := 0) (C := "java/lang/StringBuilder") (owner := "java/lang/AbstractStringBuilder") (x := dz_m "java/lang/AbstractStringBuilder" "getValue" "()[B") (k9 := 0) (n9 := 0) (As := []) (rest := []) (wr := [[(q, dzo 22 [.null, .int 0, .int 0, .int 0])], [(ar, dzB G cap f)]]) X hO hl (dz_J8_getValue l G _ sb ar n ) (va_cwU 0 X.ts (dz_U4 q394 q396 q397 q395 q57 q398) rfl rfl rfl rfl (by decide +kernel) ⟨Nat.le_of_ble_eq_true rfl, Nat.le_of_ble_eq_true rfl⟩) ⟨(Nat.le_of_ble_eq_true rfl), (Nat.le_of_ble_eq_true rfl), (Nat.le_of_ble_eq_true rfl), (Nat.le_of_ble_eq_true rfl)⟩ [1] [0, 2] rfl rfl rfl (dz_rc X (hO.at1 1 rfl) (r := (RJ9, TJ9, 4)) rfl) rfl rfl (Nat.le_of_ble_eq_true rfl) dJ10_init_2_5 (fun E w1 q9 ce9 H locs hpx hO hce hv9 hcl9 => hpx.elim) (fun r w1 H locs hpo hO => ?_)
  obtain ⟨rfl, rfl⟩ := hpo
  have hO : dz_O G.1 dz_CL A s.heap [[(q, dzo 22 [.null, .int 0, .int 0, .int 0])], [(ar, dzB G cap f)], [(sb, dzo 21 [.ref ar, .int 0, .int 0, .int (nI n)])]] _ _ := hO
  refine W.eq (g2 := F0 m 8 ls [.ref ar]) rfl ?_
  refine lv_astore_n (lv' := [(3, .ref ar), (0, .ref q), (1, .ref sb), (2, .null)]) X.x X.b dJ10_init_2_8 rfl hl (by decide) rfl (fun ls hl => ?_)
  refine lv_aload_n X.x X.b dJ10_init_2_9 rfl (lv_at hl 2 rfl) ?_
  refine dz_U (n := 0) (C := "java/lang/StringBuilder") (owner := "java/lang/AbstractStringBuilder") (x := dz_m "java/lang/AbstractStringBuilder" "length" "()I") (k9 := 0) (n9 := 0) (As := []) (rest := []) (wr := [[(q, dzo 22 [.null, .int 0, .int 0, .int 0])], [(ar, dzB G cap f)]]) X hO hl (dz_J9_length l G _ sb ar n ) (va_cwO 0 X.ts (dz_O4 q399 q401 q400 q402 q403 q58 q404) rfl rfl rfl q406 (by decide +kernel) ⟨Nat.le_of_ble_eq_true rfl, Nat.le_of_ble_eq_true rfl⟩) ⟨(Nat.le_of_ble_eq_true rfl), (Nat.le_of_ble_eq_true rfl), (Nat.le_of_ble_eq_true rfl), (Nat.le_of_ble_eq_true rfl)⟩ [2] [0, 1] rfl rfl rfl (dz_rc X (hO.at1 2 rfl) (r := (RJ9, TJ9, 4)) rfl) rfl rfl (Nat.le_of_ble_eq_true rfl) dJ10_init_2_10 (fun E w1 q9 ce9 H locs hpx hO hce hv9 hcl9 => hpx.elim) (fun r w1 H locs hpo hO => ?_)
  obtain ⟨rfl, rfl⟩ := hpo
  have hO : dz_O G.1 dz_CL A s.heap [[(q, dzo 22 [.null, .int 0, .int 0, .int 0])], [(ar, dzB G cap f)], [(sb, dzo 21 [.ref ar, .int 0, .int 0, .int (nI n)])]] _ _ := hO
  refine W.eq (g2 := F0 m 13 ls [.int (nI n)]) rfl ?_
  refine lv_istore (lv' := [(4, .int (nI n)), (3, .ref ar), (0, .ref q), (1, .ref sb), (2, .null)]) X.x X.b dJ10_init_2_13 hl (by decide) rfl (fun ls hl => ?_)
  refine lv_aload_n X.x X.b dJ10_init_2_15 rfl (lv_at hl 3 rfl) ?_
  refine dz_U (n := 0) (C := "java/lang/StringBuilder") (owner := "java/lang/AbstractStringBuilder") (x := dz_m "java/lang/AbstractStringBuilder" "isLatin1" "()Z") (k9 := 0) (n9 := 0) (As := []) (rest := []) (wr := [[(q, dzo 22 [.null, .int 0, .int 0, .int 0])], [(ar, dzB G cap f)]]) X hO hl (dz_J8_isLatin1 l G _ sb ar n ) (va_cwU 0 X.ts (dz_U4 q407 q284 q285 q283 q57 q286) rfl rfl rfl rfl (by decide +kernel) ⟨Nat.le_of_ble_eq_true rfl, Nat.le_of_ble_eq_true rfl⟩) ⟨(Nat.le_of_ble_eq_true rfl), (Nat.le_of_ble_eq_true rfl), (Nat.le_of_ble_eq_true rfl), (Nat.le_of_ble_eq_true rfl)⟩ [2] [0, 1] rfl rfl rfl (dz_rc X (hO.at1 2 rfl) (r := (RJ9, TJ9, 4)) rfl) rfl rfl (Nat.le_of_ble_eq_true rfl) dJ10_init_2_16 (fun E w1 q9 ce9 H locs hpx hO hce hv9 hcl9 => hpx.elim) (fun r w1 H locs hpo hO => ?_)
  obtain ⟨rfl, rfl⟩ := hpo
  have hO : dz_O G.1 dz_CL A s.heap [[(q, dzo 22 [.null, .int 0, .int 0, .int 0])], [(ar, dzB G cap f)], [(sb, dzo 21 [.ref ar, .int 0, .int 0, .int (nI n)])]] _ _ := hO
  refine W.eq (g2 := F0 m 19 ls [.int 1]) rfl ?_
  refine lv_if_eq (tgt := 41) X.x X.b dJ10_init_2_19 (by decide) (fun c_1 => absurd c_1 (by decide)) (fun _ => ?_)
  refine lv_aload_n X.x X.b dJ10_init_2_22 rfl (lv_at hl 2 rfl) ?_
  refine lv_iconst (v := 0) X.x X.b dJ10_init_2_23 (by decide) ?_
  refine dz_put (v := .int 0) X hO 0 rfl in_J10 tyJ10 tyJ10_ok nmJ10 rfl 1 (by decide) q463 (Or.inl rfl) (Or.inr ⟨rfl, rfl, rfl⟩) rfl rfl (Nat.le_of_ble_eq_true rfl) dJ10_init_2_24 (fun H locs hO => ?_)
  have hO : dz_O G.1 dz_CL A s.heap [[(q, dzo 22 [.null, .int 0, .int 0, .int 0])], [(ar, dzB G cap f)], [(sb, dzo 21 [.ref ar, .int 0, .int 0, .int (nI n)])]] _ _ := hO
  refine lv_aload_n X.x X.b dJ10_init_2_27 rfl (lv_at hl 2 rfl) ?_
  refine lv_aload_n X.x X.b dJ10_init_2_28 rfl (lv_at hl 1 rfl) ?_
  refine lv_iconst (v := 0) X.x X.b dJ10_init_2_29 (by decide) ?_
  refine lv_iload X.x X.b dJ10_init_2_30 (lv_at hl 0 rfl) ?_
  refine dz_S (n := 3) (k9 := 1) (n9 := 242) (As := [.ref ar, .int 0, .int (nI n)]) (rest := [.ref q]) (wr := [[(q, dzo 22 [.null, .int 0, .int 0, .int 0])], [(sb, dzo 21 [.ref ar, .int 0, .int 0, .int (nI n)])]]) X hO hl (dz_J14_copyOfRange l G _ ar cap f n (by first | assumption | omega | decide) (by first | assumption | omega | decide) (by first | assumption | omega | decide) (by first | assumption | omega | decide)) (lw_S q408 q409 q63 q410) (by decide +kernel) ⟨Nat.le_of_ble_eq_true rfl, Nat.le_of_ble_eq_true rfl⟩ ⟨(Nat.le_of_ble_eq_true rfl), (Nat.le_of_ble_eq_true rfl), (Nat.le_of_ble_eq_true rfl), (Nat.le_of_ble_eq_true rfl)⟩ [1] [0, 2] rfl rfl rfl rfl rfl (Nat.le_of_ble_eq_true rfl) dJ10_init_2_32 (fun E w1 q9 ce9 H locs hpx hO hce hv9 hcl9 => hpx.elim) (fun r w1 H locs hpo hO => ?_)
  obtain ⟨q9_2, rfl, rfl⟩ := hpo
  have hO : dz_O G.1 dz_CL A s.heap [[(q, dzo 22 [.null, .int 0, .int 0, .int 0])], [(sb, dzo 21 [.ref ar, .int 0, .int 0, .int (nI n)])], [(ar, dzB G cap f)], [(q9_2, dzB G n f)]] _ _ := hO
  refine W.eq (g2 := F0 m 35 ls [.ref q9_2, .ref q]) rfl ?_
  refine dz_put (v := .ref q9_2) X hO 0 rfl in_J10 tyJ10 tyJ10_ok nmJ10 rfl 0 (by decide) q462 (Or.inl rfl) (Or.inr ⟨rfl, rfl, rfl⟩) rfl rfl (Nat.le_of_ble_eq_true rfl) dJ10_init_2_35 (fun H locs hO => ?_)
  have hO : dz_O G.1 dz_CL A s.heap [[(q, dzo 22 [.ref q9_2, .int 0, .int 0, .int 0])], [(sb, dzo 21 [.ref ar, .int 0, .int 0, .int (nI n)])], [(ar, dzB G cap f)], [(q9_2, dzB G n f)]] _ _ := hO
  refine lv_goto (tgt := 97) X.x X.b dJ10_init_2_38 (by decide) ?_
  exact dz_vret X hO rfl (⟨q9_2, rfl, rfl⟩) (Nat.le_of_ble_eq_true rfl) (Nat.le_of_ble_eq_true rfl) dJ10_init_2_97
set_option maxHeartbeats 4000000 in
set_option maxRecDepth 100000 in
/-- a string of a builder -/
theorem dz_J10_init (l : Launch) (G : dz_G) (sz : Nat) (q : Nat) (ar : Nat) (cap : Nat) (f : Nat → Int32) (n : Nat) (sb : Nat) (hn : n ≤ cap) (hcap : cap ≤ 242) (hf : sb_Fit f) (hz : dz_zf n f) : dz_M l G yJ10_init cJ10_init 2 none ({ frames := 100, cells := 1, slots := 242, locals := 1500 } : Room) [.ref q, .ref sb] [[(q, dzo 22 [.null, .int 0, .int 0, .int 0])], [(sb, dzo 21 [.ref ar, .int 0, .int 0, .int (nI n)])], [(ar, dzB G cap f)]] sz (fun r w1 => ∃ (q9 : Nat), r = none ∧ w1 = [[(q, dzo 22 [.ref q9, .int 0, .int 0, .int 0])], [(sb, dzo 21 [.ref ar, .int 0, .int 0, .int (nI n)])], [(ar, dzB G cap f)], [(q9, dzB G n f)]]) (dz_np) := by
  refine dz_start (by decide) (Nat.le_of_ble_eq_true rfl) ?_
  intro p e s m below meth c A ls X hO hsz hl
  have hl : lv_has ls 2 [(0, .ref q), (1, .ref sb)] := hl
  refine lv_aload_n X.x X.b dJ10_init_0 rfl (lv_at hl 0 rfl) ?_
  refine lv_aload_n X.x X.b dJ10_init_1 rfl (lv_at hl 1 rfl) ?_
  refine lv_null X.x X.b dJ10_init_2 ?_
  refine dz_I (ret1 := none) (n := 2) (k9 := 1) (n9 := 242) (As := [.ref sb, .null]) (rest := []) (wr := []) X hO hl (dz_J10_init_2 l G _ q ar cap f n sb (by first | assumption | omega | decide) (by first | assumption | omega | decide) (by first | assumption | omega | decide) (by first | assumption | omega | decide)) q392 q59 q390 q391 rfl (by decide +kernel) ⟨Nat.le_of_ble_eq_true rfl, Nat.le_of_ble_eq_true rfl⟩ ⟨(Nat.le_of_ble_eq_true rfl), (Nat.le_of_ble_eq_true rfl), (Nat.le_of_ble_eq_true rfl), (Nat.le_of_ble_eq_true rfl)⟩ [0, 1, 2] [] rfl rfl rfl rfl rfl (Nat.le_of_ble_eq_true rfl) dJ10_init_3 (fun E w1 q9 ce9 H locs hpx hO hce hv9 hcl9 => hpx.elim) (fun r w1 H locs hpo hO => ?_)
  obtain ⟨q9_1, rfl, rfl⟩ := hpo
  have hO : dz_O G.1 dz_CL A s.heap [[(q, dzo 22 [.ref q9_1, .int 0, .int 0, .int 0])], [(sb, dzo 21 [.ref ar, .int 0, .int 0, .int (nI n)])], [(ar, dzB G cap f)], [(q9_1, dzB G n f)]] _ _ := hO
  refine W.eq (g2 := F0 m 6 ls []) rfl ?_
  exact dz_vret X hO rfl (⟨q9_1, rfl, rfl⟩) (Nat.le_of_ble_eq_true rfl) (Nat.le_of_ble_eq_true rfl) dJ10_init_6
set_option maxHeartbeats 4000000 in
set_option maxRecDepth 100000 in
/-- toString -/
theorem dz_J9_toString (l : Launch) (G : dz_G) (sz : Nat) (ar : Nat) (cap : Nat) (f : Nat → Int32) (n : Nat) (sb : Nat) (hn : n ≤ cap) (hcap : cap ≤ 242) (hf : sb_Fit f) (hz : dz_zf n f) : dz_M l G yJ9_toString cJ9_toString 1 (some (FieldType.object "java/lang/String")) ({ frames := 120, cells := 2, slots := 250, locals := 1800 } : Room) [.ref sb] [[(sb, dzo 21 [.ref ar, .int 0, .int 0, .int (nI n)])], [(ar, dzB G cap f)]] sz (fun r w1 => ∃ (s9 : Nat), ∃ (q9 : Nat), r = some (.ref s9) ∧ w1 = [[(s9, dzo 22 [.ref q9, .int 0, .int 0, .int 0])], [(sb, dzo 21 [.ref ar, .int 0, .int 0, .int (nI n)])], [(ar, dzB G cap f)], [(q9, dzB G n f)]]) (dz_np) := by
  refine dz_start (by decide) (Nat.le_of_ble_eq_true rfl) ?_
  intro p e s m below meth c A ls X hO hsz hl
  have hl : lv_has ls 1 [(0, .ref sb)] := hl
  refine dz_new X hO 22 in_J10 tyJ10 tyJ10_ok q385 q386 q59 rfl [.null, .int 0, .int 0, .int 0] dz_dfJ10 (Nat.le_of_ble_eq_true rfl) (Nat.le_of_ble_eq_true rfl) dJ9_toString_0 (fun q_1 H hO => ?_)
  have hO : dz_O G.1 dz_CL A s.heap [[(sb, dzo 21 [.ref ar, .int 0, .int 0, .int (nI n)])], [(ar, dzB G cap f)], [(q_1, dzo 22 [.null, .int 0, .int 0, .int 0])]] _ _ := hO
  refine W.widen (k := 1) (n := 4) (Nat.le_of_ble_eq_true rfl) (Nat.le_of_ble_eq_true rfl) ?_
  refine lv_dup X.x X.b dJ9_toString_3 rfl ?_
  refine lv_aload_n X.x X.b dJ9_toString_4 rfl (lv_at hl 0 rfl) ?_
  refine dz_I (ret1 := none) (n := 1) (k9 := 2) (n9 := 246) (As := [.ref sb]) (rest := [.ref q_1]) (wr := []) X hO hl (dz_J10_init l G _ q_1 ar cap f n sb (by first | assumption | omega | decide) (by first | assumption | omega | decide) (by first | assumption | omega | decide) (by first | assumption | omega | decide)) q389 q59 q387 q388 rfl (by decide +kernel) ⟨Nat.le_of_ble_eq_true rfl, Nat.le_of_ble_eq_true rfl⟩ ⟨(Nat.le_of_ble_eq_true rfl), (Nat.le_of_ble_eq_true rfl), (Nat.le_of_ble_eq_true rfl), (Nat.le_of_ble_eq_true rfl)⟩ [2, 0, 1] [] rfl rfl rfl rfl rfl (Nat.le_of_ble_eq_true rfl) dJ9_toString_5 (fun E w1 q9 ce9 H locs hpx hO hce hv9 hcl9 => hpx.elim) (fun r w1 H locs hpo hO => ?_)
  obtain ⟨q9_2, rfl, rfl⟩ := hpo
  have hO : dz_O G.1 dz_CL A s.heap [[(q_1, dzo 22 [.ref q9_2, .int 0, .int 0, .int 0])], [(sb, dzo 21 [.ref ar, .int 0, .int 0, .int (nI n)])], [(ar, dzB G cap f)], [(q9_2, dzB G n f)]] _ _ := hO
  refine W.eq (g2 := F0 m 8 ls [.ref q_1]) rfl ?_
  exact dz_aret X hO rfl (Or.inl ⟨_, rfl⟩) (Or.inr ⟨_, rfl⟩) (⟨q_1, q9_2, rfl, rfl⟩) (Nat.le_of_ble_eq_true rfl) (Nat.le_of_ble_eq_true rfl) dJ9_toString_8
set_option maxHeartbeats 4000000 in
set_option maxRecDepth 100000 in
/-- equals: the same bytes -/
theorem dz_J16_equals (l : Launch) (G : dz_G) (sz : Nat) (u : Nat) (v : Nat) (n : Nat) (f : Nat → Int32) (hn : n ≤ 242) : dz_M l G yJ16_equals cJ16_equals 3 (some FieldType.boolean) ({ frames := 20, cells := 0, slots := 0, locals := 300 } : Room) [.ref u, .ref v] [[(u, dzB G n f)], [(v, dzB G n f)]] sz (fun r w1 => r = some (.int 1) ∧ w1 = [[(u, dzB G n f)], [(v, dzB G n f)]]) (dz_np) := by
  refine dz_start (by decide) (Nat.le_of_ble_eq_true rfl) ?_
  intro p e s m below meth c A ls X hO hsz hl
  have hl : lv_has ls 3 [(0, .ref u), (1, .ref v)] := hl
  refine lv_aload_n X.x X.b dJ16_equals_0 rfl (lv_at hl 0 rfl) ?_
  refine dz_alen (v := nI n) X (hO.at1 0 rfl) 4 rfl (by first | rfl | decide) dJ16_equals_1 ?_
  refine lv_aload_n X.x X.b dJ16_equals_2 rfl (lv_at hl 1 rfl) ?_
  refine dz_alen (v := nI n) X (hO.at1 1 rfl) 4 rfl (by first | rfl | decide) dJ16_equals_3 ?_
  refine lv_icmp_ne (tgt := 34) X.x X.b dJ16_equals_4 (by decide) (fun c_1 => absurd (rfl) c_1) (fun _ => ?_)
  refine lv_iconst (v := 0) X.x X.b dJ16_equals_7 (by decide) ?_
  refine lv_istore_n (lv' := [(2, .int 0), (0, .ref u), (1, .ref v)]) X.x X.b dJ16_equals_8 rfl hl (by decide) rfl (fun ls hl => ?_)
  have hcut_9 : ∀ (n9 : Nat), ∀ (i : Nat), (i ≤ n) → n - i < n9 → ∀ (H : Heap) (locs : List Loc), dz_O G.1 dz_CL A s.heap [[(u, dzB G n f)], [(v, dzB G n f)]] H locs → ∀ (ls : Array Slot), lv_has ls 3 [(2, .int (nI i)), (0, .ref u), (1, .ref v)] → W p l e ({ frames := 20, cells := 0, slots := 0, locals := 300 } : Room) s m ([.ref u, .ref v] : List Value).toArray below meth c H locs 0 0 (vx_MQ below (dz_Q G (fun r w1 => r = some (.int 1) ∧ w1 = [[(u, dzB G n f)], [(v, dzB G n f)]]) A) (dz_QX G (dz_np) A) ([.ref u, .ref v] : List Value).toArray s 0 0 A) (F0 m 9 ls []) := by
    intro n9
    induction n9 with
    | zero => intro i hi hmu9; exact absurd hmu9 (Nat.not_lt_zero _)
    | succ n9 ih =>
      intro i hi hmu9 H locs hO ls hl
      refine lv_iload_n X.x X.b dJ16_equals_9 rfl (lv_at hl 0 rfl) ?_
      refine lv_aload_n X.x X.b dJ16_equals_10 rfl (lv_at hl 1 rfl) ?_
      refine dz_alen (v := nI n) X (hO.at1 0 rfl) 4 rfl (by first | rfl | decide) dJ16_equals_11 ?_
      refine lv_icmp_ge (tgt := 32) X.x X.b dJ16_equals_12 (by decide) (fun c_2 => ?_) (fun c_2 => ?_)
      · have nc_2 : n ≤ i := (nI_leI (a := n) (b := i) (by omega) (by omega)).mp c_2
        refine lv_iconst (v := 1) X.x X.b dJ16_equals_32 (by decide) ?_
        exact dz_zret X hO rfl (rfl) (⟨rfl, rfl⟩) (Nat.le_of_ble_eq_true rfl) (Nat.le_of_ble_eq_true rfl) dJ16_equals_33
      · have nc_2 : ¬ n ≤ i := fun z9 => c_2 ((nI_leI (a := n) (b := i) (by omega) (by omega)).mpr z9)
        refine lv_aload_n X.x X.b dJ16_equals_15 rfl (lv_at hl 1 rfl) ?_
        refine lv_iload_n X.x X.b dJ16_equals_16 rfl (lv_at hl 0 rfl) ?_
        refine dz_bald X (hO.at1 0 rfl) (j := i) rfl (by omega) (by omega) dJ16_equals_17 ?_
        refine lv_aload_n X.x X.b dJ16_equals_18 rfl (lv_at hl 2 rfl) ?_
        refine lv_iload_n X.x X.b dJ16_equals_19 rfl (lv_at hl 0 rfl) ?_
        refine dz_bald X (hO.at1 1 rfl) (j := i) rfl (by omega) (by omega) dJ16_equals_20 ?_
        refine lv_icmp_eq (tgt := 26) X.x X.b dJ16_equals_21 (by decide) (fun _ => ?_) (fun c_3 => absurd (rfl) c_3)
        refine lv_iinc (v := nI (i + 1)) (lv' := [(2, .int (nI (i + 1))), (0, .ref u), (1, .ref v)]) X.x X.b dJ16_equals_26 hl (k := 0) rfl (nI_1 i) (by decide) rfl (fun ls hl => ?_)
        refine lv_goto (tgt := 9) X.x X.b dJ16_equals_29 (by decide) ?_
        exact ih (i + 1) (by first | assumption | omega) (by omega) _ _ hO ls (lv_sub hl [0, 1, 2] rfl)
  have hl : lv_has ls 3 [(2, .int (nI 0)), (0, .ref u), (1, .ref v)] := hl
  exact hcut_9 _ 0 (by first | assumption | omega) (Nat.lt_succ_self _) _ _ hO ls (lv_sub hl [0, 1, 2] rfl)
set_option maxHeartbeats 4000000 in
set_option maxRecDepth 100000 in
/-- equals: the same text -/
theorem dz_J10_equals (l : Launch) (G : dz_G) (sz : Nat) (x : Nat) (y : Nat) (u : Nat) (v : Nat) (n : Nat) (f : Nat → Int32) (hn : n ≤ 242) (hxy : ¬ x = y) : dz_M l G yJ10_equals cJ10_equals 3 (some FieldType.boolean) ({ frames := 40, cells := 0, slots := 0, locals := 600 } : Room) [.ref x, .ref y] [[(x, dzo 22 [.ref u, .int 0, .int 0, .int 0])], [(y, dzo 22 [.ref v, .int 0, .int 0, .int 0])], [(u, dzB G n f)], [(v, dzB G n f)]] sz (fun r w1 => r = some (.int 1) ∧ w1 = [[(x, dzo 22 [.ref u, .int 0, .int 0, .int 0])], [(y, dzo 22 [.ref v, .int 0, .int 0, .int 0])], [(u, dzB G n f)], [(v, dzB G n f)]]) (dz_np) := by
  refine dz_start (by decide) (Nat.le_of_ble_eq_true rfl) ?_
  intro p e s m below meth c A ls X hO hsz hl
  have hl : lv_has ls 3 [(0, .ref x), (1, .ref y)] := hl
  refine lv_aload_n X.x X.b dJ10_equals_0 rfl (lv_at hl 0 rfl) ?_
  refine lv_aload_n X.x X.b dJ10_equals_1 rfl (lv_at hl 1 rfl) ?_
  refine lv_acmp_ne (rx := (some x)) (ry := (some y)) (tgt := 7) X.x X.b dJ10_equals_2 (by decide) (fun _ => ?_) (fun c_1 => absurd c_1 (fun z => hxy (Option.some.inj z)))
  refine lv_aload_n X.x X.b dJ10_equals_7 rfl (lv_at hl 1 rfl) ?_
  refine dz_inst X q2531 (Or.inl rfl) (dz_rc X (hO.at1 1 rfl) (r := (RJ10, TJ10, 4)) rfl) dJ10_equals_8 ?_
  refine lv_if_eq (tgt := 54) X.x X.b dJ10_equals_11 (by decide) (fun c_2 => absurd c_2 (by decide)) (fun _ => ?_)
  refine lv_aload_n X.x X.b dJ10_equals_14 rfl (lv_at hl 1 rfl) ?_
  refine dz_cast X q2531 (Or.inl rfl) (dz_rc X (hO.at1 1 rfl) (r := (RJ10, TJ10, 4)) rfl) dJ10_equals_15 ?_
  refine lv_astore_n (lv' := [(2, .ref y), (0, .ref x), (1, .ref y)]) X.x X.b dJ10_equals_18 rfl hl (by decide) rfl (fun ls hl => ?_)
  refine dz_gets (v := .int 1) X hO X.st.2.2.2.2.2.2.2.2.2.2.2.2.1 q321 (Or.inl rfl) dJ10_equals_19 ?_
  refine lv_if_eq (tgt := 36) X.x X.b dJ10_equals_22 (by decide) (fun c_3 => absurd c_3 (by decide)) (fun _ => ?_)
  refine lv_aload_n X.x X.b dJ10_equals_25 rfl (lv_at hl 1 rfl) ?_
  refine dz_get (v := .int 0) X (hO.at1 0 rfl) in_J10 rfl 1 (by decide) q463 (Or.inl rfl) rfl dJ10_equals_26 ?_
  refine lv_aload_n X.x X.b dJ10_equals_29 rfl (lv_at hl 0 rfl) ?_
  refine dz_get (v := .int 0) X (hO.at1 1 rfl) in_J10 rfl 1 (by decide) q463 (Or.inl rfl) rfl dJ10_equals_30 ?_
  refine lv_icmp_ne (tgt := 54) X.x X.b dJ10_equals_33 (by decide) (fun c_4 => absurd (rfl) c_4) (fun _ => ?_)
  refine lv_aload_n X.x X.b dJ10_equals_36 rfl (lv_at hl 1 rfl) ?_
  refine dz_get (v := .ref u) X (hO.at1 0 rfl) in_J10 rfl 0 (by decide) q462 (Or.inl rfl) rfl dJ10_equals_37 ?_
  refine lv_aload_n X.x X.b dJ10_equals_40 rfl (lv_at hl 0 rfl) ?_
  refine dz_get (v := .ref v) X (hO.at1 1 rfl) in_J10 rfl 0 (by decide) q462 (Or.inl rfl) rfl dJ10_equals_41 ?_
  refine dz_S (n := 2) (k9 := 0) (n9 := 0) (As := [.ref u, .ref v]) (rest := []) (wr := [[(x, dzo 22 [.ref u, .int 0, .int 0, .int 0])], [(y, dzo 22 [.ref v, .int 0, .int 0, .int 0])]]) X hO hl (dz_J16_equals l G _ u v n f (by first | assumption | omega | decide)) (lw_S q2532 q2533 q66 q2534) (by decide +kernel) ⟨Nat.le_of_ble_eq_true rfl, Nat.le_of_ble_eq_true rfl⟩ ⟨(Nat.le_of_ble_eq_true rfl), (Nat.le_of_ble_eq_true rfl), (Nat.le_of_ble_eq_true rfl), (Nat.le_of_ble_eq_true rfl)⟩ [2, 3] [0, 1] rfl rfl rfl rfl rfl (Nat.le_of_ble_eq_true rfl) dJ10_equals_44 (fun E w1 q9 ce9 H locs hpx hO hce hv9 hcl9 => hpx.elim) (fun r w1 H locs hpo hO => ?_)
  obtain ⟨rfl, rfl⟩ := hpo
  have hO : dz_O G.1 dz_CL A s.heap [[(x, dzo 22 [.ref u, .int 0, .int 0, .int 0])], [(y, dzo 22 [.ref v, .int 0, .int 0, .int 0])], [(u, dzB G n f)], [(v, dzB G n f)]] _ _ := hO
  refine W.eq (g2 := F0 m 47 ls [.int 1]) rfl ?_
  refine lv_if_eq (tgt := 54) X.x X.b dJ10_equals_47 (by decide) (fun c_5 => absurd c_5 (by decide)) (fun _ => ?_)
  refine lv_iconst (v := 1) X.x X.b dJ10_equals_50 (by decide) ?_
  refine lv_goto (tgt := 55) X.x X.b dJ10_equals_51 (by decide) ?_
  exact dz_zret X hO rfl (rfl) (⟨rfl, rfl⟩) (Nat.le_of_ble_eq_true rfl) (Nat.le_of_ble_eq_true rfl) dJ10_equals_55
