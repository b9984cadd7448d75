def dz_w1 (v : Int64) : Nat → Int64 := fun k => if k = 0 then v else 0
theorem dz_w1_0 : (fun _ => 0 : Nat → Int64) = dz_w1 0 := by
  funext k; unfold dz_w1; split <;> rfl
theorem dz_w1_u (a b : Int64) : vp_updL (dz_w1 a) 0 b = dz_w1 b := by
  funext k; unfold vp_updL dz_w1
  by_cases h : k = 0
  · simp [h]
  · simp [h]
theorem dz_lsr {w k : Nat} (hw : w < 2 ^ 64) (hk : k < 64) (x : Int32) (hx : x = nI k) : ((lN w).toUInt64 >>> (x.toInt64.toUInt64 &&& Int64.toUInt64 63)).toInt64 = lN (w / 2 ^ k) := by
  subst hx; exact wb_shr hw hk
theorem dz_and_le (a b : Nat) : a &&& b ≤ a := Nat.and_le_left
theorem nx_and (a b : Nat) : nI a &&& nI b = nI (a &&& b) := by
  apply Int32.toBitVec_inj.1
  show BitVec.ofNat 32 a &&& BitVec.ofNat 32 b = BitVec.ofNat 32 (a &&& b)
  apply BitVec.eq_of_getLsbD_eq
  intro i hi
  simp [hi]
theorem dz_bcfin {w : Nat} (h : w < 2 ^ 24) (x : Nat) (hx : dz_s3 w + dz_s3 w / 256 + (dz_s3 w + dz_s3 w / 256) / 65536 = dz_pc w 24 + 256 * x) (hp : dz_pc w 24 ≤ 24) : (lN (dz_pc w 24 + 256 * x)).toInt32 &&& 127 = nI (dz_pc w 24) := by
  rw [lN_i]
  have e : nI (dz_pc w 24 + 256 * x) &&& nI 127 = nI ((dz_pc w 24 + 256 * x) % 2 ^ 7) := by
    have := Nat.and_two_pow_sub_one_eq_mod (dz_pc w 24 + 256 * x) 7
    rw [← this]
    exact nx_and _ 127
  rw [show (dz_pc w 24 + 256 * x) % 2 ^ 7 = dz_pc w 24 by omega] at e
  exact e
set_option maxHeartbeats 4000000 in
set_option maxRecDepth 100000 in
/-- bitCount of a word of three bytes -/
theorem dz_J39_bitCount (l : Launch) (G : dz_G) (sz : Nat) (w : Nat) (hw : w < 2 ^ 24) : dz_M l G yJ39_bitCount cJ39_bitCount 2 (some FieldType.int) ({ frames := 20, cells := 0, slots := 0, locals := 300 } : Room) [.long (lN w)] [] sz (fun r w1 => r = some (.int (nI (dz_pc w 24))) ∧ w1 = []) (dz_np) := by
  refine dz_start (by decide) (Nat.le_of_ble_eq_true rfl) ?_
  intro p e s m below meth c A ls X hO hsz hl
  have hl : lv_has ls 2 [(0, .long (lN w))] := hl
  refine lv_lload_n X.x X.b dJ39_bitCount_0 rfl (lv_at hl 0 rfl) ?_
  refine lv_lload_n X.x X.b dJ39_bitCount_1 rfl (lv_at hl 0 rfl) ?_
  refine lv_iconst (v := 1) X.x X.b dJ39_bitCount_2 (by decide) ?_
  refine lv_lushr (v := ((lN w).toUInt64 >>> ((1 : Int32).toInt64.toUInt64 &&& Int64.toUInt64 63)).toInt64) X.x X.b dJ39_bitCount_3 rfl ?_
  refine dz_rev (w := .long (lN (w / 2 ^ 1))) (congrArg Value.long (dz_lsr (k := 1) (by omega) (by decide) _ (by decide))) ?_
  refine lv_ldc2 (v := 6148914691236517205) X.x X.b X.own (X.ts _ q2087) dJ39_bitCount_4 ?_
  refine lv_land X.x X.b dJ39_bitCount_7 ?_
  refine dz_rev (w := .long (lN (w / 2 ^ 1 &&& 6148914691236517205))) (congrArg Value.long (wb_and (Nat.lt_of_le_of_lt (Nat.div_le_self _ _) (by omega)) (by decide))) ?_
  refine lv_lsub X.x X.b dJ39_bitCount_8 ?_
  refine dz_rev (w := .long (lN (dz_s1 w))) (congrArg Value.long (lN_sub (Nat.le_trans (dz_and_le _ _) (Nat.div_le_self _ _)))) ?_
  refine lv_lstore_n (lv' := [(0, .long (lN (dz_s1 w)))]) X.x X.b dJ39_bitCount_9 rfl hl (by decide) rfl (fun ls hl => ?_)
  have b1 : dz_s1 w < 2 ^ 24 := by unfold dz_s1; omega
  refine lv_lload_n X.x X.b dJ39_bitCount_10 rfl (lv_at hl 0 rfl) ?_
  refine lv_ldc2 (v := 3689348814741910323) X.x X.b X.own (X.ts _ q2088) dJ39_bitCount_11 ?_
  refine lv_land X.x X.b dJ39_bitCount_14 ?_
  refine dz_rev (w := .long (lN (dz_s1 w &&& 3689348814741910323))) (congrArg Value.long (wb_and (by omega) (by decide))) ?_
  refine lv_lload_n X.x X.b dJ39_bitCount_15 rfl (lv_at hl 0 rfl) ?_
  refine lv_iconst (v := 2) X.x X.b dJ39_bitCount_16 (by decide) ?_
  refine lv_lushr (v := ((lN (dz_s1 w)).toUInt64 >>> ((2 : Int32).toInt64.toUInt64 &&& Int64.toUInt64 63)).toInt64) X.x X.b dJ39_bitCount_17 rfl ?_
  refine dz_rev (w := .long (lN (dz_s1 w / 2 ^ 2))) (congrArg Value.long (dz_lsr (k := 2) (by omega) (by decide) _ (by decide))) ?_
  refine lv_ldc2 (v := 3689348814741910323) X.x X.b X.own (X.ts _ q2088) dJ39_bitCount_18 ?_
  refine lv_land X.x X.b dJ39_bitCount_21 ?_
  refine dz_rev (w := .long (lN (dz_s1 w / 2 ^ 2 &&& 3689348814741910323))) (congrArg Value.long (wb_and (Nat.lt_of_le_of_lt (Nat.div_le_self _ _) (by omega)) (by decide))) ?_
  refine lv_ladd X.x X.b dJ39_bitCount_22 ?_
  refine dz_rev (w := .long (lN (dz_s2 w))) (congrArg Value.long (lN_add _ _)) ?_
  refine lv_lstore_n (lv' := [(0, .long (lN (dz_s2 w)))]) X.x X.b dJ39_bitCount_23 rfl hl (by decide) rfl (fun ls hl => ?_)
  have b2 : dz_s2 w < 2 ^ 25 := by have := dz_and_le (dz_s1 w) 3689348814741910323; have := dz_and_le (dz_s1 w / 4) 3689348814741910323; unfold dz_s2; omega
  refine lv_lload_n X.x X.b dJ39_bitCount_24 rfl (lv_at hl 0 rfl) ?_
  refine lv_lload_n X.x X.b dJ39_bitCount_25 rfl (lv_at hl 0 rfl) ?_
  refine lv_iconst (v := 4) X.x X.b dJ39_bitCount_26 (by decide) ?_
  refine lv_lushr (v := ((lN (dz_s2 w)).toUInt64 >>> ((4 : Int32).toInt64.toUInt64 &&& Int64.toUInt64 63)).toInt64) X.x X.b dJ39_bitCount_27 rfl ?_
  refine dz_rev (w := .long (lN (dz_s2 w / 2 ^ 4))) (congrArg Value.long (dz_lsr (k := 4) (by omega) (by decide) _ (by decide))) ?_
  refine lv_ladd X.x X.b dJ39_bitCount_28 ?_
  refine dz_rev (w := .long (lN (dz_s2 w + dz_s2 w / 2 ^ 4))) (congrArg Value.long (lN_add _ _)) ?_
  refine lv_ldc2 (v := 1085102592571150095) X.x X.b X.own (X.ts _ q2089) dJ39_bitCount_29 ?_
  refine lv_land X.x X.b dJ39_bitCount_32 ?_
  refine dz_rev (w := .long (lN (dz_s3 w))) (congrArg Value.long (wb_and (by omega) (by decide))) ?_
  refine lv_lstore_n (lv' := [(0, .long (lN (dz_s3 w)))]) X.x X.b dJ39_bitCount_33 rfl hl (by decide) rfl (fun ls hl => ?_)
  obtain ⟨x9, hx9, hs9, hp9⟩ := dz_pop hw
  refine lv_lload_n X.x X.b dJ39_bitCount_34 rfl (lv_at hl 0 rfl) ?_
  refine lv_lload_n X.x X.b dJ39_bitCount_35 rfl (lv_at hl 0 rfl) ?_
  refine lv_bipush (v := 8) X.x X.b dJ39_bitCount_36 (by decide) ?_
  refine lv_lushr (v := ((lN (dz_s3 w)).toUInt64 >>> ((8 : Int32).toInt64.toUInt64 &&& Int64.toUInt64 63)).toInt64) X.x X.b dJ39_bitCount_38 rfl ?_
  refine dz_rev (w := .long (lN (dz_s3 w / 2 ^ 8))) (congrArg Value.long (dz_lsr (k := 8) (by omega) (by decide) _ (by decide))) ?_
  refine lv_ladd X.x X.b dJ39_bitCount_39 ?_
  refine dz_rev (w := .long (lN (dz_s3 w + dz_s3 w / 256))) (congrArg Value.long (lN_add _ _)) ?_
  refine lv_lstore_n (lv' := [(0, .long (lN (dz_s3 w + dz_s3 w / 256)))]) X.x X.b dJ39_bitCount_40 rfl hl (by decide) rfl (fun ls hl => ?_)
  refine lv_lload_n X.x X.b dJ39_bitCount_41 rfl (lv_at hl 0 rfl) ?_
  refine lv_lload_n X.x X.b dJ39_bitCount_42 rfl (lv_at hl 0 rfl) ?_
  refine lv_bipush (v := 16) X.x X.b dJ39_bitCount_43 (by decide) ?_
  refine lv_lushr (v := ((lN (dz_s3 w + dz_s3 w / 256)).toUInt64 >>> ((16 : Int32).toInt64.toUInt64 &&& Int64.toUInt64 63)).toInt64) X.x X.b dJ39_bitCount_45 rfl ?_
  refine dz_rev (w := .long (lN ((dz_s3 w + dz_s3 w / 256) / 2 ^ 16))) (congrArg Value.long (dz_lsr (k := 16) (by omega) (by decide) _ (by decide))) ?_
  refine lv_ladd X.x X.b dJ39_bitCount_46 ?_
  refine dz_rev (w := .long (lN (dz_pc w 24 + 256 * x9))) (congrArg Value.long ((lN_add _ _).trans (congrArg lN hx9))) ?_
  refine lv_lstore_n (lv' := [(0, .long (lN (dz_pc w 24 + 256 * x9)))]) X.x X.b dJ39_bitCount_47 rfl hl (by decide) rfl (fun ls hl => ?_)
  refine lv_lload_n X.x X.b dJ39_bitCount_48 rfl (lv_at hl 0 rfl) ?_
  refine lv_lload_n X.x X.b dJ39_bitCount_49 rfl (lv_at hl 0 rfl) ?_
  refine lv_bipush (v := 32) X.x X.b dJ39_bitCount_50 (by decide) ?_
  refine lv_lushr (v := ((lN (dz_pc w 24 + 256 * x9)).toUInt64 >>> ((32 : Int32).toInt64.toUInt64 &&& Int64.toUInt64 63)).toInt64) X.x X.b dJ39_bitCount_52 rfl ?_
  refine dz_rev (w := .long (lN 0)) (congrArg Value.long ((dz_lsr (k := 32) (by omega) (by decide) _ (by decide)).trans (congrArg lN (by omega)))) ?_
  refine lv_ladd X.x X.b dJ39_bitCount_53 ?_
  refine dz_rev (w := .long (lN (dz_pc w 24 + 256 * x9))) (congrArg Value.long (lN_add _ _)) ?_
  refine lv_lstore_n (lv' := [(0, .long (lN (dz_pc w 24 + 256 * x9)))]) X.x X.b dJ39_bitCount_54 rfl hl (by decide) rfl (fun ls hl => ?_)
  refine lv_lload_n X.x X.b dJ39_bitCount_55 rfl (lv_at hl 0 rfl) ?_
  refine lv_l2i (v := (lN (dz_pc w 24 + 256 * x9)).toInt32) X.x X.b dJ39_bitCount_56 rfl ?_
  refine lv_bipush (v := 127) X.x X.b dJ39_bitCount_57 (by decide) ?_
  refine lv_iand X.x X.b dJ39_bitCount_59 ?_
  exact dz_iret X hO rfl (⟨by rw [dz_bcfin hw x9 hx9 hp9], rfl⟩) (Nat.le_of_ble_eq_true rfl) (Nat.le_of_ble_eq_true rfl) dJ39_bitCount_60
set_option maxHeartbeats 4000000 in
set_option maxRecDepth 100000 in
/-- wordIndex -/
theorem dz_J0_wordIndex (l : Launch) (G : dz_G) (sz : Nat) (i : Nat) (hi : i < 24) : dz_M l G yJ0_wordIndex cJ0_wordIndex 1 (some FieldType.int) ({ frames := 20, cells := 0, slots := 0, locals := 300 } : Room) [.int (nI i)] [] sz (fun r w1 => r = some (.int 0) ∧ w1 = []) (dz_np) := by
  refine dz_start (by decide) (Nat.le_of_ble_eq_true rfl) ?_
  intro p e s m below meth c A ls X hO hsz hl
  have hl : lv_has ls 1 [(0, .int (nI i))] := hl
  refine lv_iload_n X.x X.b dJ0_wordIndex_0 rfl (lv_at hl 0 rfl) ?_
  refine lv_bipush (v := 6) X.x X.b dJ0_wordIndex_1 (by decide) ?_
  refine lv_ishr X.x X.b dJ0_wordIndex_3 ?_
  exact dz_iret X hO rfl (⟨by rw [dz_shr6 i hi], rfl⟩) (Nat.le_of_ble_eq_true rfl) (Nat.le_of_ble_eq_true rfl) dJ0_wordIndex_4
set_option maxHeartbeats 4000000 in
set_option maxRecDepth 100000 in
/-- initWords -/
theorem dz_J0_initWords (l : Launch) (G : dz_G) (sz : Nat) (bs : Nat)  : dz_M l G yJ0_initWords cJ0_initWords 2 none ({ frames := 40, cells := 1, slots := 1, locals := 600 } : Room) [.ref bs, .int 24] [[(bs, dzo 13 [.null, .int 0, .int 0])]] sz (fun r w1 => ∃ (wa : Nat), r = none ∧ w1 = [[(bs, dzo 13 [.ref wa, .int 0, .int 0])], [(wa, dzJ G 1 (fun _ => 0))]]) (dz_np) := by
  refine dz_start (by decide) (Nat.le_of_ble_eq_true rfl) ?_
  intro p e s m below meth c A ls X hO hsz hl
  have hl : lv_has ls 2 [(0, .ref bs), (1, .int 24)] := hl
  refine lv_aload_n X.x X.b dJ0_initWords_0 rfl (lv_at hl 0 rfl) ?_
  refine lv_iload_n X.x X.b dJ0_initWords_1 rfl (lv_at hl 1 rfl) ?_
  refine lv_iconst (v := 1) X.x X.b dJ0_initWords_2 (by decide) ?_
  refine lv_isub X.x X.b dJ0_initWords_3 ?_
  refine dz_rei (y := 23) (by decide) ?_
  refine dz_rei (y := nI 23) (by decide) ?_
  refine dz_S (n := 1) (k9 := 0) (n9 := 0) (As := [.int (nI 23)]) (rest := [.ref bs]) (wr := [[(bs, dzo 13 [.null, .int 0, .int 0])]]) X hO hl (dz_J0_wordIndex l G _ 23 (by first | assumption | omega | decide)) (lw_S q126 q127 q49 q128) (by decide +kernel) ⟨Nat.le_of_ble_eq_true rfl, Nat.le_of_ble_eq_true rfl⟩ ⟨(Nat.le_of_ble_eq_true rfl), (Nat.le_of_ble_eq_true rfl), (Nat.le_of_ble_eq_true rfl), (Nat.le_of_ble_eq_true rfl)⟩ [] [0] rfl rfl rfl rfl rfl (Nat.le_of_ble_eq_true rfl) dJ0_initWords_4 (fun E w1 q9 ce9 H locs hpx hO hce hv9 hcl9 => hpx.elim) (fun r w1 H locs hpo hO => ?_)
  obtain ⟨rfl, rfl⟩ := hpo
  have hO : dz_O G.1 dz_CL A s.heap [[(bs, dzo 13 [.null, .int 0, .int 0])]] _ _ := hO
  refine W.eq (g2 := F0 m 7 ls [.int 0, .ref bs]) rfl ?_
  refine lv_iconst (v := 1) X.x X.b dJ0_initWords_7 (by decide) ?_
  refine lv_iadd X.x X.b dJ0_initWords_8 ?_
  refine dz_rei (y := 1) (by decide) ?_
  refine dz_rei (y := 1) (by decide) ?_
  refine dz_newaJ X hO (j := 1) (by decide) (by decide) (by decide) (Nat.le_of_ble_eq_true rfl) (Nat.le_of_ble_eq_true rfl) dJ0_initWords_9 (fun q_1 H hO => ?_)
  have hO : dz_O G.1 dz_CL A s.heap [[(bs, dzo 13 [.null, .int 0, .int 0])], [(q_1, dzJ G 1 (fun _ => 0))]] _ _ := hO
  refine W.widen (k := 1) (n := 1) (Nat.le_of_ble_eq_true rfl) (Nat.le_of_ble_eq_true rfl) ?_
  refine dz_put (v := .ref q_1) X hO 0 rfl in_J0 tyJ0 tyJ0_ok nmJ0 rfl 0 (by decide) q129 (Or.inl rfl) (Or.inl rfl) rfl rfl (Nat.le_of_ble_eq_true rfl) dJ0_initWords_11 (fun H locs hO => ?_)
  have hO : dz_O G.1 dz_CL A s.heap [[(bs, dzo 13 [.ref q_1, .int 0, .int 0])], [(q_1, dzJ G 1 (fun _ => 0))]] _ _ := hO
  exact dz_vret X hO rfl (⟨q_1, rfl, rfl⟩) (Nat.le_of_ble_eq_true rfl) (Nat.le_of_ble_eq_true rfl) dJ0_initWords_14
set_option maxHeartbeats 4000000 in
set_option maxRecDepth 100000 in
/-- a bit set for 24 -/
theorem dz_J0_init (l : Launch) (G : dz_G) (sz : Nat) (bs : Nat)  : dz_M l G yJ0_init cJ0_init 2 none ({ frames := 60, cells := 1, slots := 1, locals := 900 } : Room) [.ref bs, .int 24] [[(bs, dzo 13 [.null, .int 0, .int 0])]] sz (fun r w1 => ∃ (wa : Nat), r = none ∧ w1 = [[(bs, dzo 13 [.ref wa, .int 0, .int 1])], [(wa, dzJ G 1 (fun _ => 0))]]) (dz_np) := by
  refine dz_start (by decide) (Nat.le_of_ble_eq_true rfl) ?_
  intro p e s m below meth c A ls X hO hsz hl
  have hl : lv_has ls 2 [(0, .ref bs), (1, .int 24)] := hl
  refine lv_aload_n X.x X.b dJ0_init_0 rfl (lv_at hl 0 rfl) ?_
  refine dz_objInit X hl q121 dJ0_init_1 (Nat.le_of_ble_eq_true rfl) (Nat.le_of_ble_eq_true rfl) (Nat.le_of_ble_eq_true rfl) ?_
  refine lv_aload_n X.x X.b dJ0_init_4 rfl (lv_at hl 0 rfl) ?_
  refine lv_iconst (v := 0) X.x X.b dJ0_init_5 (by decide) ?_
  refine dz_put (v := .int 0) X hO 0 rfl in_J0 tyJ0 tyJ0_ok nmJ0 rfl 1 (by decide) q130 (Or.inl rfl) (Or.inl rfl) rfl rfl (Nat.le_of_ble_eq_true rfl) dJ0_init_6 (fun H locs hO => ?_)
  have hO : dz_O G.1 dz_CL A s.heap [[(bs, dzo 13 [.null, .int 0, .int 0])]] _ _ := hO
  refine lv_aload_n X.x X.b dJ0_init_9 rfl (lv_at hl 0 rfl) ?_
  refine lv_iconst (v := 0) X.x X.b dJ0_init_10 (by decide) ?_
  refine dz_put (v := .int 0) X hO 0 rfl in_J0 tyJ0 tyJ0_ok nmJ0 rfl 2 (by decide) q131 (Or.inl rfl) (Or.inl rfl) rfl rfl (Nat.le_of_ble_eq_true rfl) dJ0_init_11 (fun H locs hO => ?_)
  have hO : dz_O G.1 dz_CL A s.heap [[(bs, dzo 13 [.null, .int 0, .int 0])]] _ _ := hO
  refine lv_iload_n X.x X.b dJ0_init_14 rfl (lv_at hl 1 rfl) ?_
  refine lv_if_ge (tgt := 45) X.x X.b dJ0_init_15 (by decide) (fun _ => ?_) (fun c_1 => absurd (by decide) c_1)
  refine lv_aload_n X.x X.b dJ0_init_45 rfl (lv_at hl 0 rfl) ?_
  refine lv_iload_n X.x X.b dJ0_init_46 rfl (lv_at hl 1 rfl) ?_
  refine dz_V (n := 1) (k9 := 1) (n9 := 1) (As := [.int 24]) (rest := []) (wr := []) X hO hl (dz_J0_initWords l G _ bs ) (lw_V q122 q124 qs0 q49 q125) (by decide +kernel) ⟨Nat.le_of_ble_eq_true rfl, Nat.le_of_ble_eq_true rfl⟩ ⟨(Nat.le_of_ble_eq_true rfl), (Nat.le_of_ble_eq_true rfl), (Nat.le_of_ble_eq_true rfl), (Nat.le_of_ble_eq_true rfl)⟩ [0] [] rfl rfl rfl (dz_rc X (hO.at1 0 rfl) (r := (RJ0, TJ0, 3)) rfl) rfl rfl (Nat.le_of_ble_eq_true rfl) dJ0_init_47 (fun E w1 q9 ce9 H locs hpx hO hce hv9 hcl9 => hpx.elim) (fun r w1 H locs hpo hO => ?_)
  obtain ⟨wa_2, rfl, rfl⟩ := hpo
  have hO : dz_O G.1 dz_CL A s.heap [[(bs, dzo 13 [.ref wa_2, .int 0, .int 0])], [(wa_2, dzJ G 1 (fun _ => 0))]] _ _ := hO
  refine W.eq (g2 := F0 m 50 ls []) rfl ?_
  refine lv_aload_n X.x X.b dJ0_init_50 rfl (lv_at hl 0 rfl) ?_
  refine lv_iconst (v := 1) X.x X.b dJ0_init_51 (by decide) ?_
  refine dz_put (v := .int 1) X hO 0 rfl in_J0 tyJ0 tyJ0_ok nmJ0 rfl 2 (by decide) q131 (Or.inl rfl) (Or.inl rfl) rfl rfl (Nat.le_of_ble_eq_true rfl) dJ0_init_52 (fun H locs hO => ?_)
  have hO : dz_O G.1 dz_CL A s.heap [[(bs, dzo 13 [.ref wa_2, .int 0, .int 1])], [(wa_2, dzJ G 1 (fun _ => 0))]] _ _ := hO
  exact dz_vret X hO rfl (⟨wa_2, rfl, rfl⟩) (Nat.le_of_ble_eq_true rfl) (Nat.le_of_ble_eq_true rfl) dJ0_init_55
set_option maxHeartbeats 4000000 in
set_option maxRecDepth 100000 in
/-- asserts nothing -/
theorem dz_J0_checkInvariants (l : Launch) (G : dz_G) (sz : Nat) (bs : Nat) (wa : Nat) (db : Nat → Int32)  : dz_M l G yJ0_checkInvariants cJ0_checkInvariants 1 none ({ frames := 20, cells := 0, slots := 0, locals := 300 } : Room) [.ref bs] [[(bs, dzo 13 [.ref wa, .int (dz_wu db), .int 1])], [(wa, dzJ G 1 (dz_w1 (lN (dz_wd db 24))))]] sz (fun r w1 => r = none ∧ w1 = [[(bs, dzo 13 [.ref wa, .int (dz_wu db), .int 1])], [(wa, dzJ G 1 (dz_w1 (lN (dz_wd db 24))))]]) (dz_np) := by
  refine dz_start (by decide) (Nat.le_of_ble_eq_true rfl) ?_
  intro p e s m below meth c A ls X hO hsz hl
  have hl : lv_has ls 1 [(0, .ref bs)] := hl
  refine dz_gets (v := .int 1) X hO X.st.2.2.2.2.2.2.2.2.2.1 q1066 (Or.inl rfl) dJ0_checkInvariants_0 ?_
  refine lv_if_ne (tgt := 37) X.x X.b dJ0_checkInvariants_3 (by decide) (fun _ => ?_) (fun c_1 => absurd c_1 (by decide))
  refine dz_gets (v := .int 1) X hO X.st.2.2.2.2.2.2.2.2.2.1 q1066 (Or.inl rfl) dJ0_checkInvariants_37 ?_
  refine lv_if_ne (tgt := 70) X.x X.b dJ0_checkInvariants_40 (by decide) (fun _ => ?_) (fun c_2 => absurd c_2 (by decide))
  refine dz_gets (v := .int 1) X hO X.st.2.2.2.2.2.2.2.2.2.1 q1066 (Or.inl rfl) dJ0_checkInvariants_70 ?_
  refine lv_if_ne (tgt := 110) X.x X.b dJ0_checkInvariants_73 (by decide) (fun _ => ?_) (fun c_3 => absurd c_3 (by decide))
  exact dz_vret X hO rfl (⟨rfl, rfl⟩) (Nat.le_of_ble_eq_true rfl) (Nat.le_of_ble_eq_true rfl) dJ0_checkInvariants_110
set_option maxHeartbeats 4000000 in
set_option maxRecDepth 100000 in
/-- get -/
theorem dz_J0_get (l : Launch) (G : dz_G) (sz : Nat) (bs : Nat) (wa : Nat) (db : Nat → Int32) (i : Nat) (hi : i < 24) : dz_M l G yJ0_get cJ0_get 3 (some FieldType.boolean) ({ frames := 40, cells := 0, slots := 0, locals := 600 } : Room) [.ref bs, .int (nI i)] [[(bs, dzo 13 [.ref wa, .int (dz_wu db), .int 1])], [(wa, dzJ G 1 (dz_w1 (lN (dz_wd db 24))))]] sz (fun r w1 => r = some (.int (if db i = 0 then 0 else 1)) ∧ w1 = [[(bs, dzo 13 [.ref wa, .int (dz_wu db), .int 1])], [(wa, dzJ G 1 (dz_w1 (lN (dz_wd db 24))))]]) (dz_np) := by
  refine dz_start (by decide) (Nat.le_of_ble_eq_true rfl) ?_
  intro p e s m below meth c A ls X hO hsz hl
  have hl : lv_has ls 3 [(0, .ref bs), (1, .int (nI i))] := hl
  refine lv_iload_n X.x X.b dJ0_get_0 rfl (lv_at hl 1 rfl) ?_
  refine lv_if_ge (tgt := 31) X.x X.b dJ0_get_1 (by decide) (fun _ => ?_) (fun c_1 => absurd (Int32.not_lt.mp (nI_pos (by omega))) c_1)
  refine lv_aload_n X.x X.b dJ0_get_31 rfl (lv_at hl 0 rfl) ?_
  refine dz_V (n := 0) (k9 := 0) (n9 := 0) (As := []) (rest := []) (wr := []) X hO hl (dz_J0_checkInvariants l G _ bs wa db ) (lw_V q1062 q1064 qs6 q49 q1065) (by decide +kernel) ⟨Nat.le_of_ble_eq_true rfl, Nat.le_of_ble_eq_true rfl⟩ ⟨(Nat.le_of_ble_eq_true rfl), (Nat.le_of_ble_eq_true rfl), (Nat.le_of_ble_eq_true rfl), (Nat.le_of_ble_eq_true rfl)⟩ [0, 1] [] rfl rfl rfl (dz_rc X (hO.at1 0 rfl) (r := (RJ0, TJ0, 3)) rfl) rfl rfl (Nat.le_of_ble_eq_true rfl) dJ0_get_32 (fun E w1 q9 ce9 H locs hpx hO hce hv9 hcl9 => hpx.elim) (fun r w1 H locs hpo hO => ?_)
  obtain ⟨rfl, rfl⟩ := hpo
  have hO : dz_O G.1 dz_CL A s.heap [[(bs, dzo 13 [.ref wa, .int (dz_wu db), .int 1])], [(wa, dzJ G 1 (dz_w1 (lN (dz_wd db 24))))]] _ _ := hO
  refine W.eq (g2 := F0 m 35 ls []) rfl ?_
  refine lv_iload_n X.x X.b dJ0_get_35 rfl (lv_at hl 1 rfl) ?_
  refine dz_S (n := 1) (k9 := 0) (n9 := 0) (As := [.int (nI i)]) (rest := []) (wr := [[(bs, dzo 13 [.ref wa, .int (dz_wu db), .int 1])], [(wa, dzJ G 1 (dz_w1 (lN (dz_wd db 24))))]]) X hO hl (dz_J0_wordIndex l G _ i (by first | assumption | omega | decide)) (lw_S q126 q127 q49 q128) (by decide +kernel) ⟨Nat.le_of_ble_eq_true rfl, Nat.le_of_ble_eq_true rfl⟩ ⟨(Nat.le_of_ble_eq_true rfl), (Nat.le_of_ble_eq_true rfl), (Nat.le_of_ble_eq_true rfl), (Nat.le_of_ble_eq_true rfl)⟩ [] [0, 1] rfl rfl rfl rfl rfl (Nat.le_of_ble_eq_true rfl) dJ0_get_36 (fun E w1 q9 ce9 H locs hpx hO hce hv9 hcl9 => hpx.elim) (fun r w1 H locs hpo hO => ?_)
  obtain ⟨rfl, rfl⟩ := hpo
  have hO : dz_O G.1 dz_CL A s.heap [[(bs, dzo 13 [.ref wa, .int (dz_wu db), .int 1])], [(wa, dzJ G 1 (dz_w1 (lN (dz_wd db 24))))]] _ _ := hO
  refine W.eq (g2 := F0 m 39 ls [.int 0]) rfl ?_
  refine lv_istore_n (lv' := [(2, .int 0), (0, .ref bs), (1, .int (nI i))]) X.x X.b dJ0_get_39 rfl hl (by decide) rfl (fun ls hl => ?_)
  by_cases hz : dz_wd db 24 = 0
  · have hO := hO.cong 0 rfl (w1 := [(bs, dzo 13 [.ref wa, .int 0, .int 1])]) (by unfold dz_wu; rw [if_pos hz])
    have hO : dz_O G.1 dz_CL A s.heap [[(bs, dzo 13 [.ref wa, .int 0, .int 1])], [(wa, dzJ G 1 (dz_w1 (lN (dz_wd db 24))))]] _ _ := hO
    refine lv_iload_n X.x X.b dJ0_get_40 rfl (lv_at hl 0 rfl) ?_
    refine lv_aload_n X.x X.b dJ0_get_41 rfl (lv_at hl 1 rfl) ?_
    refine dz_get (v := .int 0) X (hO.at1 0 rfl) in_J0 rfl 1 (by decide) q130 (Or.inl rfl) rfl dJ0_get_42 ?_
    refine lv_icmp_ge (tgt := 67) X.x X.b dJ0_get_45 (by decide) (fun _ => ?_) (fun c_2 => absurd (by decide) c_2)
    refine lv_iconst (v := 0) X.x X.b dJ0_get_67 (by decide) ?_
    have hO := hO.cong 0 rfl (w1 := [(bs, dzo 13 [.ref wa, .int (dz_wu db), .int 1])]) (by unfold dz_wu; first | (rw [if_pos hz]; done) | (rw [if_neg hz]; done))
    have hO : dz_O G.1 dz_CL A s.heap [[(bs, dzo 13 [.ref wa, .int (dz_wu db), .int 1])], [(wa, dzJ G 1 (dz_w1 (lN (dz_wd db 24))))]] _ _ := hO
    exact dz_zret X hO rfl (rfl) (⟨by rw [if_pos (dz_wd_z hz hi)], rfl⟩) (Nat.le_of_ble_eq_true rfl) (Nat.le_of_ble_eq_true rfl) dJ0_get_68
  · have hO := hO.cong 0 rfl (w1 := [(bs, dzo 13 [.ref wa, .int 1, .int 1])]) (by unfold dz_wu; rw [if_neg hz])
    have hO : dz_O G.1 dz_CL A s.heap [[(bs, dzo 13 [.ref wa, .int 1, .int 1])], [(wa, dzJ G 1 (dz_w1 (lN (dz_wd db 24))))]] _ _ := hO
    refine lv_iload_n X.x X.b dJ0_get_40 rfl (lv_at hl 0 rfl) ?_
    refine lv_aload_n X.x X.b dJ0_get_41 rfl (lv_at hl 1 rfl) ?_
    refine dz_get (v := .int 1) X (hO.at1 0 rfl) in_J0 rfl 1 (by decide) q130 (Or.inl rfl) rfl dJ0_get_42 ?_
    refine lv_icmp_ge (tgt := 67) X.x X.b dJ0_get_45 (by decide) (fun c_3 => absurd c_3 (by decide)) (fun _ => ?_)
    refine lv_aload_n X.x X.b dJ0_get_48 rfl (lv_at hl 1 rfl) ?_
    refine dz_get (v := .ref wa) X (hO.at1 0 rfl) in_J0 rfl 0 (by decide) q129 (Or.inl rfl) rfl dJ0_get_49 ?_
    refine lv_iload_n X.x X.b dJ0_get_52 rfl (lv_at hl 0 rfl) ?_
    refine dz_lald X (hO.at1 1 rfl) (j := 0) (by decide) (by decide) (by decide) dJ0_get_53 ?_
    refine dz_rev (w := .long (lN (dz_wd db 24))) (congrArg Value.long (rfl)) ?_
    refine lv_lconst (v := 1) X.x X.b dJ0_get_54 (by decide) ?_
    refine lv_iload_n X.x X.b dJ0_get_55 rfl (lv_at hl 2 rfl) ?_
    refine lv_lshl (v := (1 <<< ((nI i : Int32).toInt64 &&& 63))) X.x X.b dJ0_get_56 rfl ?_
    refine dz_rev (w := .long (lN (2 ^ i))) (congrArg Value.long (dz_1shl hi)) ?_
    refine lv_land X.x X.b dJ0_get_57 ?_
    refine dz_rev (w := .long (lN (if db i = 0 then 0 else 2 ^ i))) (congrArg Value.long ((wb_and (Nat.lt_of_lt_of_le (dz_wd_lt db 24) (by decide)) (Nat.pow_lt_pow_right (by decide) (by omega))).trans (congrArg lN (dz_wd_and hi)))) ?_
    refine lv_lconst (v := 0) X.x X.b dJ0_get_58 (by decide) ?_
    refine dz_lcmp X.x X.b dJ0_get_59 ?_
    refine lv_if_eq (tgt := 67) X.x X.b dJ0_get_60 (by decide) (fun c_4 => ?_) (fun c_4 => ?_)
    · have hbit : db i = 0 := Decidable.byContradiction fun z => by have h9 := dz_cmpL_0.mp c_4; rw [if_neg z] at h9; have h8 := (dz_lN0 (Nat.lt_of_lt_of_le (Nat.pow_lt_pow_right (by decide) hi : 2 ^ i < 2 ^ 24) (by decide))).mp h9; exact absurd h8 (Nat.ne_of_gt (Nat.pow_pos (by decide)))
      refine lv_iconst (v := 0) X.x X.b dJ0_get_67 (by decide) ?_
      have hO := hO.cong 0 rfl (w1 := [(bs, dzo 13 [.ref wa, .int (dz_wu db), .int 1])]) (by unfold dz_wu; first | (rw [if_pos hz]; done) | (rw [if_neg hz]; done))
      have hO : dz_O G.1 dz_CL A s.heap [[(bs, dzo 13 [.ref wa, .int (dz_wu db), .int 1])], [(wa, dzJ G 1 (dz_w1 (lN (dz_wd db 24))))]] _ _ := hO
      exact dz_zret X hO rfl (rfl) (⟨by rw [if_pos hbit], rfl⟩) (Nat.le_of_ble_eq_true rfl) (Nat.le_of_ble_eq_true rfl) dJ0_get_68
    · have hbit : ¬ db i = 0 := fun z => c_4 (dz_cmpL_0.mpr (by rw [if_pos z]; rfl))
      refine lv_iconst (v := 1) X.x X.b dJ0_get_63 (by decide) ?_
      refine lv_goto (tgt := 68) X.x X.b dJ0_get_64 (by decide) ?_
      have hO := hO.cong 0 rfl (w1 := [(bs, dzo 13 [.ref wa, .int (dz_wu db), .int 1])]) (by unfold dz_wu; first | (rw [if_pos hz]; done) | (rw [if_neg hz]; done))
      have hO : dz_O G.1 dz_CL A s.heap [[(bs, dzo 13 [.ref wa, .int (dz_wu db), .int 1])], [(wa, dzJ G 1 (dz_w1 (lN (dz_wd db 24))))]] _ _ := hO
      exact dz_zret X hO rfl (rfl) (⟨by rw [if_neg hbit], rfl⟩) (Nat.le_of_ble_eq_true rfl) (Nat.le_of_ble_eq_true rfl) dJ0_get_68
set_option maxHeartbeats 4000000 in
set_option maxRecDepth 100000 in
/-- one word is there -/
theorem dz_J0_ensureCapacity (l : Launch) (G : dz_G) (sz : Nat) (bs : Nat) (wa : Nat) (x : Int32) (f : Nat → Int64)  : dz_M l G yJ0_ensureCapacity cJ0_ensureCapacity 3 none ({ frames := 20, cells := 0, slots := 0, locals := 300 } : Room) [.ref bs, .int 1] [[(bs, dzo 13 [.ref wa, .int x, .int 1])], [(wa, dzJ G 1 f)]] sz (fun r w1 => r = none ∧ w1 = [[(bs, dzo 13 [.ref wa, .int x, .int 1])], [(wa, dzJ G 1 f)]]) (dz_np) := by
  refine dz_start (by decide) (Nat.le_of_ble_eq_true rfl) ?_
  intro p e s m below meth c A ls X hO hsz hl
  have hl : lv_has ls 3 [(0, .ref bs), (1, .int 1)] := hl
  refine lv_aload_n X.x X.b dJ0_ensureCapacity_0 rfl (lv_at hl 0 rfl) ?_
  refine dz_get (v := .ref wa) X (hO.at1 0 rfl) in_J0 rfl 0 (by decide) q129 (Or.inl rfl) rfl dJ0_ensureCapacity_1 ?_
  refine dz_alen (v := 1) X (hO.at1 1 rfl) 2 rfl (by first | rfl | decide) dJ0_ensureCapacity_4 ?_
  refine lv_iload_n X.x X.b dJ0_ensureCapacity_5 rfl (lv_at hl 1 rfl) ?_
  refine lv_icmp_ge (tgt := 38) X.x X.b dJ0_ensureCapacity_6 (by decide) (fun _ => ?_) (fun c_1 => absurd (by decide) c_1)
  exact dz_vret X hO rfl (⟨rfl, rfl⟩) (Nat.le_of_ble_eq_true rfl) (Nat.le_of_ble_eq_true rfl) dJ0_ensureCapacity_38
set_option maxHeartbeats 4000000 in
set_option maxRecDepth 100000 in
/-- one word is in use -/
theorem dz_J0_expandTo (l : Launch) (G : dz_G) (sz : Nat) (bs : Nat) (wa : Nat) (db : Nat → Int32)  : dz_M l G yJ0_expandTo cJ0_expandTo 3 none ({ frames := 40, cells := 0, slots := 0, locals := 600 } : Room) [.ref bs, .int 0] [[(bs, dzo 13 [.ref wa, .int (dz_wu db), .int 1])], [(wa, dzJ G 1 (dz_w1 (lN (dz_wd db 24))))]] sz (fun r w1 => r = none ∧ w1 = [[(bs, dzo 13 [.ref wa, .int 1, .int 1])], [(wa, dzJ G 1 (dz_w1 (lN (dz_wd db 24))))]]) (dz_np) := by
  refine dz_start (by decide) (Nat.le_of_ble_eq_true rfl) ?_
  intro p e s m below meth c A ls X hO hsz hl
  have hl : lv_has ls 3 [(0, .ref bs), (1, .int 0)] := hl
  refine lv_iload_n X.x X.b dJ0_expandTo_0 rfl (lv_at hl 1 rfl) ?_
  refine lv_iconst (v := 1) X.x X.b dJ0_expandTo_1 (by decide) ?_
  refine lv_iadd X.x X.b dJ0_expandTo_2 ?_
  refine dz_rei (y := 1) (by decide) ?_
  refine lv_istore_n (lv' := [(2, .int 1), (0, .ref bs), (1, .int 0)]) X.x X.b dJ0_expandTo_3 rfl hl (by decide) rfl (fun ls hl => ?_)
  by_cases hz : dz_wd db 24 = 0
  · have hO := hO.cong 0 rfl (w1 := [(bs, dzo 13 [.ref wa, .int 0, .int 1])]) (by unfold dz_wu; rw [if_pos hz])
    have hO : dz_O G.1 dz_CL A s.heap [[(bs, dzo 13 [.ref wa, .int 0, .int 1])], [(wa, dzJ G 1 (dz_w1 (lN (dz_wd db 24))))]] _ _ := hO
    refine lv_aload_n X.x X.b dJ0_expandTo_4 rfl (lv_at hl 1 rfl) ?_
    refine dz_get (v := .int 0) X (hO.at1 0 rfl) in_J0 rfl 1 (by decide) q130 (Or.inl rfl) rfl dJ0_expandTo_5 ?_
    refine lv_iload_n X.x X.b dJ0_expandTo_8 rfl (lv_at hl 0 rfl) ?_
    refine lv_icmp_ge (tgt := 22) X.x X.b dJ0_expandTo_9 (by decide) (fun c_1 => absurd c_1 (by decide)) (fun _ => ?_)
    refine lv_aload_n X.x X.b dJ0_expandTo_12 rfl (lv_at hl 1 rfl) ?_
    refine lv_iload_n X.x X.b dJ0_expandTo_13 rfl (lv_at hl 0 rfl) ?_
    refine dz_V (n := 1) (k9 := 0) (n9 := 0) (As := [.int 1]) (rest := []) (wr := []) X hO hl (dz_J0_ensureCapacity l G _ bs wa 0 (dz_w1 (lN (dz_wd db 24))) ) (lw_V q2051 q2053 qs31 q49 q2054) (by decide +kernel) ⟨Nat.le_of_ble_eq_true rfl, Nat.le_of_ble_eq_true rfl⟩ ⟨(Nat.le_of_ble_eq_true rfl), (Nat.le_of_ble_eq_true rfl), (Nat.le_of_ble_eq_true rfl), (Nat.le_of_ble_eq_true rfl)⟩ [0, 1] [] rfl rfl rfl (dz_rc X (hO.at1 0 rfl) (r := (RJ0, TJ0, 3)) rfl) rfl rfl (Nat.le_of_ble_eq_true rfl) dJ0_expandTo_14 (fun E w1 q9 ce9 H locs hpx hO hce hv9 hcl9 => hpx.elim) (fun r w1 H locs hpo hO => ?_)
    obtain ⟨rfl, rfl⟩ := hpo
    have hO : dz_O G.1 dz_CL A s.heap [[(bs, dzo 13 [.ref wa, .int 0, .int 1])], [(wa, dzJ G 1 (dz_w1 (lN (dz_wd db 24))))]] _ _ := hO
    refine W.eq (g2 := F0 m 17 ls []) rfl ?_
    refine lv_aload_n X.x X.b dJ0_expandTo_17 rfl (lv_at hl 1 rfl) ?_
    refine lv_iload_n X.x X.b dJ0_expandTo_18 rfl (lv_at hl 0 rfl) ?_
    refine dz_put (v := .int 1) X hO 0 rfl in_J0 tyJ0 tyJ0_ok nmJ0 rfl 1 (by decide) q130 (Or.inl rfl) (Or.inl rfl) rfl rfl (Nat.le_of_ble_eq_true rfl) dJ0_expandTo_19 (fun H locs hO => ?_)
    have hO : dz_O G.1 dz_CL A s.heap [[(bs, dzo 13 [.ref wa, .int 1, .int 1])], [(wa, dzJ G 1 (dz_w1 (lN (dz_wd db 24))))]] _ _ := hO
    exact dz_vret X hO rfl (⟨rfl, rfl⟩) (Nat.le_of_ble_eq_true rfl) (Nat.le_of_ble_eq_true rfl) dJ0_expandTo_22
  · have hO := hO.cong 0 rfl (w1 := [(bs, dzo 13 [.ref wa, .int 1, .int 1])]) (by unfold dz_wu; rw [if_neg hz])
    have hO : dz_O G.1 dz_CL A s.heap [[(bs, dzo 13 [.ref wa, .int 1, .int 1])], [(wa, dzJ G 1 (dz_w1 (lN (dz_wd db 24))))]] _ _ := hO
    refine lv_aload_n X.x X.b dJ0_expandTo_4 rfl (lv_at hl 1 rfl) ?_
    refine dz_get (v := .int 1) X (hO.at1 0 rfl) in_J0 rfl 1 (by decide) q130 (Or.inl rfl) rfl dJ0_expandTo_5 ?_
    refine lv_iload_n X.x X.b dJ0_expandTo_8 rfl (lv_at hl 0 rfl) ?_
    refine lv_icmp_ge (tgt := 22) X.x X.b dJ0_expandTo_9 (by decide) (fun _ => ?_) (fun c_2 => absurd (by decide) c_2)
    exact dz_vret X hO rfl (⟨rfl, rfl⟩) (Nat.le_of_ble_eq_true rfl) (Nat.le_of_ble_eq_true rfl) dJ0_expandTo_22
set_option maxHeartbeats 4000000 in
set_option maxRecDepth 100000 in
/-- asserts nothing -/
theorem dz_J0_checkInvariants_x (l : Launch) (G : dz_G) (sz : Nat) (bs : Nat) (x : Int32) (wa : Nat)  : dz_M l G yJ0_checkInvariants cJ0_checkInvariants 1 none ({ frames := 20, cells := 0, slots := 0, locals := 300 } : Room) [.ref bs] [[(bs, dzo 13 [.ref wa, .int x, .int 1])]] sz (fun r w1 => r = none ∧ w1 = [[(bs, dzo 13 [.ref wa, .int x, .int 1])]]) (dz_np) := by
  refine dz_start (by decide) (Nat.le_of_ble_eq_true rfl) ?_
  intro p e s m below meth c A ls X hO hsz hl
  have hl : lv_has ls 1 [(0, .ref bs)] := hl
  refine dz_gets (v := .int 1) X hO X.st.2.2.2.2.2.2.2.2.2.1 q1066 (Or.inl rfl) dJ0_checkInvariants_0 ?_
  refine lv_if_ne (tgt := 37) X.x X.b dJ0_checkInvariants_3 (by decide) (fun _ => ?_) (fun c_1 => absurd c_1 (by decide))
  refine dz_gets (v := .int 1) X hO X.st.2.2.2.2.2.2.2.2.2.1 q1066 (Or.inl rfl) dJ0_checkInvariants_37 ?_
  refine lv_if_ne (tgt := 70) X.x X.b dJ0_checkInvariants_40 (by decide) (fun _ => ?_) (fun c_2 => absurd c_2 (by decide))
  refine dz_gets (v := .int 1) X hO X.st.2.2.2.2.2.2.2.2.2.1 q1066 (Or.inl rfl) dJ0_checkInvariants_70 ?_
  refine lv_if_ne (tgt := 110) X.x X.b dJ0_checkInvariants_73 (by decide) (fun _ => ?_) (fun c_3 => absurd c_3 (by decide))
  exact dz_vret X hO rfl (⟨rfl, rfl⟩) (Nat.le_of_ble_eq_true rfl) (Nat.le_of_ble_eq_true rfl) dJ0_checkInvariants_110
set_option maxHeartbeats 4000000 in
set_option maxRecDepth 100000 in
/-- set -/
theorem dz_J0_set (l : Launch) (G : dz_G) (sz : Nat) (bs : Nat) (wa : Nat) (db : Nat → Int32) (i : Nat) (hi : i < 24) : dz_M l G yJ0_set cJ0_set 3 none ({ frames := 60, cells := 0, slots := 0, locals := 900 } : Room) [.ref bs, .int (nI i)] [[(bs, dzo 13 [.ref wa, .int (dz_wu db), .int 1])], [(wa, dzJ G 1 (dz_w1 (lN (dz_wd db 24))))]] sz (fun r w1 => r = none ∧ w1 = [[(bs, dzo 13 [.ref wa, .int (dz_wu (upd db i 1)), .int 1])], [(wa, dzJ G 1 (dz_w1 (lN (dz_wd (upd db i 1) 24))))]]) (dz_np) := by
  refine dz_start (by decide) (Nat.le_of_ble_eq_true rfl) ?_
  intro p e s m below meth c A ls X hO hsz hl
  have hl : lv_has ls 3 [(0, .ref bs), (1, .int (nI i))] := hl
  refine lv_iload_n X.x X.b dJ0_set_0 rfl (lv_at hl 1 rfl) ?_
  refine lv_if_ge (tgt := 31) X.x X.b dJ0_set_1 (by decide) (fun _ => ?_) (fun c_1 => absurd (Int32.not_lt.mp (nI_pos (by omega))) c_1)
  refine lv_iload_n X.x X.b dJ0_set_31 rfl (lv_at hl 1 rfl) ?_
  refine dz_S (n := 1) (k9 := 0) (n9 := 0) (As := [.int (nI i)]) (rest := []) (wr := [[(bs, dzo 13 [.ref wa, .int (dz_wu db), .int 1])], [(wa, dzJ G 1 (dz_w1 (lN (dz_wd db 24))))]]) X hO hl (dz_J0_wordIndex l G _ i (by first | assumption | omega | decide)) (lw_S q126 q127 q49 q128) (by decide +kernel) ⟨Nat.le_of_ble_eq_true rfl, Nat.le_of_ble_eq_true rfl⟩ ⟨(Nat.le_of_ble_eq_true rfl), (Nat.le_of_ble_eq_true rfl), (Nat.le_of_ble_eq_true rfl), (Nat.le_of_ble_eq_true rfl)⟩ [] [0, 1] rfl rfl rfl rfl rfl (Nat.le_of_ble_eq_true rfl) dJ0_set_32 (fun E w1 q9 ce9 H locs hpx hO hce hv9 hcl9 => hpx.elim) (fun r w1 H locs hpo hO => ?_)
  obtain ⟨rfl, rfl⟩ := hpo
  have hO : dz_O G.1 dz_CL A s.heap [[(bs, dzo 13 [.ref wa, .int (dz_wu db), .int 1])], [(wa, dzJ G 1 (dz_w1 (lN (dz_wd db 24))))]] _ _ := hO
  refine W.eq (g2 := F0 m 35 ls [.int 0]) rfl ?_
  refine lv_istore_n (lv' := [(2, .int 0), (0, .ref bs), (1, .int (nI i))]) X.x X.b dJ0_set_35 rfl hl (by decide) rfl (fun ls hl => ?_)
  refine lv_aload_n X.x X.b dJ0_set_36 rfl (lv_at hl 1 rfl) ?_
  refine lv_iload_n X.x X.b dJ0_set_37 rfl (lv_at hl 0 rfl) ?_
  refine dz_V (n := 1) (k9 := 0) (n9 := 0) (As := [.int 0]) (rest := []) (wr := []) X hO hl (dz_J0_expandTo l G _ bs wa db ) (lw_V q2047 q2049 qs30 q49 q2050) (by decide +kernel) ⟨Nat.le_of_ble_eq_true rfl, Nat.le_of_ble_eq_true rfl⟩ ⟨(Nat.le_of_ble_eq_true rfl), (Nat.le_of_ble_eq_true rfl), (Nat.le_of_ble_eq_true rfl), (Nat.le_of_ble_eq_true rfl)⟩ [0, 1] [] rfl rfl rfl (dz_rc X (hO.at1 0 rfl) (r := (RJ0, TJ0, 3)) rfl) rfl rfl (Nat.le_of_ble_eq_true rfl) dJ0_set_38 (fun E w1 q9 ce9 H locs hpx hO hce hv9 hcl9 => hpx.elim) (fun r w1 H locs hpo hO => ?_)
  obtain ⟨rfl, rfl⟩ := hpo
  have hO : dz_O G.1 dz_CL A s.heap [[(bs, dzo 13 [.ref wa, .int 1, .int 1])], [(wa, dzJ G 1 (dz_w1 (lN (dz_wd db 24))))]] _ _ := hO
  refine W.eq (g2 := F0 m 41 ls []) rfl ?_
  refine lv_aload_n X.x X.b dJ0_set_41 rfl (lv_at hl 1 rfl) ?_
  refine dz_get (v := .ref wa) X (hO.at1 0 rfl) in_J0 rfl 0 (by decide) q129 (Or.inl rfl) rfl dJ0_set_42 ?_
  refine lv_iload_n X.x X.b dJ0_set_45 rfl (lv_at hl 0 rfl) ?_
  refine lv_dup2_11 X.x X.b dJ0_set_46 rfl rfl ?_
  refine dz_lald X (hO.at1 1 rfl) (j := 0) (by decide) (by decide) (by decide) dJ0_set_47 ?_
  refine dz_rev (w := .long (lN (dz_wd db 24))) (congrArg Value.long (rfl)) ?_
  refine lv_lconst (v := 1) X.x X.b dJ0_set_48 (by decide) ?_
  refine lv_iload_n X.x X.b dJ0_set_49 rfl (lv_at hl 2 rfl) ?_
  refine lv_lshl (v := (1 <<< ((nI i : Int32).toInt64 &&& 63))) X.x X.b dJ0_set_50 rfl ?_
  refine dz_rev (w := .long (lN (2 ^ i))) (congrArg Value.long (dz_1shl hi)) ?_
  refine lv_lor X.x X.b dJ0_set_51 ?_
  refine dz_rev (w := .long (lN (dz_wd (upd db i 1) 24))) (congrArg Value.long ((wb_or (Nat.lt_of_lt_of_le (dz_wd_lt db 24) (by decide)) (Nat.pow_lt_pow_right (by decide) (by omega))).trans (congrArg lN (dz_wd_or hi (by decide))))) ?_
  refine dz_last X hO 1 rfl (j := 0) (by decide) (by decide) (by decide) dJ0_set_52 (fun H locs hO => ?_)
  have hO : dz_O G.1 dz_CL A s.heap [[(bs, dzo 13 [.ref wa, .int 1, .int 1])], [(wa, dzJ G 1 (vp_updL (dz_w1 (lN (dz_wd db 24))) 0 (lN (dz_wd (upd db i 1) 24))))]] _ _ := hO
  have hO := hO.cong 1 rfl (w1 := [(wa, dzJ G 1 (dz_w1 (lN (dz_wd (upd db i 1) 24))))]) (congrArg (fun z9 => [(wa, dzJ G 1 z9)]) (show (dz_w1 (lN (dz_wd (upd db i 1) 24))) = (vp_updL (dz_w1 (lN (dz_wd db 24))) 0 (lN (dz_wd (upd db i 1) 24))) from by exact (dz_w1_u _ _).symm))
  have hO : dz_O G.1 dz_CL A s.heap [[(bs, dzo 13 [.ref wa, .int 1, .int 1])], [(wa, dzJ G 1 (dz_w1 (lN (dz_wd (upd db i 1) 24))))]] _ _ := hO
  refine lv_aload_n X.x X.b dJ0_set_53 rfl (lv_at hl 1 rfl) ?_
  refine dz_V (n := 0) (k9 := 0) (n9 := 0) (As := []) (rest := []) (wr := [[(wa, dzJ G 1 (dz_w1 (lN (dz_wd (upd db i 1) 24))))]]) X hO hl (dz_J0_checkInvariants_x l G _ bs 1 wa ) (lw_V q1062 q1064 qs6 q49 q1065) (by decide +kernel) ⟨Nat.le_of_ble_eq_true rfl, Nat.le_of_ble_eq_true rfl⟩ ⟨(Nat.le_of_ble_eq_true rfl), (Nat.le_of_ble_eq_true rfl), (Nat.le_of_ble_eq_true rfl), (Nat.le_of_ble_eq_true rfl)⟩ [0] [1] rfl rfl rfl (dz_rc X (hO.at1 0 rfl) (r := (RJ0, TJ0, 3)) rfl) rfl rfl (Nat.le_of_ble_eq_true rfl) dJ0_set_54 (fun E w1 q9 ce9 H locs hpx hO hce hv9 hcl9 => hpx.elim) (fun r w1 H locs hpo hO => ?_)
  obtain ⟨rfl, rfl⟩ := hpo
  have hO : dz_O G.1 dz_CL A s.heap [[(wa, dzJ G 1 (dz_w1 (lN (dz_wd (upd db i 1) 24))))], [(bs, dzo 13 [.ref wa, .int 1, .int 1])]] _ _ := hO
  refine W.eq (g2 := F0 m 57 ls []) rfl ?_
  have hO := hO.cong 1 rfl (w1 := [(bs, dzo 13 [.ref wa, .int (dz_wu (upd db i 1)), .int 1])]) (by unfold dz_wu; rw [if_neg]; rw [← dz_wd_or hi (show ¬ (1 : Int32) = 0 by decide)]; intro z; have h9 := dz_wd_bit (upd db i 1) i 24; rw [← dz_wd_or hi (show ¬ (1 : Int32) = 0 by decide), z, pk_us] at h9; simp [hi] at h9)
  have hO : dz_O G.1 dz_CL A s.heap [[(wa, dzJ G 1 (dz_w1 (lN (dz_wd (upd db i 1) 24))))], [(bs, dzo 13 [.ref wa, .int (dz_wu (upd db i 1)), .int 1])]] _ _ := hO
  have hO := hO.sel (v := [[(bs, dzo 13 [.ref wa, .int (dz_wu (upd db i 1)), .int 1])], [(wa, dzJ G 1 (dz_w1 (lN (dz_wd (upd db i 1) 24))))]]) [1, 0] rfl rfl
  exact dz_vret X hO rfl (⟨rfl, rfl⟩) (Nat.le_of_ble_eq_true rfl) (Nat.le_of_ble_eq_true rfl) dJ0_set_57
set_option maxHeartbeats 4000000 in
set_option maxRecDepth 100000 in
/-- words in use -/
theorem dz_J0_recalculateWordsInUse (l : Launch) (G : dz_G) (sz : Nat) (bs : Nat) (wa : Nat) (db : Nat → Int32)  : dz_M l G yJ0_recalculateWordsInUse cJ0_recalculateWordsInUse 2 none ({ frames := 20, cells := 0, slots := 0, locals := 300 } : Room) [.ref bs] [[(bs, dzo 13 [.ref wa, .int 1, .int 1])], [(wa, dzJ G 1 (dz_w1 (lN (dz_wd db 24))))]] sz (fun r w1 => r = none ∧ w1 = [[(bs, dzo 13 [.ref wa, .int (dz_wu db), .int 1])], [(wa, dzJ G 1 (dz_w1 (lN (dz_wd db 24))))]]) (dz_np) := by
  refine dz_start (by decide) (Nat.le_of_ble_eq_true rfl) ?_
  intro p e s m below meth c A ls X hO hsz hl
  have hl : lv_has ls 2 [(0, .ref bs)] := hl
  refine lv_aload_n X.x X.b dJ0_recalculateWordsInUse_0 rfl (lv_at hl 0 rfl) ?_
  refine dz_get (v := .int 1) X (hO.at1 0 rfl) in_J0 rfl 1 (by decide) q130 (Or.inl rfl) rfl dJ0_recalculateWordsInUse_1 ?_
  refine lv_iconst (v := 1) X.x X.b dJ0_recalculateWordsInUse_4 (by decide) ?_
  refine lv_isub X.x X.b dJ0_recalculateWordsInUse_5 ?_
  refine dz_rei (y := 0) (by decide) ?_
  refine lv_istore_n (lv' := [(1, .int 0), (0, .ref bs)]) X.x X.b dJ0_recalculateWordsInUse_6 rfl hl (by decide) rfl (fun ls hl => ?_)
  refine lv_iload_n X.x X.b dJ0_recalculateWordsInUse_7 rfl (lv_at hl 0 rfl) ?_
  refine lv_if_lt (tgt := 31) X.x X.b dJ0_recalculateWordsInUse_8 (by decide) (fun c_1 => absurd c_1 (by decide)) (fun _ => ?_)
  refine lv_aload_n X.x X.b dJ0_recalculateWordsInUse_11 rfl (lv_at hl 1 rfl) ?_
  refine dz_get (v := .ref wa) X (hO.at1 0 rfl) in_J0 rfl 0 (by decide) q129 (Or.inl rfl) rfl dJ0_recalculateWordsInUse_12 ?_
  refine lv_iload_n X.x X.b dJ0_recalculateWordsInUse_15 rfl (lv_at hl 0 rfl) ?_
  refine dz_lald X (hO.at1 1 rfl) (j := 0) (by decide) (by decide) (by decide) dJ0_recalculateWordsInUse_16 ?_
  refine dz_rev (w := .long (lN (dz_wd db 24))) (congrArg Value.long (rfl)) ?_
  refine lv_lconst (v := 0) X.x X.b dJ0_recalculateWordsInUse_17 (by decide) ?_
  refine dz_lcmp X.x X.b dJ0_recalculateWordsInUse_18 ?_
  refine lv_if_eq (tgt := 25) X.x X.b dJ0_recalculateWordsInUse_19 (by decide) (fun c_2 => ?_) (fun c_2 => ?_)
  · have hz : dz_wd db 24 = 0 := (dz_lN0 (Nat.lt_of_lt_of_le (dz_wd_lt db 24) (by decide))).mp (dz_cmpL_0.mp c_2)
    refine lv_iinc (v := (-1)) (lv' := [(1, .int (-1)), (0, .ref bs)]) X.x X.b dJ0_recalculateWordsInUse_25 hl (k := 0) rfl (by decide) (by decide) rfl (fun ls hl => ?_)
    refine lv_goto (tgt := 7) X.x X.b dJ0_recalculateWordsInUse_28 (by decide) ?_
    refine lv_iload_n X.x X.b dJ0_recalculateWordsInUse_7 rfl (lv_at hl 0 rfl) ?_
    refine lv_if_lt (tgt := 31) X.x X.b dJ0_recalculateWordsInUse_8 (by decide) (fun _ => ?_) (fun c_3 => absurd (by decide) c_3)
    refine lv_aload_n X.x X.b dJ0_recalculateWordsInUse_31 rfl (lv_at hl 1 rfl) ?_
    refine lv_iload_n X.x X.b dJ0_recalculateWordsInUse_32 rfl (lv_at hl 0 rfl) ?_
    refine lv_iconst (v := 1) X.x X.b dJ0_recalculateWordsInUse_33 (by decide) ?_
    refine lv_iadd X.x X.b dJ0_recalculateWordsInUse_34 ?_
    refine dz_rei (y := 0) (by decide) ?_
    refine dz_put (v := .int 0) X hO 0 rfl in_J0 tyJ0 tyJ0_ok nmJ0 rfl 1 (by decide) q130 (Or.inl rfl) (Or.inl rfl) rfl rfl (Nat.le_of_ble_eq_true rfl) dJ0_recalculateWordsInUse_35 (fun H locs hO => ?_)
    have hO : dz_O G.1 dz_CL A s.heap [[(bs, dzo 13 [.ref wa, .int 0, .int 1])], [(wa, dzJ G 1 (dz_w1 (lN (dz_wd db 24))))]] _ _ := hO
    have hO := hO.cong 0 rfl (w1 := [(bs, dzo 13 [.ref wa, .int (dz_wu db), .int 1])]) (by unfold dz_wu; first | (rw [if_pos hz]; rfl) | (rw [if_neg hz]; rfl) | (rw [if_pos hz]; done) | (rw [if_neg hz]; done))
    have hO : dz_O G.1 dz_CL A s.heap [[(bs, dzo 13 [.ref wa, .int (dz_wu db), .int 1])], [(wa, dzJ G 1 (dz_w1 (lN (dz_wd db 24))))]] _ _ := hO
    exact dz_vret X hO rfl (⟨rfl, rfl⟩) (Nat.le_of_ble_eq_true rfl) (Nat.le_of_ble_eq_true rfl) dJ0_recalculateWordsInUse_38
  · have hz : ¬ dz_wd db 24 = 0 := fun z => c_2 (dz_cmpL_0.mpr (by rw [z]; rfl))
    refine lv_goto (tgt := 31) X.x X.b dJ0_recalculateWordsInUse_22 (by decide) ?_
    refine lv_aload_n X.x X.b dJ0_recalculateWordsInUse_31 rfl (lv_at hl 1 rfl) ?_
    refine lv_iload_n X.x X.b dJ0_recalculateWordsInUse_32 rfl (lv_at hl 0 rfl) ?_
    refine lv_iconst (v := 1) X.x X.b dJ0_recalculateWordsInUse_33 (by decide) ?_
    refine lv_iadd X.x X.b dJ0_recalculateWordsInUse_34 ?_
    refine dz_rei (y := 1) (by decide) ?_
    refine dz_put (v := .int 1) X hO 0 rfl in_J0 tyJ0 tyJ0_ok nmJ0 rfl 1 (by decide) q130 (Or.inl rfl) (Or.inl rfl) rfl rfl (Nat.le_of_ble_eq_true rfl) dJ0_recalculateWordsInUse_35 (fun H locs hO => ?_)
    have hO : dz_O G.1 dz_CL A s.heap [[(bs, dzo 13 [.ref wa, .int 1, .int 1])], [(wa, dzJ G 1 (dz_w1 (lN (dz_wd db 24))))]] _ _ := hO
    have hO := hO.cong 0 rfl (w1 := [(bs, dzo 13 [.ref wa, .int (dz_wu db), .int 1])]) (by unfold dz_wu; first | (rw [if_pos hz]; rfl) | (rw [if_neg hz]; rfl) | (rw [if_pos hz]; done) | (rw [if_neg hz]; done))
    have hO : dz_O G.1 dz_CL A s.heap [[(bs, dzo 13 [.ref wa, .int (dz_wu db), .int 1])], [(wa, dzJ G 1 (dz_w1 (lN (dz_wd db 24))))]] _ _ := hO
    exact dz_vret X hO rfl (⟨rfl, rfl⟩) (Nat.le_of_ble_eq_true rfl) (Nat.le_of_ble_eq_true rfl) dJ0_recalculateWordsInUse_38
set_option maxHeartbeats 4000000 in
set_option maxRecDepth 100000 in
/-- clear -/
theorem dz_J0_clear (l : Launch) (G : dz_G) (sz : Nat) (bs : Nat) (wa : Nat) (db : Nat → Int32) (i : Nat) (hi : i < 24) : dz_M l G yJ0_clear cJ0_clear 3 none ({ frames := 60, cells := 0, slots := 0, locals := 900 } : Room) [.ref bs, .int (nI i)] [[(bs, dzo 13 [.ref wa, .int (dz_wu db), .int 1])], [(wa, dzJ G 1 (dz_w1 (lN (dz_wd db 24))))]] sz (fun r w1 => r = none ∧ w1 = [[(bs, dzo 13 [.ref wa, .int (dz_wu (upd db i 0)), .int 1])], [(wa, dzJ G 1 (dz_w1 (lN (dz_wd (upd db i 0) 24))))]]) (dz_np) := by
  refine dz_start (by decide) (Nat.le_of_ble_eq_true rfl) ?_
  intro p e s m below meth c A ls X hO hsz hl
  have hl : lv_has ls 3 [(0, .ref bs), (1, .int (nI i))] := hl
  refine lv_iload_n X.x X.b dJ0_clear_0 rfl (lv_at hl 1 rfl) ?_
  refine lv_if_ge (tgt := 31) X.x X.b dJ0_clear_1 (by decide) (fun _ => ?_) (fun c_1 => absurd (Int32.not_lt.mp (nI_pos (by omega))) c_1)
  refine lv_iload_n X.x X.b dJ0_clear_31 rfl (lv_at hl 1 rfl) ?_
  refine dz_S (n := 1) (k9 := 0) (n9 := 0) (As := [.int (nI i)]) (rest := []) (wr := [[(bs, dzo 13 [.ref wa, .int (dz_wu db), .int 1])], [(wa, dzJ G 1 (dz_w1 (lN (dz_wd db 24))))]]) X hO hl (dz_J0_wordIndex l G _ i (by first | assumption | omega | decide)) (lw_S q126 q127 q49 q128) (by decide +kernel) ⟨Nat.le_of_ble_eq_true rfl, Nat.le_of_ble_eq_true rfl⟩ ⟨(Nat.le_of_ble_eq_true rfl), (Nat.le_of_ble_eq_true rfl), (Nat.le_of_ble_eq_true rfl), (Nat.le_of_ble_eq_true rfl)⟩ [] [0, 1] rfl rfl rfl rfl rfl (Nat.le_of_ble_eq_true rfl) dJ0_clear_32 (fun E w1 q9 ce9 H locs hpx hO hce hv9 hcl9 => hpx.elim) (fun r w1 H locs hpo hO => ?_)
  obtain ⟨rfl, rfl⟩ := hpo
  have hO : dz_O G.1 dz_CL A s.heap [[(bs, dzo 13 [.ref wa, .int (dz_wu db), .int 1])], [(wa, dzJ G 1 (dz_w1 (lN (dz_wd db 24))))]] _ _ := hO
  refine W.eq (g2 := F0 m 35 ls [.int 0]) rfl ?_
  refine lv_istore_n (lv' := [(2, .int 0), (0, .ref bs), (1, .int (nI i))]) X.x X.b dJ0_clear_35 rfl hl (by decide) rfl (fun ls hl => ?_)
  by_cases hz : dz_wd db 24 = 0
  · have hO := hO.cong 0 rfl (w1 := [(bs, dzo 13 [.ref wa, .int 0, .int 1])]) (by unfold dz_wu; rw [if_pos hz])
    have hO : dz_O G.1 dz_CL A s.heap [[(bs, dzo 13 [.ref wa, .int 0, .int 1])], [(wa, dzJ G 1 (dz_w1 (lN (dz_wd db 24))))]] _ _ := hO
    refine lv_iload_n X.x X.b dJ0_clear_36 rfl (lv_at hl 0 rfl) ?_
    refine lv_aload_n X.x X.b dJ0_clear_37 rfl (lv_at hl 1 rfl) ?_
    refine dz_get (v := .int 0) X (hO.at1 0 rfl) in_J0 rfl 1 (by decide) q130 (Or.inl rfl) rfl dJ0_clear_38 ?_
    refine lv_icmp_lt (tgt := 45) X.x X.b dJ0_clear_41 (by decide) (fun c_2 => absurd c_2 (by decide)) (fun _ => ?_)
    have hc9 : dz_wd (upd db i 0) 24 = 0 := by rw [← dz_wd_clr hi, hz, Nat.zero_and]
    have hO := hO.cong 0 rfl (w1 := [(bs, dzo 13 [.ref wa, .int (dz_wu (upd db i 0)), .int 1])]) (by unfold dz_wu; rw [if_pos hc9])
    have hO : dz_O G.1 dz_CL A s.heap [[(bs, dzo 13 [.ref wa, .int (dz_wu (upd db i 0)), .int 1])], [(wa, dzJ G 1 (dz_w1 (lN (dz_wd db 24))))]] _ _ := hO
    have hO := hO.cong 1 rfl (w1 := [(wa, dzJ G 1 (dz_w1 (lN (dz_wd (upd db i 0) 24))))]) (congrArg (fun z9 => [(wa, dzJ G 1 z9)]) (show (dz_w1 (lN (dz_wd (upd db i 0) 24))) = (dz_w1 (lN (dz_wd db 24))) from by rw [hc9, hz]))
    have hO : dz_O G.1 dz_CL A s.heap [[(bs, dzo 13 [.ref wa, .int (dz_wu (upd db i 0)), .int 1])], [(wa, dzJ G 1 (dz_w1 (lN (dz_wd (upd db i 0) 24))))]] _ _ := hO
    exact dz_vret X hO rfl (⟨rfl, rfl⟩) (Nat.le_of_ble_eq_true rfl) (Nat.le_of_ble_eq_true rfl) dJ0_clear_44
  · have hO := hO.cong 0 rfl (w1 := [(bs, dzo 13 [.ref wa, .int 1, .int 1])]) (by unfold dz_wu; rw [if_neg hz])
    have hO : dz_O G.1 dz_CL A s.heap [[(bs, dzo 13 [.ref wa, .int 1, .int 1])], [(wa, dzJ G 1 (dz_w1 (lN (dz_wd db 24))))]] _ _ := hO
    refine lv_iload_n X.x X.b dJ0_clear_36 rfl (lv_at hl 0 rfl) ?_
    refine lv_aload_n X.x X.b dJ0_clear_37 rfl (lv_at hl 1 rfl) ?_
    refine dz_get (v := .int 1) X (hO.at1 0 rfl) in_J0 rfl 1 (by decide) q130 (Or.inl rfl) rfl dJ0_clear_38 ?_
    refine lv_icmp_lt (tgt := 45) X.x X.b dJ0_clear_41 (by decide) (fun _ => ?_) (fun c_3 => absurd (by decide) c_3)
    refine lv_aload_n X.x X.b dJ0_clear_45 rfl (lv_at hl 1 rfl) ?_
    refine dz_get (v := .ref wa) X (hO.at1 0 rfl) in_J0 rfl 0 (by decide) q129 (Or.inl rfl) rfl dJ0_clear_46 ?_
    refine lv_iload_n X.x X.b dJ0_clear_49 rfl (lv_at hl 0 rfl) ?_
    refine lv_dup2_11 X.x X.b dJ0_clear_50 rfl rfl ?_
    refine dz_lald X (hO.at1 1 rfl) (j := 0) (by decide) (by decide) (by decide) dJ0_clear_51 ?_
    refine dz_rev (w := .long (lN (dz_wd db 24))) (congrArg Value.long (rfl)) ?_
    refine lv_lconst (v := 1) X.x X.b dJ0_clear_52 (by decide) ?_
    refine lv_iload_n X.x X.b dJ0_clear_53 rfl (lv_at hl 2 rfl) ?_
    refine lv_lshl (v := (1 <<< ((nI i : Int32).toInt64 &&& 63))) X.x X.b dJ0_clear_54 rfl ?_
    refine dz_rev (w := .long (lN (2 ^ i))) (congrArg Value.long (dz_1shl hi)) ?_
    refine lv_ldc2 (v := (-1)) X.x X.b X.own (X.ts _ q2101) dJ0_clear_55 ?_
    refine lv_lxor X.x X.b dJ0_clear_58 ?_
    refine dz_rev (w := .long (lN (18446744073709551615 - 2 ^ i))) (congrArg Value.long (dz_not i hi)) ?_
    refine lv_land X.x X.b dJ0_clear_59 ?_
    refine dz_rev (w := .long (lN (dz_wd (upd db i 0) 24))) (congrArg Value.long ((wb_and (Nat.lt_of_lt_of_le (dz_wd_lt db 24) (by decide)) (Nat.lt_of_le_of_lt (Nat.sub_le _ _) (by decide))).trans (congrArg lN (dz_wd_clr hi)))) ?_
    refine dz_last X hO 1 rfl (j := 0) (by decide) (by decide) (by decide) dJ0_clear_60 (fun H locs hO => ?_)
    have hO : dz_O G.1 dz_CL A s.heap [[(bs, dzo 13 [.ref wa, .int 1, .int 1])], [(wa, dzJ G 1 (vp_updL (dz_w1 (lN (dz_wd db 24))) 0 (lN (dz_wd (upd db i 0) 24))))]] _ _ := hO
    have hO := hO.cong 1 rfl (w1 := [(wa, dzJ G 1 (dz_w1 (lN (dz_wd (upd db i 0) 24))))]) (congrArg (fun z9 => [(wa, dzJ G 1 z9)]) (show (dz_w1 (lN (dz_wd (upd db i 0) 24))) = (vp_updL (dz_w1 (lN (dz_wd db 24))) 0 (lN (dz_wd (upd db i 0) 24))) from by exact (dz_w1_u _ _).symm))
    have hO : dz_O G.1 dz_CL A s.heap [[(bs, dzo 13 [.ref wa, .int 1, .int 1])], [(wa, dzJ G 1 (dz_w1 (lN (dz_wd (upd db i 0) 24))))]] _ _ := hO
    refine lv_aload_n X.x X.b dJ0_clear_61 rfl (lv_at hl 1 rfl) ?_
    refine dz_V (n := 0) (k9 := 0) (n9 := 0) (As := []) (rest := []) (wr := []) X hO hl (dz_J0_recalculateWordsInUse l G _ bs wa (upd db i 0) ) (lw_V q2102 q2104 qs32 q49 q2105) (by decide +kernel) ⟨Nat.le_of_ble_eq_true rfl, Nat.le_of_ble_eq_true rfl⟩ ⟨(Nat.le_of_ble_eq_true rfl), (Nat.le_of_ble_eq_true rfl), (Nat.le_of_ble_eq_true rfl), (Nat.le_of_ble_eq_true rfl)⟩ [0, 1] [] rfl rfl rfl (dz_rc X (hO.at1 0 rfl) (r := (RJ0, TJ0, 3)) rfl) rfl rfl (Nat.le_of_ble_eq_true rfl) dJ0_clear_62 (fun E w1 q9 ce9 H locs hpx hO hce hv9 hcl9 => hpx.elim) (fun r w1 H locs hpo hO => ?_)
    obtain ⟨rfl, rfl⟩ := hpo
    have hO : dz_O G.1 dz_CL A s.heap [[(bs, dzo 13 [.ref wa, .int (dz_wu (upd db i 0)), .int 1])], [(wa, dzJ G 1 (dz_w1 (lN (dz_wd (upd db i 0) 24))))]] _ _ := hO
    refine W.eq (g2 := F0 m 65 ls []) rfl ?_
    refine lv_aload_n X.x X.b dJ0_clear_65 rfl (lv_at hl 1 rfl) ?_
    refine dz_V (n := 0) (k9 := 0) (n9 := 0) (As := []) (rest := []) (wr := []) X hO hl (dz_J0_checkInvariants l G _ bs wa (upd db i 0) ) (lw_V q1062 q1064 qs6 q49 q1065) (by decide +kernel) ⟨Nat.le_of_ble_eq_true rfl, Nat.le_of_ble_eq_true rfl⟩ ⟨(Nat.le_of_ble_eq_true rfl), (Nat.le_of_ble_eq_true rfl), (Nat.le_of_ble_eq_true rfl), (Nat.le_of_ble_eq_true rfl)⟩ [0, 1] [] rfl rfl rfl (dz_rc X (hO.at1 0 rfl) (r := (RJ0, TJ0, 3)) rfl) rfl rfl (Nat.le_of_ble_eq_true rfl) dJ0_clear_66 (fun E w1 q9 ce9 H locs hpx hO hce hv9 hcl9 => hpx.elim) (fun r w1 H locs hpo hO => ?_)
    obtain ⟨rfl, rfl⟩ := hpo
    have hO : dz_O G.1 dz_CL A s.heap [[(bs, dzo 13 [.ref wa, .int (dz_wu (upd db i 0)), .int 1])], [(wa, dzJ G 1 (dz_w1 (lN (dz_wd (upd db i 0) 24))))]] _ _ := hO
    refine W.eq (g2 := F0 m 69 ls []) rfl ?_
    exact dz_vret X hO rfl (⟨rfl, rfl⟩) (Nat.le_of_ble_eq_true rfl) (Nat.le_of_ble_eq_true rfl) dJ0_clear_69
set_option maxHeartbeats 4000000 in
set_option maxRecDepth 100000 in
/-- cardinality -/
theorem dz_J0_cardinality (l : Launch) (G : dz_G) (sz : Nat) (bs : Nat) (wa : Nat) (db : Nat → Int32)  : dz_M l G yJ0_cardinality cJ0_cardinality 3 (some FieldType.int) ({ frames := 40, cells := 0, slots := 0, locals := 600 } : Room) [.ref bs] [[(bs, dzo 13 [.ref wa, .int (dz_wu db), .int 1])], [(wa, dzJ G 1 (dz_w1 (lN (dz_wd db 24))))]] sz (fun r w1 => r = some (.int (nI (dz_nq db 24))) ∧ w1 = [[(bs, dzo 13 [.ref wa, .int (dz_wu db), .int 1])], [(wa, dzJ G 1 (dz_w1 (lN (dz_wd db 24))))]]) (dz_np) := by
  refine dz_start (by decide) (Nat.le_of_ble_eq_true rfl) ?_
  intro p e s m below meth c A ls X hO hsz hl
  have hl : lv_has ls 3 [(0, .ref bs)] := hl
  by_cases hz : dz_wd db 24 = 0
  · have hO := hO.cong 0 rfl (w1 := [(bs, dzo 13 [.ref wa, .int 0, .int 1])]) (by unfold dz_wu; rw [if_pos hz])
    have hO : dz_O G.1 dz_CL A s.heap [[(bs, dzo 13 [.ref wa, .int 0, .int 1])], [(wa, dzJ G 1 (dz_w1 (lN (dz_wd db 24))))]] _ _ := hO
    refine lv_iconst (v := 0) X.x X.b dJ0_cardinality_0 (by decide) ?_
    refine lv_istore_n (lv' := [(1, .int 0), (0, .ref bs)]) X.x X.b dJ0_cardinality_1 rfl hl (by decide) rfl (fun ls hl => ?_)
    refine lv_iconst (v := 0) X.x X.b dJ0_cardinality_2 (by decide) ?_
    refine lv_istore_n (lv' := [(2, .int 0), (1, .int 0), (0, .ref bs)]) X.x X.b dJ0_cardinality_3 rfl hl (by decide) rfl (fun ls hl => ?_)
    refine lv_iload_n X.x X.b dJ0_cardinality_4 rfl (lv_at hl 0 rfl) ?_
    refine lv_aload_n X.x X.b dJ0_cardinality_5 rfl (lv_at hl 2 rfl) ?_
    refine dz_get (v := .int 0) X (hO.at1 0 rfl) in_J0 rfl 1 (by decide) q130 (Or.inl rfl) rfl dJ0_cardinality_6 ?_
    refine lv_icmp_ge (tgt := 30) X.x X.b dJ0_cardinality_9 (by decide) (fun _ => ?_) (fun c_1 => absurd (by decide) c_1)
    refine lv_iload_n X.x X.b dJ0_cardinality_30 rfl (lv_at hl 1 rfl) ?_
    have hO := hO.cong 0 rfl (w1 := [(bs, dzo 13 [.ref wa, .int (dz_wu db), .int 1])]) (by unfold dz_wu; first | (rw [if_pos hz]; done) | (rw [if_neg hz]; done))
    have hO : dz_O G.1 dz_CL A s.heap [[(bs, dzo 13 [.ref wa, .int (dz_wu db), .int 1])], [(wa, dzJ G 1 (dz_w1 (lN (dz_wd db 24))))]] _ _ := hO
    exact dz_iret X hO rfl (⟨by rw [← dz_pc_wd db 24 24 (Nat.le_refl 24), hz]; rfl, rfl⟩) (Nat.le_of_ble_eq_true rfl) (Nat.le_of_ble_eq_true rfl) dJ0_cardinality_31
  · have hO := hO.cong 0 rfl (w1 := [(bs, dzo 13 [.ref wa, .int 1, .int 1])]) (by unfold dz_wu; rw [if_neg hz])
    have hO : dz_O G.1 dz_CL A s.heap [[(bs, dzo 13 [.ref wa, .int 1, .int 1])], [(wa, dzJ G 1 (dz_w1 (lN (dz_wd db 24))))]] _ _ := hO
    refine lv_iconst (v := 0) X.x X.b dJ0_cardinality_0 (by decide) ?_
    refine lv_istore_n (lv' := [(1, .int 0), (0, .ref bs)]) X.x X.b dJ0_cardinality_1 rfl hl (by decide) rfl (fun ls hl => ?_)
    refine lv_iconst (v := 0) X.x X.b dJ0_cardinality_2 (by decide) ?_
    refine lv_istore_n (lv' := [(2, .int 0), (1, .int 0), (0, .ref bs)]) X.x X.b dJ0_cardinality_3 rfl hl (by decide) rfl (fun ls hl => ?_)
    refine lv_iload_n X.x X.b dJ0_cardinality_4 rfl (lv_at hl 0 rfl) ?_
    refine lv_aload_n X.x X.b dJ0_cardinality_5 rfl (lv_at hl 2 rfl) ?_
    refine dz_get (v := .int 1) X (hO.at1 0 rfl) in_J0 rfl 1 (by decide) q130 (Or.inl rfl) rfl dJ0_cardinality_6 ?_
    refine lv_icmp_ge (tgt := 30) X.x X.b dJ0_cardinality_9 (by decide) (fun c_2 => absurd c_2 (by decide)) (fun _ => ?_)
    refine lv_iload_n X.x X.b dJ0_cardinality_12 rfl (lv_at hl 1 rfl) ?_
    refine lv_aload_n X.x X.b dJ0_cardinality_13 rfl (lv_at hl 2 rfl) ?_
    refine dz_get (v := .ref wa) X (hO.at1 0 rfl) in_J0 rfl 0 (by decide) q129 (Or.inl rfl) rfl dJ0_cardinality_14 ?_
    refine lv_iload_n X.x X.b dJ0_cardinality_17 rfl (lv_at hl 0 rfl) ?_
    refine dz_lald X (hO.at1 1 rfl) (j := 0) (by decide) (by decide) (by decide) dJ0_cardinality_18 ?_
    refine dz_rev (w := .long (lN (dz_wd db 24))) (congrArg Value.long (rfl)) ?_
    refine dz_S (n := 1) (k9 := 0) (n9 := 0) (As := [.long (lN (dz_wd db 24))]) (rest := [.int 0]) (wr := [[(bs, dzo 13 [.ref wa, .int 1, .int 1])], [(wa, dzJ G 1 (dz_w1 (lN (dz_wd db 24))))]]) X hO hl (dz_J39_bitCount l G _ (dz_wd db 24) (dz_wd_lt db 24)) (lw_S q2084 q2085 q104 q2086) (by decide +kernel) ⟨Nat.le_of_ble_eq_true rfl, Nat.le_of_ble_eq_true rfl⟩ ⟨(Nat.le_of_ble_eq_true rfl), (Nat.le_of_ble_eq_true rfl), (Nat.le_of_ble_eq_true rfl), (Nat.le_of_ble_eq_true rfl)⟩ [] [0, 1] rfl rfl rfl rfl rfl (Nat.le_of_ble_eq_true rfl) dJ0_cardinality_19 (fun E w1 q9 ce9 H locs hpx hO hce hv9 hcl9 => hpx.elim) (fun r w1 H locs hpo hO => ?_)
    obtain ⟨rfl, rfl⟩ := hpo
    have hO : dz_O G.1 dz_CL A s.heap [[(bs, dzo 13 [.ref wa, .int 1, .int 1])], [(wa, dzJ G 1 (dz_w1 (lN (dz_wd db 24))))]] _ _ := hO
    refine W.eq (g2 := F0 m 22 ls [.int (nI (dz_pc (dz_wd db 24) 24)), .int 0]) rfl ?_
    refine lv_iadd X.x X.b dJ0_cardinality_22 ?_
    refine dz_rei (y := nI (0 + dz_pc (dz_wd db 24) 24)) (nI_add 0 (dz_pc (dz_wd db 24) 24)) ?_
    refine dz_rei (y := nI (dz_pc (dz_wd db 24) 24)) (by rw [Nat.zero_add]) ?_
    refine lv_istore_n (lv' := [(1, .int (nI (dz_pc (dz_wd db 24) 24))), (2, .int 0), (0, .ref bs)]) X.x X.b dJ0_cardinality_23 rfl hl (by decide) rfl (fun ls hl => ?_)
    refine lv_iinc (v := 1) (lv' := [(2, .int 1), (1, .int (nI (dz_pc (dz_wd db 24) 24))), (0, .ref bs)]) X.x X.b dJ0_cardinality_24 hl (k := 1) rfl (by decide) (by decide) rfl (fun ls hl => ?_)
    refine lv_goto (tgt := 4) X.x X.b dJ0_cardinality_27 (by decide) ?_
    refine lv_iload_n X.x X.b dJ0_cardinality_4 rfl (lv_at hl 0 rfl) ?_
    refine lv_aload_n X.x X.b dJ0_cardinality_5 rfl (lv_at hl 2 rfl) ?_
    refine dz_get (v := .int 1) X (hO.at1 0 rfl) in_J0 rfl 1 (by decide) q130 (Or.inl rfl) rfl dJ0_cardinality_6 ?_
    refine lv_icmp_ge (tgt := 30) X.x X.b dJ0_cardinality_9 (by decide) (fun _ => ?_) (fun c_3 => absurd (by decide) c_3)
    refine lv_iload_n X.x X.b dJ0_cardinality_30 rfl (lv_at hl 1 rfl) ?_
    have hO := hO.cong 0 rfl (w1 := [(bs, dzo 13 [.ref wa, .int (dz_wu db), .int 1])]) (by unfold dz_wu; first | (rw [if_pos hz]; done) | (rw [if_neg hz]; done))
    have hO : dz_O G.1 dz_CL A s.heap [[(bs, dzo 13 [.ref wa, .int (dz_wu db), .int 1])], [(wa, dzJ G 1 (dz_w1 (lN (dz_wd db 24))))]] _ _ := hO
    exact dz_iret X hO rfl (⟨by rw [dz_pc_wd db 24 24 (Nat.le_refl 24)], rfl⟩) (Nat.le_of_ble_eq_true rfl) (Nat.le_of_ble_eq_true rfl) dJ0_cardinality_31
