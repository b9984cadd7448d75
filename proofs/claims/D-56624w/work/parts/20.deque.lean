def dz_rng (oa : Nat → Nat) (n h : Nat) : Nat → Option Nat := fun k => if k < 17 ∧ (k + 17 - h) % 17 < n then some (oa ((k + 17 - h) % 17)) else none
/-- v ahead of f -/
def dz_cn {α : Type} (v : α) (f : Nat → α) : Nat → α := fun i => if i = 0 then v else f (i - 1)
theorem dz_rng_0 (oa : Nat → Nat) (h : Nat) : dz_rng oa 0 h = fun _ => none := by
  funext k; unfold dz_rng; rw [if_neg (by omega)]
theorem dz_rng_at {oa : Nat → Nat} {n h i : Nat} (hh : h < 17) (hi : i < n) (hn : n < 17) : dz_rng oa n h ((h + i) % 17) = some (oa i) := by
  unfold dz_rng
  have e : ((h + i) % 17 + 17 - h) % 17 = i := by omega
  rw [e, if_pos ⟨by omega, hi⟩]
theorem dz_rng_hd {oa : Nat → Nat} {n h : Nat} (hh : h < 17) (hi : 0 < n) : dz_rng oa n h h = some (oa 0) := by
  unfold dz_rng
  have e : (h + 17 - h) % 17 = 0 := by omega
  rw [e, if_pos ⟨hh, hi⟩]
theorem dz_rng_add {oa : Nat → Nat} {n h v : Nat} (hh : h < 17) (hn : n < 16) : va_up (dz_rng oa n h) ((h + 16) % 17) (some v) = dz_rng (dz_cn v oa) (n + 1) ((h + 16) % 17) := by
  funext k
  unfold va_up dz_rng dz_cn
  by_cases hk : k = (h + 16) % 17
  · have e : (k + 17 - (h + 16) % 17) % 17 = 0 := by omega
    rw [if_pos hk, e, if_pos ⟨by omega, by omega⟩, if_pos rfl]
  · rw [if_neg hk]
    by_cases hk2 : k < 17
    · have e : (k + 17 - (h + 16) % 17) % 17 = (k + 17 - h) % 17 + 1 := by omega
      rw [e]
      by_cases h3 : (k + 17 - h) % 17 < n
      · rw [if_pos ⟨hk2, h3⟩, if_pos ⟨hk2, by omega⟩, if_neg (by omega), Nat.add_sub_cancel]
      · rw [if_neg (fun z => h3 z.2), if_neg (fun z => by have := z.2; omega)]
    · rw [if_neg (fun z => hk2 z.1), if_neg (fun z => hk2 z.1)]
theorem dz_rng_del {oa : Nat → Nat} {n h : Nat} (hh : h < 17) (hn : n < 16) : va_up (dz_rng oa (n + 1) h) ((h + n) % 17) none = dz_rng oa n h := by
  funext k
  unfold va_up dz_rng
  by_cases hk : k = (h + n) % 17
  · rw [if_pos hk, if_neg (fun z => by have := z.2; omega)]
  · rw [if_neg hk]
    by_cases hk2 : k < 17
    · by_cases h3 : (k + 17 - h) % 17 < n
      · rw [if_pos ⟨hk2, by omega⟩, if_pos ⟨hk2, h3⟩]
      · rw [if_neg (fun z => by have := z.2; omega), if_neg (fun z => h3 z.2)]
    · rw [if_neg (fun z => hk2 z.1), if_neg (fun z => hk2 z.1)]
theorem dz_sub17 {h n : Nat} (h1 : 17 ≤ h + n) (h2 : n < 17) (h3 : h < 17) : nI ((h + n) % 17) - nI h + 17 = nI n := by
  have e : nI ((h + n) % 17) + 17 = nI h + nI n := by
    rw [show (17 : Int32) = nI 17 by decide, nI_add, nI_add, show (h + n) % 17 + 17 = h + n by omega]
  grind
theorem dz_sub17n {h n : Nat} (h1 : 17 ≤ h + n) (h2 : n < 17) (h3 : h < 17) : nI ((h + n) % 17) - nI h < 0 := by
  rw [Int32.lt_iff_toInt_lt, pk_sub_toInt (by omega) (by omega), Int32.toInt_zero]
  omega
theorem dz_sub17p {h n : Nat} (h1 : h + n < 17) : nI ((h + n) % 17) - nI h = nI n := by
  rw [Nat.mod_eq_of_lt h1, pk_sub (by omega), Nat.add_sub_cancel_left]
set_option maxHeartbeats 4000000 in
set_option maxRecDepth 100000 in
/-- a deque is made -/
theorem dz_J20_init (l : Launch) (G : dz_G) (sz : Nat) (dq : Nat)  : dz_M l G yJ20_init cJ20_init 1 none ({ frames := 40, cells := 1, slots := 17, locals := 600 } : Room) [.ref dq] [[(dq, dzo 17 [.null, .int 0, .int 0])]] sz (fun r w1 => ∃ (ea : Nat), r = none ∧ w1 = [[(dq, dzo 17 [.ref ea, .int 0, .int 0])], [(ea, dzO G 17 (fun _ => none))]]) (dz_np) := by
  refine dz_start (by decide) (Nat.le_of_ble_eq_true rfl) ?_
  intro p e s m below meth c A ls X hO hsz hl
  have hl : lv_has ls 1 [(0, .ref dq)] := hl
  refine lv_aload_n X.x X.b dJ20_init_0 rfl (lv_at hl 0 rfl) ?_
  refine dz_I (ret1 := none) (n := 0) (k9 := 0) (n9 := 0) (As := []) (rest := []) (wr := [[(dq, dzo 17 [.null, .int 0, .int 0])]]) X hO hl (dz_J1_init l G _ dq ) q151 q50 q536 q150 rfl (by decide +kernel) ⟨Nat.le_of_ble_eq_true rfl, Nat.le_of_ble_eq_true rfl⟩ ⟨(Nat.le_of_ble_eq_true rfl), (Nat.le_of_ble_eq_true rfl), (Nat.le_of_ble_eq_true rfl), (Nat.le_of_ble_eq_true rfl)⟩ [] [0] rfl rfl rfl rfl rfl (Nat.le_of_ble_eq_true rfl) dJ20_init_1 (fun E w1 q9 ce9 H locs hpx hO hce hv9 hcl9 => hpx.elim) (fun r w1 H locs hpo hO => ?_)
  obtain ⟨rfl, rfl⟩ := hpo
  have hO : dz_O G.1 dz_CL A s.heap [[(dq, dzo 17 [.null, .int 0, .int 0])]] _ _ := hO
  refine W.eq (g2 := F0 m 4 ls []) rfl ?_
  refine lv_aload_n X.x X.b dJ20_init_4 rfl (lv_at hl 0 rfl) ?_
  refine lv_bipush (v := 17) X.x X.b dJ20_init_5 (by decide) ?_
  refine dz_newaO X hO q537 (j := 17) (by decide) (by decide) (by decide) (Nat.le_of_ble_eq_true rfl) (Nat.le_of_ble_eq_true rfl) dJ20_init_7 (fun q_1 H hO => ?_)
  have hO : dz_O G.1 dz_CL A s.heap [[(dq, dzo 17 [.null, .int 0, .int 0])], [(q_1, dzO G 17 (fun _ => none))]] _ _ := hO
  refine W.widen (k := 1) (n := 17) (Nat.le_of_ble_eq_true rfl) (Nat.le_of_ble_eq_true rfl) ?_
  refine dz_put (v := .ref q_1) X hO 0 rfl in_J20 tyJ20 tyJ20_ok nmJ20 rfl 0 (by decide) q538 (Or.inl rfl) (Or.inl rfl) rfl rfl (Nat.le_of_ble_eq_true rfl) dJ20_init_10 (fun H locs hO => ?_)
  have hO : dz_O G.1 dz_CL A s.heap [[(dq, dzo 17 [.ref q_1, .int 0, .int 0])], [(q_1, dzO G 17 (fun _ => none))]] _ _ := hO
  exact dz_vret X hO rfl (⟨q_1, rfl, rfl⟩) (Nat.le_of_ble_eq_true rfl) (Nat.le_of_ble_eq_true rfl) dJ20_init_13
set_option maxHeartbeats 4000000 in
set_option maxRecDepth 100000 in
/-- dec -/
theorem dz_J20_dec (l : Launch) (G : dz_G) (sz : Nat) (i : Nat) (hi : i < 17) : dz_M l G yJ20_dec cJ20_dec 2 (some FieldType.int) ({ frames := 20, cells := 0, slots := 0, locals := 300 } : Room) [.int (nI i), .int 17] [] sz (fun r w1 => r = some (.int (nI ((i + 16) % 17))) ∧ w1 = []) (dz_np) := by
  refine dz_start (by decide) (Nat.le_of_ble_eq_true rfl) ?_
  intro p e s m below meth c A ls X hO hsz hl
  have hl : lv_has ls 2 [(0, .int (nI i)), (1, .int 17)] := hl
  rcases (show i = 0 ∨ ∃ j9, i = j9 + 1 by cases i with | zero => exact Or.inl rfl | succ j9 => exact Or.inr ⟨j9, rfl⟩) with hk0 | ⟨j9, hk0⟩
  · subst hk0
    have hl : lv_has ls 2 [(0, .int 0), (1, .int 17)] := hl
    refine lv_iinc (v := (-1)) (lv' := [(0, .int (-1)), (1, .int 17)]) X.x X.b dJ20_dec_0 hl (k := 0) rfl (by decide) (by decide) rfl (fun ls hl => ?_)
    refine lv_iload_n X.x X.b dJ20_dec_3 rfl (lv_at hl 0 rfl) ?_
    refine lv_if_ge (tgt := 11) X.x X.b dJ20_dec_4 (by decide) (fun c_1 => absurd c_1 (by decide)) (fun _ => ?_)
    refine lv_iload_n X.x X.b dJ20_dec_7 rfl (lv_at hl 1 rfl) ?_
    refine lv_iconst (v := 1) X.x X.b dJ20_dec_8 (by decide) ?_
    refine lv_isub X.x X.b dJ20_dec_9 ?_
    refine dz_rei (y := 16) (by decide) ?_
    refine lv_istore_n (lv' := [(0, .int 16), (1, .int 17)]) X.x X.b dJ20_dec_10 rfl hl (by decide) rfl (fun ls hl => ?_)
    refine lv_iload_n X.x X.b dJ20_dec_11 rfl (lv_at hl 0 rfl) ?_
    exact dz_iret X hO rfl (⟨by decide, rfl⟩) (Nat.le_of_ble_eq_true rfl) (Nat.le_of_ble_eq_true rfl) dJ20_dec_12
  · subst hk0
    refine lv_iinc (v := nI j9) (lv' := [(0, .int (nI j9)), (1, .int 17)]) X.x X.b dJ20_dec_0 hl (k := 0) rfl (pk_m1 j9) (by decide) rfl (fun ls hl => ?_)
    refine lv_iload_n X.x X.b dJ20_dec_3 rfl (lv_at hl 0 rfl) ?_
    refine lv_if_ge (tgt := 11) X.x X.b dJ20_dec_4 (by decide) (fun _ => ?_) (fun c_2 => absurd (Int32.not_lt.mp (nI_pos (by omega))) c_2)
    refine lv_iload_n X.x X.b dJ20_dec_11 rfl (lv_at hl 0 rfl) ?_
    exact dz_iret X hO rfl (⟨by rw [show (j9 + 1 + 16) % 17 = j9 by omega], rfl⟩) (Nat.le_of_ble_eq_true rfl) (Nat.le_of_ble_eq_true rfl) dJ20_dec_12
set_option maxHeartbeats 4000000 in
set_option maxRecDepth 100000 in
/-- inc -/
theorem dz_J20_inc (l : Launch) (G : dz_G) (sz : Nat) (i : Nat) (hi : i < 17) : dz_M l G yJ20_inc cJ20_inc 2 (some FieldType.int) ({ frames := 20, cells := 0, slots := 0, locals := 300 } : Room) [.int (nI i), .int 17] [] sz (fun r w1 => r = some (.int (nI ((i + 1) % 17))) ∧ w1 = []) (dz_np) := by
  refine dz_start (by decide) (Nat.le_of_ble_eq_true rfl) ?_
  intro p e s m below meth c A ls X hO hsz hl
  have hl : lv_has ls 2 [(0, .int (nI i)), (1, .int 17)] := hl
  refine lv_iinc (v := nI (i + 1)) (lv' := [(0, .int (nI (i + 1))), (1, .int 17)]) X.x X.b dJ20_inc_0 hl (k := 0) rfl (nI_1 i) (by decide) rfl (fun ls hl => ?_)
  refine lv_iload_n X.x X.b dJ20_inc_3 rfl (lv_at hl 0 rfl) ?_
  refine lv_iload_n X.x X.b dJ20_inc_4 rfl (lv_at hl 1 rfl) ?_
  refine lv_icmp_lt (tgt := 10) X.x X.b dJ20_inc_5 (by decide) (fun c_1 => ?_) (fun c_1 => ?_)
  · have nc_1 : i + 1 < 17 := (nI_ltI (a := i + 1) (b := 17) (by omega) (by omega)).mp c_1
    refine lv_iload_n X.x X.b dJ20_inc_10 rfl (lv_at hl 0 rfl) ?_
    exact dz_iret X hO rfl (⟨by rw [show (i + 1) % 17 = i + 1 by omega], rfl⟩) (Nat.le_of_ble_eq_true rfl) (Nat.le_of_ble_eq_true rfl) dJ20_inc_11
  · have nc_1 : ¬ i + 1 < 17 := fun z9 => c_1 ((nI_ltI (a := i + 1) (b := 17) (by omega) (by omega)).mpr z9)
    refine lv_iconst (v := 0) X.x X.b dJ20_inc_8 (by decide) ?_
    refine lv_istore_n (lv' := [(0, .int 0), (1, .int 17)]) X.x X.b dJ20_inc_9 rfl hl (by decide) rfl (fun ls hl => ?_)
    refine lv_iload_n X.x X.b dJ20_inc_10 rfl (lv_at hl 0 rfl) ?_
    exact dz_iret X hO rfl (⟨by rw [show (i + 1) % 17 = 0 by omega]; rfl, rfl⟩) (Nat.le_of_ble_eq_true rfl) (Nat.le_of_ble_eq_true rfl) dJ20_inc_11
set_option maxHeartbeats 4000000 in
set_option maxRecDepth 100000 in
/-- sub -/
theorem dz_J20_sub (l : Launch) (G : dz_G) (sz : Nat) (h : Nat) (n : Nat) (hh : h < 17) (hn : n < 17) : dz_M l G yJ20_sub cJ20_sub 3 (some FieldType.int) ({ frames := 20, cells := 0, slots := 0, locals := 300 } : Room) [.int (nI ((h + n) % 17)), .int (nI h), .int 17] [] sz (fun r w1 => r = some (.int (nI n)) ∧ w1 = []) (dz_np) := by
  refine dz_start (by decide) (Nat.le_of_ble_eq_true rfl) ?_
  intro p e s m below meth c A ls X hO hsz hl
  have hl : lv_has ls 3 [(0, .int (nI ((h + n) % 17))), (1, .int (nI h)), (2, .int 17)] := hl
  refine lv_iload_n X.x X.b dJ20_sub_0 rfl (lv_at hl 0 rfl) ?_
  refine lv_iload_n X.x X.b dJ20_sub_1 rfl (lv_at hl 1 rfl) ?_
  refine lv_isub X.x X.b dJ20_sub_2 ?_
  rcases Nat.lt_or_ge (h + n) 17 with hc | hc
  · refine dz_rei (y := nI n) (dz_sub17p hc) ?_
    refine lv_dup X.x X.b dJ20_sub_3 rfl ?_
    refine lv_istore_n (lv' := [(0, .int (nI n)), (1, .int (nI h)), (2, .int 17)]) X.x X.b dJ20_sub_4 rfl hl (by decide) rfl (fun ls hl => ?_)
    refine lv_if_ge (tgt := 12) X.x X.b dJ20_sub_5 (by decide) (fun _ => ?_) (fun c_1 => absurd (Int32.not_lt.mp (nI_pos (by omega))) c_1)
    refine lv_iload_n X.x X.b dJ20_sub_12 rfl (lv_at hl 0 rfl) ?_
    exact dz_iret X hO rfl (⟨rfl, rfl⟩) (Nat.le_of_ble_eq_true rfl) (Nat.le_of_ble_eq_true rfl) dJ20_sub_13
  · refine lv_dup X.x X.b dJ20_sub_3 rfl ?_
    refine lv_istore_n (lv' := [(0, .int (nI ((h + n) % 17) - nI h)), (1, .int (nI h)), (2, .int 17)]) X.x X.b dJ20_sub_4 rfl hl (by decide) rfl (fun ls hl => ?_)
    refine lv_if_ge (tgt := 12) X.x X.b dJ20_sub_5 (by decide) (fun c_2 => absurd c_2 (Int32.not_le.mpr (dz_sub17n hc hn hh))) (fun _ => ?_)
    refine lv_iload_n X.x X.b dJ20_sub_8 rfl (lv_at hl 0 rfl) ?_
    refine lv_iload_n X.x X.b dJ20_sub_9 rfl (lv_at hl 2 rfl) ?_
    refine lv_iadd X.x X.b dJ20_sub_10 ?_
    refine dz_rei (y := nI n) (dz_sub17 hc hn hh) ?_
    refine lv_istore_n (lv' := [(0, .int (nI n)), (1, .int (nI h)), (2, .int 17)]) X.x X.b dJ20_sub_11 rfl hl (by decide) rfl (fun ls hl => ?_)
    refine lv_iload_n X.x X.b dJ20_sub_12 rfl (lv_at hl 0 rfl) ?_
    exact dz_iret X hO rfl (⟨rfl, rfl⟩) (Nat.le_of_ble_eq_true rfl) (Nat.le_of_ble_eq_true rfl) dJ20_sub_13
set_option maxHeartbeats 4000000 in
set_option maxRecDepth 100000 in
/-- size -/
theorem dz_J20_size (l : Launch) (G : dz_G) (sz : Nat) (dq : Nat) (ea : Nat) (h : Nat) (n : Nat) (oa : Nat → Nat) (hh : h < 17) (hn : n ≤ 9) : dz_M l G yJ20_size cJ20_size 1 (some FieldType.int) ({ frames := 40, cells := 0, slots := 0, locals := 600 } : Room) [.ref dq] [[(dq, dzo 17 [.ref ea, .int (nI h), .int (nI ((h + n) % 17))])], [(ea, dzO G 17 (dz_rng oa n h))]] sz (fun r w1 => r = some (.int (nI n)) ∧ w1 = [[(dq, dzo 17 [.ref ea, .int (nI h), .int (nI ((h + n) % 17))])], [(ea, dzO G 17 (dz_rng oa n h))]]) (dz_np) := by
  refine dz_start (by decide) (Nat.le_of_ble_eq_true rfl) ?_
  intro p e s m below meth c A ls X hO hsz hl
  have hl : lv_has ls 1 [(0, .ref dq)] := hl
  refine lv_aload_n X.x X.b dJ20_size_0 rfl (lv_at hl 0 rfl) ?_
  refine dz_get (v := .int (nI ((h + n) % 17))) X (hO.at1 0 rfl) in_J20 rfl 2 (by decide) q542 (Or.inl rfl) rfl dJ20_size_1 ?_
  refine lv_aload_n X.x X.b dJ20_size_4 rfl (lv_at hl 0 rfl) ?_
  refine dz_get (v := .int (nI h)) X (hO.at1 0 rfl) in_J20 rfl 1 (by decide) q541 (Or.inl rfl) rfl dJ20_size_5 ?_
  refine lv_aload_n X.x X.b dJ20_size_8 rfl (lv_at hl 0 rfl) ?_
  refine dz_get (v := .ref ea) X (hO.at1 0 rfl) in_J20 rfl 0 (by decide) q538 (Or.inl rfl) rfl dJ20_size_9 ?_
  refine dz_alen (v := 17) X (hO.at1 1 rfl) 5 rfl (by first | rfl | decide) dJ20_size_12 ?_
  refine dz_S (n := 3) (k9 := 0) (n9 := 0) (As := [.int (nI ((h + n) % 17)), .int (nI h), .int 17]) (rest := []) (wr := [[(dq, dzo 17 [.ref ea, .int (nI h), .int (nI ((h + n) % 17))])], [(ea, dzO G 17 (dz_rng oa n h))]]) X hO hl (dz_J20_sub l G _ h n (by first | assumption | omega | decide) (by first | assumption | omega | decide)) (lw_S q1326 q1327 q72 q1328) (by decide +kernel) ⟨Nat.le_of_ble_eq_true rfl, Nat.le_of_ble_eq_true rfl⟩ ⟨(Nat.le_of_ble_eq_true rfl), (Nat.le_of_ble_eq_true rfl), (Nat.le_of_ble_eq_true rfl), (Nat.le_of_ble_eq_true rfl)⟩ [] [0, 1] rfl rfl rfl rfl rfl (Nat.le_of_ble_eq_true rfl) dJ20_size_13 (fun E w1 q9 ce9 H locs hpx hO hce hv9 hcl9 => hpx.elim) (fun r w1 H locs hpo hO => ?_)
  obtain ⟨rfl, rfl⟩ := hpo
  have hO : dz_O G.1 dz_CL A s.heap [[(dq, dzo 17 [.ref ea, .int (nI h), .int (nI ((h + n) % 17))])], [(ea, dzO G 17 (dz_rng oa n h))]] _ _ := hO
  refine W.eq (g2 := F0 m 16 ls [.int (nI n)]) rfl ?_
  exact dz_iret X hO rfl (⟨rfl, rfl⟩) (Nat.le_of_ble_eq_true rfl) (Nat.le_of_ble_eq_true rfl) dJ20_size_16
set_option maxHeartbeats 4000000 in
set_option maxRecDepth 100000 in
/-- elementAt -/
theorem dz_J20_elementAt (l : Launch) (G : dz_G) (sz : Nat) (ea : Nat) (f : Nat → Option Nat) (j : Nat) (hj : j < 17) : dz_M l G yJ20_elementAt cJ20_elementAt 2 (some (FieldType.object "java/lang/Object")) ({ frames := 20, cells := 0, slots := 0, locals := 300 } : Room) [.ref ea, .int (nI j)] [[(ea, dzO G 17 f)]] sz (fun r w1 => r = some (va_rf (f j)) ∧ w1 = [[(ea, dzO G 17 f)]]) (dz_np) := by
  refine dz_start (by decide) (Nat.le_of_ble_eq_true rfl) ?_
  intro p e s m below meth c A ls X hO hsz hl
  have hl : lv_has ls 2 [(0, .ref ea), (1, .int (nI j))] := hl
  refine lv_aload_n X.x X.b dJ20_elementAt_0 rfl (lv_at hl 0 rfl) ?_
  refine lv_iload_n X.x X.b dJ20_elementAt_1 rfl (lv_at hl 1 rfl) ?_
  refine dz_aldO X (hO.at1 0 rfl) (j := j) rfl (by omega) (by decide) dJ20_elementAt_2 ?_
  exact dz_aret X hO rfl (Or.inl ⟨_, rfl⟩) (va_rf_or _) (⟨rfl, rfl⟩) (Nat.le_of_ble_eq_true rfl) (Nat.le_of_ble_eq_true rfl) dJ20_elementAt_3
set_option maxHeartbeats 4000000 in
set_option maxRecDepth 100000 in
/-- nonNullElementAt -/
theorem dz_J20_nonNullElementAt (l : Launch) (G : dz_G) (sz : Nat) (ea : Nat) (f : Nat → Option Nat) (j : Nat) (v : Nat) (hj : j < 17) (hf : f j = some v) : dz_M l G yJ20_nonNullElementAt cJ20_nonNullElementAt 3 (some (FieldType.object "java/lang/Object")) ({ frames := 20, cells := 0, slots := 0, locals := 300 } : Room) [.ref ea, .int (nI j)] [[(ea, dzO G 17 f)]] sz (fun r w1 => r = some (.ref v) ∧ w1 = [[(ea, dzO G 17 f)]]) (dz_np) := by
  refine dz_start (by decide) (Nat.le_of_ble_eq_true rfl) ?_
  intro p e s m below meth c A ls X hO hsz hl
  have hl : lv_has ls 3 [(0, .ref ea), (1, .int (nI j))] := hl
  refine lv_aload_n X.x X.b dJ20_nonNullElementAt_0 rfl (lv_at hl 0 rfl) ?_
  refine lv_iload_n X.x X.b dJ20_nonNullElementAt_1 rfl (lv_at hl 1 rfl) ?_
  refine dz_aldO X (hO.at1 0 rfl) (j := j) rfl (by omega) (by decide) dJ20_nonNullElementAt_2 ?_
  refine dz_rev (w := .ref v) (by rw [hf]; rfl) ?_
  refine lv_astore_n (lv' := [(2, .ref v), (0, .ref ea), (1, .int (nI j))]) X.x X.b dJ20_nonNullElementAt_3 rfl hl (by decide) rfl (fun ls hl => ?_)
  refine lv_aload_n X.x X.b dJ20_nonNullElementAt_4 rfl (lv_at hl 0 rfl) ?_
  refine lv_ifnonnull (tgt := 16) X.x X.b dJ20_nonNullElementAt_5 (by decide) ?_
  refine lv_aload_n X.x X.b dJ20_nonNullElementAt_16 rfl (lv_at hl 0 rfl) ?_
  exact dz_aret X hO rfl (Or.inl ⟨_, rfl⟩) (Or.inr ⟨_, rfl⟩) (⟨rfl, rfl⟩) (Nat.le_of_ble_eq_true rfl) (Nat.le_of_ble_eq_true rfl) dJ20_nonNullElementAt_17
set_option maxHeartbeats 4000000 in
set_option maxRecDepth 100000 in
/-- addFirst -/
theorem dz_J20_addFirst (l : Launch) (G : dz_G) (sz : Nat) (dq : Nat) (ea : Nat) (h : Nat) (n : Nat) (oa : Nat → Nat) (v : Nat) (vp : va_W) (hh : h < 17) (hn : n ≤ 8) (hv : dz_is vp v) : dz_M l G yJ20_addFirst cJ20_addFirst 3 none ({ frames := 40, cells := 0, slots := 0, locals := 600 } : Room) [.ref dq, .ref v] [[(dq, dzo 17 [.ref ea, .int (nI h), .int (nI ((h + n) % 17))])], [(ea, dzO G 17 (dz_rng oa n h))], vp] sz (fun r w1 => r = none ∧ w1 = [[(dq, dzo 17 [.ref ea, .int (nI ((h + 16) % 17)), .int (nI ((((h + 16) % 17) + (n + 1)) % 17))])], [(ea, dzO G 17 (dz_rng (dz_cn v oa) (n + 1) ((h + 16) % 17)))], vp]) (dz_np) := by
  refine dz_start (by decide) (Nat.le_of_ble_eq_true rfl) ?_
  intro p e s m below meth c A ls X hO hsz hl
  have hl : lv_has ls 3 [(0, .ref dq), (1, .ref v)] := hl
  refine lv_aload_n X.x X.b dJ20_addFirst_0 rfl (lv_at hl 1 rfl) ?_
  refine lv_ifnonnull (tgt := 12) X.x X.b dJ20_addFirst_1 (by decide) ?_
  refine lv_aload_n X.x X.b dJ20_addFirst_12 rfl (lv_at hl 0 rfl) ?_
  refine dz_get (v := .ref ea) X (hO.at1 0 rfl) in_J20 rfl 0 (by decide) q538 (Or.inl rfl) rfl dJ20_addFirst_13 ?_
  refine lv_astore_n (lv' := [(2, .ref ea), (0, .ref dq), (1, .ref v)]) X.x X.b dJ20_addFirst_16 rfl hl (by decide) rfl (fun ls hl => ?_)
  refine lv_aload_n X.x X.b dJ20_addFirst_17 rfl (lv_at hl 0 rfl) ?_
  refine lv_aload_n X.x X.b dJ20_addFirst_18 rfl (lv_at hl 1 rfl) ?_
  refine lv_aload_n X.x X.b dJ20_addFirst_19 rfl (lv_at hl 1 rfl) ?_
  refine dz_get (v := .int (nI h)) X (hO.at1 0 rfl) in_J20 rfl 1 (by decide) q541 (Or.inl rfl) rfl dJ20_addFirst_20 ?_
  refine lv_aload_n X.x X.b dJ20_addFirst_23 rfl (lv_at hl 0 rfl) ?_
  refine dz_alen (v := 17) X (hO.at1 1 rfl) 5 rfl (by first | rfl | decide) dJ20_addFirst_24 ?_
  refine dz_S (n := 2) (k9 := 0) (n9 := 0) (As := [.int (nI h), .int 17]) (rest := [.ref dq, .ref ea]) (wr := [[(dq, dzo 17 [.ref ea, .int (nI h), .int (nI ((h + n) % 17))])], [(ea, dzO G 17 (dz_rng oa n h))], vp]) X hO hl (dz_J20_dec l G _ h (by first | assumption | omega | decide)) (lw_S q1293 q1294 q72 q1295) (by decide +kernel) ⟨Nat.le_of_ble_eq_true rfl, Nat.le_of_ble_eq_true rfl⟩ ⟨(Nat.le_of_ble_eq_true rfl), (Nat.le_of_ble_eq_true rfl), (Nat.le_of_ble_eq_true rfl), (Nat.le_of_ble_eq_true rfl)⟩ [] [0, 1, 2] rfl rfl rfl rfl rfl (Nat.le_of_ble_eq_true rfl) dJ20_addFirst_25 (fun E w1 q9 ce9 H locs hpx hO hce hv9 hcl9 => hpx.elim) (fun r w1 H locs hpo hO => ?_)
  obtain ⟨rfl, rfl⟩ := hpo
  have hO : dz_O G.1 dz_CL A s.heap [[(dq, dzo 17 [.ref ea, .int (nI h), .int (nI ((h + n) % 17))])], [(ea, dzO G 17 (dz_rng oa n h))], vp] _ _ := hO
  refine W.eq (g2 := F0 m 28 ls [.int (nI ((h + 16) % 17)), .ref dq, .ref ea]) rfl ?_
  refine lv_dup_x1 X.x X.b dJ20_addFirst_28 rfl rfl ?_
  refine dz_put (v := .int (nI ((h + 16) % 17))) X hO 0 rfl in_J20 tyJ20 tyJ20_ok nmJ20 rfl 1 (by decide) q541 (Or.inl rfl) (Or.inl rfl) rfl rfl (Nat.le_of_ble_eq_true rfl) dJ20_addFirst_29 (fun H locs hO => ?_)
  have hO : dz_O G.1 dz_CL A s.heap [[(dq, dzo 17 [.ref ea, .int (nI ((h + 16) % 17)), .int (nI ((h + n) % 17))])], [(ea, dzO G 17 (dz_rng oa n h))], vp] _ _ := hO
  refine lv_aload_n X.x X.b dJ20_addFirst_32 rfl (lv_at hl 2 rfl) ?_
  refine dz_aastO X hO 1 rfl (dz_is_any X hO 2 rfl hv) (j := (h + 16) % 17) rfl (by omega) (by decide) dJ20_addFirst_33 (fun H locs hO => ?_)
  have hO : dz_O G.1 dz_CL A s.heap [[(dq, dzo 17 [.ref ea, .int (nI ((h + 16) % 17)), .int (nI ((h + n) % 17))])], [(ea, dzO G 17 (va_up (dz_rng oa n h) ((h + 16) % 17) (some v)))], vp] _ _ := hO
  refine lv_aload_n X.x X.b dJ20_addFirst_34 rfl (lv_at hl 1 rfl) ?_
  refine dz_get (v := .int (nI ((h + 16) % 17))) X (hO.at1 0 rfl) in_J20 rfl 1 (by decide) q541 (Or.inl rfl) rfl dJ20_addFirst_35 ?_
  refine lv_aload_n X.x X.b dJ20_addFirst_38 rfl (lv_at hl 1 rfl) ?_
  refine dz_get (v := .int (nI ((h + n) % 17))) X (hO.at1 0 rfl) in_J20 rfl 2 (by decide) q542 (Or.inl rfl) rfl dJ20_addFirst_39 ?_
  refine lv_icmp_ne (tgt := 50) X.x X.b dJ20_addFirst_42 (by decide) (fun _ => ?_) (fun c_1 => absurd c_1 (fun z => by have := (nI_eq (a := (h + 16) % 17) (b := (h + n) % 17) (by omega) (by omega)).mp z; omega))
  have hO := hO.cong 1 rfl (w1 := [(ea, dzO G 17 (dz_rng (dz_cn v oa) (n + 1) ((h + 16) % 17)))]) (congrArg (fun z9 => [(ea, dzO G 17 z9)]) (show (dz_rng (dz_cn v oa) (n + 1) ((h + 16) % 17)) = (va_up (dz_rng oa n h) ((h + 16) % 17) (some v)) from by exact (dz_rng_add hh (by omega)).symm))
  have hO : dz_O G.1 dz_CL A s.heap [[(dq, dzo 17 [.ref ea, .int (nI ((h + 16) % 17)), .int (nI ((h + n) % 17))])], [(ea, dzO G 17 (dz_rng (dz_cn v oa) (n + 1) ((h + 16) % 17)))], vp] _ _ := hO
  have hO := hO.cong 0 rfl (w1 := [(dq, dzo 17 [.ref ea, .int (nI ((h + 16) % 17)), .int (nI (((h + 16) % 17 + (n + 1)) % 17))])]) (by rw [show ((h + 16) % 17 + (n + 1)) % 17 = (h + n) % 17 by omega])
  have hO : dz_O G.1 dz_CL A s.heap [[(dq, dzo 17 [.ref ea, .int (nI ((h + 16) % 17)), .int (nI (((h + 16) % 17 + (n + 1)) % 17))])], [(ea, dzO G 17 (dz_rng (dz_cn v oa) (n + 1) ((h + 16) % 17)))], vp] _ _ := hO
  exact dz_vret X hO rfl (⟨rfl, rfl⟩) (Nat.le_of_ble_eq_true rfl) (Nat.le_of_ble_eq_true rfl) dJ20_addFirst_50
set_option maxHeartbeats 4000000 in
set_option maxRecDepth 100000 in
/-- pollLast -/
theorem dz_J20_pollLast (l : Launch) (G : dz_G) (sz : Nat) (dq : Nat) (ea : Nat) (h : Nat) (n : Nat) (oa : Nat → Nat) (hh : h < 17) (hn : n ≤ 8) : dz_M l G yJ20_pollLast cJ20_pollLast 4 (some (FieldType.object "java/lang/Object")) ({ frames := 40, cells := 0, slots := 0, locals := 600 } : Room) [.ref dq] [[(dq, dzo 17 [.ref ea, .int (nI h), .int (nI ((h + (n + 1)) % 17))])], [(ea, dzO G 17 (dz_rng oa (n + 1) h))]] sz (fun r w1 => r = some (.ref (oa n)) ∧ w1 = [[(dq, dzo 17 [.ref ea, .int (nI h), .int (nI ((h + n) % 17))])], [(ea, dzO G 17 (dz_rng oa n h))]]) (dz_np) := by
  refine dz_start (by decide) (Nat.le_of_ble_eq_true rfl) ?_
  intro p e s m below meth c A ls X hO hsz hl
  have hl : lv_has ls 4 [(0, .ref dq)] := hl
  refine lv_aload_n X.x X.b dJ20_pollLast_0 rfl (lv_at hl 0 rfl) ?_
  refine dz_get (v := .ref ea) X (hO.at1 0 rfl) in_J20 rfl 0 (by decide) q538 (Or.inl rfl) rfl dJ20_pollLast_1 ?_
  refine lv_dup X.x X.b dJ20_pollLast_4 rfl ?_
  refine lv_astore_n (lv' := [(1, .ref ea), (0, .ref dq)]) X.x X.b dJ20_pollLast_5 rfl hl (by decide) rfl (fun ls hl => ?_)
  refine lv_aload_n X.x X.b dJ20_pollLast_6 rfl (lv_at hl 1 rfl) ?_
  refine dz_get (v := .int (nI ((h + (n + 1)) % 17))) X (hO.at1 0 rfl) in_J20 rfl 2 (by decide) q542 (Or.inl rfl) rfl dJ20_pollLast_7 ?_
  refine lv_aload_n X.x X.b dJ20_pollLast_10 rfl (lv_at hl 0 rfl) ?_
  refine dz_alen (v := 17) X (hO.at1 1 rfl) 5 rfl (by first | rfl | decide) dJ20_pollLast_11 ?_
  refine dz_S (n := 2) (k9 := 0) (n9 := 0) (As := [.int (nI ((h + (n + 1)) % 17)), .int 17]) (rest := [.ref ea]) (wr := [[(dq, dzo 17 [.ref ea, .int (nI h), .int (nI ((h + (n + 1)) % 17))])], [(ea, dzO G 17 (dz_rng oa (n + 1) h))]]) X hO hl (dz_J20_dec l G _ ((h + (n + 1)) % 17) (by first | assumption | omega | decide)) (lw_S q1293 q1294 q72 q1295) (by decide +kernel) ⟨Nat.le_of_ble_eq_true rfl, Nat.le_of_ble_eq_true rfl⟩ ⟨(Nat.le_of_ble_eq_true rfl), (Nat.le_of_ble_eq_true rfl), (Nat.le_of_ble_eq_true rfl), (Nat.le_of_ble_eq_true rfl)⟩ [] [0, 1] rfl rfl rfl rfl rfl (Nat.le_of_ble_eq_true rfl) dJ20_pollLast_12 (fun E w1 q9 ce9 H locs hpx hO hce hv9 hcl9 => hpx.elim) (fun r w1 H locs hpo hO => ?_)
  obtain ⟨rfl, rfl⟩ := hpo
  have hO : dz_O G.1 dz_CL A s.heap [[(dq, dzo 17 [.ref ea, .int (nI h), .int (nI ((h + (n + 1)) % 17))])], [(ea, dzO G 17 (dz_rng oa (n + 1) h))]] _ _ := hO
  refine W.eq (g2 := F0 m 15 ls [.int (nI ((((h + (n + 1)) % 17) + 16) % 17)), .ref ea]) rfl ?_
  refine dz_rei (y := nI ((h + n) % 17)) (by rw [show ((h + (n + 1)) % 17 + 16) % 17 = (h + n) % 17 by omega]) ?_
  refine lv_dup X.x X.b dJ20_pollLast_15 rfl ?_
  refine lv_istore_n (lv' := [(2, .int (nI ((h + n) % 17))), (1, .ref ea), (0, .ref dq)]) X.x X.b dJ20_pollLast_16 rfl hl (by decide) rfl (fun ls hl => ?_)
  refine dz_S (n := 2) (k9 := 0) (n9 := 0) (As := [.ref ea, .int (nI ((h + n) % 17))]) (rest := []) (wr := [[(dq, dzo 17 [.ref ea, .int (nI h), .int (nI ((h + (n + 1)) % 17))])]]) X hO hl (dz_J20_elementAt l G _ ea (dz_rng oa (n + 1) h) ((h + n) % 17) (by first | assumption | omega | decide)) (lw_S q1337 q1338 q72 q1339) (by decide +kernel) ⟨Nat.le_of_ble_eq_true rfl, Nat.le_of_ble_eq_true rfl⟩ ⟨(Nat.le_of_ble_eq_true rfl), (Nat.le_of_ble_eq_true rfl), (Nat.le_of_ble_eq_true rfl), (Nat.le_of_ble_eq_true rfl)⟩ [1] [0] rfl rfl rfl rfl rfl (Nat.le_of_ble_eq_true rfl) dJ20_pollLast_17 (fun E w1 q9 ce9 H locs hpx hO hce hv9 hcl9 => hpx.elim) (fun r w1 H locs hpo hO => ?_)
  obtain ⟨rfl, rfl⟩ := hpo
  have hO : dz_O G.1 dz_CL A s.heap [[(dq, dzo 17 [.ref ea, .int (nI h), .int (nI ((h + (n + 1)) % 17))])], [(ea, dzO G 17 (dz_rng oa (n + 1) h))]] _ _ := hO
  refine W.eq (g2 := F0 m 20 ls [va_rf ((dz_rng oa (n + 1) h) ((h + n) % 17))]) rfl ?_
  refine dz_rev (w := .ref (oa n)) (by rw [dz_rng_at hh (Nat.lt_succ_self n) (by omega)]; rfl) ?_
  refine lv_astore_n (lv' := [(3, .ref (oa n)), (2, .int (nI ((h + n) % 17))), (1, .ref ea), (0, .ref dq)]) X.x X.b dJ20_pollLast_20 rfl hl (by decide) rfl (fun ls hl => ?_)
  refine lv_aload_n X.x X.b dJ20_pollLast_21 rfl (lv_at hl 0 rfl) ?_
  refine lv_ifnull X.x X.b dJ20_pollLast_22 ?_
  refine lv_aload_n X.x X.b dJ20_pollLast_25 rfl (lv_at hl 2 rfl) ?_
  refine lv_aload_n X.x X.b dJ20_pollLast_26 rfl (lv_at hl 3 rfl) ?_
  refine lv_iload_n X.x X.b dJ20_pollLast_27 rfl (lv_at hl 1 rfl) ?_
  refine lv_dup_x1 X.x X.b dJ20_pollLast_28 rfl rfl ?_
  refine dz_put (v := .int (nI ((h + n) % 17))) X hO 0 rfl in_J20 tyJ20 tyJ20_ok nmJ20 rfl 2 (by decide) q542 (Or.inl rfl) (Or.inl rfl) rfl rfl (Nat.le_of_ble_eq_true rfl) dJ20_pollLast_29 (fun H locs hO => ?_)
  have hO : dz_O G.1 dz_CL A s.heap [[(dq, dzo 17 [.ref ea, .int (nI h), .int (nI ((h + n) % 17))])], [(ea, dzO G 17 (dz_rng oa (n + 1) h))]] _ _ := hO
  refine lv_null X.x X.b dJ20_pollLast_32 ?_
  refine dz_aastNO X hO 1 rfl (j := (h + n) % 17) rfl (by omega) (by decide) dJ20_pollLast_33 (fun H locs hO => ?_)
  have hO : dz_O G.1 dz_CL A s.heap [[(dq, dzo 17 [.ref ea, .int (nI h), .int (nI ((h + n) % 17))])], [(ea, dzO G 17 (va_up (dz_rng oa (n + 1) h) ((h + n) % 17) none))]] _ _ := hO
  refine lv_aload_n X.x X.b dJ20_pollLast_34 rfl (lv_at hl 0 rfl) ?_
  have hO := hO.cong 1 rfl (w1 := [(ea, dzO G 17 (dz_rng oa n h))]) (congrArg (fun z9 => [(ea, dzO G 17 z9)]) (show (dz_rng oa n h) = (va_up (dz_rng oa (n + 1) h) ((h + n) % 17) none) from by exact (dz_rng_del hh (by omega)).symm))
  have hO : dz_O G.1 dz_CL A s.heap [[(dq, dzo 17 [.ref ea, .int (nI h), .int (nI ((h + n) % 17))])], [(ea, dzO G 17 (dz_rng oa n h))]] _ _ := hO
  exact dz_aret X hO rfl (Or.inl ⟨_, rfl⟩) (Or.inr ⟨_, rfl⟩) (⟨rfl, rfl⟩) (Nat.le_of_ble_eq_true rfl) (Nat.le_of_ble_eq_true rfl) dJ20_pollLast_35
set_option maxHeartbeats 4000000 in
set_option maxRecDepth 100000 in
/-- removeLast -/
theorem dz_J20_removeLast (l : Launch) (G : dz_G) (sz : Nat) (dq : Nat) (ea : Nat) (h : Nat) (n : Nat) (oa : Nat → Nat) (hh : h < 17) (hn : n ≤ 8) : dz_M l G yJ20_removeLast cJ20_removeLast 2 (some (FieldType.object "java/lang/Object")) ({ frames := 60, cells := 0, slots := 0, locals := 900 } : Room) [.ref dq] [[(dq, dzo 17 [.ref ea, .int (nI h), .int (nI ((h + (n + 1)) % 17))])], [(ea, dzO G 17 (dz_rng oa (n + 1) h))]] sz (fun r w1 => r = some (.ref (oa n)) ∧ w1 = [[(dq, dzo 17 [.ref ea, .int (nI h), .int (nI ((h + n) % 17))])], [(ea, dzO G 17 (dz_rng oa n h))]]) (dz_np) := by
  refine dz_start (by decide) (Nat.le_of_ble_eq_true rfl) ?_
  intro p e s m below meth c A ls X hO hsz hl
  have hl : lv_has ls 2 [(0, .ref dq)] := hl
  refine lv_aload_n X.x X.b dJ20_removeLast_0 rfl (lv_at hl 0 rfl) ?_
  refine dz_V (n := 0) (k9 := 0) (n9 := 0) (As := []) (rest := []) (wr := []) X hO hl (dz_J20_pollLast l G _ dq ea h n oa (by first | assumption | omega | decide) (by first | assumption | omega | decide)) (lw_V q1333 q1334 q1335 q72 q1336) (by decide +kernel) ⟨Nat.le_of_ble_eq_true rfl, Nat.le_of_ble_eq_true rfl⟩ ⟨(Nat.le_of_ble_eq_true rfl), (Nat.le_of_ble_eq_true rfl), (Nat.le_of_ble_eq_true rfl), (Nat.le_of_ble_eq_true rfl)⟩ [0, 1] [] rfl rfl rfl (dz_rc X (hO.at1 0 rfl) (r := (RJ20, TJ20, 3)) rfl) rfl rfl (Nat.le_of_ble_eq_true rfl) dJ20_removeLast_1 (fun E w1 q9 ce9 H locs hpx hO hce hv9 hcl9 => hpx.elim) (fun r w1 H locs hpo hO => ?_)
  obtain ⟨rfl, rfl⟩ := hpo
  have hO : dz_O G.1 dz_CL A s.heap [[(dq, dzo 17 [.ref ea, .int (nI h), .int (nI ((h + n) % 17))])], [(ea, dzO G 17 (dz_rng oa n h))]] _ _ := hO
  refine W.eq (g2 := F0 m 4 ls [.ref (oa n)]) rfl ?_
  refine lv_astore_n (lv' := [(1, .ref (oa n)), (0, .ref dq)]) X.x X.b dJ20_removeLast_4 rfl hl (by decide) rfl (fun ls hl => ?_)
  refine lv_aload_n X.x X.b dJ20_removeLast_5 rfl (lv_at hl 0 rfl) ?_
  refine lv_ifnonnull (tgt := 17) X.x X.b dJ20_removeLast_6 (by decide) ?_
  refine lv_aload_n X.x X.b dJ20_removeLast_17 rfl (lv_at hl 0 rfl) ?_
  exact dz_aret X hO rfl (Or.inl ⟨_, rfl⟩) (Or.inr ⟨_, rfl⟩) (⟨rfl, rfl⟩) (Nat.le_of_ble_eq_true rfl) (Nat.le_of_ble_eq_true rfl) dJ20_removeLast_18
set_option maxHeartbeats 4000000 in
set_option maxRecDepth 100000 in
/-- peekFirst -/
theorem dz_J20_peekFirst (l : Launch) (G : dz_G) (sz : Nat) (dq : Nat) (ea : Nat) (h : Nat) (n : Nat) (oa : Nat → Nat) (hh : h < 17) (hn : n ≤ 9) (h0 : 0 < n) : dz_M l G yJ20_peekFirst cJ20_peekFirst 1 (some (FieldType.object "java/lang/Object")) ({ frames := 40, cells := 0, slots := 0, locals := 600 } : Room) [.ref dq] [[(dq, dzo 17 [.ref ea, .int (nI h), .int (nI ((h + n) % 17))])], [(ea, dzO G 17 (dz_rng oa n h))]] sz (fun r w1 => r = some (.ref (oa 0)) ∧ w1 = [[(dq, dzo 17 [.ref ea, .int (nI h), .int (nI ((h + n) % 17))])], [(ea, dzO G 17 (dz_rng oa n h))]]) (dz_np) := by
  refine dz_start (by decide) (Nat.le_of_ble_eq_true rfl) ?_
  intro p e s m below meth c A ls X hO hsz hl
  have hl : lv_has ls 1 [(0, .ref dq)] := hl
  refine lv_aload_n X.x X.b dJ20_peekFirst_0 rfl (lv_at hl 0 rfl) ?_
  refine dz_get (v := .ref ea) X (hO.at1 0 rfl) in_J20 rfl 0 (by decide) q538 (Or.inl rfl) rfl dJ20_peekFirst_1 ?_
  refine lv_aload_n X.x X.b dJ20_peekFirst_4 rfl (lv_at hl 0 rfl) ?_
  refine dz_get (v := .int (nI h)) X (hO.at1 0 rfl) in_J20 rfl 1 (by decide) q541 (Or.inl rfl) rfl dJ20_peekFirst_5 ?_
  refine dz_S (n := 2) (k9 := 0) (n9 := 0) (As := [.ref ea, .int (nI h)]) (rest := []) (wr := [[(dq, dzo 17 [.ref ea, .int (nI h), .int (nI ((h + n) % 17))])]]) X hO hl (dz_J20_elementAt l G _ ea (dz_rng oa n h) h (by first | assumption | omega | decide)) (lw_S q1337 q1338 q72 q1339) (by decide +kernel) ⟨Nat.le_of_ble_eq_true rfl, Nat.le_of_ble_eq_true rfl⟩ ⟨(Nat.le_of_ble_eq_true rfl), (Nat.le_of_ble_eq_true rfl), (Nat.le_of_ble_eq_true rfl), (Nat.le_of_ble_eq_true rfl)⟩ [1] [0] rfl rfl rfl rfl rfl (Nat.le_of_ble_eq_true rfl) dJ20_peekFirst_8 (fun E w1 q9 ce9 H locs hpx hO hce hv9 hcl9 => hpx.elim) (fun r w1 H locs hpo hO => ?_)
  obtain ⟨rfl, rfl⟩ := hpo
  have hO : dz_O G.1 dz_CL A s.heap [[(dq, dzo 17 [.ref ea, .int (nI h), .int (nI ((h + n) % 17))])], [(ea, dzO G 17 (dz_rng oa n h))]] _ _ := hO
  refine W.eq (g2 := F0 m 11 ls [va_rf ((dz_rng oa n h) h)]) rfl ?_
  refine dz_rev (w := .ref (oa 0)) (by rw [dz_rng_hd hh h0]; rfl) ?_
  exact dz_aret X hO rfl (Or.inl ⟨_, rfl⟩) (Or.inr ⟨_, rfl⟩) (⟨rfl, rfl⟩) (Nat.le_of_ble_eq_true rfl) (Nat.le_of_ble_eq_true rfl) dJ20_peekFirst_11
set_option maxHeartbeats 4000000 in
set_option maxRecDepth 100000 in
/-- an iterator of a deque -/
theorem dz_J40_init (l : Launch) (G : dz_G) (sz : Nat) (q : Nat) (dq : Nat) (ea : Nat) (h : Nat) (n : Nat) (oa : Nat → Nat) (hh : h < 17) (hn : n ≤ 9) : dz_M l G yJ40_init cJ40_init 2 none ({ frames := 60, cells := 0, slots := 0, locals := 900 } : Room) [.ref q, .ref dq] [[(q, dzo 20 [.int 0, .int 0, .int 0, .null])], [(dq, dzo 17 [.ref ea, .int (nI h), .int (nI ((h + n) % 17))])], [(ea, dzO G 17 (dz_rng oa n h))]] sz (fun r w1 => r = none ∧ w1 = [[(q, dzo 20 [.int (nI h), .int (nI n), .int (-1), .ref dq])], [(dq, dzo 17 [.ref ea, .int (nI h), .int (nI ((h + n) % 17))])], [(ea, dzO G 17 (dz_rng oa n h))]]) (dz_np) := by
  refine dz_start (by decide) (Nat.le_of_ble_eq_true rfl) ?_
  intro p e s m below meth c A ls X hO hsz hl
  have hl : lv_has ls 2 [(0, .ref q), (1, .ref dq)] := hl
  refine lv_aload_n X.x X.b dJ40_init_0 rfl (lv_at hl 0 rfl) ?_
  refine lv_aload_n X.x X.b dJ40_init_1 rfl (lv_at hl 1 rfl) ?_
  refine dz_put (v := .ref dq) X hO 0 rfl in_J40 tyJ40 tyJ40_ok nmJ40 rfl 3 (by decide) q2142 (Or.inl rfl) (Or.inr ⟨rfl, rfl, rfl⟩) rfl rfl (Nat.le_of_ble_eq_true rfl) dJ40_init_2 (fun H locs hO => ?_)
  have hO : dz_O G.1 dz_CL A s.heap [[(q, dzo 20 [.int 0, .int 0, .int 0, .ref dq])], [(dq, dzo 17 [.ref ea, .int (nI h), .int (nI ((h + n) % 17))])], [(ea, dzO G 17 (dz_rng oa n h))]] _ _ := hO
  refine lv_aload_n X.x X.b dJ40_init_5 rfl (lv_at hl 0 rfl) ?_
  refine dz_objInit X hl q2137 dJ40_init_6 (Nat.le_of_ble_eq_true rfl) (Nat.le_of_ble_eq_true rfl) (Nat.le_of_ble_eq_true rfl) ?_
  refine lv_aload_n X.x X.b dJ40_init_9 rfl (lv_at hl 0 rfl) ?_
  refine lv_aload_n X.x X.b dJ40_init_10 rfl (lv_at hl 0 rfl) ?_
  refine dz_get (v := .ref dq) X (hO.at1 0 rfl) in_J40 rfl 3 (by decide) q2142 (Or.inl rfl) rfl dJ40_init_11 ?_
  refine dz_V (n := 0) (k9 := 0) (n9 := 0) (As := []) (rest := [.ref q]) (wr := [[(q, dzo 20 [.int 0, .int 0, .int 0, .ref dq])]]) X hO hl (dz_J20_size l G _ dq ea h n oa (by first | assumption | omega | decide) (by first | assumption | omega | decide)) (lw_V q2138 q1323 q1324 q72 q1325) (by decide +kernel) ⟨Nat.le_of_ble_eq_true rfl, Nat.le_of_ble_eq_true rfl⟩ ⟨(Nat.le_of_ble_eq_true rfl), (Nat.le_of_ble_eq_true rfl), (Nat.le_of_ble_eq_true rfl), (Nat.le_of_ble_eq_true rfl)⟩ [1, 2] [0] rfl rfl rfl (dz_rc X (hO.at1 1 rfl) (r := (RJ20, TJ20, 3)) rfl) rfl rfl (Nat.le_of_ble_eq_true rfl) dJ40_init_14 (fun E w1 q9 ce9 H locs hpx hO hce hv9 hcl9 => hpx.elim) (fun r w1 H locs hpo hO => ?_)
  obtain ⟨rfl, rfl⟩ := hpo
  have hO : dz_O G.1 dz_CL A s.heap [[(q, dzo 20 [.int 0, .int 0, .int 0, .ref dq])], [(dq, dzo 17 [.ref ea, .int (nI h), .int (nI ((h + n) % 17))])], [(ea, dzO G 17 (dz_rng oa n h))]] _ _ := hO
  refine W.eq (g2 := F0 m 17 ls [.int (nI n), .ref q]) rfl ?_
  refine dz_put (v := .int (nI n)) X hO 0 rfl in_J40 tyJ40 tyJ40_ok nmJ40 rfl 1 (by decide) q2140 (Or.inl rfl) (Or.inl rfl) rfl rfl (Nat.le_of_ble_eq_true rfl) dJ40_init_17 (fun H locs hO => ?_)
  have hO : dz_O G.1 dz_CL A s.heap [[(q, dzo 20 [.int 0, .int (nI n), .int 0, .ref dq])], [(dq, dzo 17 [.ref ea, .int (nI h), .int (nI ((h + n) % 17))])], [(ea, dzO G 17 (dz_rng oa n h))]] _ _ := hO
  refine lv_aload_n X.x X.b dJ40_init_20 rfl (lv_at hl 0 rfl) ?_
  refine lv_iconst (v := (-1)) X.x X.b dJ40_init_21 (by decide) ?_
  refine dz_put (v := .int (-1)) X hO 0 rfl in_J40 tyJ40 tyJ40_ok nmJ40 rfl 2 (by decide) q2141 (Or.inl rfl) (Or.inl rfl) rfl rfl (Nat.le_of_ble_eq_true rfl) dJ40_init_22 (fun H locs hO => ?_)
  have hO : dz_O G.1 dz_CL A s.heap [[(q, dzo 20 [.int 0, .int (nI n), .int (-1), .ref dq])], [(dq, dzo 17 [.ref ea, .int (nI h), .int (nI ((h + n) % 17))])], [(ea, dzO G 17 (dz_rng oa n h))]] _ _ := hO
  refine lv_aload_n X.x X.b dJ40_init_25 rfl (lv_at hl 0 rfl) ?_
  refine lv_aload_n X.x X.b dJ40_init_26 rfl (lv_at hl 1 rfl) ?_
  refine dz_get (v := .int (nI h)) X (hO.at1 1 rfl) in_J20 rfl 1 (by decide) q540 (Or.inl rfl) rfl dJ40_init_27 ?_
  refine dz_put (v := .int (nI h)) X hO 0 rfl in_J40 tyJ40 tyJ40_ok nmJ40 rfl 0 (by decide) q2139 (Or.inl rfl) (Or.inl rfl) rfl rfl (Nat.le_of_ble_eq_true rfl) dJ40_init_30 (fun H locs hO => ?_)
  have hO : dz_O G.1 dz_CL A s.heap [[(q, dzo 20 [.int (nI h), .int (nI n), .int (-1), .ref dq])], [(dq, dzo 17 [.ref ea, .int (nI h), .int (nI ((h + n) % 17))])], [(ea, dzO G 17 (dz_rng oa n h))]] _ _ := hO
  exact dz_vret X hO rfl (⟨rfl, rfl⟩) (Nat.le_of_ble_eq_true rfl) (Nat.le_of_ble_eq_true rfl) dJ40_init_33
set_option maxHeartbeats 4000000 in
set_option maxRecDepth 100000 in
/-- iterator -/
theorem dz_J20_iterator (l : Launch) (G : dz_G) (sz : Nat) (dq : Nat) (ea : Nat) (h : Nat) (n : Nat) (oa : Nat → Nat) (hh : h < 17) (hn : n ≤ 9) : dz_M l G yJ20_iterator cJ20_iterator 1 (some (FieldType.object "java/util/Iterator")) ({ frames := 80, cells := 1, slots := 4, locals := 1200 } : Room) [.ref dq] [[(dq, dzo 17 [.ref ea, .int (nI h), .int (nI ((h + n) % 17))])], [(ea, dzO G 17 (dz_rng oa n h))]] sz (fun r w1 => ∃ (q : Nat), r = some (.ref q) ∧ w1 = [[(q, dzo 20 [.int (nI h), .int (nI n), .int (-1), .ref dq])], [(dq, dzo 17 [.ref ea, .int (nI h), .int (nI ((h + n) % 17))])], [(ea, dzO G 17 (dz_rng oa n h))]]) (dz_np) := by
  refine dz_start (by decide) (Nat.le_of_ble_eq_true rfl) ?_
  intro p e s m below meth c A ls X hO hsz hl
  have hl : lv_has ls 1 [(0, .ref dq)] := hl
  refine dz_new X hO 20 in_J40 tyJ40 tyJ40_ok q2132 q2133 q106 rfl [.int 0, .int 0, .int 0, .null] dz_dfJ40 (Nat.le_of_ble_eq_true rfl) (Nat.le_of_ble_eq_true rfl) dJ20_iterator_0 (fun q_1 H hO => ?_)
  have hO : dz_O G.1 dz_CL A s.heap [[(dq, dzo 17 [.ref ea, .int (nI h), .int (nI ((h + n) % 17))])], [(ea, dzO G 17 (dz_rng oa n h))], [(q_1, dzo 20 [.int 0, .int 0, .int 0, .null])]] _ _ := hO
  refine W.widen (k := 1) (n := 4) (Nat.le_of_ble_eq_true rfl) (Nat.le_of_ble_eq_true rfl) ?_
  refine lv_dup X.x X.b dJ20_iterator_3 rfl ?_
  refine lv_aload_n X.x X.b dJ20_iterator_4 rfl (lv_at hl 0 rfl) ?_
  refine dz_I (ret1 := none) (n := 1) (k9 := 1) (n9 := 4) (As := [.ref dq]) (rest := [.ref q_1]) (wr := []) X hO hl (dz_J40_init l G _ q_1 dq ea h n oa (by first | assumption | omega | decide) (by first | assumption | omega | decide)) q2136 q106 q2134 q2135 rfl (by decide +kernel) ⟨Nat.le_of_ble_eq_true rfl, Nat.le_of_ble_eq_true rfl⟩ ⟨(Nat.le_of_ble_eq_true rfl), (Nat.le_of_ble_eq_true rfl), (Nat.le_of_ble_eq_true rfl), (Nat.le_of_ble_eq_true rfl)⟩ [2, 0, 1] [] rfl rfl rfl rfl rfl (Nat.le_of_ble_eq_true rfl) dJ20_iterator_5 (fun E w1 q9 ce9 H locs hpx hO hce hv9 hcl9 => hpx.elim) (fun r w1 H locs hpo hO => ?_)
  obtain ⟨rfl, rfl⟩ := hpo
  have hO : dz_O G.1 dz_CL A s.heap [[(q_1, dzo 20 [.int (nI h), .int (nI n), .int (-1), .ref dq])], [(dq, dzo 17 [.ref ea, .int (nI h), .int (nI ((h + n) % 17))])], [(ea, dzO G 17 (dz_rng oa n h))]] _ _ := hO
  refine W.eq (g2 := F0 m 8 ls [.ref q_1]) rfl ?_
  exact dz_aret X hO rfl (Or.inl ⟨_, rfl⟩) (Or.inr ⟨_, rfl⟩) (⟨q_1, rfl, rfl⟩) (Nat.le_of_ble_eq_true rfl) (Nat.le_of_ble_eq_true rfl) dJ20_iterator_8
set_option maxHeartbeats 4000000 in
set_option maxRecDepth 100000 in
/-- hasNext -/
theorem dz_J40_hasNext (l : Launch) (G : dz_G) (sz : Nat) (q : Nat) (c0 : Int32) (k : Nat) (lr : Int32) (dq : Nat) (hk : k < 100) : dz_M l G yJ40_hasNext cJ40_hasNext 1 (some FieldType.boolean) ({ frames := 20, cells := 0, slots := 0, locals := 300 } : Room) [.ref q] [[(q, dzo 20 [.int c0, .int (nI k), .int lr, .ref dq])]] sz (fun r w1 => r = some (.int (dz_nz k 0)) ∧ w1 = [[(q, dzo 20 [.int c0, .int (nI k), .int lr, .ref dq])]]) (dz_np) := by
  refine dz_start (by decide) (Nat.le_of_ble_eq_true rfl) ?_
  intro p e s m below meth c A ls X hO hsz hl
  have hl : lv_has ls 1 [(0, .ref q)] := hl
  refine lv_aload_n X.x X.b dJ40_hasNext_0 rfl (lv_at hl 0 rfl) ?_
  refine dz_get (v := .int (nI k)) X (hO.at1 0 rfl) in_J40 rfl 1 (by decide) q2140 (Or.inl rfl) rfl dJ40_hasNext_1 ?_
  refine lv_if_le (tgt := 11) X.x X.b dJ40_hasNext_4 (by decide) (fun c_1 => ?_) (fun c_1 => ?_)
  · have nc_1 : k ≤ 0 := (nI_leI (a := k) (b := 0) (by omega) (by omega)).mp c_1
    refine lv_iconst (v := 0) X.x X.b dJ40_hasNext_11 (by decide) ?_
    exact dz_zret X hO rfl (rfl) (⟨by unfold dz_nz; first | (rw [if_pos (by omega)]; done) | (rw [if_neg (by omega)]; done), rfl⟩) (Nat.le_of_ble_eq_true rfl) (Nat.le_of_ble_eq_true rfl) dJ40_hasNext_12
  · have nc_1 : ¬ k ≤ 0 := fun z9 => c_1 ((nI_leI (a := k) (b := 0) (by omega) (by omega)).mpr z9)
    refine lv_iconst (v := 1) X.x X.b dJ40_hasNext_7 (by decide) ?_
    refine lv_goto (tgt := 12) X.x X.b dJ40_hasNext_8 (by decide) ?_
    exact dz_zret X hO rfl (rfl) (⟨by unfold dz_nz; first | (rw [if_pos (by omega)]; done) | (rw [if_neg (by omega)]; done), rfl⟩) (Nat.le_of_ble_eq_true rfl) (Nat.le_of_ble_eq_true rfl) dJ40_hasNext_12
set_option maxHeartbeats 4000000 in
set_option maxRecDepth 100000 in
/-- next -/
theorem dz_J40_next (l : Launch) (G : dz_G) (sz : Nat) (q : Nat) (k : Nat) (lr : Int32) (dq : Nat) (ea : Nat) (h : Nat) (n : Nat) (oa : Nat → Nat) (hh : h < 17) (hn : n ≤ 9) (hk : k < n) : dz_M l G yJ40_next cJ40_next 3 (some (FieldType.object "java/lang/Object")) ({ frames := 40, cells := 0, slots := 0, locals := 600 } : Room) [.ref q] [[(q, dzo 20 [.int (nI ((h + k) % 17)), .int (nI (n - k)), .int lr, .ref dq])], [(dq, dzo 17 [.ref ea, .int (nI h), .int (nI ((h + n) % 17))])], [(ea, dzO G 17 (dz_rng oa n h))]] sz (fun r w1 => r = some (.ref (oa k)) ∧ w1 = [[(q, dzo 20 [.int (nI ((h + (k + 1)) % 17)), .int (nI (n - (k + 1))), .int (nI ((h + k) % 17)), .ref dq])], [(dq, dzo 17 [.ref ea, .int (nI h), .int (nI ((h + n) % 17))])], [(ea, dzO G 17 (dz_rng oa n h))]]) (dz_np) := by
  refine dz_start (by decide) (Nat.le_of_ble_eq_true rfl) ?_
  intro p e s m below meth c A ls X hO hsz hl
  have hl : lv_has ls 3 [(0, .ref q)] := hl
  refine lv_aload_n X.x X.b dJ40_next_0 rfl (lv_at hl 0 rfl) ?_
  refine dz_get (v := .int (nI (n - k))) X (hO.at1 0 rfl) in_J40 rfl 1 (by decide) q2140 (Or.inl rfl) rfl dJ40_next_1 ?_
  refine lv_if_gt (tgt := 15) X.x X.b dJ40_next_4 (by decide) (fun _ => ?_) (fun c_1 => absurd (by rw [show (0 : Int32) = nI 0 by decide, nI_ltI (by omega) (by omega)]; omega) c_1)
  refine lv_aload_n X.x X.b dJ40_next_15 rfl (lv_at hl 0 rfl) ?_
  refine dz_get (v := .ref dq) X (hO.at1 0 rfl) in_J40 rfl 3 (by decide) q2142 (Or.inl rfl) rfl dJ40_next_16 ?_
  refine dz_get (v := .ref ea) X (hO.at1 1 rfl) in_J20 rfl 0 (by decide) q539 (Or.inl rfl) rfl dJ40_next_19 ?_
  refine lv_astore_n (lv' := [(1, .ref ea), (0, .ref q)]) X.x X.b dJ40_next_22 rfl hl (by decide) rfl (fun ls hl => ?_)
  refine lv_aload_n X.x X.b dJ40_next_23 rfl (lv_at hl 0 rfl) ?_
  refine lv_aload_n X.x X.b dJ40_next_24 rfl (lv_at hl 1 rfl) ?_
  refine dz_get (v := .int (nI ((h + k) % 17))) X (hO.at1 0 rfl) in_J40 rfl 0 (by decide) q2139 (Or.inl rfl) rfl dJ40_next_25 ?_
  refine dz_S (n := 2) (k9 := 0) (n9 := 0) (As := [.ref ea, .int (nI ((h + k) % 17))]) (rest := []) (wr := [[(q, dzo 20 [.int (nI ((h + k) % 17)), .int (nI (n - k)), .int lr, .ref dq])], [(dq, dzo 17 [.ref ea, .int (nI h), .int (nI ((h + n) % 17))])]]) X hO hl (dz_J20_nonNullElementAt l G _ ea (dz_rng oa n h) ((h + k) % 17) (oa k) (by first | assumption | omega | decide) (dz_rng_at hh hk (by omega))) (lw_S q907 q908 q72 q909) (by decide +kernel) ⟨Nat.le_of_ble_eq_true rfl, Nat.le_of_ble_eq_true rfl⟩ ⟨(Nat.le_of_ble_eq_true rfl), (Nat.le_of_ble_eq_true rfl), (Nat.le_of_ble_eq_true rfl), (Nat.le_of_ble_eq_true rfl)⟩ [2] [0, 1] rfl rfl rfl rfl rfl (Nat.le_of_ble_eq_true rfl) dJ40_next_28 (fun E w1 q9 ce9 H locs hpx hO hce hv9 hcl9 => hpx.elim) (fun r w1 H locs hpo hO => ?_)
  obtain ⟨rfl, rfl⟩ := hpo
  have hO : dz_O G.1 dz_CL A s.heap [[(q, dzo 20 [.int (nI ((h + k) % 17)), .int (nI (n - k)), .int lr, .ref dq])], [(dq, dzo 17 [.ref ea, .int (nI h), .int (nI ((h + n) % 17))])], [(ea, dzO G 17 (dz_rng oa n h))]] _ _ := hO
  refine W.eq (g2 := F0 m 31 ls [.ref (oa k)]) rfl ?_
  refine lv_astore_n (lv' := [(2, .ref (oa k)), (1, .ref ea), (0, .ref q)]) X.x X.b dJ40_next_31 rfl hl (by decide) rfl (fun ls hl => ?_)
  refine lv_aload_n X.x X.b dJ40_next_32 rfl (lv_at hl 2 rfl) ?_
  refine lv_aload_n X.x X.b dJ40_next_33 rfl (lv_at hl 2 rfl) ?_
  refine lv_aload_n X.x X.b dJ40_next_34 rfl (lv_at hl 2 rfl) ?_
  refine dz_get (v := .int (nI ((h + k) % 17))) X (hO.at1 0 rfl) in_J40 rfl 0 (by decide) q2139 (Or.inl rfl) rfl dJ40_next_35 ?_
  refine lv_dup_x1 X.x X.b dJ40_next_38 rfl rfl ?_
  refine dz_put (v := .int (nI ((h + k) % 17))) X hO 0 rfl in_J40 tyJ40 tyJ40_ok nmJ40 rfl 2 (by decide) q2141 (Or.inl rfl) (Or.inl rfl) rfl rfl (Nat.le_of_ble_eq_true rfl) dJ40_next_39 (fun H locs hO => ?_)
  have hO : dz_O G.1 dz_CL A s.heap [[(q, dzo 20 [.int (nI ((h + k) % 17)), .int (nI (n - k)), .int (nI ((h + k) % 17)), .ref dq])], [(dq, dzo 17 [.ref ea, .int (nI h), .int (nI ((h + n) % 17))])], [(ea, dzO G 17 (dz_rng oa n h))]] _ _ := hO
  refine lv_aload_n X.x X.b dJ40_next_42 rfl (lv_at hl 1 rfl) ?_
  refine dz_alen (v := 17) X (hO.at1 2 rfl) 5 rfl (by first | rfl | decide) dJ40_next_43 ?_
  refine dz_S (n := 2) (k9 := 0) (n9 := 0) (As := [.int (nI ((h + k) % 17)), .int 17]) (rest := [.ref q]) (wr := [[(q, dzo 20 [.int (nI ((h + k) % 17)), .int (nI (n - k)), .int (nI ((h + k) % 17)), .ref dq])], [(dq, dzo 17 [.ref ea, .int (nI h), .int (nI ((h + n) % 17))])], [(ea, dzO G 17 (dz_rng oa n h))]]) X hO hl (dz_J20_inc l G _ ((h + k) % 17) (by first | assumption | omega | decide)) (lw_S q910 q911 q72 q912) (by decide +kernel) ⟨Nat.le_of_ble_eq_true rfl, Nat.le_of_ble_eq_true rfl⟩ ⟨(Nat.le_of_ble_eq_true rfl), (Nat.le_of_ble_eq_true rfl), (Nat.le_of_ble_eq_true rfl), (Nat.le_of_ble_eq_true rfl)⟩ [] [0, 1, 2] rfl rfl rfl rfl rfl (Nat.le_of_ble_eq_true rfl) dJ40_next_44 (fun E w1 q9 ce9 H locs hpx hO hce hv9 hcl9 => hpx.elim) (fun r w1 H locs hpo hO => ?_)
  obtain ⟨rfl, rfl⟩ := hpo
  have hO : dz_O G.1 dz_CL A s.heap [[(q, dzo 20 [.int (nI ((h + k) % 17)), .int (nI (n - k)), .int (nI ((h + k) % 17)), .ref dq])], [(dq, dzo 17 [.ref ea, .int (nI h), .int (nI ((h + n) % 17))])], [(ea, dzO G 17 (dz_rng oa n h))]] _ _ := hO
  refine W.eq (g2 := F0 m 47 ls [.int (nI ((((h + k) % 17) + 1) % 17)), .ref q]) rfl ?_
  refine dz_rei (y := nI ((h + (k + 1)) % 17)) (by rw [show ((h + k) % 17 + 1) % 17 = (h + (k + 1)) % 17 by omega]) ?_
  refine dz_put (v := .int (nI ((h + (k + 1)) % 17))) X hO 0 rfl in_J40 tyJ40 tyJ40_ok nmJ40 rfl 0 (by decide) q2139 (Or.inl rfl) (Or.inl rfl) rfl rfl (Nat.le_of_ble_eq_true rfl) dJ40_next_47 (fun H locs hO => ?_)
  have hO : dz_O G.1 dz_CL A s.heap [[(q, dzo 20 [.int (nI ((h + (k + 1)) % 17)), .int (nI (n - k)), .int (nI ((h + k) % 17)), .ref dq])], [(dq, dzo 17 [.ref ea, .int (nI h), .int (nI ((h + n) % 17))])], [(ea, dzO G 17 (dz_rng oa n h))]] _ _ := hO
  refine lv_aload_n X.x X.b dJ40_next_50 rfl (lv_at hl 2 rfl) ?_
  refine lv_dup X.x X.b dJ40_next_51 rfl ?_
  refine dz_get (v := .int (nI (n - k))) X (hO.at1 0 rfl) in_J40 rfl 1 (by decide) q2140 (Or.inl rfl) rfl dJ40_next_52 ?_
  refine lv_iconst (v := 1) X.x X.b dJ40_next_55 (by decide) ?_
  refine lv_isub X.x X.b dJ40_next_56 ?_
  refine dz_rei (y := nI (n - (k + 1))) (by rw [show n - k = (n - (k + 1)) + 1 by omega, nI_pred]) ?_
  refine dz_put (v := .int (nI (n - (k + 1)))) X hO 0 rfl in_J40 tyJ40 tyJ40_ok nmJ40 rfl 1 (by decide) q2140 (Or.inl rfl) (Or.inl rfl) rfl rfl (Nat.le_of_ble_eq_true rfl) dJ40_next_57 (fun H locs hO => ?_)
  have hO : dz_O G.1 dz_CL A s.heap [[(q, dzo 20 [.int (nI ((h + (k + 1)) % 17)), .int (nI (n - (k + 1))), .int (nI ((h + k) % 17)), .ref dq])], [(dq, dzo 17 [.ref ea, .int (nI h), .int (nI ((h + n) % 17))])], [(ea, dzO G 17 (dz_rng oa n h))]] _ _ := hO
  refine lv_aload_n X.x X.b dJ40_next_60 rfl (lv_at hl 0 rfl) ?_
  exact dz_aret X hO rfl (Or.inl ⟨_, rfl⟩) (Or.inr ⟨_, rfl⟩) (⟨rfl, rfl⟩) (Nat.le_of_ble_eq_true rfl) (Nat.le_of_ble_eq_true rfl) dJ40_next_61
