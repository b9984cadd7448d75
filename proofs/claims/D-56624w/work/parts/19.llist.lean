def dz_del {α : Type} (f : Nat → α) (j : Nat) : Nat → α := fun i => if i < j then f i else f (i + 1)
def dz_cur (na : Nat → Nat) (n k : Nat) : Option Nat := if k < n then some (na k) else none
theorem dz_cur_in {na : Nat → Nat} {n k : Nat} (h : k < n) : dz_cur na n k = some (na k) := if_pos h
theorem dz_cur_out {na : Nat → Nat} {n k : Nat} (h : ¬ k < n) : dz_cur na n k = none := if_neg h
theorem dz_nxt_cur (na : Nat → Nat) (n k : Nat) : dz_nxt na n k = dz_cur na n (k + 1) := rfl
def dz_lt (k n : Nat) : Int32 := if k < n then 1 else 0
theorem dz_shr1 : ∀ n, n ≤ 9 → nI n >>> ((1 : Int32) &&& 31) = nI (n / 2) := by decide +kernel
theorem dz_noE {a a' : Nat} {x x' y y' z z' : Option Nat} (h1 : a = a') (h2 : x = x') (h3 : y = y') (h4 : z = z') : ((a, dzo 16 [va_rf x, va_rf y, va_rf z]) : Nat × va_E) = (a', dzo 16 [va_rf x', va_rf y', va_rf z']) := by rw [h1, h2, h3, h4]
theorem dz_llE {ll : Nat} {mc sz : Int32} {x x' y y' : Option Nat} (h1 : x = x') (h2 : y = y') : ([(ll, dzo 15 [.int mc, .int sz, va_rf x, va_rf y])] : va_W) = [(ll, dzo 15 [.int mc, .int sz, va_rf x', va_rf y'])] := by rw [h1, h2]
theorem dz_del_i {α : Type} (f : Nat → α) (k i : Nat) : dz_del f k i = f (if i < k then i else i + 1) := by
  unfold dz_del
  split <;> rfl
theorem dz_del_u {α : Type} (f : Nat → α) (k i : Nat) (v : α) : dz_del f k i = va_up f k v (if i < k then i else i + 1) := by
  unfold dz_del va_up
  split
  · rw [if_neg (by omega)]
  · rw [if_neg (by omega)]
set_option maxHeartbeats 4000000 in
set_option maxRecDepth 100000 in
/-- AbstractSequentialList -/
theorem dz_J18_init (l : Launch) (G : dz_G) (sz : Nat) (q : Nat) (x : Int32) (y : Value) (z : Value)  : dz_M l G yJ18_init cJ18_init 1 none ({ frames := 60, cells := 0, slots := 0, locals := 900 } : Room) [.ref q] [[(q, dzo 15 [.int 0, .int x, y, z])]] sz (fun r w1 => r = none ∧ w1 = [[(q, dzo 15 [.int 0, .int x, y, z])]]) (dz_np) := by
  refine dz_start (by decide) (Nat.le_of_ble_eq_true rfl) ?_
  intro p e s m below meth c A ls X hO hsz hl
  have hl : lv_has ls 1 [(0, .ref q)] := hl
  refine lv_aload_n X.x X.b dJ18_init_0 rfl (lv_at hl 0 rfl) ?_
  refine dz_I (ret1 := none) (n := 0) (k9 := 0) (n9 := 0) (As := []) (rest := []) (wr := []) X hO hl (dz_J2_init_L l G _ q x y z ) q148 q51 q503 q147 rfl (by decide +kernel) ⟨Nat.le_of_ble_eq_true rfl, Nat.le_of_ble_eq_true rfl⟩ ⟨(Nat.le_of_ble_eq_true rfl), (Nat.le_of_ble_eq_true rfl), (Nat.le_of_ble_eq_true rfl), (Nat.le_of_ble_eq_true rfl)⟩ [0] [] rfl rfl rfl rfl rfl (Nat.le_of_ble_eq_true rfl) dJ18_init_1 (fun E w1 q9 ce9 H locs hpx hO hce hv9 hcl9 => hpx.elim) (fun r w1 H locs hpo hO => ?_)
  obtain ⟨rfl, rfl⟩ := hpo
  have hO : dz_O G.1 dz_CL A s.heap [[(q, dzo 15 [.int 0, .int x, y, z])]] _ _ := hO
  refine W.eq (g2 := F0 m 4 ls []) rfl ?_
  exact dz_vret X hO rfl (⟨rfl, rfl⟩) (Nat.le_of_ble_eq_true rfl) (Nat.le_of_ble_eq_true rfl) dJ18_init_4
set_option maxHeartbeats 4000000 in
set_option maxRecDepth 100000 in
/-- a linked list is made -/
theorem dz_J19_init (l : Launch) (G : dz_G) (sz : Nat) (q : Nat)  : dz_M l G yJ19_init cJ19_init 1 none ({ frames := 80, cells := 0, slots := 0, locals := 1200 } : Room) [.ref q] [[(q, dzo 15 [.int 0, .int 0, .null, .null])]] sz (fun r w1 => r = none ∧ w1 = [[(q, dzo 15 [.int 0, .int 0, .null, .null])]]) (dz_np) := by
  refine dz_start (by decide) (Nat.le_of_ble_eq_true rfl) ?_
  intro p e s m below meth c A ls X hO hsz hl
  have hl : lv_has ls 1 [(0, .ref q)] := hl
  refine lv_aload_n X.x X.b dJ19_init_0 rfl (lv_at hl 0 rfl) ?_
  refine dz_I (ret1 := none) (n := 0) (k9 := 0) (n9 := 0) (As := []) (rest := []) (wr := []) X hO hl (dz_J18_init l G _ q 0 .null .null ) q502 q69 q500 q501 rfl (by decide +kernel) ⟨Nat.le_of_ble_eq_true rfl, Nat.le_of_ble_eq_true rfl⟩ ⟨(Nat.le_of_ble_eq_true rfl), (Nat.le_of_ble_eq_true rfl), (Nat.le_of_ble_eq_true rfl), (Nat.le_of_ble_eq_true rfl)⟩ [0] [] rfl rfl rfl rfl rfl (Nat.le_of_ble_eq_true rfl) dJ19_init_1 (fun E w1 q9 ce9 H locs hpx hO hce hv9 hcl9 => hpx.elim) (fun r w1 H locs hpo hO => ?_)
  obtain ⟨rfl, rfl⟩ := hpo
  have hO : dz_O G.1 dz_CL A s.heap [[(q, dzo 15 [.int 0, .int 0, .null, .null])]] _ _ := hO
  refine W.eq (g2 := F0 m 4 ls []) rfl ?_
  refine lv_aload_n X.x X.b dJ19_init_4 rfl (lv_at hl 0 rfl) ?_
  refine lv_iconst (v := 0) X.x X.b dJ19_init_5 (by decide) ?_
  refine dz_put (v := .int 0) X hO 0 rfl in_J19 tyJ19 tyJ19_ok nmJ19 rfl 1 (by decide) q504 (Or.inl rfl) (Or.inl rfl) rfl rfl (Nat.le_of_ble_eq_true rfl) dJ19_init_6 (fun H locs hO => ?_)
  have hO : dz_O G.1 dz_CL A s.heap [[(q, dzo 15 [.int 0, .int 0, .null, .null])]] _ _ := hO
  exact dz_vret X hO rfl (⟨rfl, rfl⟩) (Nat.le_of_ble_eq_true rfl) (Nat.le_of_ble_eq_true rfl) dJ19_init_9
set_option maxHeartbeats 4000000 in
set_option maxRecDepth 100000 in
theorem dz_J35_init (l : Launch) (G : dz_G) (sz : Nat) (q : Nat) (v : Nat) (pr : Option Nat)  : dz_M l G yJ35_init cJ35_init 4 none ({ frames := 20, cells := 0, slots := 0, locals := 300 } : Room) [.ref q, va_rf pr, .ref v, .null] [[(q, dzo 16 [.null, .null, .null])]] sz (fun r w1 => r = none ∧ w1 = [[(q, dzo 16 [.ref v, .null, va_rf pr])]]) (dz_np) := by
  cases pr with
  | none =>
    refine dz_start (by decide) (Nat.le_of_ble_eq_true rfl) ?_
    intro p e s m below meth c A ls X hO hsz hl
    have hl : lv_has ls 4 [(0, .ref q), (1, .null), (2, .ref v), (3, .null)] := hl
    refine lv_aload_n X.x X.b dJ35_init_0 rfl (lv_at hl 0 rfl) ?_
    refine dz_objInit X hl q1646 dJ35_init_1 (Nat.le_of_ble_eq_true rfl) (Nat.le_of_ble_eq_true rfl) (Nat.le_of_ble_eq_true rfl) ?_
    refine lv_aload_n X.x X.b dJ35_init_4 rfl (lv_at hl 0 rfl) ?_
    refine lv_aload_n X.x X.b dJ35_init_5 rfl (lv_at hl 2 rfl) ?_
    refine dz_put (v := .ref v) X hO 0 rfl in_J35 tyJ35 tyJ35_ok nmJ35 rfl 0 (by decide) q1647 (Or.inl rfl) (Or.inl rfl) rfl rfl (Nat.le_of_ble_eq_true rfl) dJ35_init_6 (fun H locs hO => ?_)
    have hO : dz_O G.1 dz_CL A s.heap [[(q, dzo 16 [.ref v, .null, .null])]] _ _ := hO
    refine lv_aload_n X.x X.b dJ35_init_9 rfl (lv_at hl 0 rfl) ?_
    refine lv_aload_nN X.x X.b dJ35_init_10 rfl (lv_at hl 3 rfl) ?_
    refine dz_put (v := .null) X hO 0 rfl in_J35 tyJ35 tyJ35_ok nmJ35 rfl 1 (by decide) q1650 (Or.inl rfl) (Or.inl rfl) rfl rfl (Nat.le_of_ble_eq_true rfl) dJ35_init_11 (fun H locs hO => ?_)
    have hO : dz_O G.1 dz_CL A s.heap [[(q, dzo 16 [.ref v, .null, .null])]] _ _ := hO
    refine lv_aload_n X.x X.b dJ35_init_14 rfl (lv_at hl 0 rfl) ?_
    refine lv_aload_nN X.x X.b dJ35_init_15 rfl (lv_at hl 1 rfl) ?_
    refine dz_put (v := .null) X hO 0 rfl in_J35 tyJ35 tyJ35_ok nmJ35 rfl 2 (by decide) q1653 (Or.inl rfl) (Or.inl rfl) rfl rfl (Nat.le_of_ble_eq_true rfl) dJ35_init_16 (fun H locs hO => ?_)
    have hO : dz_O G.1 dz_CL A s.heap [[(q, dzo 16 [.ref v, .null, .null])]] _ _ := hO
    exact dz_vret X hO rfl (⟨rfl, rfl⟩) (Nat.le_of_ble_eq_true rfl) (Nat.le_of_ble_eq_true rfl) dJ35_init_19
  | some pr =>
    refine dz_start (by decide) (Nat.le_of_ble_eq_true rfl) ?_
    intro p e s m below meth c A ls X hO hsz hl
    have hl : lv_has ls 4 [(0, .ref q), (1, .ref pr), (2, .ref v), (3, .null)] := hl
    refine lv_aload_n X.x X.b dJ35_init_0 rfl (lv_at hl 0 rfl) ?_
    refine dz_objInit X hl q1646 dJ35_init_1 (Nat.le_of_ble_eq_true rfl) (Nat.le_of_ble_eq_true rfl) (Nat.le_of_ble_eq_true rfl) ?_
    refine lv_aload_n X.x X.b dJ35_init_4 rfl (lv_at hl 0 rfl) ?_
    refine lv_aload_n X.x X.b dJ35_init_5 rfl (lv_at hl 2 rfl) ?_
    refine dz_put (v := .ref v) X hO 0 rfl in_J35 tyJ35 tyJ35_ok nmJ35 rfl 0 (by decide) q1647 (Or.inl rfl) (Or.inl rfl) rfl rfl (Nat.le_of_ble_eq_true rfl) dJ35_init_6 (fun H locs hO => ?_)
    have hO : dz_O G.1 dz_CL A s.heap [[(q, dzo 16 [.ref v, .null, .null])]] _ _ := hO
    refine lv_aload_n X.x X.b dJ35_init_9 rfl (lv_at hl 0 rfl) ?_
    refine lv_aload_nN X.x X.b dJ35_init_10 rfl (lv_at hl 3 rfl) ?_
    refine dz_put (v := .null) X hO 0 rfl in_J35 tyJ35 tyJ35_ok nmJ35 rfl 1 (by decide) q1650 (Or.inl rfl) (Or.inl rfl) rfl rfl (Nat.le_of_ble_eq_true rfl) dJ35_init_11 (fun H locs hO => ?_)
    have hO : dz_O G.1 dz_CL A s.heap [[(q, dzo 16 [.ref v, .null, .null])]] _ _ := hO
    refine lv_aload_n X.x X.b dJ35_init_14 rfl (lv_at hl 0 rfl) ?_
    refine lv_aload_n X.x X.b dJ35_init_15 rfl (lv_at hl 1 rfl) ?_
    refine dz_put (v := .ref pr) X hO 0 rfl in_J35 tyJ35 tyJ35_ok nmJ35 rfl 2 (by decide) q1653 (Or.inl rfl) (Or.inl rfl) rfl rfl (Nat.le_of_ble_eq_true rfl) dJ35_init_16 (fun H locs hO => ?_)
    have hO : dz_O G.1 dz_CL A s.heap [[(q, dzo 16 [.ref v, .null, .ref pr])]] _ _ := hO
    exact dz_vret X hO rfl (⟨rfl, rfl⟩) (Nat.le_of_ble_eq_true rfl) (Nat.le_of_ble_eq_true rfl) dJ35_init_19
set_option maxHeartbeats 4000000 in
set_option maxRecDepth 100000 in
/-- size -/
theorem dz_J19_size (l : Launch) (G : dz_G) (sz : Nat) (ll : Nat) (mc : Int32) (n : Nat) (na : Nat → Nat)  : dz_M l G yJ19_size cJ19_size 1 (some FieldType.int) ({ frames := 20, cells := 0, slots := 0, locals := 300 } : Room) [.ref ll] [[(ll, dzo 15 [.int mc, .int (nI n), va_rf (dz_hd na n), va_rf (dz_lst na n)])]] sz (fun r w1 => r = some (.int (nI n)) ∧ w1 = [[(ll, dzo 15 [.int mc, .int (nI n), va_rf (dz_hd na n), va_rf (dz_lst na n)])]]) (dz_np) := by
  refine dz_start (by decide) (Nat.le_of_ble_eq_true rfl) ?_
  intro p e s m below meth c A ls X hO hsz hl
  have hl : lv_has ls 1 [(0, .ref ll)] := hl
  refine lv_aload_n X.x X.b dJ19_size_0 rfl (lv_at hl 0 rfl) ?_
  refine dz_get (v := .int (nI n)) X (hO.at1 0 rfl) in_J19 rfl 1 (by decide) q504 (Or.inl rfl) rfl dJ19_size_1 ?_
  exact dz_iret X hO rfl (⟨rfl, rfl⟩) (Nat.le_of_ble_eq_true rfl) (Nat.le_of_ble_eq_true rfl) dJ19_size_4
set_option maxHeartbeats 4000000 in
set_option maxRecDepth 100000 in
/-- a thing is put behind the others -/
theorem dz_J19_linkLast (l : Launch) (G : dz_G) (sz : Nat) (ll : Nat) (mc : Int32) (n : Nat) (na : Nat → Nat) (it : Nat → Option Nat) (v : Nat)  : dz_M l G yJ19_linkLast cJ19_linkLast 4 none ({ frames := 40, cells := 1, slots := 3, locals := 600 } : Room) [.ref ll, .ref v] [[(ll, dzo 15 [.int mc, .int (nI n), va_rf (dz_hd na n), va_rf (dz_lst na n)])], dz_no G n na it (dz_nxt na n) (dz_prv na)] sz (fun r w1 => ∃ (q : Nat), r = none ∧ w1 = [[(ll, dzo 15 [.int (mc + 1), .int (nI (n + 1)), va_rf (dz_hd (dz_nup na n q) (n + 1)), va_rf (dz_lst (dz_nup na n q) (n + 1))])], dz_no G (n + 1) (dz_nup na n q) (va_up it n (some v)) (dz_nxt (dz_nup na n q) (n + 1)) (dz_prv (dz_nup na n q))]) (dz_np) := by
  refine dz_start (by decide) (Nat.le_of_ble_eq_true rfl) ?_
  intro p e s m below meth c A ls X hO hsz hl
  have hl : lv_has ls 4 [(0, .ref ll), (1, .ref v)] := hl
  rcases Nat.eq_zero_or_pos n with hn0 | hn0
  · subst hn0
    have hO : dz_O G.1 dz_CL A s.heap [[(ll, dzo 15 [.int mc, .int (nI 0), .null, va_rf (dz_lst na 0)])], dz_no G 0 na it (dz_nxt na 0) (dz_prv na)] _ _ := hO
    have hO : dz_O G.1 dz_CL A s.heap [[(ll, dzo 15 [.int mc, .int (nI 0), .null, .null])], dz_no G 0 na it (dz_nxt na 0) (dz_prv na)] _ _ := hO
    refine lv_aload_n X.x X.b dJ19_linkLast_0 rfl (lv_at hl 0 rfl) ?_
    refine dz_get (v := .null) X (hO.at1 0 rfl) in_J19 rfl 3 (by decide) q507 (Or.inl rfl) rfl dJ19_linkLast_1 ?_
    refine lv_astore_nN (lv' := [(2, .null), (0, .ref ll), (1, .ref v)]) X.x X.b dJ19_linkLast_4 rfl hl (by decide) rfl (fun ls hl => ?_)
    refine dz_new X hO 16 in_J35 tyJ35 tyJ35_ok q1641 q1642 q96 rfl [.null, .null, .null] dz_dfJ35 (Nat.le_of_ble_eq_true rfl) (Nat.le_of_ble_eq_true rfl) dJ19_linkLast_5 (fun q_1 H hO => ?_)
    have hO : dz_O G.1 dz_CL A s.heap [[(ll, dzo 15 [.int mc, .int (nI 0), .null, .null])], dz_no G 0 na it (dz_nxt na 0) (dz_prv na), [(q_1, dzo 16 [.null, .null, .null])]] _ _ := hO
    refine W.widen (k := 1) (n := 3) (Nat.le_of_ble_eq_true rfl) (Nat.le_of_ble_eq_true rfl) ?_
    refine lv_dup X.x X.b dJ19_linkLast_8 rfl ?_
    refine lv_aload_nN X.x X.b dJ19_linkLast_9 rfl (lv_at hl 0 rfl) ?_
    refine lv_aload_n X.x X.b dJ19_linkLast_10 rfl (lv_at hl 2 rfl) ?_
    refine lv_null X.x X.b dJ19_linkLast_11 ?_
    refine dz_I (ret1 := none) (n := 3) (k9 := 1) (n9 := 3) (As := [.null, .ref v, .null]) (rest := [.ref q_1]) (wr := [[(ll, dzo 15 [.int mc, .int (nI 0), .null, .null])], dz_no G 0 na it (dz_nxt na 0) (dz_prv na)]) X hO hl (dz_J35_init l G _ q_1 v none ) q1645 q96 q1643 q1644 rfl (by decide +kernel) ⟨Nat.le_of_ble_eq_true rfl, Nat.le_of_ble_eq_true rfl⟩ ⟨(Nat.le_of_ble_eq_true rfl), (Nat.le_of_ble_eq_true rfl), (Nat.le_of_ble_eq_true rfl), (Nat.le_of_ble_eq_true rfl)⟩ [2] [0, 1] rfl rfl rfl rfl rfl (Nat.le_of_ble_eq_true rfl) dJ19_linkLast_12 (fun E w1 q9 ce9 H locs hpx hO hce hv9 hcl9 => hpx.elim) (fun r w1 H locs hpo hO => ?_)
    obtain ⟨rfl, rfl⟩ := hpo
    have hO : dz_O G.1 dz_CL A s.heap [[(ll, dzo 15 [.int mc, .int (nI 0), .null, .null])], dz_no G 0 na it (dz_nxt na 0) (dz_prv na), [(q_1, dzo 16 [.ref v, .null, .null])]] _ _ := hO
    refine W.eq (g2 := F0 m 15 ls [.ref q_1]) rfl ?_
    refine lv_astore_n (lv' := [(3, .ref q_1), (2, .null), (0, .ref ll), (1, .ref v)]) X.x X.b dJ19_linkLast_15 rfl hl (by decide) rfl (fun ls hl => ?_)
    refine lv_aload_n X.x X.b dJ19_linkLast_16 rfl (lv_at hl 2 rfl) ?_
    refine lv_aload_n X.x X.b dJ19_linkLast_17 rfl (lv_at hl 0 rfl) ?_
    refine dz_put (v := .ref q_1) X hO 0 rfl in_J19 tyJ19 tyJ19_ok nmJ19 rfl 3 (by decide) q507 (Or.inl rfl) (Or.inl rfl) rfl rfl (Nat.le_of_ble_eq_true rfl) dJ19_linkLast_18 (fun H locs hO => ?_)
    have hO : dz_O G.1 dz_CL A s.heap [[(ll, dzo 15 [.int mc, .int (nI 0), .null, .ref q_1])], dz_no G 0 na it (dz_nxt na 0) (dz_prv na), [(q_1, dzo 16 [.ref v, .null, .null])]] _ _ := hO
    refine lv_aload_nN X.x X.b dJ19_linkLast_21 rfl (lv_at hl 1 rfl) ?_
    refine lv_ifnonnullN X.x X.b dJ19_linkLast_22 ?_
    refine lv_aload_n X.x X.b dJ19_linkLast_25 rfl (lv_at hl 2 rfl) ?_
    refine lv_aload_n X.x X.b dJ19_linkLast_26 rfl (lv_at hl 0 rfl) ?_
    refine dz_put (v := .ref q_1) X hO 0 rfl in_J19 tyJ19 tyJ19_ok nmJ19 rfl 2 (by decide) q506 (Or.inl rfl) (Or.inl rfl) rfl rfl (Nat.le_of_ble_eq_true rfl) dJ19_linkLast_27 (fun H locs hO => ?_)
    have hO : dz_O G.1 dz_CL A s.heap [[(ll, dzo 15 [.int mc, .int (nI 0), .ref q_1, .ref q_1])], dz_no G 0 na it (dz_nxt na 0) (dz_prv na), [(q_1, dzo 16 [.ref v, .null, .null])]] _ _ := hO
    refine lv_goto (tgt := 38) X.x X.b dJ19_linkLast_30 (by decide) ?_
    refine lv_aload_n X.x X.b dJ19_linkLast_38 rfl (lv_at hl 2 rfl) ?_
    refine lv_dup X.x X.b dJ19_linkLast_39 rfl ?_
    refine dz_get (v := .int (nI 0)) X (hO.at1 0 rfl) in_J19 rfl 1 (by decide) q504 (Or.inl rfl) rfl dJ19_linkLast_40 ?_
    refine lv_iconst (v := 1) X.x X.b dJ19_linkLast_43 (by decide) ?_
    refine lv_iadd X.x X.b dJ19_linkLast_44 ?_
    refine dz_rei (y := nI (0 + 1)) (nI_add 0 1) ?_
    refine dz_put (v := .int (nI (0 + 1))) X hO 0 rfl in_J19 tyJ19 tyJ19_ok nmJ19 rfl 1 (by decide) q504 (Or.inl rfl) (Or.inl rfl) rfl rfl (Nat.le_of_ble_eq_true rfl) dJ19_linkLast_45 (fun H locs hO => ?_)
    have hO : dz_O G.1 dz_CL A s.heap [[(ll, dzo 15 [.int mc, .int (nI (0 + 1)), .ref q_1, .ref q_1])], dz_no G 0 na it (dz_nxt na 0) (dz_prv na), [(q_1, dzo 16 [.ref v, .null, .null])]] _ _ := hO
    refine lv_aload_n X.x X.b dJ19_linkLast_48 rfl (lv_at hl 2 rfl) ?_
    refine lv_dup X.x X.b dJ19_linkLast_49 rfl ?_
    refine dz_get (v := .int mc) X (hO.at1 0 rfl) in_J19 rfl 0 (by decide) q485 (Or.inr q481) rfl dJ19_linkLast_50 ?_
    refine lv_iconst (v := 1) X.x X.b dJ19_linkLast_53 (by decide) ?_
    refine lv_iadd X.x X.b dJ19_linkLast_54 ?_
    refine dz_put (v := .int (mc + 1)) X hO 0 rfl in_J19 tyJ19 tyJ19_ok nmJ19 rfl 0 (by decide) q485 (Or.inr q481) (Or.inl rfl) rfl rfl (Nat.le_of_ble_eq_true rfl) dJ19_linkLast_55 (fun H locs hO => ?_)
    have hO : dz_O G.1 dz_CL A s.heap [[(ll, dzo 15 [.int (mc + 1), .int (nI (0 + 1)), .ref q_1, .ref q_1])], dz_no G 0 na it (dz_nxt na 0) (dz_prv na), [(q_1, dzo 16 [.ref v, .null, .null])]] _ _ := hO
    have hO := hO.sel (v := [dz_no G 0 na it (dz_nxt na 0) (dz_prv na), [(q_1, dzo 16 [.ref v, .null, .null])], [(ll, dzo 15 [.int (mc + 1), .int (nI (0 + 1)), .ref q_1, .ref q_1])]]) [1, 2, 0] rfl rfl
    have hO : dz_O G.1 dz_CL A s.heap [dz_no G (0 + 1) (dz_nup na 0 q_1) (va_up it 0 (some v)) (dz_nxt (dz_nup na 0 q_1) (0 + 1)) (dz_prv (dz_nup na 0 q_1)), [(ll, dzo 15 [.int (mc + 1), .int (nI (0 + 1)), .ref q_1, .ref q_1])]] _ _ := hO.padd (fun i hi => absurd hi (Nat.not_lt_zero i)) (dz_noE (z := dz_prv (dz_nup na 0 q_1) 0) (z' := none) (dz_nup_at na 0 q_1) (dz_vu_at it 0 (some v)) (dz_nxt_last (dz_nup na 0 q_1) 0) (rfl))
    have hO := hO.cong 1 rfl (w1 := [(ll, dzo 15 [.int (mc + 1), .int (nI (0 + 1)), va_rf (dz_hd (dz_nup na 0 q_1) (0 + 1)), va_rf (dz_lst (dz_nup na 0 q_1) (0 + 1))])]) (dz_llE (x' := some q_1) (y' := some q_1) (congrArg some (dz_nup_at na 0 q_1)) (congrArg some (dz_nup_at na 0 q_1)))
    have hO : dz_O G.1 dz_CL A s.heap [dz_no G (0 + 1) (dz_nup na 0 q_1) (va_up it 0 (some v)) (dz_nxt (dz_nup na 0 q_1) (0 + 1)) (dz_prv (dz_nup na 0 q_1)), [(ll, dzo 15 [.int (mc + 1), .int (nI (0 + 1)), va_rf (dz_hd (dz_nup na 0 q_1) (0 + 1)), va_rf (dz_lst (dz_nup na 0 q_1) (0 + 1))])]] _ _ := hO
    have hO := hO.sel (v := [[(ll, dzo 15 [.int (mc + 1), .int (nI (0 + 1)), va_rf (dz_hd (dz_nup na 0 q_1) (0 + 1)), va_rf (dz_lst (dz_nup na 0 q_1) (0 + 1))])], dz_no G (0 + 1) (dz_nup na 0 q_1) (va_up it 0 (some v)) (dz_nxt (dz_nup na 0 q_1) (0 + 1)) (dz_prv (dz_nup na 0 q_1))]) [1, 0] rfl rfl
    exact dz_vret X hO rfl (⟨q_1, rfl, rfl⟩) (Nat.le_of_ble_eq_true rfl) (Nat.le_of_ble_eq_true rfl) dJ19_linkLast_58
  · obtain ⟨m9, hm9⟩ : ∃ m9, n = m9 + 1 := ⟨n - 1, by omega⟩
    subst hm9
    have hO : dz_O G.1 dz_CL A s.heap [[(ll, dzo 15 [.int mc, .int (nI (m9 + 1)), .ref (na 0), va_rf (dz_lst na (m9 + 1))])], dz_no G (m9 + 1) na it (dz_nxt na (m9 + 1)) (dz_prv na)] _ _ := hO
    have hO : dz_O G.1 dz_CL A s.heap [[(ll, dzo 15 [.int mc, .int (nI (m9 + 1)), .ref (na 0), .ref (na m9)])], dz_no G (m9 + 1) na it (dz_nxt na (m9 + 1)) (dz_prv na)] _ _ := hO
    refine lv_aload_n X.x X.b dJ19_linkLast_0 rfl (lv_at hl 0 rfl) ?_
    refine dz_get (v := .ref (na m9)) X (hO.at1 0 rfl) in_J19 rfl 3 (by decide) q507 (Or.inl rfl) rfl dJ19_linkLast_1 ?_
    refine lv_astore_n (lv' := [(2, .ref (na m9)), (0, .ref ll), (1, .ref v)]) X.x X.b dJ19_linkLast_4 rfl hl (by decide) rfl (fun ls hl => ?_)
    refine dz_new X hO 16 in_J35 tyJ35 tyJ35_ok q1641 q1642 q96 rfl [.null, .null, .null] dz_dfJ35 (Nat.le_of_ble_eq_true rfl) (Nat.le_of_ble_eq_true rfl) dJ19_linkLast_5 (fun q_2 H hO => ?_)
    have hO : dz_O G.1 dz_CL A s.heap [[(ll, dzo 15 [.int mc, .int (nI (m9 + 1)), .ref (na 0), .ref (na m9)])], dz_no G (m9 + 1) na it (dz_nxt na (m9 + 1)) (dz_prv na), [(q_2, dzo 16 [.null, .null, .null])]] _ _ := hO
    refine W.widen (k := 1) (n := 3) (Nat.le_of_ble_eq_true rfl) (Nat.le_of_ble_eq_true rfl) ?_
    refine lv_dup X.x X.b dJ19_linkLast_8 rfl ?_
    refine lv_aload_n X.x X.b dJ19_linkLast_9 rfl (lv_at hl 0 rfl) ?_
    refine lv_aload_n X.x X.b dJ19_linkLast_10 rfl (lv_at hl 2 rfl) ?_
    refine lv_null X.x X.b dJ19_linkLast_11 ?_
    refine dz_I (ret1 := none) (n := 3) (k9 := 1) (n9 := 3) (As := [.ref (na m9), .ref v, .null]) (rest := [.ref q_2]) (wr := [[(ll, dzo 15 [.int mc, .int (nI (m9 + 1)), .ref (na 0), .ref (na m9)])], dz_no G (m9 + 1) na it (dz_nxt na (m9 + 1)) (dz_prv na)]) X hO hl (dz_J35_init l G _ q_2 v (some (na m9)) ) q1645 q96 q1643 q1644 rfl (by decide +kernel) ⟨Nat.le_of_ble_eq_true rfl, Nat.le_of_ble_eq_true rfl⟩ ⟨(Nat.le_of_ble_eq_true rfl), (Nat.le_of_ble_eq_true rfl), (Nat.le_of_ble_eq_true rfl), (Nat.le_of_ble_eq_true rfl)⟩ [2] [0, 1] rfl rfl rfl rfl rfl (Nat.le_of_ble_eq_true rfl) dJ19_linkLast_12 (fun E w1 q9 ce9 H locs hpx hO hce hv9 hcl9 => hpx.elim) (fun r w1 H locs hpo hO => ?_)
    obtain ⟨rfl, rfl⟩ := hpo
    have hO : dz_O G.1 dz_CL A s.heap [[(ll, dzo 15 [.int mc, .int (nI (m9 + 1)), .ref (na 0), .ref (na m9)])], dz_no G (m9 + 1) na it (dz_nxt na (m9 + 1)) (dz_prv na), [(q_2, dzo 16 [.ref v, .null, .ref (na m9)])]] _ _ := hO
    refine W.eq (g2 := F0 m 15 ls [.ref q_2]) rfl ?_
    refine lv_astore_n (lv' := [(3, .ref q_2), (2, .ref (na m9)), (0, .ref ll), (1, .ref v)]) X.x X.b dJ19_linkLast_15 rfl hl (by decide) rfl (fun ls hl => ?_)
    refine lv_aload_n X.x X.b dJ19_linkLast_16 rfl (lv_at hl 2 rfl) ?_
    refine lv_aload_n X.x X.b dJ19_linkLast_17 rfl (lv_at hl 0 rfl) ?_
    refine dz_put (v := .ref q_2) X hO 0 rfl in_J19 tyJ19 tyJ19_ok nmJ19 rfl 3 (by decide) q507 (Or.inl rfl) (Or.inl rfl) rfl rfl (Nat.le_of_ble_eq_true rfl) dJ19_linkLast_18 (fun H locs hO => ?_)
    have hO : dz_O G.1 dz_CL A s.heap [[(ll, dzo 15 [.int mc, .int (nI (m9 + 1)), .ref (na 0), .ref q_2])], dz_no G (m9 + 1) na it (dz_nxt na (m9 + 1)) (dz_prv na), [(q_2, dzo 16 [.ref v, .null, .ref (na m9)])]] _ _ := hO
    refine lv_aload_n X.x X.b dJ19_linkLast_21 rfl (lv_at hl 1 rfl) ?_
    refine lv_ifnonnull (tgt := 33) X.x X.b dJ19_linkLast_22 (by decide) ?_
    refine lv_aload_n X.x X.b dJ19_linkLast_33 rfl (lv_at hl 1 rfl) ?_
    refine lv_aload_n X.x X.b dJ19_linkLast_34 rfl (lv_at hl 0 rfl) ?_
    refine dz_putA (v := .ref q_2) X (hO.pn 1 rfl (by omega)) in_J35 tyJ35 tyJ35_ok nmJ35 rfl 1 (by decide) q1652 (Or.inl rfl) (Or.inl rfl) rfl rfl (Nat.le_of_ble_eq_true rfl) dJ19_linkLast_35 (fun H1 i9 g9 z9 o9 => ?_)
    have hO := (hO.pnput (k := 1) (i := m9) rfl (by omega) (j := i9) g9 z9 o9).cong 1 rfl (w1 := dz_no G (m9 + 1) na it (va_up (dz_nxt na (m9 + 1)) m9 (some q_2)) (dz_prv na)) (dz_pn_cong (fun i9 _ => by by_cases h9 : i9 = m9 <;> simp [va_up, upd, h9, va_rf]))
    have hO : dz_O G.1 dz_CL A s.heap [[(ll, dzo 15 [.int mc, .int (nI (m9 + 1)), .ref (na 0), .ref q_2])], dz_no G (m9 + 1) na it (va_up (dz_nxt na (m9 + 1)) m9 (some q_2)) (dz_prv na), [(q_2, dzo 16 [.ref v, .null, .ref (na m9)])]] H1 _ := hO
    revert hO
    generalize H1 = H; generalize (_ ++ _ : List Loc) = locs; intro hO
    refine lv_aload_n X.x X.b dJ19_linkLast_38 rfl (lv_at hl 2 rfl) ?_
    refine lv_dup X.x X.b dJ19_linkLast_39 rfl ?_
    refine dz_get (v := .int (nI (m9 + 1))) X (hO.at1 0 rfl) in_J19 rfl 1 (by decide) q504 (Or.inl rfl) rfl dJ19_linkLast_40 ?_
    refine lv_iconst (v := 1) X.x X.b dJ19_linkLast_43 (by decide) ?_
    refine lv_iadd X.x X.b dJ19_linkLast_44 ?_
    refine dz_rei (y := nI (m9 + 1 + 1)) (nI_add (m9 + 1) 1) ?_
    refine dz_put (v := .int (nI (m9 + 1 + 1))) X hO 0 rfl in_J19 tyJ19 tyJ19_ok nmJ19 rfl 1 (by decide) q504 (Or.inl rfl) (Or.inl rfl) rfl rfl (Nat.le_of_ble_eq_true rfl) dJ19_linkLast_45 (fun H locs hO => ?_)
    have hO : dz_O G.1 dz_CL A s.heap [[(ll, dzo 15 [.int mc, .int (nI (m9 + 1 + 1)), .ref (na 0), .ref q_2])], dz_no G (m9 + 1) na it (va_up (dz_nxt na (m9 + 1)) m9 (some q_2)) (dz_prv na), [(q_2, dzo 16 [.ref v, .null, .ref (na m9)])]] _ _ := hO
    refine lv_aload_n X.x X.b dJ19_linkLast_48 rfl (lv_at hl 2 rfl) ?_
    refine lv_dup X.x X.b dJ19_linkLast_49 rfl ?_
    refine dz_get (v := .int mc) X (hO.at1 0 rfl) in_J19 rfl 0 (by decide) q485 (Or.inr q481) rfl dJ19_linkLast_50 ?_
    refine lv_iconst (v := 1) X.x X.b dJ19_linkLast_53 (by decide) ?_
    refine lv_iadd X.x X.b dJ19_linkLast_54 ?_
    refine dz_put (v := .int (mc + 1)) X hO 0 rfl in_J19 tyJ19 tyJ19_ok nmJ19 rfl 0 (by decide) q485 (Or.inr q481) (Or.inl rfl) rfl rfl (Nat.le_of_ble_eq_true rfl) dJ19_linkLast_55 (fun H locs hO => ?_)
    have hO : dz_O G.1 dz_CL A s.heap [[(ll, dzo 15 [.int (mc + 1), .int (nI (m9 + 1 + 1)), .ref (na 0), .ref q_2])], dz_no G (m9 + 1) na it (va_up (dz_nxt na (m9 + 1)) m9 (some q_2)) (dz_prv na), [(q_2, dzo 16 [.ref v, .null, .ref (na m9)])]] _ _ := hO
    have hO := hO.sel (v := [dz_no G (m9 + 1) na it (va_up (dz_nxt na (m9 + 1)) m9 (some q_2)) (dz_prv na), [(q_2, dzo 16 [.ref v, .null, .ref (na m9)])], [(ll, dzo 15 [.int (mc + 1), .int (nI (m9 + 1 + 1)), .ref (na 0), .ref q_2])]]) [1, 2, 0] rfl rfl
    have hO : dz_O G.1 dz_CL A s.heap [dz_no G (m9 + 1 + 1) (dz_nup na (m9 + 1) q_2) (va_up it (m9 + 1) (some v)) (dz_nxt (dz_nup na (m9 + 1) q_2) (m9 + 1 + 1)) (dz_prv (dz_nup na (m9 + 1) q_2)), [(ll, dzo 15 [.int (mc + 1), .int (nI (m9 + 1 + 1)), .ref (na 0), .ref q_2])]] _ _ := hO.padd (fun i hi => dz_noE (dz_nup_lt hi) (dz_vu_lt hi) (dz_nxt_add hi) (dz_prv_add hi)) (dz_noE (z := dz_prv (dz_nup na (m9 + 1) q_2) (m9 + 1)) (z' := some (na m9)) (dz_nup_at na (m9 + 1) q_2) (dz_vu_at it (m9 + 1) (some v)) (dz_nxt_last (dz_nup na (m9 + 1) q_2) (m9 + 1)) (by rw [dz_prv_s, dz_nup_lt (Nat.lt_succ_self m9)]))
    have hO := hO.cong 1 rfl (w1 := [(ll, dzo 15 [.int (mc + 1), .int (nI (m9 + 1 + 1)), va_rf (dz_hd (dz_nup na (m9 + 1) q_2) (m9 + 1 + 1)), va_rf (dz_lst (dz_nup na (m9 + 1) q_2) (m9 + 1 + 1))])]) (dz_llE (x' := some (na 0)) (y' := some q_2) (congrArg some (dz_nup_lt (Nat.succ_pos _))) (congrArg some (dz_nup_at na (m9 + 1) q_2)))
    have hO : dz_O G.1 dz_CL A s.heap [dz_no G (m9 + 1 + 1) (dz_nup na (m9 + 1) q_2) (va_up it (m9 + 1) (some v)) (dz_nxt (dz_nup na (m9 + 1) q_2) (m9 + 1 + 1)) (dz_prv (dz_nup na (m9 + 1) q_2)), [(ll, dzo 15 [.int (mc + 1), .int (nI (m9 + 1 + 1)), va_rf (dz_hd (dz_nup na (m9 + 1) q_2) (m9 + 1 + 1)), va_rf (dz_lst (dz_nup na (m9 + 1) q_2) (m9 + 1 + 1))])]] _ _ := hO
    have hO := hO.sel (v := [[(ll, dzo 15 [.int (mc + 1), .int (nI (m9 + 1 + 1)), va_rf (dz_hd (dz_nup na (m9 + 1) q_2) (m9 + 1 + 1)), va_rf (dz_lst (dz_nup na (m9 + 1) q_2) (m9 + 1 + 1))])], dz_no G (m9 + 1 + 1) (dz_nup na (m9 + 1) q_2) (va_up it (m9 + 1) (some v)) (dz_nxt (dz_nup na (m9 + 1) q_2) (m9 + 1 + 1)) (dz_prv (dz_nup na (m9 + 1) q_2))]) [1, 0] rfl rfl
    exact dz_vret X hO rfl (⟨q_2, rfl, rfl⟩) (Nat.le_of_ble_eq_true rfl) (Nat.le_of_ble_eq_true rfl) dJ19_linkLast_58
set_option maxHeartbeats 4000000 in
set_option maxRecDepth 100000 in
/-- a thing is put behind the others -/
theorem dz_J19_addLast (l : Launch) (G : dz_G) (sz : Nat) (ll : Nat) (mc : Int32) (n : Nat) (na : Nat → Nat) (it : Nat → Option Nat) (v : Nat)  : dz_M l G yJ19_addLast cJ19_addLast 2 none ({ frames := 60, cells := 1, slots := 3, locals := 900 } : Room) [.ref ll, .ref v] [[(ll, dzo 15 [.int mc, .int (nI n), va_rf (dz_hd na n), va_rf (dz_lst na n)])], dz_no G n na it (dz_nxt na n) (dz_prv na)] sz (fun r w1 => ∃ (q : Nat), r = none ∧ w1 = [[(ll, dzo 15 [.int (mc + 1), .int (nI (n + 1)), va_rf (dz_hd (dz_nup na n q) (n + 1)), va_rf (dz_lst (dz_nup na n q) (n + 1))])], dz_no G (n + 1) (dz_nup na n q) (va_up it n (some v)) (dz_nxt (dz_nup na n q) (n + 1)) (dz_prv (dz_nup na n q))]) (dz_np) := by
  refine dz_start (by decide) (Nat.le_of_ble_eq_true rfl) ?_
  intro p e s m below meth c A ls X hO hsz hl
  have hl : lv_has ls 2 [(0, .ref ll), (1, .ref v)] := hl
  refine lv_aload_n X.x X.b dJ19_addLast_0 rfl (lv_at hl 0 rfl) ?_
  refine lv_aload_n X.x X.b dJ19_addLast_1 rfl (lv_at hl 1 rfl) ?_
  refine dz_V (n := 1) (k9 := 1) (n9 := 3) (As := [.ref v]) (rest := []) (wr := []) X hO hl (dz_J19_linkLast l G _ ll mc n na it v ) (lw_V q1637 q1638 q1639 q70 q1640) (by decide +kernel) ⟨Nat.le_of_ble_eq_true rfl, Nat.le_of_ble_eq_true rfl⟩ ⟨(Nat.le_of_ble_eq_true rfl), (Nat.le_of_ble_eq_true rfl), (Nat.le_of_ble_eq_true rfl), (Nat.le_of_ble_eq_true rfl)⟩ [0, 1] [] rfl rfl rfl (dz_rc X (hO.at1 0 rfl) (r := (RJ19, TJ19, 4)) rfl) rfl rfl (Nat.le_of_ble_eq_true rfl) dJ19_addLast_2 (fun E w1 q9 ce9 H locs hpx hO hce hv9 hcl9 => hpx.elim) (fun r w1 H locs hpo hO => ?_)
  obtain ⟨q_1, rfl, rfl⟩ := hpo
  have hO : dz_O G.1 dz_CL A s.heap [[(ll, dzo 15 [.int (mc + 1), .int (nI (n + 1)), va_rf (dz_hd (dz_nup na n q_1) (n + 1)), va_rf (dz_lst (dz_nup na n q_1) (n + 1))])], dz_no G (n + 1) (dz_nup na n q_1) (va_up it n (some v)) (dz_nxt (dz_nup na n q_1) (n + 1)) (dz_prv (dz_nup na n q_1))] _ _ := hO
  refine W.eq (g2 := F0 m 5 ls []) rfl ?_
  exact dz_vret X hO rfl (⟨q_1, rfl, rfl⟩) (Nat.le_of_ble_eq_true rfl) (Nat.le_of_ble_eq_true rfl) dJ19_addLast_5
set_option maxHeartbeats 4000000 in
set_option maxRecDepth 100000 in
/-- the first node -/
theorem dz_J19_node (l : Launch) (G : dz_G) (sz : Nat) (ll : Nat) (mc : Int32) (n : Nat) (na : Nat → Nat) (hn : 0 < n) (hn2 : n ≤ 8) : dz_M l G yJ19_node cJ19_node 4 (some (FieldType.object "java/util/LinkedList$Node")) ({ frames := 20, cells := 0, slots := 0, locals := 300 } : Room) [.ref ll, .int 0] [[(ll, dzo 15 [.int mc, .int (nI n), va_rf (dz_hd na n), va_rf (dz_lst na n)])]] sz (fun r w1 => r = some (.ref (na 0)) ∧ w1 = [[(ll, dzo 15 [.int mc, .int (nI n), va_rf (dz_hd na n), va_rf (dz_lst na n)])]]) (dz_np) := by
  refine dz_start (by decide) (Nat.le_of_ble_eq_true rfl) ?_
  intro p e s m below meth c A ls X hO hsz hl
  have hl : lv_has ls 4 [(0, .ref ll), (1, .int 0)] := hl
  obtain ⟨m9, hm9⟩ : ∃ m9, n = m9 + 1 := ⟨n - 1, by omega⟩
  subst hm9
  have hO : dz_O G.1 dz_CL A s.heap [[(ll, dzo 15 [.int mc, .int (nI (m9 + 1)), .ref (na 0), va_rf (dz_lst na (m9 + 1))])]] _ _ := hO
  have hO : dz_O G.1 dz_CL A s.heap [[(ll, dzo 15 [.int mc, .int (nI (m9 + 1)), .ref (na 0), .ref (na m9)])]] _ _ := hO
  refine lv_iload_n X.x X.b dJ19_node_0 rfl (lv_at hl 1 rfl) ?_
  refine lv_aload_n X.x X.b dJ19_node_1 rfl (lv_at hl 0 rfl) ?_
  refine dz_get (v := .int (nI (m9 + 1))) X (hO.at1 0 rfl) in_J19 rfl 1 (by decide) q504 (Or.inl rfl) rfl dJ19_node_2 ?_
  refine lv_iconst (v := 1) X.x X.b dJ19_node_5 (by decide) ?_
  refine lv_ishr X.x X.b dJ19_node_6 ?_
  refine dz_rei (y := nI ((m9 + 1) / 2)) (dz_shr1 _ (by omega)) ?_
  refine lv_icmp_ge (tgt := 35) X.x X.b dJ19_node_7 (by decide) (fun c_1 => ?_) (fun c_1 => ?_)
  · have nc_1 : (m9 + 1) / 2 ≤ 0 := (nI_leI (a := (m9 + 1) / 2) (b := 0) (by omega) (by omega)).mp c_1
    have hm1 : m9 = 0 := by have h9 : ¬ 0 < (m9 + 1) / 2 := fun z => absurd (show (0 : Int32) < nI ((m9 + 1) / 2) by rw [show (0 : Int32) = nI 0 by decide, nI_ltI (by omega) (by omega)]; exact z) (Int32.not_lt.mpr c_1); omega
    subst hm1
    refine lv_aload_n X.x X.b dJ19_node_35 rfl (lv_at hl 0 rfl) ?_
    refine dz_get (v := .ref (na 0)) X (hO.at1 0 rfl) in_J19 rfl 3 (by decide) q507 (Or.inl rfl) rfl dJ19_node_36 ?_
    refine lv_astore_n (lv' := [(2, .ref (na 0)), (0, .ref ll), (1, .int 0)]) X.x X.b dJ19_node_39 rfl hl (by decide) rfl (fun ls hl => ?_)
    refine lv_aload_n X.x X.b dJ19_node_40 rfl (lv_at hl 1 rfl) ?_
    refine dz_get (v := .int (nI (0 + 1))) X (hO.at1 0 rfl) in_J19 rfl 1 (by decide) q504 (Or.inl rfl) rfl dJ19_node_41 ?_
    refine lv_iconst (v := 1) X.x X.b dJ19_node_44 (by decide) ?_
    refine lv_isub X.x X.b dJ19_node_45 ?_
    refine dz_rei (y := 0) (by decide) ?_
    refine lv_istore_n (lv' := [(3, .int 0), (2, .ref (na 0)), (0, .ref ll), (1, .int 0)]) X.x X.b dJ19_node_46 rfl hl (by decide) rfl (fun ls hl => ?_)
    refine lv_iload_n X.x X.b dJ19_node_47 rfl (lv_at hl 0 rfl) ?_
    refine lv_iload_n X.x X.b dJ19_node_48 rfl (lv_at hl 3 rfl) ?_
    refine lv_icmp_le (tgt := 63) X.x X.b dJ19_node_49 (by decide) (fun _ => ?_) (fun c_2 => absurd (by decide) c_2)
    refine lv_aload_n X.x X.b dJ19_node_63 rfl (lv_at hl 1 rfl) ?_
    have hO : dz_O G.1 dz_CL A s.heap [[(ll, dzo 15 [.int mc, .int (nI (0 + 1)), va_rf (dz_hd na (0 + 1)), .ref (na 0)])]] _ _ := hO
    have hO : dz_O G.1 dz_CL A s.heap [[(ll, dzo 15 [.int mc, .int (nI (0 + 1)), va_rf (dz_hd na (0 + 1)), va_rf (dz_lst na (0 + 1))])]] _ _ := hO
    exact dz_aret X hO rfl (Or.inl ⟨_, rfl⟩) (Or.inr ⟨_, rfl⟩) (⟨rfl, rfl⟩) (Nat.le_of_ble_eq_true rfl) (Nat.le_of_ble_eq_true rfl) dJ19_node_64
  · have nc_1 : ¬ (m9 + 1) / 2 ≤ 0 := fun z9 => c_1 ((nI_leI (a := (m9 + 1) / 2) (b := 0) (by omega) (by omega)).mpr z9)
    refine lv_aload_n X.x X.b dJ19_node_10 rfl (lv_at hl 0 rfl) ?_
    refine dz_get (v := .ref (na 0)) X (hO.at1 0 rfl) in_J19 rfl 2 (by decide) q506 (Or.inl rfl) rfl dJ19_node_11 ?_
    refine lv_astore_n (lv' := [(2, .ref (na 0)), (0, .ref ll), (1, .int 0)]) X.x X.b dJ19_node_14 rfl hl (by decide) rfl (fun ls hl => ?_)
    refine lv_iconst (v := 0) X.x X.b dJ19_node_15 (by decide) ?_
    refine lv_istore_n (lv' := [(3, .int 0), (2, .ref (na 0)), (0, .ref ll), (1, .int 0)]) X.x X.b dJ19_node_16 rfl hl (by decide) rfl (fun ls hl => ?_)
    refine lv_iload_n X.x X.b dJ19_node_17 rfl (lv_at hl 0 rfl) ?_
    refine lv_iload_n X.x X.b dJ19_node_18 rfl (lv_at hl 3 rfl) ?_
    refine lv_icmp_ge (tgt := 33) X.x X.b dJ19_node_19 (by decide) (fun _ => ?_) (fun c_3 => absurd (by decide) c_3)
    refine lv_aload_n X.x X.b dJ19_node_33 rfl (lv_at hl 1 rfl) ?_
    have hO : dz_O G.1 dz_CL A s.heap [[(ll, dzo 15 [.int mc, .int (nI (m9 + 1)), va_rf (dz_hd na (m9 + 1)), .ref (na m9)])]] _ _ := hO
    have hO : dz_O G.1 dz_CL A s.heap [[(ll, dzo 15 [.int mc, .int (nI (m9 + 1)), va_rf (dz_hd na (m9 + 1)), va_rf (dz_lst na (m9 + 1))])]] _ _ := hO
    exact dz_aret X hO rfl (Or.inl ⟨_, rfl⟩) (Or.inr ⟨_, rfl⟩) (⟨rfl, rfl⟩) (Nat.le_of_ble_eq_true rfl) (Nat.le_of_ble_eq_true rfl) dJ19_node_34
set_option maxHeartbeats 4000000 in
set_option maxRecDepth 100000 in
/-- 0 is a place -/
theorem dz_J19_isPositionIndex (l : Launch) (G : dz_G) (sz : Nat) (ll : Nat) (mc : Int32) (n : Nat) (na : Nat → Nat) (hn2 : n ≤ 8) : dz_M l G yJ19_isPositionIndex cJ19_isPositionIndex 2 (some FieldType.boolean) ({ frames := 20, cells := 0, slots := 0, locals := 300 } : Room) [.ref ll, .int 0] [[(ll, dzo 15 [.int mc, .int (nI n), va_rf (dz_hd na n), va_rf (dz_lst na n)])]] sz (fun r w1 => r = some (.int 1) ∧ w1 = [[(ll, dzo 15 [.int mc, .int (nI n), va_rf (dz_hd na n), va_rf (dz_lst na n)])]]) (dz_np) := by
  refine dz_start (by decide) (Nat.le_of_ble_eq_true rfl) ?_
  intro p e s m below meth c A ls X hO hsz hl
  have hl : lv_has ls 2 [(0, .ref ll), (1, .int 0)] := hl
  refine lv_iload_n X.x X.b dJ19_isPositionIndex_0 rfl (lv_at hl 1 rfl) ?_
  refine lv_if_lt (tgt := 16) X.x X.b dJ19_isPositionIndex_1 (by decide) (fun c_1 => absurd c_1 (by decide)) (fun _ => ?_)
  refine lv_iload_n X.x X.b dJ19_isPositionIndex_4 rfl (lv_at hl 1 rfl) ?_
  refine lv_aload_n X.x X.b dJ19_isPositionIndex_5 rfl (lv_at hl 0 rfl) ?_
  refine dz_get (v := .int (nI n)) X (hO.at1 0 rfl) in_J19 rfl 1 (by decide) q504 (Or.inl rfl) rfl dJ19_isPositionIndex_6 ?_
  refine lv_icmp_gt (tgt := 16) X.x X.b dJ19_isPositionIndex_9 (by decide) (fun c_2 => absurd c_2 (Int32.not_lt.mpr (by rw [show (0 : Int32) = nI 0 by decide, nI_leI (by omega) (by omega)]; omega))) (fun _ => ?_)
  refine lv_iconst (v := 1) X.x X.b dJ19_isPositionIndex_12 (by decide) ?_
  refine lv_goto (tgt := 17) X.x X.b dJ19_isPositionIndex_13 (by decide) ?_
  exact dz_zret X hO rfl (rfl) (⟨rfl, rfl⟩) (Nat.le_of_ble_eq_true rfl) (Nat.le_of_ble_eq_true rfl) dJ19_isPositionIndex_17
set_option maxHeartbeats 4000000 in
set_option maxRecDepth 100000 in
/-- 0 is a place -/
theorem dz_J19_checkPositionIndex (l : Launch) (G : dz_G) (sz : Nat) (ll : Nat) (mc : Int32) (n : Nat) (na : Nat → Nat) (hn2 : n ≤ 8) : dz_M l G yJ19_checkPositionIndex cJ19_checkPositionIndex 2 none ({ frames := 40, cells := 0, slots := 0, locals := 600 } : Room) [.ref ll, .int 0] [[(ll, dzo 15 [.int mc, .int (nI n), va_rf (dz_hd na n), va_rf (dz_lst na n)])]] sz (fun r w1 => r = none ∧ w1 = [[(ll, dzo 15 [.int mc, .int (nI n), va_rf (dz_hd na n), va_rf (dz_lst na n)])]]) (dz_np) := by
  refine dz_start (by decide) (Nat.le_of_ble_eq_true rfl) ?_
  intro p e s m below meth c A ls X hO hsz hl
  have hl : lv_has ls 2 [(0, .ref ll), (1, .int 0)] := hl
  refine lv_aload_n X.x X.b dJ19_checkPositionIndex_0 rfl (lv_at hl 0 rfl) ?_
  refine lv_iload_n X.x X.b dJ19_checkPositionIndex_1 rfl (lv_at hl 1 rfl) ?_
  refine dz_V (n := 1) (k9 := 0) (n9 := 0) (As := [.int 0]) (rest := []) (wr := []) X hO hl (dz_J19_isPositionIndex l G _ ll mc n na (by first | assumption | omega | decide)) (lw_V q1420 q1422 qs19 q70 q1423) (by decide +kernel) ⟨Nat.le_of_ble_eq_true rfl, Nat.le_of_ble_eq_true rfl⟩ ⟨(Nat.le_of_ble_eq_true rfl), (Nat.le_of_ble_eq_true rfl), (Nat.le_of_ble_eq_true rfl), (Nat.le_of_ble_eq_true rfl)⟩ [0] [] rfl rfl rfl (dz_rc X (hO.at1 0 rfl) (r := (RJ19, TJ19, 4)) rfl) rfl rfl (Nat.le_of_ble_eq_true rfl) dJ19_checkPositionIndex_2 (fun E w1 q9 ce9 H locs hpx hO hce hv9 hcl9 => hpx.elim) (fun r w1 H locs hpo hO => ?_)
  obtain ⟨rfl, rfl⟩ := hpo
  have hO : dz_O G.1 dz_CL A s.heap [[(ll, dzo 15 [.int mc, .int (nI n), va_rf (dz_hd na n), va_rf (dz_lst na n)])]] _ _ := hO
  refine W.eq (g2 := F0 m 5 ls [.int 1]) rfl ?_
  refine lv_if_ne (tgt := 21) X.x X.b dJ19_checkPositionIndex_5 (by decide) (fun _ => ?_) (fun c_1 => absurd c_1 (by decide))
  exact dz_vret X hO rfl (⟨rfl, rfl⟩) (Nat.le_of_ble_eq_true rfl) (Nat.le_of_ble_eq_true rfl) dJ19_checkPositionIndex_21
set_option maxHeartbeats 4000000 in
set_option maxRecDepth 100000 in
/-- an iterator of a linked list -/
theorem dz_J31_init (l : Launch) (G : dz_G) (sz : Nat) (q : Nat) (ll : Nat) (mc : Int32) (n : Nat) (na : Nat → Nat) (hn2 : n ≤ 8) : dz_M l G yJ31_init cJ31_init 3 none ({ frames := 40, cells := 0, slots := 0, locals := 600 } : Room) [.ref q, .ref ll, .int 0] [[(q, dzo 19 [.null, .null, .int 0, .int 0, .null])], [(ll, dzo 15 [.int mc, .int (nI n), va_rf (dz_hd na n), va_rf (dz_lst na n)])]] sz (fun r w1 => r = none ∧ w1 = [[(q, dzo 19 [.null, va_rf (dz_cur na n 0), .int 0, .int mc, .ref ll])], [(ll, dzo 15 [.int mc, .int (nI n), va_rf (dz_hd na n), va_rf (dz_lst na n)])]]) (dz_np) := by
  refine dz_start (by decide) (Nat.le_of_ble_eq_true rfl) ?_
  intro p e s m below meth c A ls X hO hsz hl
  have hl : lv_has ls 3 [(0, .ref q), (1, .ref ll), (2, .int 0)] := hl
  refine lv_aload_n X.x X.b dJ31_init_0 rfl (lv_at hl 0 rfl) ?_
  refine lv_aload_n X.x X.b dJ31_init_1 rfl (lv_at hl 1 rfl) ?_
  refine dz_put (v := .ref ll) X hO 0 rfl in_J31 tyJ31 tyJ31_ok nmJ31 rfl 4 (by decide) q1435 (Or.inl rfl) (Or.inr ⟨rfl, rfl, rfl⟩) rfl rfl (Nat.le_of_ble_eq_true rfl) dJ31_init_2 (fun H locs hO => ?_)
  have hO : dz_O G.1 dz_CL A s.heap [[(q, dzo 19 [.null, .null, .int 0, .int 0, .ref ll])], [(ll, dzo 15 [.int mc, .int (nI n), va_rf (dz_hd na n), va_rf (dz_lst na n)])]] _ _ := hO
  refine lv_aload_n X.x X.b dJ31_init_5 rfl (lv_at hl 0 rfl) ?_
  refine dz_objInit X hl q1429 dJ31_init_6 (Nat.le_of_ble_eq_true rfl) (Nat.le_of_ble_eq_true rfl) (Nat.le_of_ble_eq_true rfl) ?_
  refine lv_aload_n X.x X.b dJ31_init_9 rfl (lv_at hl 0 rfl) ?_
  refine lv_aload_n X.x X.b dJ31_init_10 rfl (lv_at hl 0 rfl) ?_
  refine dz_get (v := .ref ll) X (hO.at1 0 rfl) in_J31 rfl 4 (by decide) q1435 (Or.inl rfl) rfl dJ31_init_11 ?_
  refine dz_get (v := .int mc) X (hO.at1 1 rfl) in_J19 rfl 0 (by decide) q480 (Or.inr q481) rfl dJ31_init_14 ?_
  refine dz_put (v := .int mc) X hO 0 rfl in_J31 tyJ31 tyJ31_ok nmJ31 rfl 3 (by decide) q1434 (Or.inl rfl) (Or.inl rfl) rfl rfl (Nat.le_of_ble_eq_true rfl) dJ31_init_17 (fun H locs hO => ?_)
  have hO : dz_O G.1 dz_CL A s.heap [[(q, dzo 19 [.null, .null, .int 0, .int mc, .ref ll])], [(ll, dzo 15 [.int mc, .int (nI n), va_rf (dz_hd na n), va_rf (dz_lst na n)])]] _ _ := hO
  refine lv_aload_n X.x X.b dJ31_init_20 rfl (lv_at hl 0 rfl) ?_
  refine lv_iload_n X.x X.b dJ31_init_21 rfl (lv_at hl 2 rfl) ?_
  refine lv_aload_n X.x X.b dJ31_init_22 rfl (lv_at hl 1 rfl) ?_
  refine dz_get (v := .int (nI n)) X (hO.at1 1 rfl) in_J19 rfl 1 (by decide) q505 (Or.inl rfl) rfl dJ31_init_23 ?_
  refine lv_icmp_ne (tgt := 33) X.x X.b dJ31_init_26 (by decide) (fun c_1 => ?_) (fun c_1 => ?_)
  · have nc_1 : ¬ 0 = n := fun z9 => c_1 ((nI_eq (a := 0) (b := n) (by omega) (by omega)).mpr z9)
    have hn0 : 0 < n := by have h9 : ¬ 0 = n := fun z => c_1 (by rw [← z]; decide); omega
    refine lv_aload_n X.x X.b dJ31_init_33 rfl (lv_at hl 1 rfl) ?_
    refine lv_iload_n X.x X.b dJ31_init_34 rfl (lv_at hl 2 rfl) ?_
    refine dz_V (n := 1) (k9 := 0) (n9 := 0) (As := [.int 0]) (rest := [.ref q]) (wr := [[(q, dzo 19 [.null, .null, .int 0, .int mc, .ref ll])]]) X hO hl (dz_J19_node l G _ ll mc n na (by first | assumption | omega | decide) (by first | assumption | omega | decide)) (lw_V q1430 q782 q783 q70 q784) (by decide +kernel) ⟨Nat.le_of_ble_eq_true rfl, Nat.le_of_ble_eq_true rfl⟩ ⟨(Nat.le_of_ble_eq_true rfl), (Nat.le_of_ble_eq_true rfl), (Nat.le_of_ble_eq_true rfl), (Nat.le_of_ble_eq_true rfl)⟩ [1] [0] rfl rfl rfl (dz_rc X (hO.at1 1 rfl) (r := (RJ19, TJ19, 4)) rfl) rfl rfl (Nat.le_of_ble_eq_true rfl) dJ31_init_35 (fun E w1 q9 ce9 H locs hpx hO hce hv9 hcl9 => hpx.elim) (fun r w1 H locs hpo hO => ?_)
    obtain ⟨rfl, rfl⟩ := hpo
    have hO : dz_O G.1 dz_CL A s.heap [[(q, dzo 19 [.null, .null, .int 0, .int mc, .ref ll])], [(ll, dzo 15 [.int mc, .int (nI n), va_rf (dz_hd na n), va_rf (dz_lst na n)])]] _ _ := hO
    refine W.eq (g2 := F0 m 38 ls [.ref (na 0), .ref q]) rfl ?_
    refine dz_put (v := .ref (na 0)) X hO 0 rfl in_J31 tyJ31 tyJ31_ok nmJ31 rfl 1 (by decide) q1432 (Or.inl rfl) (Or.inl rfl) rfl rfl (Nat.le_of_ble_eq_true rfl) dJ31_init_38 (fun H locs hO => ?_)
    have hO : dz_O G.1 dz_CL A s.heap [[(q, dzo 19 [.null, .ref (na 0), .int 0, .int mc, .ref ll])], [(ll, dzo 15 [.int mc, .int (nI n), va_rf (dz_hd na n), va_rf (dz_lst na n)])]] _ _ := hO
    refine lv_aload_n X.x X.b dJ31_init_41 rfl (lv_at hl 0 rfl) ?_
    refine lv_iload_n X.x X.b dJ31_init_42 rfl (lv_at hl 2 rfl) ?_
    refine dz_put (v := .int 0) X hO 0 rfl in_J31 tyJ31 tyJ31_ok nmJ31 rfl 2 (by decide) q1433 (Or.inl rfl) (Or.inl rfl) rfl rfl (Nat.le_of_ble_eq_true rfl) dJ31_init_43 (fun H locs hO => ?_)
    have hO : dz_O G.1 dz_CL A s.heap [[(q, dzo 19 [.null, .ref (na 0), .int 0, .int mc, .ref ll])], [(ll, dzo 15 [.int mc, .int (nI n), va_rf (dz_hd na n), va_rf (dz_lst na n)])]] _ _ := hO
    have hO := hO.cong 0 rfl (w1 := [(q, dzo 19 [.null, va_rf (dz_cur na n 0), .int 0, .int mc, .ref ll])]) (by rw [dz_cur_in hn0]; rfl)
    have hO : dz_O G.1 dz_CL A s.heap [[(q, dzo 19 [.null, va_rf (dz_cur na n 0), .int 0, .int mc, .ref ll])], [(ll, dzo 15 [.int mc, .int (nI n), va_rf (dz_hd na n), va_rf (dz_lst na n)])]] _ _ := hO
    exact dz_vret X hO rfl (⟨rfl, rfl⟩) (Nat.le_of_ble_eq_true rfl) (Nat.le_of_ble_eq_true rfl) dJ31_init_46
  · have nc_1 : 0 = n := (nI_eq (a := 0) (b := n) (by omega) (by omega)).mp c_1
    have hn0 : n = 0 := ((nI_eq (a := 0) (b := n) (by omega) (by omega)).mp c_1).symm
    refine lv_null X.x X.b dJ31_init_29 ?_
    refine lv_goto (tgt := 38) X.x X.b dJ31_init_30 (by decide) ?_
    refine dz_put (v := .null) X hO 0 rfl in_J31 tyJ31 tyJ31_ok nmJ31 rfl 1 (by decide) q1432 (Or.inl rfl) (Or.inl rfl) rfl rfl (Nat.le_of_ble_eq_true rfl) dJ31_init_38 (fun H locs hO => ?_)
    have hO : dz_O G.1 dz_CL A s.heap [[(q, dzo 19 [.null, .null, .int 0, .int mc, .ref ll])], [(ll, dzo 15 [.int mc, .int (nI n), va_rf (dz_hd na n), va_rf (dz_lst na n)])]] _ _ := hO
    refine lv_aload_n X.x X.b dJ31_init_41 rfl (lv_at hl 0 rfl) ?_
    refine lv_iload_n X.x X.b dJ31_init_42 rfl (lv_at hl 2 rfl) ?_
    refine dz_put (v := .int 0) X hO 0 rfl in_J31 tyJ31 tyJ31_ok nmJ31 rfl 2 (by decide) q1433 (Or.inl rfl) (Or.inl rfl) rfl rfl (Nat.le_of_ble_eq_true rfl) dJ31_init_43 (fun H locs hO => ?_)
    have hO : dz_O G.1 dz_CL A s.heap [[(q, dzo 19 [.null, .null, .int 0, .int mc, .ref ll])], [(ll, dzo 15 [.int mc, .int (nI n), va_rf (dz_hd na n), va_rf (dz_lst na n)])]] _ _ := hO
    have hO := hO.cong 0 rfl (w1 := [(q, dzo 19 [.null, va_rf (dz_cur na n 0), .int 0, .int mc, .ref ll])]) (by rw [dz_cur_out (show ¬ 0 < n by omega)]; rfl)
    have hO : dz_O G.1 dz_CL A s.heap [[(q, dzo 19 [.null, va_rf (dz_cur na n 0), .int 0, .int mc, .ref ll])], [(ll, dzo 15 [.int mc, .int (nI n), va_rf (dz_hd na n), va_rf (dz_lst na n)])]] _ _ := hO
    exact dz_vret X hO rfl (⟨rfl, rfl⟩) (Nat.le_of_ble_eq_true rfl) (Nat.le_of_ble_eq_true rfl) dJ31_init_46
set_option maxHeartbeats 4000000 in
set_option maxRecDepth 100000 in
/-- an iterator of a linked list -/
theorem dz_J19_listIterator (l : Launch) (G : dz_G) (sz : Nat) (ll : Nat) (mc : Int32) (n : Nat) (na : Nat → Nat) (hn2 : n ≤ 8) : dz_M l G yJ19_listIterator cJ19_listIterator 2 (some (FieldType.object "java/util/ListIterator")) ({ frames := 60, cells := 1, slots := 5, locals := 900 } : Room) [.ref ll, .int 0] [[(ll, dzo 15 [.int mc, .int (nI n), va_rf (dz_hd na n), va_rf (dz_lst na n)])]] sz (fun r w1 => ∃ (q : Nat), r = some (.ref q) ∧ w1 = [[(q, dzo 19 [.null, va_rf (dz_cur na n 0), .int 0, .int mc, .ref ll])], [(ll, dzo 15 [.int mc, .int (nI n), va_rf (dz_hd na n), va_rf (dz_lst na n)])]]) (dz_np) := by
  refine dz_start (by decide) (Nat.le_of_ble_eq_true rfl) ?_
  intro p e s m below meth c A ls X hO hsz hl
  have hl : lv_has ls 2 [(0, .ref ll), (1, .int 0)] := hl
  refine lv_aload_n X.x X.b dJ19_listIterator_0 rfl (lv_at hl 0 rfl) ?_
  refine lv_iload_n X.x X.b dJ19_listIterator_1 rfl (lv_at hl 1 rfl) ?_
  refine dz_V (n := 1) (k9 := 0) (n9 := 0) (As := [.int 0]) (rest := []) (wr := []) X hO hl (dz_J19_checkPositionIndex l G _ ll mc n na (by first | assumption | omega | decide)) (lw_V q1416 q1418 qs18 q70 q1419) (by decide +kernel) ⟨Nat.le_of_ble_eq_true rfl, Nat.le_of_ble_eq_true rfl⟩ ⟨(Nat.le_of_ble_eq_true rfl), (Nat.le_of_ble_eq_true rfl), (Nat.le_of_ble_eq_true rfl), (Nat.le_of_ble_eq_true rfl)⟩ [0] [] rfl rfl rfl (dz_rc X (hO.at1 0 rfl) (r := (RJ19, TJ19, 4)) rfl) rfl rfl (Nat.le_of_ble_eq_true rfl) dJ19_listIterator_2 (fun E w1 q9 ce9 H locs hpx hO hce hv9 hcl9 => hpx.elim) (fun r w1 H locs hpo hO => ?_)
  obtain ⟨rfl, rfl⟩ := hpo
  have hO : dz_O G.1 dz_CL A s.heap [[(ll, dzo 15 [.int mc, .int (nI n), va_rf (dz_hd na n), va_rf (dz_lst na n)])]] _ _ := hO
  refine W.eq (g2 := F0 m 5 ls []) rfl ?_
  refine dz_new X hO 19 in_J31 tyJ31 tyJ31_ok q1424 q1425 q90 rfl [.null, .null, .int 0, .int 0, .null] dz_dfJ31 (Nat.le_of_ble_eq_true rfl) (Nat.le_of_ble_eq_true rfl) dJ19_listIterator_5 (fun q_1 H hO => ?_)
  have hO : dz_O G.1 dz_CL A s.heap [[(ll, dzo 15 [.int mc, .int (nI n), va_rf (dz_hd na n), va_rf (dz_lst na n)])], [(q_1, dzo 19 [.null, .null, .int 0, .int 0, .null])]] _ _ := hO
  refine W.widen (k := 1) (n := 5) (Nat.le_of_ble_eq_true rfl) (Nat.le_of_ble_eq_true rfl) ?_
  refine lv_dup X.x X.b dJ19_listIterator_8 rfl ?_
  refine lv_aload_n X.x X.b dJ19_listIterator_9 rfl (lv_at hl 0 rfl) ?_
  refine lv_iload_n X.x X.b dJ19_listIterator_10 rfl (lv_at hl 1 rfl) ?_
  refine dz_I (ret1 := none) (n := 2) (k9 := 1) (n9 := 5) (As := [.ref ll, .int 0]) (rest := [.ref q_1]) (wr := []) X hO hl (dz_J31_init l G _ q_1 ll mc n na (by first | assumption | omega | decide)) q1428 q90 q1426 q1427 rfl (by decide +kernel) ⟨Nat.le_of_ble_eq_true rfl, Nat.le_of_ble_eq_true rfl⟩ ⟨(Nat.le_of_ble_eq_true rfl), (Nat.le_of_ble_eq_true rfl), (Nat.le_of_ble_eq_true rfl), (Nat.le_of_ble_eq_true rfl)⟩ [1, 0] [] rfl rfl rfl rfl rfl (Nat.le_of_ble_eq_true rfl) dJ19_listIterator_11 (fun E w1 q9 ce9 H locs hpx hO hce hv9 hcl9 => hpx.elim) (fun r w1 H locs hpo hO => ?_)
  obtain ⟨rfl, rfl⟩ := hpo
  have hO : dz_O G.1 dz_CL A s.heap [[(q_1, dzo 19 [.null, va_rf (dz_cur na n 0), .int 0, .int mc, .ref ll])], [(ll, dzo 15 [.int mc, .int (nI n), va_rf (dz_hd na n), va_rf (dz_lst na n)])]] _ _ := hO
  refine W.eq (g2 := F0 m 14 ls [.ref q_1]) rfl ?_
  exact dz_aret X hO rfl (Or.inl ⟨_, rfl⟩) (Or.inr ⟨_, rfl⟩) (⟨q_1, rfl, rfl⟩) (Nat.le_of_ble_eq_true rfl) (Nat.le_of_ble_eq_true rfl) dJ19_listIterator_14
set_option maxHeartbeats 4000000 in
set_option maxRecDepth 100000 in
/-- an iterator of a linked list -/
theorem dz_J2_listIterator (l : Launch) (G : dz_G) (sz : Nat) (ll : Nat) (mc : Int32) (n : Nat) (na : Nat → Nat) (hn2 : n ≤ 8) : dz_M l G yJ2_listIterator cJ2_listIterator 1 (some (FieldType.object "java/util/ListIterator")) ({ frames := 80, cells := 1, slots := 5, locals := 1200 } : Room) [.ref ll] [[(ll, dzo 15 [.int mc, .int (nI n), va_rf (dz_hd na n), va_rf (dz_lst na n)])]] sz (fun r w1 => ∃ (q : Nat), r = some (.ref q) ∧ w1 = [[(q, dzo 19 [.null, va_rf (dz_cur na n 0), .int 0, .int mc, .ref ll])], [(ll, dzo 15 [.int mc, .int (nI n), va_rf (dz_hd na n), va_rf (dz_lst na n)])]]) (dz_np) := by
  refine dz_start (by decide) (Nat.le_of_ble_eq_true rfl) ?_
  intro p e s m below meth c A ls X hO hsz hl
  have hl : lv_has ls 1 [(0, .ref ll)] := hl
  refine lv_aload_n X.x X.b dJ2_listIterator_0 rfl (lv_at hl 0 rfl) ?_
  refine lv_iconst (v := 0) X.x X.b dJ2_listIterator_1 (by decide) ?_
  refine dz_U (n := 1) (C := "java/util/LinkedList") (owner := "java/util/AbstractList") (x := dz_m "java/util/AbstractList" "listIterator" "(I)Ljava/util/ListIterator;") (k9 := 1) (n9 := 5) (As := [.int 0]) (rest := []) (wr := []) X hO hl (dz_J19_listIterator l G _ ll mc n na (by first | assumption | omega | decide)) (va_cwA 1 X.ts (dz_U4 q1380 q1382 q1413 q1414 q70 q1415) rfl rfl rfl (X.nw q1447 rfl) (by decide +kernel) ⟨Nat.le_of_ble_eq_true rfl, Nat.le_of_ble_eq_true rfl⟩) ⟨(Nat.le_of_ble_eq_true rfl), (Nat.le_of_ble_eq_true rfl), (Nat.le_of_ble_eq_true rfl), (Nat.le_of_ble_eq_true rfl)⟩ [0] [] rfl rfl rfl (dz_rc X (hO.at1 0 rfl) (r := (RJ19, TJ19, 4)) rfl) rfl rfl (Nat.le_of_ble_eq_true rfl) dJ2_listIterator_2 (fun E w1 q9 ce9 H locs hpx hO hce hv9 hcl9 => hpx.elim) (fun r w1 H locs hpo hO => ?_)
  obtain ⟨q_1, rfl, rfl⟩ := hpo
  have hO : dz_O G.1 dz_CL A s.heap [[(q_1, dzo 19 [.null, va_rf (dz_cur na n 0), .int 0, .int mc, .ref ll])], [(ll, dzo 15 [.int mc, .int (nI n), va_rf (dz_hd na n), va_rf (dz_lst na n)])]] _ _ := hO
  refine W.eq (g2 := F0 m 5 ls [.ref q_1]) rfl ?_
  exact dz_aret X hO rfl (Or.inl ⟨_, rfl⟩) (Or.inr ⟨_, rfl⟩) (⟨q_1, rfl, rfl⟩) (Nat.le_of_ble_eq_true rfl) (Nat.le_of_ble_eq_true rfl) dJ2_listIterator_5
set_option maxHeartbeats 4000000 in
set_option maxRecDepth 100000 in
/-- an iterator of a linked list -/
theorem dz_J18_iterator (l : Launch) (G : dz_G) (sz : Nat) (ll : Nat) (mc : Int32) (n : Nat) (na : Nat → Nat) (hn2 : n ≤ 8) : dz_M l G yJ18_iterator cJ18_iterator 1 (some (FieldType.object "java/util/Iterator")) ({ frames := 100, cells := 1, slots := 5, locals := 1500 } : Room) [.ref ll] [[(ll, dzo 15 [.int mc, .int (nI n), va_rf (dz_hd na n), va_rf (dz_lst na n)])]] sz (fun r w1 => ∃ (q : Nat), r = some (.ref q) ∧ w1 = [[(q, dzo 19 [.null, va_rf (dz_cur na n 0), .int 0, .int mc, .ref ll])], [(ll, dzo 15 [.int mc, .int (nI n), va_rf (dz_hd na n), va_rf (dz_lst na n)])]]) (dz_np) := by
  refine dz_start (by decide) (Nat.le_of_ble_eq_true rfl) ?_
  intro p e s m below meth c A ls X hO hsz hl
  have hl : lv_has ls 1 [(0, .ref ll)] := hl
  refine lv_aload_n X.x X.b dJ18_iterator_0 rfl (lv_at hl 0 rfl) ?_
  refine dz_U (n := 0) (C := "java/util/LinkedList") (owner := "java/util/AbstractList") (x := dz_m "java/util/AbstractSequentialList" "listIterator" "()Ljava/util/ListIterator;") (k9 := 1) (n9 := 5) (As := []) (rest := []) (wr := []) X hO hl (dz_J2_listIterator l G _ ll mc n na (by first | assumption | omega | decide)) (va_cwU 0 X.ts (dz_U4 q1374 q1375 q1377 q1378 q51 q1379) rfl rfl rfl rfl (by decide +kernel) ⟨Nat.le_of_ble_eq_true rfl, Nat.le_of_ble_eq_true rfl⟩) ⟨(Nat.le_of_ble_eq_true rfl), (Nat.le_of_ble_eq_true rfl), (Nat.le_of_ble_eq_true rfl), (Nat.le_of_ble_eq_true rfl)⟩ [0] [] rfl rfl rfl (dz_rc X (hO.at1 0 rfl) (r := (RJ19, TJ19, 4)) rfl) rfl rfl (Nat.le_of_ble_eq_true rfl) dJ18_iterator_1 (fun E w1 q9 ce9 H locs hpx hO hce hv9 hcl9 => hpx.elim) (fun r w1 H locs hpo hO => ?_)
  obtain ⟨q_1, rfl, rfl⟩ := hpo
  have hO : dz_O G.1 dz_CL A s.heap [[(q_1, dzo 19 [.null, va_rf (dz_cur na n 0), .int 0, .int mc, .ref ll])], [(ll, dzo 15 [.int mc, .int (nI n), va_rf (dz_hd na n), va_rf (dz_lst na n)])]] _ _ := hO
  refine W.eq (g2 := F0 m 4 ls [.ref q_1]) rfl ?_
  exact dz_aret X hO rfl (Or.inl ⟨_, rfl⟩) (Or.inr ⟨_, rfl⟩) (⟨q_1, rfl, rfl⟩) (Nat.le_of_ble_eq_true rfl) (Nat.le_of_ble_eq_true rfl) dJ18_iterator_4
set_option maxHeartbeats 4000000 in
set_option maxRecDepth 100000 in
/-- hasNext -/
theorem dz_J31_hasNext (l : Launch) (G : dz_G) (sz : Nat) (q : Nat) (lr : Option Nat) (nx : Option Nat) (k : Nat) (ll : Nat) (mc : Int32) (n : Nat) (na : Nat → Nat) (hk : k ≤ 9) (hn2 : n ≤ 9) : dz_M l G yJ31_hasNext cJ31_hasNext 1 (some FieldType.boolean) ({ frames := 20, cells := 0, slots := 0, locals := 300 } : Room) [.ref q] [[(q, dzo 19 [va_rf lr, va_rf nx, .int (nI k), .int mc, .ref ll])], [(ll, dzo 15 [.int mc, .int (nI n), va_rf (dz_hd na n), va_rf (dz_lst na n)])]] sz (fun r w1 => r = some (.int (dz_lt k n)) ∧ w1 = [[(q, dzo 19 [va_rf lr, va_rf nx, .int (nI k), .int mc, .ref ll])], [(ll, dzo 15 [.int mc, .int (nI n), va_rf (dz_hd na n), va_rf (dz_lst na n)])]]) (dz_np) := by
  refine dz_start (by decide) (Nat.le_of_ble_eq_true rfl) ?_
  intro p e s m below meth c A ls X hO hsz hl
  have hl : lv_has ls 1 [(0, .ref q)] := hl
  refine lv_aload_n X.x X.b dJ31_hasNext_0 rfl (lv_at hl 0 rfl) ?_
  refine dz_get (v := .int (nI k)) X (hO.at1 0 rfl) in_J31 rfl 2 (by decide) q1433 (Or.inl rfl) rfl dJ31_hasNext_1 ?_
  refine lv_aload_n X.x X.b dJ31_hasNext_4 rfl (lv_at hl 0 rfl) ?_
  refine dz_get (v := .ref ll) X (hO.at1 0 rfl) in_J31 rfl 4 (by decide) q1435 (Or.inl rfl) rfl dJ31_hasNext_5 ?_
  refine dz_get (v := .int (nI n)) X (hO.at1 1 rfl) in_J19 rfl 1 (by decide) q505 (Or.inl rfl) rfl dJ31_hasNext_8 ?_
  refine lv_icmp_ge (tgt := 18) X.x X.b dJ31_hasNext_11 (by decide) (fun c_1 => ?_) (fun c_1 => ?_)
  · have nc_1 : n ≤ k := (nI_leI (a := n) (b := k) (by omega) (by omega)).mp c_1
    refine lv_iconst (v := 0) X.x X.b dJ31_hasNext_18 (by decide) ?_
    exact dz_zret X hO rfl (rfl) (⟨by unfold dz_lt; first | (rw [if_pos (by omega)]; done) | (rw [if_neg (by omega)]; done), rfl⟩) (Nat.le_of_ble_eq_true rfl) (Nat.le_of_ble_eq_true rfl) dJ31_hasNext_19
  · have nc_1 : ¬ n ≤ k := fun z9 => c_1 ((nI_leI (a := n) (b := k) (by omega) (by omega)).mpr z9)
    refine lv_iconst (v := 1) X.x X.b dJ31_hasNext_14 (by decide) ?_
    refine lv_goto (tgt := 19) X.x X.b dJ31_hasNext_15 (by decide) ?_
    exact dz_zret X hO rfl (rfl) (⟨by unfold dz_lt; first | (rw [if_pos (by omega)]; done) | (rw [if_neg (by omega)]; done), rfl⟩) (Nat.le_of_ble_eq_true rfl) (Nat.le_of_ble_eq_true rfl) dJ31_hasNext_19
set_option maxHeartbeats 4000000 in
set_option maxRecDepth 100000 in
/-- nothing has changed the list -/
theorem dz_J31_checkForComodification (l : Launch) (G : dz_G) (sz : Nat) (q : Nat) (lr : Option Nat) (nx : Option Nat) (k : Nat) (ll : Nat) (mc : Int32) (n : Nat) (na : Nat → Nat)  : dz_M l G yJ31_checkForComodification cJ31_checkForComodification 1 none ({ frames := 20, cells := 0, slots := 0, locals := 300 } : Room) [.ref q] [[(q, dzo 19 [va_rf lr, va_rf nx, .int (nI k), .int mc, .ref ll])], [(ll, dzo 15 [.int mc, .int (nI n), va_rf (dz_hd na n), va_rf (dz_lst na n)])]] sz (fun r w1 => r = none ∧ w1 = [[(q, dzo 19 [va_rf lr, va_rf nx, .int (nI k), .int mc, .ref ll])], [(ll, dzo 15 [.int mc, .int (nI n), va_rf (dz_hd na n), va_rf (dz_lst na n)])]]) (dz_np) := by
  refine dz_start (by decide) (Nat.le_of_ble_eq_true rfl) ?_
  intro p e s m below meth c A ls X hO hsz hl
  have hl : lv_has ls 1 [(0, .ref q)] := hl
  refine lv_aload_n X.x X.b dJ31_checkForComodification_0 rfl (lv_at hl 0 rfl) ?_
  refine dz_get (v := .ref ll) X (hO.at1 0 rfl) in_J31 rfl 4 (by decide) q1435 (Or.inl rfl) rfl dJ31_checkForComodification_1 ?_
  refine dz_get (v := .int mc) X (hO.at1 1 rfl) in_J19 rfl 0 (by decide) q480 (Or.inr q481) rfl dJ31_checkForComodification_4 ?_
  refine lv_aload_n X.x X.b dJ31_checkForComodification_7 rfl (lv_at hl 0 rfl) ?_
  refine dz_get (v := .int mc) X (hO.at1 0 rfl) in_J31 rfl 3 (by decide) q1434 (Or.inl rfl) rfl dJ31_checkForComodification_8 ?_
  refine lv_icmp_eq (tgt := 22) X.x X.b dJ31_checkForComodification_11 (by decide) (fun _ => ?_) (fun c_1 => absurd (rfl) c_1)
  exact dz_vret X hO rfl (⟨rfl, rfl⟩) (Nat.le_of_ble_eq_true rfl) (Nat.le_of_ble_eq_true rfl) dJ31_checkForComodification_22
set_option maxHeartbeats 4000000 in
set_option maxRecDepth 100000 in
/-- next -/
theorem dz_J31_next (l : Launch) (G : dz_G) (sz : Nat) (q : Nat) (lr : Option Nat) (k : Nat) (ll : Nat) (mc : Int32) (n : Nat) (na : Nat → Nat) (it : Nat → Option Nat) (hk : k < n) (hn2 : n ≤ 8) : dz_M l G yJ31_next cJ31_next 1 (some (FieldType.object "java/lang/Object")) ({ frames := 40, cells := 0, slots := 0, locals := 600 } : Room) [.ref q] [[(q, dzo 19 [va_rf lr, va_rf (dz_cur na n k), .int (nI k), .int mc, .ref ll])], [(ll, dzo 15 [.int mc, .int (nI n), va_rf (dz_hd na n), va_rf (dz_lst na n)])], dz_no G n na it (dz_nxt na n) (dz_prv na)] sz (fun r w1 => r = some (va_rf (it k)) ∧ w1 = [[(q, dzo 19 [.ref (na k), va_rf (dz_cur na n (k + 1)), .int (nI (k + 1)), .int mc, .ref ll])], [(ll, dzo 15 [.int mc, .int (nI n), va_rf (dz_hd na n), va_rf (dz_lst na n)])], dz_no G n na it (dz_nxt na n) (dz_prv na)]) (dz_np) := by
  refine dz_start (by decide) (Nat.le_of_ble_eq_true rfl) ?_
  intro p e s m below meth c A ls X hO hsz hl
  have hl : lv_has ls 1 [(0, .ref q)] := hl
  refine lv_aload_n X.x X.b dJ31_next_0 rfl (lv_at hl 0 rfl) ?_
  refine dz_V (n := 0) (k9 := 0) (n9 := 0) (As := []) (rest := []) (wr := [dz_no G n na it (dz_nxt na n) (dz_prv na)]) X hO hl (dz_J31_checkForComodification l G _ q lr (dz_cur na n k) k ll mc n na ) (lw_V q958 q959 q960 q90 q961) (by decide +kernel) ⟨Nat.le_of_ble_eq_true rfl, Nat.le_of_ble_eq_true rfl⟩ ⟨(Nat.le_of_ble_eq_true rfl), (Nat.le_of_ble_eq_true rfl), (Nat.le_of_ble_eq_true rfl), (Nat.le_of_ble_eq_true rfl)⟩ [0, 1] [2] rfl rfl rfl (dz_rc X (hO.at1 0 rfl) (r := (RJ31, TJ31, 5)) rfl) rfl rfl (Nat.le_of_ble_eq_true rfl) dJ31_next_1 (fun E w1 q9 ce9 H locs hpx hO hce hv9 hcl9 => hpx.elim) (fun r w1 H locs hpo hO => ?_)
  obtain ⟨rfl, rfl⟩ := hpo
  have hO : dz_O G.1 dz_CL A s.heap [dz_no G n na it (dz_nxt na n) (dz_prv na), [(q, dzo 19 [va_rf lr, va_rf (dz_cur na n k), .int (nI k), .int mc, .ref ll])], [(ll, dzo 15 [.int mc, .int (nI n), va_rf (dz_hd na n), va_rf (dz_lst na n)])]] _ _ := hO
  refine W.eq (g2 := F0 m 4 ls []) rfl ?_
  refine lv_aload_n X.x X.b dJ31_next_4 rfl (lv_at hl 0 rfl) ?_
  refine dz_V (n := 0) (k9 := 0) (n9 := 0) (As := []) (rest := []) (wr := [dz_no G n na it (dz_nxt na n) (dz_prv na)]) X hO hl (dz_J31_hasNext l G _ q lr (dz_cur na n k) k ll mc n na (by first | assumption | omega | decide) (by first | assumption | omega | decide)) (lw_V q962 q706 q2544 q90 q708) (by decide +kernel) ⟨Nat.le_of_ble_eq_true rfl, Nat.le_of_ble_eq_true rfl⟩ ⟨(Nat.le_of_ble_eq_true rfl), (Nat.le_of_ble_eq_true rfl), (Nat.le_of_ble_eq_true rfl), (Nat.le_of_ble_eq_true rfl)⟩ [1, 2] [0] rfl rfl rfl (dz_rc X (hO.at1 1 rfl) (r := (RJ31, TJ31, 5)) rfl) rfl rfl (Nat.le_of_ble_eq_true rfl) dJ31_next_5 (fun E w1 q9 ce9 H locs hpx hO hce hv9 hcl9 => hpx.elim) (fun r w1 H locs hpo hO => ?_)
  obtain ⟨rfl, rfl⟩ := hpo
  have hO : dz_O G.1 dz_CL A s.heap [dz_no G n na it (dz_nxt na n) (dz_prv na), [(q, dzo 19 [va_rf lr, va_rf (dz_cur na n k), .int (nI k), .int mc, .ref ll])], [(ll, dzo 15 [.int mc, .int (nI n), va_rf (dz_hd na n), va_rf (dz_lst na n)])]] _ _ := hO
  refine W.eq (g2 := F0 m 8 ls [.int (dz_lt k n)]) rfl ?_
  refine lv_if_ne (tgt := 19) X.x X.b dJ31_next_8 (by decide) (fun _ => ?_) (fun c_1 => absurd c_1 (by unfold dz_lt; rw [if_pos hk]; decide))
  have hO := hO.cong 1 rfl (w1 := [(q, dzo 19 [va_rf lr, .ref (na k), .int (nI k), .int mc, .ref ll])]) (by rw [dz_cur_in hk]; rfl)
  have hO : dz_O G.1 dz_CL A s.heap [dz_no G n na it (dz_nxt na n) (dz_prv na), [(q, dzo 19 [va_rf lr, .ref (na k), .int (nI k), .int mc, .ref ll])], [(ll, dzo 15 [.int mc, .int (nI n), va_rf (dz_hd na n), va_rf (dz_lst na n)])]] _ _ := hO
  refine lv_aload_n X.x X.b dJ31_next_19 rfl (lv_at hl 0 rfl) ?_
  refine lv_aload_n X.x X.b dJ31_next_20 rfl (lv_at hl 0 rfl) ?_
  refine dz_get (v := .ref (na k)) X (hO.at1 1 rfl) in_J31 rfl 1 (by decide) q1432 (Or.inl rfl) rfl dJ31_next_21 ?_
  refine dz_put (v := .ref (na k)) X hO 1 rfl in_J31 tyJ31 tyJ31_ok nmJ31 rfl 0 (by decide) q1431 (Or.inl rfl) (Or.inl rfl) rfl rfl (Nat.le_of_ble_eq_true rfl) dJ31_next_24 (fun H locs hO => ?_)
  have hO : dz_O G.1 dz_CL A s.heap [dz_no G n na it (dz_nxt na n) (dz_prv na), [(q, dzo 19 [.ref (na k), .ref (na k), .int (nI k), .int mc, .ref ll])], [(ll, dzo 15 [.int mc, .int (nI n), va_rf (dz_hd na n), va_rf (dz_lst na n)])]] _ _ := hO
  refine lv_aload_n X.x X.b dJ31_next_27 rfl (lv_at hl 0 rfl) ?_
  refine lv_aload_n X.x X.b dJ31_next_28 rfl (lv_at hl 0 rfl) ?_
  refine dz_get (v := .ref (na k)) X (hO.at1 1 rfl) in_J31 rfl 1 (by decide) q1432 (Or.inl rfl) rfl dJ31_next_29 ?_
  refine dz_get (v := va_rf (dz_nxt na n k)) X (hO.pn 0 rfl hk) in_J35 rfl 1 (by decide) q1651 (Or.inl rfl) rfl dJ31_next_32 ?_
  refine dz_put (v := va_rf (dz_nxt na n k)) X hO 1 rfl in_J31 tyJ31 tyJ31_ok nmJ31 rfl 1 (by decide) q1432 (Or.inl rfl) (Or.inl rfl) (by cases (dz_nxt na n k) <;> rfl) (by cases (dz_nxt na n k) <;> rfl) (Nat.le_of_ble_eq_true rfl) dJ31_next_35 (fun H locs hO => ?_)
  have hO : dz_O G.1 dz_CL A s.heap [dz_no G n na it (dz_nxt na n) (dz_prv na), [(q, dzo 19 [.ref (na k), va_rf (dz_nxt na n k), .int (nI k), .int mc, .ref ll])], [(ll, dzo 15 [.int mc, .int (nI n), va_rf (dz_hd na n), va_rf (dz_lst na n)])]] _ _ := hO
  refine lv_aload_n X.x X.b dJ31_next_38 rfl (lv_at hl 0 rfl) ?_
  refine lv_dup X.x X.b dJ31_next_39 rfl ?_
  refine dz_get (v := .int (nI k)) X (hO.at1 1 rfl) in_J31 rfl 2 (by decide) q1433 (Or.inl rfl) rfl dJ31_next_40 ?_
  refine lv_iconst (v := 1) X.x X.b dJ31_next_43 (by decide) ?_
  refine lv_iadd X.x X.b dJ31_next_44 ?_
  refine dz_rei (y := nI (k + 1)) (nI_add k 1) ?_
  refine dz_put (v := .int (nI (k + 1))) X hO 1 rfl in_J31 tyJ31 tyJ31_ok nmJ31 rfl 2 (by decide) q1433 (Or.inl rfl) (Or.inl rfl) rfl rfl (Nat.le_of_ble_eq_true rfl) dJ31_next_45 (fun H locs hO => ?_)
  have hO : dz_O G.1 dz_CL A s.heap [dz_no G n na it (dz_nxt na n) (dz_prv na), [(q, dzo 19 [.ref (na k), va_rf (dz_nxt na n k), .int (nI (k + 1)), .int mc, .ref ll])], [(ll, dzo 15 [.int mc, .int (nI n), va_rf (dz_hd na n), va_rf (dz_lst na n)])]] _ _ := hO
  refine lv_aload_n X.x X.b dJ31_next_48 rfl (lv_at hl 0 rfl) ?_
  refine dz_get (v := .ref (na k)) X (hO.at1 1 rfl) in_J31 rfl 0 (by decide) q1431 (Or.inl rfl) rfl dJ31_next_49 ?_
  refine dz_get (v := va_rf (it k)) X (hO.pn 0 rfl hk) in_J35 rfl 0 (by decide) q1648 (Or.inl rfl) rfl dJ31_next_52 ?_
  have hO := hO.sel (v := [[(q, dzo 19 [.ref (na k), va_rf (dz_nxt na n k), .int (nI (k + 1)), .int mc, .ref ll])], [(ll, dzo 15 [.int mc, .int (nI n), va_rf (dz_hd na n), va_rf (dz_lst na n)])], dz_no G n na it (dz_nxt na n) (dz_prv na)]) [1, 2, 0] rfl rfl
  exact dz_aret X hO rfl (Or.inl ⟨_, rfl⟩) (va_rf_or _) (⟨rfl, rfl⟩) (Nat.le_of_ble_eq_true rfl) (Nat.le_of_ble_eq_true rfl) dJ31_next_55
set_option maxHeartbeats 4000000 in
set_option maxRecDepth 100000 in
/-- a node is taken out -/
theorem dz_J19_unlink (l : Launch) (G : dz_G) (sz : Nat) (ll : Nat) (mc : Int32) (mm : Nat) (na : Nat → Nat) (it : Nat → Option Nat) (k : Nat) (v : Nat) (hk : k ≤ mm) (hm : mm ≤ 8) (hit : it k = some v) : dz_M l G yJ19_unlink cJ19_unlink 5 (some (FieldType.object "java/lang/Object")) ({ frames := 20, cells := 0, slots := 0, locals := 300 } : Room) [.ref ll, .ref (na k)] [[(ll, dzo 15 [.int mc, .int (nI (mm + 1)), va_rf (dz_hd na (mm + 1)), va_rf (dz_lst na (mm + 1))])], dz_no G (mm + 1) na it (dz_nxt na (mm + 1)) (dz_prv na)] sz (fun r w1 => r = some (.ref v) ∧ w1 = [[(ll, dzo 15 [.int (mc + 1), .int (nI mm), va_rf (dz_hd (dz_del na k) mm), va_rf (dz_lst (dz_del na k) mm)])], dz_no G mm (dz_del na k) (dz_del it k) (dz_nxt (dz_del na k) mm) (dz_prv (dz_del na k))]) (dz_np) := by
  refine dz_start (by decide) (Nat.le_of_ble_eq_true rfl) ?_
  intro p e s m below meth c A ls X hO hsz hl
  have hl : lv_has ls 5 [(0, .ref ll), (1, .ref (na k))] := hl
  rcases (show k = 0 ∨ ∃ j9, k = j9 + 1 by cases k with | zero => exact Or.inl rfl | succ j9 => exact Or.inr ⟨j9, rfl⟩) with hk0 | ⟨j9, hk0⟩
  · subst hk0
    rcases Nat.lt_or_ge (0) mm with hkm | hkm
    · refine lv_aload_n X.x X.b dJ19_unlink_0 rfl (lv_at hl 1 rfl) ?_
      refine dz_get (v := va_rf (it 0)) X (hO.pn 1 rfl (by omega)) in_J35 rfl 0 (by decide) q1649 (Or.inl rfl) rfl dJ19_unlink_1 ?_
      refine dz_rev (w := .ref v) (by rw [hit]; rfl) ?_
      refine lv_astore_n (lv' := [(2, .ref v), (0, .ref ll), (1, .ref (na 0))]) X.x X.b dJ19_unlink_4 rfl hl (by decide) rfl (fun ls hl => ?_)
      refine lv_aload_n X.x X.b dJ19_unlink_5 rfl (lv_at hl 2 rfl) ?_
      refine dz_get (v := va_rf (dz_nxt na (mm + 1) 0)) X (hO.pn 1 rfl (by omega)) in_J35 rfl 1 (by decide) q1652 (Or.inl rfl) rfl dJ19_unlink_6 ?_
      refine dz_rev (w := .ref (na (0 + 1))) (by rw [dz_nxt_in (show 0 + 1 < mm + 1 by omega)]; rfl) ?_
      refine lv_astore_n (lv' := [(3, .ref (na (0 + 1))), (2, .ref v), (0, .ref ll), (1, .ref (na 0))]) X.x X.b dJ19_unlink_9 rfl hl (by decide) rfl (fun ls hl => ?_)
      refine lv_aload_n X.x X.b dJ19_unlink_10 rfl (lv_at hl 3 rfl) ?_
      refine dz_get (v := va_rf (dz_prv na 0)) X (hO.pn 1 rfl (by omega)) in_J35 rfl 2 (by decide) q1655 (Or.inl rfl) rfl dJ19_unlink_11 ?_
      refine dz_rev (w := .null) (rfl) ?_
      refine lv_astoreN (lv' := [(4, .null), (3, .ref (na (0 + 1))), (2, .ref v), (0, .ref ll), (1, .ref (na 0))]) X.x X.b dJ19_unlink_14 hl (by decide) rfl (fun ls hl => ?_)
      refine lv_aloadN X.x X.b dJ19_unlink_16 (lv_at hl 0 rfl) ?_
      refine lv_ifnonnullN X.x X.b dJ19_unlink_18 ?_
      refine lv_aload_n X.x X.b dJ19_unlink_21 rfl (lv_at hl 3 rfl) ?_
      refine lv_aload_n X.x X.b dJ19_unlink_22 rfl (lv_at hl 1 rfl) ?_
      refine dz_put (v := .ref (na (0 + 1))) X hO 0 rfl in_J19 tyJ19 tyJ19_ok nmJ19 rfl 2 (by decide) q506 (Or.inl rfl) (Or.inl rfl) rfl rfl (Nat.le_of_ble_eq_true rfl) dJ19_unlink_23 (fun H locs hO => ?_)
      have hO : dz_O G.1 dz_CL A s.heap [[(ll, dzo 15 [.int mc, .int (nI (mm + 1)), .ref (na (0 + 1)), va_rf (dz_lst na (mm + 1))])], dz_no G (mm + 1) na it (dz_nxt na (mm + 1)) (dz_prv na)] _ _ := hO
      refine lv_goto (tgt := 40) X.x X.b dJ19_unlink_26 (by decide) ?_
      refine lv_aload_n X.x X.b dJ19_unlink_40 rfl (lv_at hl 1 rfl) ?_
      refine lv_ifnonnull (tgt := 53) X.x X.b dJ19_unlink_41 (by decide) ?_
      refine lv_aload_n X.x X.b dJ19_unlink_53 rfl (lv_at hl 1 rfl) ?_
      refine lv_aloadN X.x X.b dJ19_unlink_54 (lv_at hl 0 rfl) ?_
      refine dz_putA (v := .null) X (hO.pn 1 rfl (by omega)) in_J35 tyJ35 tyJ35_ok nmJ35 rfl 2 (by decide) q1655 (Or.inl rfl) (Or.inl rfl) rfl rfl (Nat.le_of_ble_eq_true rfl) dJ19_unlink_56 (fun H1 i9 g9 z9 o9 => ?_)
      have hO := (hO.pnput (k := 1) (i := (0 + 1)) rfl (by omega) (j := i9) g9 z9 o9).cong 1 rfl (w1 := dz_no G (mm + 1) na it (dz_nxt na (mm + 1)) (va_up (dz_prv na) (0 + 1) none)) (dz_pn_cong (fun i9 _ => by by_cases h9 : i9 = (0 + 1) <;> simp [va_up, upd, h9, va_rf]))
      have hO : dz_O G.1 dz_CL A s.heap [[(ll, dzo 15 [.int mc, .int (nI (mm + 1)), .ref (na (0 + 1)), va_rf (dz_lst na (mm + 1))])], dz_no G (mm + 1) na it (dz_nxt na (mm + 1)) (va_up (dz_prv na) (0 + 1) none)] H1 _ := hO
      revert hO
      generalize H1 = H; generalize (_ ++ _ : List Loc) = locs; intro hO
      refine lv_aload_n X.x X.b dJ19_unlink_59 rfl (lv_at hl 4 rfl) ?_
      refine lv_null X.x X.b dJ19_unlink_60 ?_
      refine dz_putA (v := .null) X (hO.pn 1 rfl (by omega)) in_J35 tyJ35 tyJ35_ok nmJ35 rfl 1 (by decide) q1652 (Or.inl rfl) (Or.inl rfl) rfl rfl (Nat.le_of_ble_eq_true rfl) dJ19_unlink_61 (fun H1 i9 g9 z9 o9 => ?_)
      have hO := (hO.pnput (k := 1) (i := 0) rfl (by omega) (j := i9) g9 z9 o9).cong 1 rfl (w1 := dz_no G (mm + 1) na it (va_up (dz_nxt na (mm + 1)) 0 none) (va_up (dz_prv na) (0 + 1) none)) (dz_pn_cong (fun i9 _ => by by_cases h9 : i9 = 0 <;> simp [va_up, upd, h9, va_rf]))
      have hO : dz_O G.1 dz_CL A s.heap [[(ll, dzo 15 [.int mc, .int (nI (mm + 1)), .ref (na (0 + 1)), va_rf (dz_lst na (mm + 1))])], dz_no G (mm + 1) na it (va_up (dz_nxt na (mm + 1)) 0 none) (va_up (dz_prv na) (0 + 1) none)] H1 _ := hO
      revert hO
      generalize H1 = H; generalize (_ ++ _ : List Loc) = locs; intro hO
      refine lv_aload_n X.x X.b dJ19_unlink_64 rfl (lv_at hl 4 rfl) ?_
      refine lv_null X.x X.b dJ19_unlink_65 ?_
      refine dz_putA (v := .null) X (hO.pn 1 rfl (by omega)) in_J35 tyJ35 tyJ35_ok nmJ35 rfl 0 (by decide) q1649 (Or.inl rfl) (Or.inl rfl) rfl rfl (Nat.le_of_ble_eq_true rfl) dJ19_unlink_66 (fun H1 i9 g9 z9 o9 => ?_)
      have hO := (hO.pnput (k := 1) (i := 0) rfl (by omega) (j := i9) g9 z9 o9).cong 1 rfl (w1 := dz_no G (mm + 1) na (va_up it 0 none) (va_up (dz_nxt na (mm + 1)) 0 none) (va_up (dz_prv na) (0 + 1) none)) (dz_pn_cong (fun i9 _ => by by_cases h9 : i9 = 0 <;> simp [va_up, upd, h9, va_rf]))
      have hO : dz_O G.1 dz_CL A s.heap [[(ll, dzo 15 [.int mc, .int (nI (mm + 1)), .ref (na (0 + 1)), va_rf (dz_lst na (mm + 1))])], dz_no G (mm + 1) na (va_up it 0 none) (va_up (dz_nxt na (mm + 1)) 0 none) (va_up (dz_prv na) (0 + 1) none)] H1 _ := hO
      revert hO
      generalize H1 = H; generalize (_ ++ _ : List Loc) = locs; intro hO
      refine lv_aload_n X.x X.b dJ19_unlink_69 rfl (lv_at hl 3 rfl) ?_
      refine lv_dup X.x X.b dJ19_unlink_70 rfl ?_
      refine dz_get (v := .int (nI (mm + 1))) X (hO.at1 0 rfl) in_J19 rfl 1 (by decide) q504 (Or.inl rfl) rfl dJ19_unlink_71 ?_
      refine lv_iconst (v := 1) X.x X.b dJ19_unlink_74 (by decide) ?_
      refine lv_isub X.x X.b dJ19_unlink_75 ?_
      refine dz_rei (y := nI mm) (nI_pred _) ?_
      refine dz_put (v := .int (nI mm)) X hO 0 rfl in_J19 tyJ19 tyJ19_ok nmJ19 rfl 1 (by decide) q504 (Or.inl rfl) (Or.inl rfl) rfl rfl (Nat.le_of_ble_eq_true rfl) dJ19_unlink_76 (fun H locs hO => ?_)
      have hO : dz_O G.1 dz_CL A s.heap [[(ll, dzo 15 [.int mc, .int (nI mm), .ref (na (0 + 1)), va_rf (dz_lst na (mm + 1))])], dz_no G (mm + 1) na (va_up it 0 none) (va_up (dz_nxt na (mm + 1)) 0 none) (va_up (dz_prv na) (0 + 1) none)] _ _ := hO
      refine lv_aload_n X.x X.b dJ19_unlink_79 rfl (lv_at hl 3 rfl) ?_
      refine lv_dup X.x X.b dJ19_unlink_80 rfl ?_
      refine dz_get (v := .int mc) X (hO.at1 0 rfl) in_J19 rfl 0 (by decide) q485 (Or.inr q481) rfl dJ19_unlink_81 ?_
      refine lv_iconst (v := 1) X.x X.b dJ19_unlink_84 (by decide) ?_
      refine lv_iadd X.x X.b dJ19_unlink_85 ?_
      refine dz_put (v := .int (mc + 1)) X hO 0 rfl in_J19 tyJ19 tyJ19_ok nmJ19 rfl 0 (by decide) q485 (Or.inr q481) (Or.inl rfl) rfl rfl (Nat.le_of_ble_eq_true rfl) dJ19_unlink_86 (fun H locs hO => ?_)
      have hO : dz_O G.1 dz_CL A s.heap [[(ll, dzo 15 [.int (mc + 1), .int (nI mm), .ref (na (0 + 1)), va_rf (dz_lst na (mm + 1))])], dz_no G (mm + 1) na (va_up it 0 none) (va_up (dz_nxt na (mm + 1)) 0 none) (va_up (dz_prv na) (0 + 1) none)] _ _ := hO
      refine lv_aload_n X.x X.b dJ19_unlink_89 rfl (lv_at hl 2 rfl) ?_
      have hO := hO.sel (v := [dz_no G (mm + 1) na (va_up it 0 none) (va_up (dz_nxt na (mm + 1)) 0 none) (va_up (dz_prv na) (0 + 1) none), [(ll, dzo 15 [.int (mc + 1), .int (nI mm), .ref (na (0 + 1)), va_rf (dz_lst na (mm + 1))])]]) [1, 0] rfl rfl
      have hO : dz_O G.1 dz_CL A s.heap [dz_no G mm (dz_del na 0) (dz_del it 0) (dz_nxt (dz_del na 0) mm) (dz_prv (dz_del na 0)), [(ll, dzo 15 [.int (mc + 1), .int (nI mm), .ref (na (0 + 1)), va_rf (dz_lst na (mm + 1))])]] _ _ := hO.pdel (j := 0) (by omega) (fun i hi => dz_noE (dz_del_i na 0 i) (dz_del_u it 0 i none) (by simp only [dz_nxt, dz_del, va_up]; grind) (by simp only [dz_prv, dz_del, va_up]; grind))
      have hO := hO.cong 1 rfl (w1 := [(ll, dzo 15 [.int (mc + 1), .int (nI mm), va_rf (dz_hd (dz_del na 0) mm), va_rf (dz_lst (dz_del na 0) mm)])]) (dz_llE (x' := some (na (0 + 1))) (y' := dz_lst na (mm + 1)) (by simp only [dz_hd, dz_del]; grind) (by simp only [dz_lst, dz_del]; grind))
      have hO : dz_O G.1 dz_CL A s.heap [dz_no G mm (dz_del na 0) (dz_del it 0) (dz_nxt (dz_del na 0) mm) (dz_prv (dz_del na 0)), [(ll, dzo 15 [.int (mc + 1), .int (nI mm), va_rf (dz_hd (dz_del na 0) mm), va_rf (dz_lst (dz_del na 0) mm)])]] _ _ := hO
      have hO := hO.sel (v := [[(ll, dzo 15 [.int (mc + 1), .int (nI mm), va_rf (dz_hd (dz_del na 0) mm), va_rf (dz_lst (dz_del na 0) mm)])], dz_no G mm (dz_del na 0) (dz_del it 0) (dz_nxt (dz_del na 0) mm) (dz_prv (dz_del na 0))]) [1, 0] rfl rfl
      exact dz_aret X hO rfl (Or.inl ⟨_, rfl⟩) (Or.inr ⟨_, rfl⟩) (⟨rfl, rfl⟩) (Nat.le_of_ble_eq_true rfl) (Nat.le_of_ble_eq_true rfl) dJ19_unlink_90
    · have hm9 : mm = 0 := by omega
      subst hm9
      refine lv_aload_n X.x X.b dJ19_unlink_0 rfl (lv_at hl 1 rfl) ?_
      refine dz_get (v := va_rf (it 0)) X (hO.pn 1 rfl (by omega)) in_J35 rfl 0 (by decide) q1649 (Or.inl rfl) rfl dJ19_unlink_1 ?_
      refine dz_rev (w := .ref v) (by rw [hit]; rfl) ?_
      refine lv_astore_n (lv' := [(2, .ref v), (0, .ref ll), (1, .ref (na 0))]) X.x X.b dJ19_unlink_4 rfl hl (by decide) rfl (fun ls hl => ?_)
      refine lv_aload_n X.x X.b dJ19_unlink_5 rfl (lv_at hl 2 rfl) ?_
      refine dz_get (v := va_rf (dz_nxt na (0 + 1) 0)) X (hO.pn 1 rfl (by omega)) in_J35 rfl 1 (by decide) q1652 (Or.inl rfl) rfl dJ19_unlink_6 ?_
      refine dz_rev (w := .null) (by rw [dz_nxt_last]; rfl) ?_
      refine lv_astore_nN (lv' := [(3, .null), (2, .ref v), (0, .ref ll), (1, .ref (na 0))]) X.x X.b dJ19_unlink_9 rfl hl (by decide) rfl (fun ls hl => ?_)
      refine lv_aload_n X.x X.b dJ19_unlink_10 rfl (lv_at hl 3 rfl) ?_
      refine dz_get (v := va_rf (dz_prv na 0)) X (hO.pn 1 rfl (by omega)) in_J35 rfl 2 (by decide) q1655 (Or.inl rfl) rfl dJ19_unlink_11 ?_
      refine dz_rev (w := .null) (rfl) ?_
      refine lv_astoreN (lv' := [(4, .null), (3, .null), (2, .ref v), (0, .ref ll), (1, .ref (na 0))]) X.x X.b dJ19_unlink_14 hl (by decide) rfl (fun ls hl => ?_)
      refine lv_aloadN X.x X.b dJ19_unlink_16 (lv_at hl 0 rfl) ?_
      refine lv_ifnonnullN X.x X.b dJ19_unlink_18 ?_
      refine lv_aload_n X.x X.b dJ19_unlink_21 rfl (lv_at hl 3 rfl) ?_
      refine lv_aload_nN X.x X.b dJ19_unlink_22 rfl (lv_at hl 1 rfl) ?_
      refine dz_put (v := .null) X hO 0 rfl in_J19 tyJ19 tyJ19_ok nmJ19 rfl 2 (by decide) q506 (Or.inl rfl) (Or.inl rfl) rfl rfl (Nat.le_of_ble_eq_true rfl) dJ19_unlink_23 (fun H locs hO => ?_)
      have hO : dz_O G.1 dz_CL A s.heap [[(ll, dzo 15 [.int mc, .int (nI (0 + 1)), .null, va_rf (dz_lst na (0 + 1))])], dz_no G (0 + 1) na it (dz_nxt na (0 + 1)) (dz_prv na)] _ _ := hO
      refine lv_goto (tgt := 40) X.x X.b dJ19_unlink_26 (by decide) ?_
      refine lv_aload_nN X.x X.b dJ19_unlink_40 rfl (lv_at hl 1 rfl) ?_
      refine lv_ifnonnullN X.x X.b dJ19_unlink_41 ?_
      refine lv_aload_n X.x X.b dJ19_unlink_44 rfl (lv_at hl 3 rfl) ?_
      refine lv_aloadN X.x X.b dJ19_unlink_45 (lv_at hl 0 rfl) ?_
      refine dz_put (v := .null) X hO 0 rfl in_J19 tyJ19 tyJ19_ok nmJ19 rfl 3 (by decide) q507 (Or.inl rfl) (Or.inl rfl) rfl rfl (Nat.le_of_ble_eq_true rfl) dJ19_unlink_47 (fun H locs hO => ?_)
      have hO : dz_O G.1 dz_CL A s.heap [[(ll, dzo 15 [.int mc, .int (nI (0 + 1)), .null, .null])], dz_no G (0 + 1) na it (dz_nxt na (0 + 1)) (dz_prv na)] _ _ := hO
      refine lv_goto (tgt := 64) X.x X.b dJ19_unlink_50 (by decide) ?_
      refine lv_aload_n X.x X.b dJ19_unlink_64 rfl (lv_at hl 4 rfl) ?_
      refine lv_null X.x X.b dJ19_unlink_65 ?_
      refine dz_putA (v := .null) X (hO.pn 1 rfl (by omega)) in_J35 tyJ35 tyJ35_ok nmJ35 rfl 0 (by decide) q1649 (Or.inl rfl) (Or.inl rfl) rfl rfl (Nat.le_of_ble_eq_true rfl) dJ19_unlink_66 (fun H1 i9 g9 z9 o9 => ?_)
      have hO := (hO.pnput (k := 1) (i := 0) rfl (by omega) (j := i9) g9 z9 o9).cong 1 rfl (w1 := dz_no G (0 + 1) na (va_up it 0 none) (dz_nxt na (0 + 1)) (dz_prv na)) (dz_pn_cong (fun i9 _ => by by_cases h9 : i9 = 0 <;> simp [va_up, upd, h9, va_rf]))
      have hO : dz_O G.1 dz_CL A s.heap [[(ll, dzo 15 [.int mc, .int (nI (0 + 1)), .null, .null])], dz_no G (0 + 1) na (va_up it 0 none) (dz_nxt na (0 + 1)) (dz_prv na)] H1 _ := hO
      revert hO
      generalize H1 = H; generalize (_ ++ _ : List Loc) = locs; intro hO
      refine lv_aload_n X.x X.b dJ19_unlink_69 rfl (lv_at hl 3 rfl) ?_
      refine lv_dup X.x X.b dJ19_unlink_70 rfl ?_
      refine dz_get (v := .int (nI (0 + 1))) X (hO.at1 0 rfl) in_J19 rfl 1 (by decide) q504 (Or.inl rfl) rfl dJ19_unlink_71 ?_
      refine lv_iconst (v := 1) X.x X.b dJ19_unlink_74 (by decide) ?_
      refine lv_isub X.x X.b dJ19_unlink_75 ?_
      refine dz_rei (y := nI 0) (nI_pred _) ?_
      refine dz_put (v := .int (nI 0)) X hO 0 rfl in_J19 tyJ19 tyJ19_ok nmJ19 rfl 1 (by decide) q504 (Or.inl rfl) (Or.inl rfl) rfl rfl (Nat.le_of_ble_eq_true rfl) dJ19_unlink_76 (fun H locs hO => ?_)
      have hO : dz_O G.1 dz_CL A s.heap [[(ll, dzo 15 [.int mc, .int (nI 0), .null, .null])], dz_no G (0 + 1) na (va_up it 0 none) (dz_nxt na (0 + 1)) (dz_prv na)] _ _ := hO
      refine lv_aload_n X.x X.b dJ19_unlink_79 rfl (lv_at hl 3 rfl) ?_
      refine lv_dup X.x X.b dJ19_unlink_80 rfl ?_
      refine dz_get (v := .int mc) X (hO.at1 0 rfl) in_J19 rfl 0 (by decide) q485 (Or.inr q481) rfl dJ19_unlink_81 ?_
      refine lv_iconst (v := 1) X.x X.b dJ19_unlink_84 (by decide) ?_
      refine lv_iadd X.x X.b dJ19_unlink_85 ?_
      refine dz_put (v := .int (mc + 1)) X hO 0 rfl in_J19 tyJ19 tyJ19_ok nmJ19 rfl 0 (by decide) q485 (Or.inr q481) (Or.inl rfl) rfl rfl (Nat.le_of_ble_eq_true rfl) dJ19_unlink_86 (fun H locs hO => ?_)
      have hO : dz_O G.1 dz_CL A s.heap [[(ll, dzo 15 [.int (mc + 1), .int (nI 0), .null, .null])], dz_no G (0 + 1) na (va_up it 0 none) (dz_nxt na (0 + 1)) (dz_prv na)] _ _ := hO
      refine lv_aload_n X.x X.b dJ19_unlink_89 rfl (lv_at hl 2 rfl) ?_
      have hO := hO.sel (v := [dz_no G (0 + 1) na (va_up it 0 none) (dz_nxt na (0 + 1)) (dz_prv na), [(ll, dzo 15 [.int (mc + 1), .int (nI 0), .null, .null])]]) [1, 0] rfl rfl
      have hO : dz_O G.1 dz_CL A s.heap [dz_no G 0 (dz_del na 0) (dz_del it 0) (dz_nxt (dz_del na 0) 0) (dz_prv (dz_del na 0)), [(ll, dzo 15 [.int (mc + 1), .int (nI 0), .null, .null])]] _ _ := hO.pdel (j := 0) (by omega) (fun i hi => dz_noE (dz_del_i na 0 i) (dz_del_u it 0 i none) (by simp only [dz_nxt, dz_del, va_up]; grind) (by simp only [dz_prv, dz_del, va_up]; grind))
      have hO := hO.cong 1 rfl (w1 := [(ll, dzo 15 [.int (mc + 1), .int (nI 0), va_rf (dz_hd (dz_del na 0) 0), va_rf (dz_lst (dz_del na 0) 0)])]) (dz_llE (x' := none) (y' := none) (by simp only [dz_hd, dz_del]; grind) (by simp only [dz_lst, dz_del]; grind))
      have hO : dz_O G.1 dz_CL A s.heap [dz_no G 0 (dz_del na 0) (dz_del it 0) (dz_nxt (dz_del na 0) 0) (dz_prv (dz_del na 0)), [(ll, dzo 15 [.int (mc + 1), .int (nI 0), va_rf (dz_hd (dz_del na 0) 0), va_rf (dz_lst (dz_del na 0) 0)])]] _ _ := hO
      have hO := hO.sel (v := [[(ll, dzo 15 [.int (mc + 1), .int (nI 0), va_rf (dz_hd (dz_del na 0) 0), va_rf (dz_lst (dz_del na 0) 0)])], dz_no G 0 (dz_del na 0) (dz_del it 0) (dz_nxt (dz_del na 0) 0) (dz_prv (dz_del na 0))]) [1, 0] rfl rfl
      exact dz_aret X hO rfl (Or.inl ⟨_, rfl⟩) (Or.inr ⟨_, rfl⟩) (⟨rfl, rfl⟩) (Nat.le_of_ble_eq_true rfl) (Nat.le_of_ble_eq_true rfl) dJ19_unlink_90
  · subst hk0
    rcases Nat.lt_or_ge (j9 + 1) mm with hkm | hkm
    · refine lv_aload_n X.x X.b dJ19_unlink_0 rfl (lv_at hl 1 rfl) ?_
      refine dz_get (v := va_rf (it (j9 + 1))) X (hO.pn 1 rfl (by omega)) in_J35 rfl 0 (by decide) q1649 (Or.inl rfl) rfl dJ19_unlink_1 ?_
      refine dz_rev (w := .ref v) (by rw [hit]; rfl) ?_
      refine lv_astore_n (lv' := [(2, .ref v), (0, .ref ll), (1, .ref (na (j9 + 1)))]) X.x X.b dJ19_unlink_4 rfl hl (by decide) rfl (fun ls hl => ?_)
      refine lv_aload_n X.x X.b dJ19_unlink_5 rfl (lv_at hl 2 rfl) ?_
      refine dz_get (v := va_rf (dz_nxt na (mm + 1) (j9 + 1))) X (hO.pn 1 rfl (by omega)) in_J35 rfl 1 (by decide) q1652 (Or.inl rfl) rfl dJ19_unlink_6 ?_
      refine dz_rev (w := .ref (na (j9 + 1 + 1))) (by rw [dz_nxt_in (show j9 + 1 + 1 < mm + 1 by omega)]; rfl) ?_
      refine lv_astore_n (lv' := [(3, .ref (na (j9 + 1 + 1))), (2, .ref v), (0, .ref ll), (1, .ref (na (j9 + 1)))]) X.x X.b dJ19_unlink_9 rfl hl (by decide) rfl (fun ls hl => ?_)
      refine lv_aload_n X.x X.b dJ19_unlink_10 rfl (lv_at hl 3 rfl) ?_
      refine dz_get (v := va_rf (dz_prv na (j9 + 1))) X (hO.pn 1 rfl (by omega)) in_J35 rfl 2 (by decide) q1655 (Or.inl rfl) rfl dJ19_unlink_11 ?_
      refine dz_rev (w := .ref (na j9)) (rfl) ?_
      refine lv_astore (lv' := [(4, .ref (na j9)), (3, .ref (na (j9 + 1 + 1))), (2, .ref v), (0, .ref ll), (1, .ref (na (j9 + 1)))]) X.x X.b dJ19_unlink_14 hl (by decide) rfl (fun ls hl => ?_)
      refine lv_aload X.x X.b dJ19_unlink_16 (lv_at hl 0 rfl) ?_
      refine lv_ifnonnull (tgt := 29) X.x X.b dJ19_unlink_18 (by decide) ?_
      refine lv_aload X.x X.b dJ19_unlink_29 (lv_at hl 0 rfl) ?_
      refine lv_aload_n X.x X.b dJ19_unlink_31 rfl (lv_at hl 1 rfl) ?_
      refine dz_putA (v := .ref (na (j9 + 1 + 1))) X (hO.pn 1 rfl (by omega)) in_J35 tyJ35 tyJ35_ok nmJ35 rfl 1 (by decide) q1652 (Or.inl rfl) (Or.inl rfl) rfl rfl (Nat.le_of_ble_eq_true rfl) dJ19_unlink_32 (fun H1 i9 g9 z9 o9 => ?_)
      have hO := (hO.pnput (k := 1) (i := j9) rfl (by omega) (j := i9) g9 z9 o9).cong 1 rfl (w1 := dz_no G (mm + 1) na it (va_up (dz_nxt na (mm + 1)) j9 (some (na (j9 + 1 + 1)))) (dz_prv na)) (dz_pn_cong (fun i9 _ => by by_cases h9 : i9 = j9 <;> simp [va_up, upd, h9, va_rf]))
      have hO : dz_O G.1 dz_CL A s.heap [[(ll, dzo 15 [.int mc, .int (nI (mm + 1)), va_rf (dz_hd na (mm + 1)), va_rf (dz_lst na (mm + 1))])], dz_no G (mm + 1) na it (va_up (dz_nxt na (mm + 1)) j9 (some (na (j9 + 1 + 1)))) (dz_prv na)] H1 _ := hO
      revert hO
      generalize H1 = H; generalize (_ ++ _ : List Loc) = locs; intro hO
      refine lv_aload_n X.x X.b dJ19_unlink_35 rfl (lv_at hl 4 rfl) ?_
      refine lv_null X.x X.b dJ19_unlink_36 ?_
      refine dz_putA (v := .null) X (hO.pn 1 rfl (by omega)) in_J35 tyJ35 tyJ35_ok nmJ35 rfl 2 (by decide) q1655 (Or.inl rfl) (Or.inl rfl) rfl rfl (Nat.le_of_ble_eq_true rfl) dJ19_unlink_37 (fun H1 i9 g9 z9 o9 => ?_)
      have hO := (hO.pnput (k := 1) (i := (j9 + 1)) rfl (by omega) (j := i9) g9 z9 o9).cong 1 rfl (w1 := dz_no G (mm + 1) na it (va_up (dz_nxt na (mm + 1)) j9 (some (na (j9 + 1 + 1)))) (va_up (dz_prv na) (j9 + 1) none)) (dz_pn_cong (fun i9 _ => by by_cases h9 : i9 = (j9 + 1) <;> simp [va_up, upd, h9, va_rf]))
      have hO : dz_O G.1 dz_CL A s.heap [[(ll, dzo 15 [.int mc, .int (nI (mm + 1)), va_rf (dz_hd na (mm + 1)), va_rf (dz_lst na (mm + 1))])], dz_no G (mm + 1) na it (va_up (dz_nxt na (mm + 1)) j9 (some (na (j9 + 1 + 1)))) (va_up (dz_prv na) (j9 + 1) none)] H1 _ := hO
      revert hO
      generalize H1 = H; generalize (_ ++ _ : List Loc) = locs; intro hO
      refine lv_aload_n X.x X.b dJ19_unlink_40 rfl (lv_at hl 1 rfl) ?_
      refine lv_ifnonnull (tgt := 53) X.x X.b dJ19_unlink_41 (by decide) ?_
      refine lv_aload_n X.x X.b dJ19_unlink_53 rfl (lv_at hl 1 rfl) ?_
      refine lv_aload X.x X.b dJ19_unlink_54 (lv_at hl 0 rfl) ?_
      refine dz_putA (v := .ref (na j9)) X (hO.pn 1 rfl (by omega)) in_J35 tyJ35 tyJ35_ok nmJ35 rfl 2 (by decide) q1655 (Or.inl rfl) (Or.inl rfl) rfl rfl (Nat.le_of_ble_eq_true rfl) dJ19_unlink_56 (fun H1 i9 g9 z9 o9 => ?_)
      have hO := (hO.pnput (k := 1) (i := (j9 + 1 + 1)) rfl (by omega) (j := i9) g9 z9 o9).cong 1 rfl (w1 := dz_no G (mm + 1) na it (va_up (dz_nxt na (mm + 1)) j9 (some (na (j9 + 1 + 1)))) (va_up (va_up (dz_prv na) (j9 + 1) none) (j9 + 1 + 1) (some (na j9)))) (dz_pn_cong (fun i9 _ => by by_cases h9 : i9 = (j9 + 1 + 1) <;> simp [va_up, upd, h9, va_rf]))
      have hO : dz_O G.1 dz_CL A s.heap [[(ll, dzo 15 [.int mc, .int (nI (mm + 1)), va_rf (dz_hd na (mm + 1)), va_rf (dz_lst na (mm + 1))])], dz_no G (mm + 1) na it (va_up (dz_nxt na (mm + 1)) j9 (some (na (j9 + 1 + 1)))) (va_up (va_up (dz_prv na) (j9 + 1) none) (j9 + 1 + 1) (some (na j9)))] H1 _ := hO
      revert hO
      generalize H1 = H; generalize (_ ++ _ : List Loc) = locs; intro hO
      refine lv_aload_n X.x X.b dJ19_unlink_59 rfl (lv_at hl 4 rfl) ?_
      refine lv_null X.x X.b dJ19_unlink_60 ?_
      refine dz_putA (v := .null) X (hO.pn 1 rfl (by omega)) in_J35 tyJ35 tyJ35_ok nmJ35 rfl 1 (by decide) q1652 (Or.inl rfl) (Or.inl rfl) rfl rfl (Nat.le_of_ble_eq_true rfl) dJ19_unlink_61 (fun H1 i9 g9 z9 o9 => ?_)
      have hO := (hO.pnput (k := 1) (i := (j9 + 1)) rfl (by omega) (j := i9) g9 z9 o9).cong 1 rfl (w1 := dz_no G (mm + 1) na it (va_up (va_up (dz_nxt na (mm + 1)) j9 (some (na (j9 + 1 + 1)))) (j9 + 1) none) (va_up (va_up (dz_prv na) (j9 + 1) none) (j9 + 1 + 1) (some (na j9)))) (dz_pn_cong (fun i9 _ => by by_cases h9 : i9 = (j9 + 1) <;> simp [va_up, upd, h9, va_rf]))
      have hO : dz_O G.1 dz_CL A s.heap [[(ll, dzo 15 [.int mc, .int (nI (mm + 1)), va_rf (dz_hd na (mm + 1)), va_rf (dz_lst na (mm + 1))])], dz_no G (mm + 1) na it (va_up (va_up (dz_nxt na (mm + 1)) j9 (some (na (j9 + 1 + 1)))) (j9 + 1) none) (va_up (va_up (dz_prv na) (j9 + 1) none) (j9 + 1 + 1) (some (na j9)))] H1 _ := hO
      revert hO
      generalize H1 = H; generalize (_ ++ _ : List Loc) = locs; intro hO
      refine lv_aload_n X.x X.b dJ19_unlink_64 rfl (lv_at hl 4 rfl) ?_
      refine lv_null X.x X.b dJ19_unlink_65 ?_
      refine dz_putA (v := .null) X (hO.pn 1 rfl (by omega)) in_J35 tyJ35 tyJ35_ok nmJ35 rfl 0 (by decide) q1649 (Or.inl rfl) (Or.inl rfl) rfl rfl (Nat.le_of_ble_eq_true rfl) dJ19_unlink_66 (fun H1 i9 g9 z9 o9 => ?_)
      have hO := (hO.pnput (k := 1) (i := (j9 + 1)) rfl (by omega) (j := i9) g9 z9 o9).cong 1 rfl (w1 := dz_no G (mm + 1) na (va_up it (j9 + 1) none) (va_up (va_up (dz_nxt na (mm + 1)) j9 (some (na (j9 + 1 + 1)))) (j9 + 1) none) (va_up (va_up (dz_prv na) (j9 + 1) none) (j9 + 1 + 1) (some (na j9)))) (dz_pn_cong (fun i9 _ => by by_cases h9 : i9 = (j9 + 1) <;> simp [va_up, upd, h9, va_rf]))
      have hO : dz_O G.1 dz_CL A s.heap [[(ll, dzo 15 [.int mc, .int (nI (mm + 1)), va_rf (dz_hd na (mm + 1)), va_rf (dz_lst na (mm + 1))])], dz_no G (mm + 1) na (va_up it (j9 + 1) none) (va_up (va_up (dz_nxt na (mm + 1)) j9 (some (na (j9 + 1 + 1)))) (j9 + 1) none) (va_up (va_up (dz_prv na) (j9 + 1) none) (j9 + 1 + 1) (some (na j9)))] H1 _ := hO
      revert hO
      generalize H1 = H; generalize (_ ++ _ : List Loc) = locs; intro hO
      refine lv_aload_n X.x X.b dJ19_unlink_69 rfl (lv_at hl 3 rfl) ?_
      refine lv_dup X.x X.b dJ19_unlink_70 rfl ?_
      refine dz_get (v := .int (nI (mm + 1))) X (hO.at1 0 rfl) in_J19 rfl 1 (by decide) q504 (Or.inl rfl) rfl dJ19_unlink_71 ?_
      refine lv_iconst (v := 1) X.x X.b dJ19_unlink_74 (by decide) ?_
      refine lv_isub X.x X.b dJ19_unlink_75 ?_
      refine dz_rei (y := nI mm) (nI_pred _) ?_
      refine dz_put (v := .int (nI mm)) X hO 0 rfl in_J19 tyJ19 tyJ19_ok nmJ19 rfl 1 (by decide) q504 (Or.inl rfl) (Or.inl rfl) rfl rfl (Nat.le_of_ble_eq_true rfl) dJ19_unlink_76 (fun H locs hO => ?_)
      have hO : dz_O G.1 dz_CL A s.heap [[(ll, dzo 15 [.int mc, .int (nI mm), va_rf (dz_hd na (mm + 1)), va_rf (dz_lst na (mm + 1))])], dz_no G (mm + 1) na (va_up it (j9 + 1) none) (va_up (va_up (dz_nxt na (mm + 1)) j9 (some (na (j9 + 1 + 1)))) (j9 + 1) none) (va_up (va_up (dz_prv na) (j9 + 1) none) (j9 + 1 + 1) (some (na j9)))] _ _ := hO
      refine lv_aload_n X.x X.b dJ19_unlink_79 rfl (lv_at hl 3 rfl) ?_
      refine lv_dup X.x X.b dJ19_unlink_80 rfl ?_
      refine dz_get (v := .int mc) X (hO.at1 0 rfl) in_J19 rfl 0 (by decide) q485 (Or.inr q481) rfl dJ19_unlink_81 ?_
      refine lv_iconst (v := 1) X.x X.b dJ19_unlink_84 (by decide) ?_
      refine lv_iadd X.x X.b dJ19_unlink_85 ?_
      refine dz_put (v := .int (mc + 1)) X hO 0 rfl in_J19 tyJ19 tyJ19_ok nmJ19 rfl 0 (by decide) q485 (Or.inr q481) (Or.inl rfl) rfl rfl (Nat.le_of_ble_eq_true rfl) dJ19_unlink_86 (fun H locs hO => ?_)
      have hO : dz_O G.1 dz_CL A s.heap [[(ll, dzo 15 [.int (mc + 1), .int (nI mm), va_rf (dz_hd na (mm + 1)), va_rf (dz_lst na (mm + 1))])], dz_no G (mm + 1) na (va_up it (j9 + 1) none) (va_up (va_up (dz_nxt na (mm + 1)) j9 (some (na (j9 + 1 + 1)))) (j9 + 1) none) (va_up (va_up (dz_prv na) (j9 + 1) none) (j9 + 1 + 1) (some (na j9)))] _ _ := hO
      refine lv_aload_n X.x X.b dJ19_unlink_89 rfl (lv_at hl 2 rfl) ?_
      have hO := hO.sel (v := [dz_no G (mm + 1) na (va_up it (j9 + 1) none) (va_up (va_up (dz_nxt na (mm + 1)) j9 (some (na (j9 + 1 + 1)))) (j9 + 1) none) (va_up (va_up (dz_prv na) (j9 + 1) none) (j9 + 1 + 1) (some (na j9))), [(ll, dzo 15 [.int (mc + 1), .int (nI mm), va_rf (dz_hd na (mm + 1)), va_rf (dz_lst na (mm + 1))])]]) [1, 0] rfl rfl
      have hO : dz_O G.1 dz_CL A s.heap [dz_no G mm (dz_del na (j9 + 1)) (dz_del it (j9 + 1)) (dz_nxt (dz_del na (j9 + 1)) mm) (dz_prv (dz_del na (j9 + 1))), [(ll, dzo 15 [.int (mc + 1), .int (nI mm), va_rf (dz_hd na (mm + 1)), va_rf (dz_lst na (mm + 1))])]] _ _ := hO.pdel (j := (j9 + 1)) (by omega) (fun i hi => dz_noE (dz_del_i na (j9 + 1) i) (dz_del_u it (j9 + 1) i none) (by simp only [dz_nxt, dz_del, va_up]; grind) (by simp only [dz_prv, dz_del, va_up]; grind))
      have hO := hO.cong 1 rfl (w1 := [(ll, dzo 15 [.int (mc + 1), .int (nI mm), va_rf (dz_hd (dz_del na (j9 + 1)) mm), va_rf (dz_lst (dz_del na (j9 + 1)) mm)])]) (dz_llE (x' := dz_hd na (mm + 1)) (y' := dz_lst na (mm + 1)) (by simp only [dz_hd, dz_del]; grind) (by simp only [dz_lst, dz_del]; grind))
      have hO : dz_O G.1 dz_CL A s.heap [dz_no G mm (dz_del na (j9 + 1)) (dz_del it (j9 + 1)) (dz_nxt (dz_del na (j9 + 1)) mm) (dz_prv (dz_del na (j9 + 1))), [(ll, dzo 15 [.int (mc + 1), .int (nI mm), va_rf (dz_hd (dz_del na (j9 + 1)) mm), va_rf (dz_lst (dz_del na (j9 + 1)) mm)])]] _ _ := hO
      have hO := hO.sel (v := [[(ll, dzo 15 [.int (mc + 1), .int (nI mm), va_rf (dz_hd (dz_del na (j9 + 1)) mm), va_rf (dz_lst (dz_del na (j9 + 1)) mm)])], dz_no G mm (dz_del na (j9 + 1)) (dz_del it (j9 + 1)) (dz_nxt (dz_del na (j9 + 1)) mm) (dz_prv (dz_del na (j9 + 1)))]) [1, 0] rfl rfl
      exact dz_aret X hO rfl (Or.inl ⟨_, rfl⟩) (Or.inr ⟨_, rfl⟩) (⟨rfl, rfl⟩) (Nat.le_of_ble_eq_true rfl) (Nat.le_of_ble_eq_true rfl) dJ19_unlink_90
    · have hm9 : mm = j9 + 1 := by omega
      subst hm9
      refine lv_aload_n X.x X.b dJ19_unlink_0 rfl (lv_at hl 1 rfl) ?_
      refine dz_get (v := va_rf (it (j9 + 1))) X (hO.pn 1 rfl (by omega)) in_J35 rfl 0 (by decide) q1649 (Or.inl rfl) rfl dJ19_unlink_1 ?_
      refine dz_rev (w := .ref v) (by rw [hit]; rfl) ?_
      refine lv_astore_n (lv' := [(2, .ref v), (0, .ref ll), (1, .ref (na (j9 + 1)))]) X.x X.b dJ19_unlink_4 rfl hl (by decide) rfl (fun ls hl => ?_)
      refine lv_aload_n X.x X.b dJ19_unlink_5 rfl (lv_at hl 2 rfl) ?_
      refine dz_get (v := va_rf (dz_nxt na ((j9 + 1) + 1) (j9 + 1))) X (hO.pn 1 rfl (by omega)) in_J35 rfl 1 (by decide) q1652 (Or.inl rfl) rfl dJ19_unlink_6 ?_
      refine dz_rev (w := .null) (by rw [dz_nxt_last]; rfl) ?_
      refine lv_astore_nN (lv' := [(3, .null), (2, .ref v), (0, .ref ll), (1, .ref (na (j9 + 1)))]) X.x X.b dJ19_unlink_9 rfl hl (by decide) rfl (fun ls hl => ?_)
      refine lv_aload_n X.x X.b dJ19_unlink_10 rfl (lv_at hl 3 rfl) ?_
      refine dz_get (v := va_rf (dz_prv na (j9 + 1))) X (hO.pn 1 rfl (by omega)) in_J35 rfl 2 (by decide) q1655 (Or.inl rfl) rfl dJ19_unlink_11 ?_
      refine dz_rev (w := .ref (na j9)) (rfl) ?_
      refine lv_astore (lv' := [(4, .ref (na j9)), (3, .null), (2, .ref v), (0, .ref ll), (1, .ref (na (j9 + 1)))]) X.x X.b dJ19_unlink_14 hl (by decide) rfl (fun ls hl => ?_)
      refine lv_aload X.x X.b dJ19_unlink_16 (lv_at hl 0 rfl) ?_
      refine lv_ifnonnull (tgt := 29) X.x X.b dJ19_unlink_18 (by decide) ?_
      refine lv_aload X.x X.b dJ19_unlink_29 (lv_at hl 0 rfl) ?_
      refine lv_aload_nN X.x X.b dJ19_unlink_31 rfl (lv_at hl 1 rfl) ?_
      refine dz_putA (v := .null) X (hO.pn 1 rfl (by omega)) in_J35 tyJ35 tyJ35_ok nmJ35 rfl 1 (by decide) q1652 (Or.inl rfl) (Or.inl rfl) rfl rfl (Nat.le_of_ble_eq_true rfl) dJ19_unlink_32 (fun H1 i9 g9 z9 o9 => ?_)
      have hO := (hO.pnput (k := 1) (i := j9) rfl (by omega) (j := i9) g9 z9 o9).cong 1 rfl (w1 := dz_no G ((j9 + 1) + 1) na it (va_up (dz_nxt na ((j9 + 1) + 1)) j9 none) (dz_prv na)) (dz_pn_cong (fun i9 _ => by by_cases h9 : i9 = j9 <;> simp [va_up, upd, h9, va_rf]))
      have hO : dz_O G.1 dz_CL A s.heap [[(ll, dzo 15 [.int mc, .int (nI ((j9 + 1) + 1)), va_rf (dz_hd na ((j9 + 1) + 1)), va_rf (dz_lst na ((j9 + 1) + 1))])], dz_no G ((j9 + 1) + 1) na it (va_up (dz_nxt na ((j9 + 1) + 1)) j9 none) (dz_prv na)] H1 _ := hO
      revert hO
      generalize H1 = H; generalize (_ ++ _ : List Loc) = locs; intro hO
      refine lv_aload_n X.x X.b dJ19_unlink_35 rfl (lv_at hl 4 rfl) ?_
      refine lv_null X.x X.b dJ19_unlink_36 ?_
      refine dz_putA (v := .null) X (hO.pn 1 rfl (by omega)) in_J35 tyJ35 tyJ35_ok nmJ35 rfl 2 (by decide) q1655 (Or.inl rfl) (Or.inl rfl) rfl rfl (Nat.le_of_ble_eq_true rfl) dJ19_unlink_37 (fun H1 i9 g9 z9 o9 => ?_)
      have hO := (hO.pnput (k := 1) (i := (j9 + 1)) rfl (by omega) (j := i9) g9 z9 o9).cong 1 rfl (w1 := dz_no G ((j9 + 1) + 1) na it (va_up (dz_nxt na ((j9 + 1) + 1)) j9 none) (va_up (dz_prv na) (j9 + 1) none)) (dz_pn_cong (fun i9 _ => by by_cases h9 : i9 = (j9 + 1) <;> simp [va_up, upd, h9, va_rf]))
      have hO : dz_O G.1 dz_CL A s.heap [[(ll, dzo 15 [.int mc, .int (nI ((j9 + 1) + 1)), va_rf (dz_hd na ((j9 + 1) + 1)), va_rf (dz_lst na ((j9 + 1) + 1))])], dz_no G ((j9 + 1) + 1) na it (va_up (dz_nxt na ((j9 + 1) + 1)) j9 none) (va_up (dz_prv na) (j9 + 1) none)] H1 _ := hO
      revert hO
      generalize H1 = H; generalize (_ ++ _ : List Loc) = locs; intro hO
      refine lv_aload_nN X.x X.b dJ19_unlink_40 rfl (lv_at hl 1 rfl) ?_
      refine lv_ifnonnullN X.x X.b dJ19_unlink_41 ?_
      refine lv_aload_n X.x X.b dJ19_unlink_44 rfl (lv_at hl 3 rfl) ?_
      refine lv_aload X.x X.b dJ19_unlink_45 (lv_at hl 0 rfl) ?_
      refine dz_put (v := .ref (na j9)) X hO 0 rfl in_J19 tyJ19 tyJ19_ok nmJ19 rfl 3 (by decide) q507 (Or.inl rfl) (Or.inl rfl) rfl rfl (Nat.le_of_ble_eq_true rfl) dJ19_unlink_47 (fun H locs hO => ?_)
      have hO : dz_O G.1 dz_CL A s.heap [[(ll, dzo 15 [.int mc, .int (nI ((j9 + 1) + 1)), va_rf (dz_hd na ((j9 + 1) + 1)), .ref (na j9)])], dz_no G ((j9 + 1) + 1) na it (va_up (dz_nxt na ((j9 + 1) + 1)) j9 none) (va_up (dz_prv na) (j9 + 1) none)] _ _ := hO
      refine lv_goto (tgt := 64) X.x X.b dJ19_unlink_50 (by decide) ?_
      refine lv_aload_n X.x X.b dJ19_unlink_64 rfl (lv_at hl 4 rfl) ?_
      refine lv_null X.x X.b dJ19_unlink_65 ?_
      refine dz_putA (v := .null) X (hO.pn 1 rfl (by omega)) in_J35 tyJ35 tyJ35_ok nmJ35 rfl 0 (by decide) q1649 (Or.inl rfl) (Or.inl rfl) rfl rfl (Nat.le_of_ble_eq_true rfl) dJ19_unlink_66 (fun H1 i9 g9 z9 o9 => ?_)
      have hO := (hO.pnput (k := 1) (i := (j9 + 1)) rfl (by omega) (j := i9) g9 z9 o9).cong 1 rfl (w1 := dz_no G ((j9 + 1) + 1) na (va_up it (j9 + 1) none) (va_up (dz_nxt na ((j9 + 1) + 1)) j9 none) (va_up (dz_prv na) (j9 + 1) none)) (dz_pn_cong (fun i9 _ => by by_cases h9 : i9 = (j9 + 1) <;> simp [va_up, upd, h9, va_rf]))
      have hO : dz_O G.1 dz_CL A s.heap [[(ll, dzo 15 [.int mc, .int (nI ((j9 + 1) + 1)), va_rf (dz_hd na ((j9 + 1) + 1)), .ref (na j9)])], dz_no G ((j9 + 1) + 1) na (va_up it (j9 + 1) none) (va_up (dz_nxt na ((j9 + 1) + 1)) j9 none) (va_up (dz_prv na) (j9 + 1) none)] H1 _ := hO
      revert hO
      generalize H1 = H; generalize (_ ++ _ : List Loc) = locs; intro hO
      refine lv_aload_n X.x X.b dJ19_unlink_69 rfl (lv_at hl 3 rfl) ?_
      refine lv_dup X.x X.b dJ19_unlink_70 rfl ?_
      refine dz_get (v := .int (nI ((j9 + 1) + 1))) X (hO.at1 0 rfl) in_J19 rfl 1 (by decide) q504 (Or.inl rfl) rfl dJ19_unlink_71 ?_
      refine lv_iconst (v := 1) X.x X.b dJ19_unlink_74 (by decide) ?_
      refine lv_isub X.x X.b dJ19_unlink_75 ?_
      refine dz_rei (y := nI (j9 + 1)) (nI_pred _) ?_
      refine dz_put (v := .int (nI (j9 + 1))) X hO 0 rfl in_J19 tyJ19 tyJ19_ok nmJ19 rfl 1 (by decide) q504 (Or.inl rfl) (Or.inl rfl) rfl rfl (Nat.le_of_ble_eq_true rfl) dJ19_unlink_76 (fun H locs hO => ?_)
      have hO : dz_O G.1 dz_CL A s.heap [[(ll, dzo 15 [.int mc, .int (nI (j9 + 1)), va_rf (dz_hd na ((j9 + 1) + 1)), .ref (na j9)])], dz_no G ((j9 + 1) + 1) na (va_up it (j9 + 1) none) (va_up (dz_nxt na ((j9 + 1) + 1)) j9 none) (va_up (dz_prv na) (j9 + 1) none)] _ _ := hO
      refine lv_aload_n X.x X.b dJ19_unlink_79 rfl (lv_at hl 3 rfl) ?_
      refine lv_dup X.x X.b dJ19_unlink_80 rfl ?_
      refine dz_get (v := .int mc) X (hO.at1 0 rfl) in_J19 rfl 0 (by decide) q485 (Or.inr q481) rfl dJ19_unlink_81 ?_
      refine lv_iconst (v := 1) X.x X.b dJ19_unlink_84 (by decide) ?_
      refine lv_iadd X.x X.b dJ19_unlink_85 ?_
      refine dz_put (v := .int (mc + 1)) X hO 0 rfl in_J19 tyJ19 tyJ19_ok nmJ19 rfl 0 (by decide) q485 (Or.inr q481) (Or.inl rfl) rfl rfl (Nat.le_of_ble_eq_true rfl) dJ19_unlink_86 (fun H locs hO => ?_)
      have hO : dz_O G.1 dz_CL A s.heap [[(ll, dzo 15 [.int (mc + 1), .int (nI (j9 + 1)), va_rf (dz_hd na ((j9 + 1) + 1)), .ref (na j9)])], dz_no G ((j9 + 1) + 1) na (va_up it (j9 + 1) none) (va_up (dz_nxt na ((j9 + 1) + 1)) j9 none) (va_up (dz_prv na) (j9 + 1) none)] _ _ := hO
      refine lv_aload_n X.x X.b dJ19_unlink_89 rfl (lv_at hl 2 rfl) ?_
      have hO := hO.sel (v := [dz_no G ((j9 + 1) + 1) na (va_up it (j9 + 1) none) (va_up (dz_nxt na ((j9 + 1) + 1)) j9 none) (va_up (dz_prv na) (j9 + 1) none), [(ll, dzo 15 [.int (mc + 1), .int (nI (j9 + 1)), va_rf (dz_hd na ((j9 + 1) + 1)), .ref (na j9)])]]) [1, 0] rfl rfl
      have hO : dz_O G.1 dz_CL A s.heap [dz_no G (j9 + 1) (dz_del na (j9 + 1)) (dz_del it (j9 + 1)) (dz_nxt (dz_del na (j9 + 1)) (j9 + 1)) (dz_prv (dz_del na (j9 + 1))), [(ll, dzo 15 [.int (mc + 1), .int (nI (j9 + 1)), va_rf (dz_hd na ((j9 + 1) + 1)), .ref (na j9)])]] _ _ := hO.pdel (j := (j9 + 1)) (by omega) (fun i hi => dz_noE (dz_del_i na (j9 + 1) i) (dz_del_u it (j9 + 1) i none) (by simp only [dz_nxt, dz_del, va_up]; grind) (by simp only [dz_prv, dz_del, va_up]; grind))
      have hO := hO.cong 1 rfl (w1 := [(ll, dzo 15 [.int (mc + 1), .int (nI (j9 + 1)), va_rf (dz_hd (dz_del na (j9 + 1)) (j9 + 1)), va_rf (dz_lst (dz_del na (j9 + 1)) (j9 + 1))])]) (dz_llE (x' := dz_hd na ((j9 + 1) + 1)) (y' := some (na j9)) (by simp only [dz_hd, dz_del]; grind) (by simp only [dz_lst, dz_del]; grind))
      have hO : dz_O G.1 dz_CL A s.heap [dz_no G (j9 + 1) (dz_del na (j9 + 1)) (dz_del it (j9 + 1)) (dz_nxt (dz_del na (j9 + 1)) (j9 + 1)) (dz_prv (dz_del na (j9 + 1))), [(ll, dzo 15 [.int (mc + 1), .int (nI (j9 + 1)), va_rf (dz_hd (dz_del na (j9 + 1)) (j9 + 1)), va_rf (dz_lst (dz_del na (j9 + 1)) (j9 + 1))])]] _ _ := hO
      have hO := hO.sel (v := [[(ll, dzo 15 [.int (mc + 1), .int (nI (j9 + 1)), va_rf (dz_hd (dz_del na (j9 + 1)) (j9 + 1)), va_rf (dz_lst (dz_del na (j9 + 1)) (j9 + 1))])], dz_no G (j9 + 1) (dz_del na (j9 + 1)) (dz_del it (j9 + 1)) (dz_nxt (dz_del na (j9 + 1)) (j9 + 1)) (dz_prv (dz_del na (j9 + 1)))]) [1, 0] rfl rfl
      exact dz_aret X hO rfl (Or.inl ⟨_, rfl⟩) (Or.inr ⟨_, rfl⟩) (⟨rfl, rfl⟩) (Nat.le_of_ble_eq_true rfl) (Nat.le_of_ble_eq_true rfl) dJ19_unlink_90
set_option maxHeartbeats 4000000 in
set_option maxRecDepth 100000 in
/-- the thing last walked over is taken out -/
theorem dz_J31_remove (l : Launch) (G : dz_G) (sz : Nat) (q : Nat) (ll : Nat) (mc : Int32) (mm : Nat) (na : Nat → Nat) (it : Nat → Option Nat) (k : Nat) (v : Nat) (hk : k ≤ mm) (hm : mm ≤ 8) (hit : it k = some v) : dz_M l G yJ31_remove cJ31_remove 2 none ({ frames := 40, cells := 0, slots := 0, locals := 600 } : Room) [.ref q] [[(q, dzo 19 [.ref (na k), va_rf (dz_cur na (mm + 1) (k + 1)), .int (nI (k + 1)), .int mc, .ref ll])], [(ll, dzo 15 [.int mc, .int (nI (mm + 1)), va_rf (dz_hd na (mm + 1)), va_rf (dz_lst na (mm + 1))])], dz_no G (mm + 1) na it (dz_nxt na (mm + 1)) (dz_prv na)] sz (fun r w1 => r = none ∧ w1 = [[(q, dzo 19 [.null, va_rf (dz_cur (dz_del na k) mm k), .int (nI k), .int (mc + 1), .ref ll])], [(ll, dzo 15 [.int (mc + 1), .int (nI mm), va_rf (dz_hd (dz_del na k) mm), va_rf (dz_lst (dz_del na k) mm)])], dz_no G mm (dz_del na k) (dz_del it k) (dz_nxt (dz_del na k) mm) (dz_prv (dz_del na k))]) (dz_np) := by
  refine dz_start (by decide) (Nat.le_of_ble_eq_true rfl) ?_
  intro p e s m below meth c A ls X hO hsz hl
  have hl : lv_has ls 2 [(0, .ref q)] := hl
  rcases Nat.lt_or_ge k mm with hkm | hkm
  · have hO := hO.cong 0 rfl (w1 := [(q, dzo 19 [.ref (na k), .ref (na (k + 1)), .int (nI (k + 1)), .int mc, .ref ll])]) (by rw [dz_cur_in (show k + 1 < mm + 1 by omega)]; rfl)
    have hO : dz_O G.1 dz_CL A s.heap [[(q, dzo 19 [.ref (na k), .ref (na (k + 1)), .int (nI (k + 1)), .int mc, .ref ll])], [(ll, dzo 15 [.int mc, .int (nI (mm + 1)), va_rf (dz_hd na (mm + 1)), va_rf (dz_lst na (mm + 1))])], dz_no G (mm + 1) na it (dz_nxt na (mm + 1)) (dz_prv na)] _ _ := hO
    refine lv_aload_n X.x X.b dJ31_remove_0 rfl (lv_at hl 0 rfl) ?_
    refine dz_V (n := 0) (k9 := 0) (n9 := 0) (As := []) (rest := []) (wr := [dz_no G (mm + 1) na it (dz_nxt na (mm + 1)) (dz_prv na)]) X hO hl (dz_J31_checkForComodification l G _ q (some (na k)) (some (na (k + 1))) (k + 1) ll mc (mm + 1) na ) (lw_V q958 q959 q960 q90 q961) (by decide +kernel) ⟨Nat.le_of_ble_eq_true rfl, Nat.le_of_ble_eq_true rfl⟩ ⟨(Nat.le_of_ble_eq_true rfl), (Nat.le_of_ble_eq_true rfl), (Nat.le_of_ble_eq_true rfl), (Nat.le_of_ble_eq_true rfl)⟩ [0, 1] [2] rfl rfl rfl (dz_rc X (hO.at1 0 rfl) (r := (RJ31, TJ31, 5)) rfl) rfl rfl (Nat.le_of_ble_eq_true rfl) dJ31_remove_1 (fun E w1 q9 ce9 H locs hpx hO hce hv9 hcl9 => hpx.elim) (fun r w1 H locs hpo hO => ?_)
    obtain ⟨rfl, rfl⟩ := hpo
    have hO : dz_O G.1 dz_CL A s.heap [dz_no G (mm + 1) na it (dz_nxt na (mm + 1)) (dz_prv na), [(q, dzo 19 [.ref (na k), .ref (na (k + 1)), .int (nI (k + 1)), .int mc, .ref ll])], [(ll, dzo 15 [.int mc, .int (nI (mm + 1)), va_rf (dz_hd na (mm + 1)), va_rf (dz_lst na (mm + 1))])]] _ _ := hO
    refine W.eq (g2 := F0 m 4 ls []) rfl ?_
    refine lv_aload_n X.x X.b dJ31_remove_4 rfl (lv_at hl 0 rfl) ?_
    refine dz_get (v := .ref (na k)) X (hO.at1 1 rfl) in_J31 rfl 0 (by decide) q1431 (Or.inl rfl) rfl dJ31_remove_5 ?_
    refine lv_ifnonnull (tgt := 19) X.x X.b dJ31_remove_8 (by decide) ?_
    refine lv_aload_n X.x X.b dJ31_remove_19 rfl (lv_at hl 0 rfl) ?_
    refine dz_get (v := .ref (na k)) X (hO.at1 1 rfl) in_J31 rfl 0 (by decide) q1431 (Or.inl rfl) rfl dJ31_remove_20 ?_
    refine dz_get (v := va_rf (dz_nxt na (mm + 1) k)) X (hO.pn 0 rfl (by omega)) in_J35 rfl 1 (by decide) q1651 (Or.inl rfl) rfl dJ31_remove_23 ?_
    refine dz_rev (w := .ref (na (k + 1))) (by rw [dz_nxt_in (show k + 1 < mm + 1 by omega)]; rfl) ?_
    have hne : ¬ na (k + 1) = na k := fun z => absurd (hO.inj 0 rfl (i := k + 1) (j := k) (by omega) (by omega) z) (by omega)
    refine lv_astore_n (lv' := [(1, .ref (na (k + 1))), (0, .ref q)]) X.x X.b dJ31_remove_26 rfl hl (by decide) rfl (fun ls hl => ?_)
    refine lv_aload_n X.x X.b dJ31_remove_27 rfl (lv_at hl 1 rfl) ?_
    refine dz_get (v := .ref ll) X (hO.at1 1 rfl) in_J31 rfl 4 (by decide) q1435 (Or.inl rfl) rfl dJ31_remove_28 ?_
    refine lv_aload_n X.x X.b dJ31_remove_31 rfl (lv_at hl 1 rfl) ?_
    refine dz_get (v := .ref (na k)) X (hO.at1 1 rfl) in_J31 rfl 0 (by decide) q1431 (Or.inl rfl) rfl dJ31_remove_32 ?_
    refine dz_V (n := 1) (k9 := 0) (n9 := 0) (As := [.ref (na k)]) (rest := []) (wr := [[(q, dzo 19 [.ref (na k), .ref (na (k + 1)), .int (nI (k + 1)), .int mc, .ref ll])]]) X hO hl (dz_J19_unlink l G _ ll mc mm na it k _ (by first | assumption | omega | decide) (by first | assumption | omega | decide) (by first | assumption | omega | decide)) (lw_V q1548 q1485 q1486 q70 q1487) (by decide +kernel) ⟨Nat.le_of_ble_eq_true rfl, Nat.le_of_ble_eq_true rfl⟩ ⟨(Nat.le_of_ble_eq_true rfl), (Nat.le_of_ble_eq_true rfl), (Nat.le_of_ble_eq_true rfl), (Nat.le_of_ble_eq_true rfl)⟩ [2, 0] [1] rfl rfl rfl (dz_rc X (hO.at1 2 rfl) (r := (RJ19, TJ19, 4)) rfl) rfl rfl (Nat.le_of_ble_eq_true rfl) dJ31_remove_35 (fun E w1 q9 ce9 H locs hpx hO hce hv9 hcl9 => hpx.elim) (fun r w1 H locs hpo hO => ?_)
    obtain ⟨rfl, rfl⟩ := hpo
    have hO : dz_O G.1 dz_CL A s.heap [[(q, dzo 19 [.ref (na k), .ref (na (k + 1)), .int (nI (k + 1)), .int mc, .ref ll])], [(ll, dzo 15 [.int (mc + 1), .int (nI mm), va_rf (dz_hd (dz_del na k) mm), va_rf (dz_lst (dz_del na k) mm)])], dz_no G mm (dz_del na k) (dz_del it k) (dz_nxt (dz_del na k) mm) (dz_prv (dz_del na k))] _ _ := hO
    refine W.eq (g2 := F0 m 38 ls [.ref _]) rfl ?_
    refine lv_pop X.x X.b dJ31_remove_38 rfl ?_
    refine lv_aload_n X.x X.b dJ31_remove_39 rfl (lv_at hl 1 rfl) ?_
    refine dz_get (v := .ref (na (k + 1))) X (hO.at1 0 rfl) in_J31 rfl 1 (by decide) q1432 (Or.inl rfl) rfl dJ31_remove_40 ?_
    refine lv_aload_n X.x X.b dJ31_remove_43 rfl (lv_at hl 1 rfl) ?_
    refine dz_get (v := .ref (na k)) X (hO.at1 0 rfl) in_J31 rfl 0 (by decide) q1431 (Or.inl rfl) rfl dJ31_remove_44 ?_
    refine lv_acmp_ne (rx := (some (na (k + 1)))) (ry := (some (na k))) (tgt := 58) X.x X.b dJ31_remove_47 (by decide) (fun _ => ?_) (fun c_1 => absurd c_1 (fun z => hne (Option.some.inj z)))
    refine lv_aload_n X.x X.b dJ31_remove_58 rfl (lv_at hl 1 rfl) ?_
    refine lv_dup X.x X.b dJ31_remove_59 rfl ?_
    refine dz_get (v := .int (nI (k + 1))) X (hO.at1 0 rfl) in_J31 rfl 2 (by decide) q1433 (Or.inl rfl) rfl dJ31_remove_60 ?_
    refine lv_iconst (v := 1) X.x X.b dJ31_remove_63 (by decide) ?_
    refine lv_isub X.x X.b dJ31_remove_64 ?_
    refine dz_rei (y := nI k) (nI_pred k) ?_
    refine dz_put (v := .int (nI k)) X hO 0 rfl in_J31 tyJ31 tyJ31_ok nmJ31 rfl 2 (by decide) q1433 (Or.inl rfl) (Or.inl rfl) rfl rfl (Nat.le_of_ble_eq_true rfl) dJ31_remove_65 (fun H locs hO => ?_)
    have hO : dz_O G.1 dz_CL A s.heap [[(q, dzo 19 [.ref (na k), .ref (na (k + 1)), .int (nI k), .int mc, .ref ll])], [(ll, dzo 15 [.int (mc + 1), .int (nI mm), va_rf (dz_hd (dz_del na k) mm), va_rf (dz_lst (dz_del na k) mm)])], dz_no G mm (dz_del na k) (dz_del it k) (dz_nxt (dz_del na k) mm) (dz_prv (dz_del na k))] _ _ := hO
    refine lv_aload_n X.x X.b dJ31_remove_68 rfl (lv_at hl 1 rfl) ?_
    refine lv_null X.x X.b dJ31_remove_69 ?_
    refine dz_put (v := .null) X hO 0 rfl in_J31 tyJ31 tyJ31_ok nmJ31 rfl 0 (by decide) q1431 (Or.inl rfl) (Or.inl rfl) rfl rfl (Nat.le_of_ble_eq_true rfl) dJ31_remove_70 (fun H locs hO => ?_)
    have hO : dz_O G.1 dz_CL A s.heap [[(q, dzo 19 [.null, .ref (na (k + 1)), .int (nI k), .int mc, .ref ll])], [(ll, dzo 15 [.int (mc + 1), .int (nI mm), va_rf (dz_hd (dz_del na k) mm), va_rf (dz_lst (dz_del na k) mm)])], dz_no G mm (dz_del na k) (dz_del it k) (dz_nxt (dz_del na k) mm) (dz_prv (dz_del na k))] _ _ := hO
    refine lv_aload_n X.x X.b dJ31_remove_73 rfl (lv_at hl 1 rfl) ?_
    refine lv_dup X.x X.b dJ31_remove_74 rfl ?_
    refine dz_get (v := .int mc) X (hO.at1 0 rfl) in_J31 rfl 3 (by decide) q1434 (Or.inl rfl) rfl dJ31_remove_75 ?_
    refine lv_iconst (v := 1) X.x X.b dJ31_remove_78 (by decide) ?_
    refine lv_iadd X.x X.b dJ31_remove_79 ?_
    refine dz_put (v := .int (mc + 1)) X hO 0 rfl in_J31 tyJ31 tyJ31_ok nmJ31 rfl 3 (by decide) q1434 (Or.inl rfl) (Or.inl rfl) rfl rfl (Nat.le_of_ble_eq_true rfl) dJ31_remove_80 (fun H locs hO => ?_)
    have hO : dz_O G.1 dz_CL A s.heap [[(q, dzo 19 [.null, .ref (na (k + 1)), .int (nI k), .int (mc + 1), .ref ll])], [(ll, dzo 15 [.int (mc + 1), .int (nI mm), va_rf (dz_hd (dz_del na k) mm), va_rf (dz_lst (dz_del na k) mm)])], dz_no G mm (dz_del na k) (dz_del it k) (dz_nxt (dz_del na k) mm) (dz_prv (dz_del na k))] _ _ := hO
    have hO := hO.cong 0 rfl (w1 := [(q, dzo 19 [.null, va_rf (dz_cur (dz_del na k) mm k), .int (nI k), .int (mc + 1), .ref ll])]) (by rw [dz_cur_in (show k < mm by omega)]; unfold dz_del; rw [if_neg (Nat.lt_irrefl k)]; rfl)
    have hO : dz_O G.1 dz_CL A s.heap [[(q, dzo 19 [.null, va_rf (dz_cur (dz_del na k) mm k), .int (nI k), .int (mc + 1), .ref ll])], [(ll, dzo 15 [.int (mc + 1), .int (nI mm), va_rf (dz_hd (dz_del na k) mm), va_rf (dz_lst (dz_del na k) mm)])], dz_no G mm (dz_del na k) (dz_del it k) (dz_nxt (dz_del na k) mm) (dz_prv (dz_del na k))] _ _ := hO
    exact dz_vret X hO rfl (⟨rfl, rfl⟩) (Nat.le_of_ble_eq_true rfl) (Nat.le_of_ble_eq_true rfl) dJ31_remove_83
  · have hO := hO.cong 0 rfl (w1 := [(q, dzo 19 [.ref (na k), .null, .int (nI (k + 1)), .int mc, .ref ll])]) (by rw [dz_cur_out (show ¬ k + 1 < mm + 1 by omega)]; rfl)
    have hO : dz_O G.1 dz_CL A s.heap [[(q, dzo 19 [.ref (na k), .null, .int (nI (k + 1)), .int mc, .ref ll])], [(ll, dzo 15 [.int mc, .int (nI (mm + 1)), va_rf (dz_hd na (mm + 1)), va_rf (dz_lst na (mm + 1))])], dz_no G (mm + 1) na it (dz_nxt na (mm + 1)) (dz_prv na)] _ _ := hO
    refine lv_aload_n X.x X.b dJ31_remove_0 rfl (lv_at hl 0 rfl) ?_
    refine dz_V (n := 0) (k9 := 0) (n9 := 0) (As := []) (rest := []) (wr := [dz_no G (mm + 1) na it (dz_nxt na (mm + 1)) (dz_prv na)]) X hO hl (dz_J31_checkForComodification l G _ q (some (na k)) none (k + 1) ll mc (mm + 1) na ) (lw_V q958 q959 q960 q90 q961) (by decide +kernel) ⟨Nat.le_of_ble_eq_true rfl, Nat.le_of_ble_eq_true rfl⟩ ⟨(Nat.le_of_ble_eq_true rfl), (Nat.le_of_ble_eq_true rfl), (Nat.le_of_ble_eq_true rfl), (Nat.le_of_ble_eq_true rfl)⟩ [0, 1] [2] rfl rfl rfl (dz_rc X (hO.at1 0 rfl) (r := (RJ31, TJ31, 5)) rfl) rfl rfl (Nat.le_of_ble_eq_true rfl) dJ31_remove_1 (fun E w1 q9 ce9 H locs hpx hO hce hv9 hcl9 => hpx.elim) (fun r w1 H locs hpo hO => ?_)
    obtain ⟨rfl, rfl⟩ := hpo
    have hO : dz_O G.1 dz_CL A s.heap [dz_no G (mm + 1) na it (dz_nxt na (mm + 1)) (dz_prv na), [(q, dzo 19 [.ref (na k), .null, .int (nI (k + 1)), .int mc, .ref ll])], [(ll, dzo 15 [.int mc, .int (nI (mm + 1)), va_rf (dz_hd na (mm + 1)), va_rf (dz_lst na (mm + 1))])]] _ _ := hO
    refine W.eq (g2 := F0 m 4 ls []) rfl ?_
    refine lv_aload_n X.x X.b dJ31_remove_4 rfl (lv_at hl 0 rfl) ?_
    refine dz_get (v := .ref (na k)) X (hO.at1 1 rfl) in_J31 rfl 0 (by decide) q1431 (Or.inl rfl) rfl dJ31_remove_5 ?_
    refine lv_ifnonnull (tgt := 19) X.x X.b dJ31_remove_8 (by decide) ?_
    refine lv_aload_n X.x X.b dJ31_remove_19 rfl (lv_at hl 0 rfl) ?_
    refine dz_get (v := .ref (na k)) X (hO.at1 1 rfl) in_J31 rfl 0 (by decide) q1431 (Or.inl rfl) rfl dJ31_remove_20 ?_
    refine dz_get (v := va_rf (dz_nxt na (mm + 1) k)) X (hO.pn 0 rfl (by omega)) in_J35 rfl 1 (by decide) q1651 (Or.inl rfl) rfl dJ31_remove_23 ?_
    refine dz_rev (w := .null) (by rw [dz_nxt_cur, dz_cur_out (show ¬ k + 1 < mm + 1 by omega)]; rfl) ?_
    refine lv_astore_nN (lv' := [(1, .null), (0, .ref q)]) X.x X.b dJ31_remove_26 rfl hl (by decide) rfl (fun ls hl => ?_)
    refine lv_aload_n X.x X.b dJ31_remove_27 rfl (lv_at hl 1 rfl) ?_
    refine dz_get (v := .ref ll) X (hO.at1 1 rfl) in_J31 rfl 4 (by decide) q1435 (Or.inl rfl) rfl dJ31_remove_28 ?_
    refine lv_aload_n X.x X.b dJ31_remove_31 rfl (lv_at hl 1 rfl) ?_
    refine dz_get (v := .ref (na k)) X (hO.at1 1 rfl) in_J31 rfl 0 (by decide) q1431 (Or.inl rfl) rfl dJ31_remove_32 ?_
    refine dz_V (n := 1) (k9 := 0) (n9 := 0) (As := [.ref (na k)]) (rest := []) (wr := [[(q, dzo 19 [.ref (na k), .null, .int (nI (k + 1)), .int mc, .ref ll])]]) X hO hl (dz_J19_unlink l G _ ll mc mm na it k _ (by first | assumption | omega | decide) (by first | assumption | omega | decide) (by first | assumption | omega | decide)) (lw_V q1548 q1485 q1486 q70 q1487) (by decide +kernel) ⟨Nat.le_of_ble_eq_true rfl, Nat.le_of_ble_eq_true rfl⟩ ⟨(Nat.le_of_ble_eq_true rfl), (Nat.le_of_ble_eq_true rfl), (Nat.le_of_ble_eq_true rfl), (Nat.le_of_ble_eq_true rfl)⟩ [2, 0] [1] rfl rfl rfl (dz_rc X (hO.at1 2 rfl) (r := (RJ19, TJ19, 4)) rfl) rfl rfl (Nat.le_of_ble_eq_true rfl) dJ31_remove_35 (fun E w1 q9 ce9 H locs hpx hO hce hv9 hcl9 => hpx.elim) (fun r w1 H locs hpo hO => ?_)
    obtain ⟨rfl, rfl⟩ := hpo
    have hO : dz_O G.1 dz_CL A s.heap [[(q, dzo 19 [.ref (na k), .null, .int (nI (k + 1)), .int mc, .ref ll])], [(ll, dzo 15 [.int (mc + 1), .int (nI mm), va_rf (dz_hd (dz_del na k) mm), va_rf (dz_lst (dz_del na k) mm)])], dz_no G mm (dz_del na k) (dz_del it k) (dz_nxt (dz_del na k) mm) (dz_prv (dz_del na k))] _ _ := hO
    refine W.eq (g2 := F0 m 38 ls [.ref _]) rfl ?_
    refine lv_pop X.x X.b dJ31_remove_38 rfl ?_
    refine lv_aload_n X.x X.b dJ31_remove_39 rfl (lv_at hl 1 rfl) ?_
    refine dz_get (v := .null) X (hO.at1 0 rfl) in_J31 rfl 1 (by decide) q1432 (Or.inl rfl) rfl dJ31_remove_40 ?_
    refine lv_aload_n X.x X.b dJ31_remove_43 rfl (lv_at hl 1 rfl) ?_
    refine dz_get (v := .ref (na k)) X (hO.at1 0 rfl) in_J31 rfl 0 (by decide) q1431 (Or.inl rfl) rfl dJ31_remove_44 ?_
    refine lv_acmp_ne (rx := none) (ry := (some (na k))) (tgt := 58) X.x X.b dJ31_remove_47 (by decide) (fun _ => ?_) (fun c_2 => absurd c_2 (fun z => by cases z))
    refine lv_aload_n X.x X.b dJ31_remove_58 rfl (lv_at hl 1 rfl) ?_
    refine lv_dup X.x X.b dJ31_remove_59 rfl ?_
    refine dz_get (v := .int (nI (k + 1))) X (hO.at1 0 rfl) in_J31 rfl 2 (by decide) q1433 (Or.inl rfl) rfl dJ31_remove_60 ?_
    refine lv_iconst (v := 1) X.x X.b dJ31_remove_63 (by decide) ?_
    refine lv_isub X.x X.b dJ31_remove_64 ?_
    refine dz_rei (y := nI k) (nI_pred k) ?_
    refine dz_put (v := .int (nI k)) X hO 0 rfl in_J31 tyJ31 tyJ31_ok nmJ31 rfl 2 (by decide) q1433 (Or.inl rfl) (Or.inl rfl) rfl rfl (Nat.le_of_ble_eq_true rfl) dJ31_remove_65 (fun H locs hO => ?_)
    have hO : dz_O G.1 dz_CL A s.heap [[(q, dzo 19 [.ref (na k), .null, .int (nI k), .int mc, .ref ll])], [(ll, dzo 15 [.int (mc + 1), .int (nI mm), va_rf (dz_hd (dz_del na k) mm), va_rf (dz_lst (dz_del na k) mm)])], dz_no G mm (dz_del na k) (dz_del it k) (dz_nxt (dz_del na k) mm) (dz_prv (dz_del na k))] _ _ := hO
    refine lv_aload_n X.x X.b dJ31_remove_68 rfl (lv_at hl 1 rfl) ?_
    refine lv_null X.x X.b dJ31_remove_69 ?_
    refine dz_put (v := .null) X hO 0 rfl in_J31 tyJ31 tyJ31_ok nmJ31 rfl 0 (by decide) q1431 (Or.inl rfl) (Or.inl rfl) rfl rfl (Nat.le_of_ble_eq_true rfl) dJ31_remove_70 (fun H locs hO => ?_)
    have hO : dz_O G.1 dz_CL A s.heap [[(q, dzo 19 [.null, .null, .int (nI k), .int mc, .ref ll])], [(ll, dzo 15 [.int (mc + 1), .int (nI mm), va_rf (dz_hd (dz_del na k) mm), va_rf (dz_lst (dz_del na k) mm)])], dz_no G mm (dz_del na k) (dz_del it k) (dz_nxt (dz_del na k) mm) (dz_prv (dz_del na k))] _ _ := hO
    refine lv_aload_n X.x X.b dJ31_remove_73 rfl (lv_at hl 1 rfl) ?_
    refine lv_dup X.x X.b dJ31_remove_74 rfl ?_
    refine dz_get (v := .int mc) X (hO.at1 0 rfl) in_J31 rfl 3 (by decide) q1434 (Or.inl rfl) rfl dJ31_remove_75 ?_
    refine lv_iconst (v := 1) X.x X.b dJ31_remove_78 (by decide) ?_
    refine lv_iadd X.x X.b dJ31_remove_79 ?_
    refine dz_put (v := .int (mc + 1)) X hO 0 rfl in_J31 tyJ31 tyJ31_ok nmJ31 rfl 3 (by decide) q1434 (Or.inl rfl) (Or.inl rfl) rfl rfl (Nat.le_of_ble_eq_true rfl) dJ31_remove_80 (fun H locs hO => ?_)
    have hO : dz_O G.1 dz_CL A s.heap [[(q, dzo 19 [.null, .null, .int (nI k), .int (mc + 1), .ref ll])], [(ll, dzo 15 [.int (mc + 1), .int (nI mm), va_rf (dz_hd (dz_del na k) mm), va_rf (dz_lst (dz_del na k) mm)])], dz_no G mm (dz_del na k) (dz_del it k) (dz_nxt (dz_del na k) mm) (dz_prv (dz_del na k))] _ _ := hO
    have hO := hO.cong 0 rfl (w1 := [(q, dzo 19 [.null, va_rf (dz_cur (dz_del na k) mm k), .int (nI k), .int (mc + 1), .ref ll])]) (by rw [dz_cur_out (show ¬ k < mm by omega)]; rfl)
    have hO : dz_O G.1 dz_CL A s.heap [[(q, dzo 19 [.null, va_rf (dz_cur (dz_del na k) mm k), .int (nI k), .int (mc + 1), .ref ll])], [(ll, dzo 15 [.int (mc + 1), .int (nI mm), va_rf (dz_hd (dz_del na k) mm), va_rf (dz_lst (dz_del na k) mm)])], dz_no G mm (dz_del na k) (dz_del it k) (dz_nxt (dz_del na k) mm) (dz_prv (dz_del na k))] _ _ := hO
    exact dz_vret X hO rfl (⟨rfl, rfl⟩) (Nat.le_of_ble_eq_true rfl) (Nat.le_of_ble_eq_true rfl) dJ31_remove_83
