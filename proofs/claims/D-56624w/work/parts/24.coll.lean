/-- k ends of a row of m swapped -/
def dz_rv {α : Type} (f : Nat → α) (n k : Nat) : Nat → α := fun i => if i < n ∧ (i < k ∨ n ≤ i + k) then f (n - 1 - i) else f i
theorem dz_rv_0 {α : Type} (f : Nat → α) (n : Nat) : dz_rv f n 0 = f := by
  funext i; unfold dz_rv; rw [if_neg (by omega)]
theorem dz_rv_at {α : Type} {f : Nat → α} {n k i : Nat} (h : ¬ (i < n ∧ (i < k ∨ n ≤ i + k))) : dz_rv f n k i = f i := if_neg h
theorem dz_rv_s {f : Nat → Option Nat} {n k u v : Nat} (h : k < n / 2) (hu : f k = some u) (hv : f (n - 1 - k) = some v) : va_up (va_up (dz_rv f n k) (n - 1 - k) (some u)) k (some v) = dz_rv f n (k + 1) := by
  funext i
  unfold va_up dz_rv
  by_cases h1 : i = k
  · rw [if_pos h1, if_pos (by omega), h1, hv]
  · rw [if_neg h1]
    by_cases h2 : i = n - 1 - k
    · rw [if_pos h2, if_pos (by omega), show n - 1 - i = k by omega, hu]
    · rw [if_neg h2]
      by_cases h3 : i < n ∧ (i < k ∨ n ≤ i + k)
      · rw [if_pos h3, if_pos (by omega)]
      · rw [if_neg h3, if_neg (by omega)]
theorem dz_rv_all {α : Type} (f : Nat → α) {n i : Nat} (hi : i < n) : dz_rv f n (n / 2) i = f (n - 1 - i) := by
  unfold dz_rv
  by_cases h : i < n ∧ (i < n / 2 ∨ n ≤ i + n / 2)
  · rw [if_pos h]
  · rw [if_neg h, show n - 1 - i = i by omega]
theorem dz_shr1' : ∀ n, n ≤ 17 → nI n >>> ((1 : Int32) &&& 31) = nI (n / 2) := by decide +kernel
set_option maxHeartbeats 4000000 in
set_option maxRecDepth 100000 in
/-- isEmpty -/
theorem dz_J3_isEmpty (l : Launch) (G : dz_G) (sz : Nat) (al : Nat) (mc : Int32) (ar : Nat) (n : Nat) (hn : n < 1000000) : dz_M l G yJ3_isEmpty cJ3_isEmpty 1 (some FieldType.boolean) ({ frames := 20, cells := 0, slots := 0, locals := 300 } : Room) [.ref al] [[(al, dzo 14 [.int mc, .ref ar, .int (nI n)])]] sz (fun r w1 => r = some (.int (if n = 0 then 1 else 0)) ∧ w1 = [[(al, dzo 14 [.int mc, .ref ar, .int (nI n)])]]) (dz_np) := by
  refine dz_start (by decide) (Nat.le_of_ble_eq_true rfl) ?_
  intro p e s m below meth c A ls X hO hsz hl
  have hl : lv_has ls 1 [(0, .ref al)] := hl
  refine lv_aload_n X.x X.b dJ3_isEmpty_0 rfl (lv_at hl 0 rfl) ?_
  refine dz_get (v := .int (nI n)) X (hO.at1 0 rfl) in_J3 rfl 2 (by decide) q478 (Or.inl rfl) rfl dJ3_isEmpty_1 ?_
  refine lv_if_ne (tgt := 11) X.x X.b dJ3_isEmpty_4 (by decide) (fun c_1 => ?_) (fun c_1 => ?_)
  · have nc_1 : ¬ n = 0 := fun z9 => c_1 ((nI_eq (a := n) (b := 0) (by omega) (by omega)).mpr z9)
    refine lv_iconst (v := 0) X.x X.b dJ3_isEmpty_11 (by decide) ?_
    exact dz_zret X hO rfl (rfl) (⟨by first | (rw [if_pos (by omega)]; done) | (rw [if_neg (by omega)]; done), rfl⟩) (Nat.le_of_ble_eq_true rfl) (Nat.le_of_ble_eq_true rfl) dJ3_isEmpty_12
  · have nc_1 : n = 0 := (nI_eq (a := n) (b := 0) (by omega) (by omega)).mp c_1
    refine lv_iconst (v := 1) X.x X.b dJ3_isEmpty_7 (by decide) ?_
    refine lv_goto (tgt := 12) X.x X.b dJ3_isEmpty_8 (by decide) ?_
    exact dz_zret X hO rfl (rfl) (⟨by first | (rw [if_pos (by omega)]; done) | (rw [if_neg (by omega)]; done), rfl⟩) (Nat.le_of_ble_eq_true rfl) (Nat.le_of_ble_eq_true rfl) dJ3_isEmpty_12
set_option maxHeartbeats 4000000 in
set_option maxRecDepth 100000 in
/-- swap -/
theorem dz_J37_swap (l : Launch) (G : dz_G) (sz : Nat) (al : Nat) (mc : Int32) (ar : Nat) (n : Nat) (cap : Nat) (f : Nat → Option Nat) (i : Nat) (j : Nat) (u : Nat) (v : Nat) (vp : va_W) (hi : i < n) (hj : j < n) (hn : n ≤ cap) (hc : cap < 1000000) (hfi : f i = some u) (hfj : f j = some v) (hu : dz_is vp u) (hv : dz_is vp v) : dz_M l G yJ37_swap cJ37_swap 4 none ({ frames := 80, cells := 0, slots := 0, locals := 1200 } : Room) [.ref al, .int (nI i), .int (nI j)] [[(al, dzo 14 [.int mc, .ref ar, .int (nI n)])], [(ar, dzO G cap f)], vp] sz (fun r w1 => r = none ∧ w1 = [[(al, dzo 14 [.int mc, .ref ar, .int (nI n)])], [(ar, dzO G cap (va_up (va_up f j (some u)) i (some v)))], vp]) (dz_np) := by
  refine dz_start (by decide) (Nat.le_of_ble_eq_true rfl) ?_
  intro p e s m below meth c A ls X hO hsz hl
  have hl : lv_has ls 4 [(0, .ref al), (1, .int (nI i)), (2, .int (nI j))] := hl
  refine lv_aload_n X.x X.b dJ37_swap_0 rfl (lv_at hl 0 rfl) ?_
  refine lv_astore_n (lv' := [(3, .ref al), (0, .ref al), (1, .int (nI i)), (2, .int (nI j))]) X.x X.b dJ37_swap_1 rfl hl (by decide) rfl (fun ls hl => ?_)
  refine lv_aload_n X.x X.b dJ37_swap_2 rfl (lv_at hl 0 rfl) ?_
  refine lv_iload_n X.x X.b dJ37_swap_3 rfl (lv_at hl 2 rfl) ?_
  refine lv_aload_n X.x X.b dJ37_swap_4 rfl (lv_at hl 0 rfl) ?_
  refine lv_iload_n X.x X.b dJ37_swap_5 rfl (lv_at hl 3 rfl) ?_
  refine lv_aload_n X.x X.b dJ37_swap_6 rfl (lv_at hl 0 rfl) ?_
  refine lv_iload_n X.x X.b dJ37_swap_7 rfl (lv_at hl 2 rfl) ?_
  refine dz_F (n := 1) (x := (dz_m "java/util/List" "get" "(I)Ljava/lang/Object;")) (C := "java/util/ArrayList") (k9 := 0) (n9 := 0) (As := [.int (nI i)]) (rest := [.int (nI j), .ref al, .int (nI i), .ref al]) (wr := [vp]) X hO hl ((X.K.1 14 _ rfl).2) (dz_J3_get l G _ al mc ar n cap f i (by first | assumption | omega | decide) (by first | assumption | omega | decide) (by first | assumption | omega | decide)) (dz_F4 q1795 q938 q732 q52 q733) (by decide) (by decide +kernel) ⟨Nat.le_of_ble_eq_true rfl, Nat.le_of_ble_eq_true rfl⟩ ⟨(Nat.le_of_ble_eq_true rfl), (Nat.le_of_ble_eq_true rfl), (Nat.le_of_ble_eq_true rfl), (Nat.le_of_ble_eq_true rfl)⟩ [0, 1] [2] rfl rfl rfl (dz_rc X (hO.at1 0 rfl) (r := (RJ3, TJ3, 3)) rfl) rfl rfl (Nat.le_of_ble_eq_true rfl) dJ37_swap_8 (fun E w1 q9 ce9 H locs hpx hO hce hv9 hcl9 => hpx.elim) (fun r w1 H locs hpo hO => ?_)
  obtain ⟨rfl, rfl⟩ := hpo
  have hO : dz_O G.1 dz_CL A s.heap [vp, [(al, dzo 14 [.int mc, .ref ar, .int (nI n)])], [(ar, dzO G cap f)]] _ _ := hO
  refine W.eq (g2 := F0 m 13 ls [va_rf (f i), .int (nI j), .ref al, .int (nI i), .ref al]) rfl ?_
  refine dz_rev (w := .ref u) (by rw [hfi]; rfl) ?_
  refine dz_F (n := 2) (x := (dz_m "java/util/List" "set" "(ILjava/lang/Object;)Ljava/lang/Object;")) (C := "java/util/ArrayList") (k9 := 0) (n9 := 0) (As := [.int (nI j), .ref u]) (rest := [.int (nI i), .ref al]) (wr := []) X hO hl ((X.K.1 14 _ rfl).2) (dz_J3_set l G _ al mc ar n cap f j v u vp (by first | assumption | omega | decide) (by first | assumption | omega | decide) (by first | assumption | omega | decide) (hfj) (hu)) (dz_F4 q1797 q1800 q1802 q52 q1804) (by decide) (by decide +kernel) ⟨Nat.le_of_ble_eq_true rfl, Nat.le_of_ble_eq_true rfl⟩ ⟨(Nat.le_of_ble_eq_true rfl), (Nat.le_of_ble_eq_true rfl), (Nat.le_of_ble_eq_true rfl), (Nat.le_of_ble_eq_true rfl)⟩ [1, 2, 0] [] rfl rfl rfl (dz_rc X (hO.at1 1 rfl) (r := (RJ3, TJ3, 3)) rfl) rfl rfl (Nat.le_of_ble_eq_true rfl) dJ37_swap_13 (fun E w1 q9 ce9 H locs hpx hO hce hv9 hcl9 => hpx.elim) (fun r w1 H locs hpo hO => ?_)
  obtain ⟨rfl, rfl⟩ := hpo
  have hO : dz_O G.1 dz_CL A s.heap [[(al, dzo 14 [.int mc, .ref ar, .int (nI n)])], [(ar, dzO G cap (va_up f j (some u)))], vp] _ _ := hO
  refine W.eq (g2 := F0 m 18 ls [.ref v, .int (nI i), .ref al]) rfl ?_
  refine dz_F (n := 2) (x := (dz_m "java/util/List" "set" "(ILjava/lang/Object;)Ljava/lang/Object;")) (C := "java/util/ArrayList") (k9 := 0) (n9 := 0) (As := [.int (nI i), .ref v]) (rest := []) (wr := []) X hO hl ((X.K.1 14 _ rfl).2) (dz_J3_set l G _ al mc ar n cap (va_up f j (some u)) i u v vp (by first | assumption | omega | decide) (by first | assumption | omega | decide) (by first | assumption | omega | decide) (by unfold va_up; split <;> first | rfl | exact hfi) (hv)) (dz_F4 q1797 q1800 q1802 q52 q1804) (by decide) (by decide +kernel) ⟨Nat.le_of_ble_eq_true rfl, Nat.le_of_ble_eq_true rfl⟩ ⟨(Nat.le_of_ble_eq_true rfl), (Nat.le_of_ble_eq_true rfl), (Nat.le_of_ble_eq_true rfl), (Nat.le_of_ble_eq_true rfl)⟩ [0, 1, 2] [] rfl rfl rfl (dz_rc X (hO.at1 0 rfl) (r := (RJ3, TJ3, 3)) rfl) rfl rfl (Nat.le_of_ble_eq_true rfl) dJ37_swap_18 (fun E w1 q9 ce9 H locs hpx hO hce hv9 hcl9 => hpx.elim) (fun r w1 H locs hpo hO => ?_)
  obtain ⟨rfl, rfl⟩ := hpo
  have hO : dz_O G.1 dz_CL A s.heap [[(al, dzo 14 [.int mc, .ref ar, .int (nI n)])], [(ar, dzO G cap (va_up (va_up f j (some u)) i (some v)))], vp] _ _ := hO
  refine W.eq (g2 := F0 m 23 ls [.ref u]) rfl ?_
  refine lv_pop X.x X.b dJ37_swap_23 rfl ?_
  exact dz_vret X hO rfl (⟨rfl, rfl⟩) (Nat.le_of_ble_eq_true rfl) (Nat.le_of_ble_eq_true rfl) dJ37_swap_24
set_option maxHeartbeats 4000000 in
set_option maxRecDepth 100000 in
/-- reverse -/
theorem dz_J37_reverse (l : Launch) (G : dz_G) (sz : Nat) (al : Nat) (mc : Int32) (ar : Nat) (n : Nat) (cap : Nat) (f : Nat → Option Nat) (vp : va_W) (h0 : 0 < n) (hn : n ≤ cap) (hc : cap ≤ 17) (hall : ∀ k, k < n → ∃ u, f k = some u ∧ dz_is vp u) : dz_M l G yJ37_reverse cJ37_reverse 7 none ({ frames := 100, cells := 0, slots := 0, locals := 1500 } : Room) [.ref al] [[(al, dzo 14 [.int mc, .ref ar, .int (nI n)])], [(ar, dzO G cap f)], vp] sz (fun r w1 => r = none ∧ w1 = [[(al, dzo 14 [.int mc, .ref ar, .int (nI n)])], [(ar, dzO G cap (dz_rv f n (n / 2)))], vp]) (dz_np) := by
  refine dz_start (by decide) (Nat.le_of_ble_eq_true rfl) ?_
  intro p e s m below meth c A ls X hO hsz hl
  have hl : lv_has ls 7 [(0, .ref al)] := hl
  refine lv_aload_n X.x X.b dJ37_reverse_0 rfl (lv_at hl 0 rfl) ?_
  refine dz_F (n := 0) (x := (dz_m "java/util/List" "size" "()I")) (C := "java/util/ArrayList") (k9 := 0) (n9 := 0) (As := []) (rest := []) (wr := [[(ar, dzO G cap f)], vp]) X hO hl ((X.K.1 14 _ rfl).2) (dz_J3_size l G _ al mc ar n ) (dz_F4 q1776 q1779 q679 q52 q680) (by decide) (by decide +kernel) ⟨Nat.le_of_ble_eq_true rfl, Nat.le_of_ble_eq_true rfl⟩ ⟨(Nat.le_of_ble_eq_true rfl), (Nat.le_of_ble_eq_true rfl), (Nat.le_of_ble_eq_true rfl), (Nat.le_of_ble_eq_true rfl)⟩ [0] [1, 2] rfl rfl rfl (dz_rc X (hO.at1 0 rfl) (r := (RJ3, TJ3, 3)) rfl) rfl rfl (Nat.le_of_ble_eq_true rfl) dJ37_reverse_1 (fun E w1 q9 ce9 H locs hpx hO hce hv9 hcl9 => hpx.elim) (fun r w1 H locs hpo hO => ?_)
  obtain ⟨rfl, rfl⟩ := hpo
  have hO : dz_O G.1 dz_CL A s.heap [[(ar, dzO G cap f)], vp, [(al, dzo 14 [.int mc, .ref ar, .int (nI n)])]] _ _ := hO
  refine W.eq (g2 := F0 m 6 ls [.int (nI n)]) rfl ?_
  refine lv_istore_n (lv' := [(1, .int (nI n)), (0, .ref al)]) X.x X.b dJ37_reverse_6 rfl hl (by decide) rfl (fun ls hl => ?_)
  refine lv_iload_n X.x X.b dJ37_reverse_7 rfl (lv_at hl 0 rfl) ?_
  refine lv_bipush (v := 18) X.x X.b dJ37_reverse_8 (by decide) ?_
  refine lv_icmp_lt (tgt := 20) X.x X.b dJ37_reverse_10 (by decide) (fun _ => ?_) (fun c_1 => absurd (by rw [show (18 : Int32) = nI 18 by decide, nI_ltI (by omega) (by omega)]; omega) c_1)
  refine lv_iconst (v := 0) X.x X.b dJ37_reverse_20 (by decide) ?_
  refine lv_istore_n (lv' := [(2, .int 0), (1, .int (nI n)), (0, .ref al)]) X.x X.b dJ37_reverse_21 rfl hl (by decide) rfl (fun ls hl => ?_)
  refine lv_iload_n X.x X.b dJ37_reverse_22 rfl (lv_at hl 1 rfl) ?_
  refine lv_iconst (v := 1) X.x X.b dJ37_reverse_23 (by decide) ?_
  refine lv_ishr X.x X.b dJ37_reverse_24 ?_
  refine dz_rei (y := nI (n / 2)) (dz_shr1' _ (by omega)) ?_
  refine lv_istore_n (lv' := [(3, .int (nI (n / 2))), (2, .int 0), (1, .int (nI n)), (0, .ref al)]) X.x X.b dJ37_reverse_25 rfl hl (by decide) rfl (fun ls hl => ?_)
  refine lv_iload_n X.x X.b dJ37_reverse_26 rfl (lv_at hl 2 rfl) ?_
  refine lv_iconst (v := 1) X.x X.b dJ37_reverse_27 (by decide) ?_
  refine lv_isub X.x X.b dJ37_reverse_28 ?_
  refine dz_rei (y := nI (n - 1)) (pk_sub (b := 1) h0) ?_
  refine lv_istore (lv' := [(4, .int (nI (n - 1))), (3, .int (nI (n / 2))), (2, .int 0), (1, .int (nI n)), (0, .ref al)]) X.x X.b dJ37_reverse_29 hl (by decide) rfl (fun ls hl => ?_)
  have hcut_31 : ∀ (n9 : Nat), ∀ (k : Nat), (k ≤ n / 2) → n / 2 - k < n9 → ∀ (H : Heap) (locs : List Loc), dz_O G.1 dz_CL A s.heap [[(ar, dzO G cap (dz_rv f n k))], vp, [(al, dzo 14 [.int mc, .ref ar, .int (nI n)])]] H locs → ∀ (ls : Array Slot), lv_has ls 7 [(4, .int (nI (n - 1 - k))), (3, .int (nI (n / 2))), (2, .int (nI k)), (1, .int (nI n)), (0, .ref al)] → W p l e ({ frames := 100, cells := 0, slots := 0, locals := 1500 } : Room) s m ([.ref al] : List Value).toArray below meth c H locs 0 0 (vx_MQ below (dz_Q G (fun r w1 => r = none ∧ w1 = [[(al, dzo 14 [.int mc, .ref ar, .int (nI n)])], [(ar, dzO G cap (dz_rv f n (n / 2)))], vp]) A) (dz_QX G (dz_np) A) ([.ref al] : List Value).toArray s 0 0 A) (F0 m 31 ls []) := by
    intro n9
    induction n9 with
    | zero => intro k hk hmu9; exact absurd hmu9 (Nat.not_lt_zero _)
    | succ n9 ih =>
      intro k hk hmu9 H locs hO ls hl
      refine lv_iload_n X.x X.b dJ37_reverse_31 rfl (lv_at hl 2 rfl) ?_
      refine lv_iload_n X.x X.b dJ37_reverse_32 rfl (lv_at hl 1 rfl) ?_
      refine lv_icmp_ge (tgt := 52) X.x X.b dJ37_reverse_33 (by decide) (fun c_2 => ?_) (fun c_2 => ?_)
      · have nc_2 : n / 2 ≤ k := (nI_leI (a := n / 2) (b := k) (by omega) (by omega)).mp c_2
        have hk9 : k = n / 2 := by omega
        have hO := hO.cong 0 rfl (w1 := [(ar, dzO G cap (dz_rv f n (n / 2)))]) (congrArg (fun z9 => [(ar, dzO G cap z9)]) (show (dz_rv f n (n / 2)) = (dz_rv f n k) from by rw [hk9]))
        have hO : dz_O G.1 dz_CL A s.heap [[(ar, dzO G cap (dz_rv f n (n / 2)))], vp, [(al, dzo 14 [.int mc, .ref ar, .int (nI n)])]] _ _ := hO
        refine lv_goto (tgt := 124) X.x X.b dJ37_reverse_52 (by decide) ?_
        have hO := hO.sel (v := [[(al, dzo 14 [.int mc, .ref ar, .int (nI n)])], [(ar, dzO G cap (dz_rv f n (n / 2)))], vp]) [2, 0, 1] rfl rfl
        exact dz_vret X hO rfl (⟨rfl, rfl⟩) (Nat.le_of_ble_eq_true rfl) (Nat.le_of_ble_eq_true rfl) dJ37_reverse_124
      · have nc_2 : ¬ n / 2 ≤ k := fun z9 => c_2 ((nI_leI (a := n / 2) (b := k) (by omega) (by omega)).mpr z9)
        obtain ⟨u9, hu9, hiu⟩ := hall k (by omega)
        obtain ⟨v9, hv9, hiv⟩ := hall (n - 1 - k) (by omega)
        refine lv_aload_n X.x X.b dJ37_reverse_36 rfl (lv_at hl 4 rfl) ?_
        refine lv_iload_n X.x X.b dJ37_reverse_37 rfl (lv_at hl 2 rfl) ?_
        refine lv_iload X.x X.b dJ37_reverse_38 (lv_at hl 0 rfl) ?_
        refine dz_S (n := 3) (k9 := 0) (n9 := 0) (As := [.ref al, .int (nI k), .int (nI (n - 1 - k))]) (rest := []) (wr := []) X hO hl (dz_J37_swap l G _ al mc ar n cap (dz_rv f n k) k (n - 1 - k) u9 v9 vp (by first | assumption | omega | decide) (by first | assumption | omega | decide) (by first | assumption | omega | decide) (by first | assumption | omega | decide) (by rw [dz_rv_at (by omega)]; exact hu9) (by rw [dz_rv_at (by omega)]; exact hv9) (hiu) (hiv)) (lw_S q1791 q1792 q99 q1793) (by decide +kernel) ⟨Nat.le_of_ble_eq_true rfl, Nat.le_of_ble_eq_true rfl⟩ ⟨(Nat.le_of_ble_eq_true rfl), (Nat.le_of_ble_eq_true rfl), (Nat.le_of_ble_eq_true rfl), (Nat.le_of_ble_eq_true rfl)⟩ [2, 0, 1] [] rfl rfl rfl rfl rfl (Nat.le_of_ble_eq_true rfl) dJ37_reverse_40 (fun E w1 q9 ce9 H locs hpx hO hce hv9 hcl9 => hpx.elim) (fun r w1 H locs hpo hO => ?_)
        obtain ⟨rfl, rfl⟩ := hpo
        have hO : dz_O G.1 dz_CL A s.heap [[(al, dzo 14 [.int mc, .ref ar, .int (nI n)])], [(ar, dzO G cap (va_up (va_up (dz_rv f n k) (n - 1 - k) (some u9)) k (some v9)))], vp] _ _ := hO
        refine W.eq (g2 := F0 m 43 ls []) rfl ?_
        refine lv_iinc (v := nI (k + 1)) (lv' := [(2, .int (nI (k + 1))), (4, .int (nI (n - 1 - k))), (3, .int (nI (n / 2))), (1, .int (nI n)), (0, .ref al)]) X.x X.b dJ37_reverse_43 hl (k := 2) rfl (nI_1 k) (by decide) rfl (fun ls hl => ?_)
        refine lv_iinc (v := nI (n - 1 - (k + 1))) (lv' := [(4, .int (nI (n - 1 - (k + 1)))), (2, .int (nI (k + 1))), (3, .int (nI (n / 2))), (1, .int (nI n)), (0, .ref al)]) X.x X.b dJ37_reverse_46 hl (k := 1) rfl (by rw [show n - 1 - k = (n - 1 - (k + 1)) + 1 by omega]; exact pk_m1 _) (by decide) rfl (fun ls hl => ?_)
        refine lv_goto (tgt := 31) X.x X.b dJ37_reverse_49 (by decide) ?_
        have hO := hO.cong 1 rfl (w1 := [(ar, dzO G cap (dz_rv f n (k + 1)))]) (congrArg (fun z9 => [(ar, dzO G cap z9)]) (show (dz_rv f n (k + 1)) = (va_up (va_up (dz_rv f n k) (n - 1 - k) (some u9)) k (some v9)) from by exact (dz_rv_s (by omega) hu9 hv9).symm))
        have hO : dz_O G.1 dz_CL A s.heap [[(al, dzo 14 [.int mc, .ref ar, .int (nI n)])], [(ar, dzO G cap (dz_rv f n (k + 1)))], vp] _ _ := hO
        have hO := hO.sel (v := [[(ar, dzO G cap (dz_rv f n (k + 1)))], vp, [(al, dzo 14 [.int mc, .ref ar, .int (nI n)])]]) [1, 2, 0] rfl rfl
        exact ih (k + 1) (by first | assumption | omega) (by omega) _ _ hO ls (lv_sub hl [0, 2, 1, 3, 4] rfl)
  have hl : lv_has ls 7 [(4, .int (nI (n - 1))), (3, .int (nI (n / 2))), (2, .int (nI 0)), (1, .int (nI n)), (0, .ref al)] := hl
  have hl : lv_has ls 7 [(4, .int (nI (n - 1 - 0))), (3, .int (nI (n / 2))), (2, .int (nI 0)), (1, .int (nI n)), (0, .ref al)] := by rw [show n - 1 - 0 = n - 1 by omega]; exact hl
  have hO := hO.cong 0 rfl (w1 := [(ar, dzO G cap (dz_rv f n 0))]) (congrArg (fun z9 => [(ar, dzO G cap z9)]) (show (dz_rv f n 0) = f from by exact dz_rv_0 _ _))
  have hO : dz_O G.1 dz_CL A s.heap [[(ar, dzO G cap (dz_rv f n 0))], vp, [(al, dzo 14 [.int mc, .ref ar, .int (nI n)])]] _ _ := hO
  exact hcut_31 _ 0 (by first | assumption | omega) (Nat.lt_succ_self _) _ _ hO ls (lv_sub hl [0, 1, 2, 3, 4] rfl)
