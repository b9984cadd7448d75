section DZANY
variable {p : Program} {s : State} {m : MethodId} {args : Array Value} {meth : Method} {c : Code} {H : Heap} {locs : List Loc} {G : dz_G} {nL : Nat} {y0 : MethodName} {cc : ByteArray} {ret : Option FieldType} {tb : List ExceptionTableEntry} {A : Nat → Prop} {ww : dz_W}
/-- v is an object of the part vp -/
def dz_is (vp : va_W) (v : Nat) : Prop := ∃ (ci : Nat) (fs : List Value) (r : vw_C), (v, Sum.inr (ci, fs)) ∈ vp ∧ dz_CL[ci]? = some r ∧ Cond.castable r.1 "java/lang/Object" ∈ lw_tbl
theorem dz_is_any (X : dz_X p s m args meth c G y0 cc nL ret tb A) (hO : dz_O G.1 dz_CL A s.heap ww H locs) (k : Nat) {vp : va_W} (hk : ww[k]? = some vp) {v : Nat} (h : dz_is vp v) : va_Any "java/lang/Object" s H v := by
  obtain ⟨ci, fs, r, h1, h2, h3⟩ := h
  exact dz_anyC X (hO.1 _ (dz_mem hk h1)) h2 h3
end DZANY
theorem dz_is1 (v ci : Nat) (fs : List Value) {r : vw_C} (h : dz_CL[ci]? = some r) (hc : Cond.castable r.1 "java/lang/Object" ∈ lw_tbl) : dz_is [(v, dzo ci fs)] v := ⟨ci, fs, r, List.mem_cons_self, h, hc⟩
theorem dz_isP {n i : Nat} (hi : i < n) {f : Nat → Nat × va_E} {v ci : Nat} {fs : List Value} (e : f i = (v, dzo ci fs)) {r : vw_C} (h : dz_CL[ci]? = some r) (hc : Cond.castable r.1 "java/lang/Object" ∈ lw_tbl) : dz_is (dz_pn n f) v := ⟨ci, fs, r, e ▸ dz_pn_mem hi, h, hc⟩
def dz_nz (k n : Nat) : Int32 := if k = n then 0 else 1
set_option maxHeartbeats 4000000 in
set_option maxRecDepth 100000 in
/-- AbstractList: an ArrayList -/
theorem dz_J2_init (l : Launch) (G : dz_G) (sz : Nat) (q : Nat) (x : Value) (y : Int32)  : dz_M l G yJ2_init cJ2_init 1 none ({ frames := 40, cells := 0, slots := 0, locals := 600 } : Room) [.ref q] [[(q, dzo 14 [.int 0, x, .int y])]] sz (fun r w1 => r = none ∧ w1 = [[(q, dzo 14 [.int 0, x, .int y])]]) (dz_np) := by
  refine dz_start (by decide) (Nat.le_of_ble_eq_true rfl) ?_
  intro p e s m below meth c A ls X hO hsz hl
  have hl : lv_has ls 1 [(0, .ref q)] := hl
  refine lv_aload_n X.x X.b dJ2_init_0 rfl (lv_at hl 0 rfl) ?_
  refine dz_I (ret1 := none) (n := 0) (k9 := 0) (n9 := 0) (As := []) (rest := []) (wr := [[(q, dzo 14 [.int 0, x, .int y])]]) X hO hl (dz_J1_init l G _ q ) q151 q50 q149 q150 rfl (by decide +kernel) ⟨Nat.le_of_ble_eq_true rfl, Nat.le_of_ble_eq_true rfl⟩ ⟨(Nat.le_of_ble_eq_true rfl), (Nat.le_of_ble_eq_true rfl), (Nat.le_of_ble_eq_true rfl), (Nat.le_of_ble_eq_true rfl)⟩ [] [0] rfl rfl rfl rfl rfl (Nat.le_of_ble_eq_true rfl) dJ2_init_1 (fun E w1 q9 ce9 H locs hpx hO hce hv9 hcl9 => hpx.elim) (fun r w1 H locs hpo hO => ?_)
  obtain ⟨rfl, rfl⟩ := hpo
  have hO : dz_O G.1 dz_CL A s.heap [[(q, dzo 14 [.int 0, x, .int y])]] _ _ := hO
  refine W.eq (g2 := F0 m 4 ls []) rfl ?_
  refine lv_aload_n X.x X.b dJ2_init_4 rfl (lv_at hl 0 rfl) ?_
  refine lv_iconst (v := 0) X.x X.b dJ2_init_5 (by decide) ?_
  refine dz_put (v := .int 0) X hO 0 rfl in_J3 tyJ3 tyJ3_ok nmJ3 rfl 0 (by decide) q479 (Or.inl rfl) (Or.inl rfl) rfl rfl (Nat.le_of_ble_eq_true rfl) dJ2_init_6 (fun H locs hO => ?_)
  have hO : dz_O G.1 dz_CL A s.heap [[(q, dzo 14 [.int 0, x, .int y])]] _ _ := hO
  exact dz_vret X hO rfl (⟨rfl, rfl⟩) (Nat.le_of_ble_eq_true rfl) (Nat.le_of_ble_eq_true rfl) dJ2_init_9
set_option maxHeartbeats 4000000 in
set_option maxRecDepth 100000 in
/-- AbstractList: a LinkedList -/
theorem dz_J2_init_L (l : Launch) (G : dz_G) (sz : Nat) (q : Nat) (x : Int32) (y : Value) (z : Value)  : dz_M l G yJ2_init cJ2_init 1 none ({ frames := 40, cells := 0, slots := 0, locals := 600 } : Room) [.ref q] [[(q, dzo 15 [.int 0, .int x, y, z])]] sz (fun r w1 => r = none ∧ w1 = [[(q, dzo 15 [.int 0, .int x, y, z])]]) (dz_np) := by
  refine dz_start (by decide) (Nat.le_of_ble_eq_true rfl) ?_
  intro p e s m below meth c A ls X hO hsz hl
  have hl : lv_has ls 1 [(0, .ref q)] := hl
  refine lv_aload_n X.x X.b dJ2_init_0 rfl (lv_at hl 0 rfl) ?_
  refine dz_I (ret1 := none) (n := 0) (k9 := 0) (n9 := 0) (As := []) (rest := []) (wr := [[(q, dzo 15 [.int 0, .int x, y, z])]]) X hO hl (dz_J1_init l G _ q ) q151 q50 q149 q150 rfl (by decide +kernel) ⟨Nat.le_of_ble_eq_true rfl, Nat.le_of_ble_eq_true rfl⟩ ⟨(Nat.le_of_ble_eq_true rfl), (Nat.le_of_ble_eq_true rfl), (Nat.le_of_ble_eq_true rfl), (Nat.le_of_ble_eq_true rfl)⟩ [] [0] rfl rfl rfl rfl rfl (Nat.le_of_ble_eq_true rfl) dJ2_init_1 (fun E w1 q9 ce9 H locs hpx hO hce hv9 hcl9 => hpx.elim) (fun r w1 H locs hpo hO => ?_)
  obtain ⟨rfl, rfl⟩ := hpo
  have hO : dz_O G.1 dz_CL A s.heap [[(q, dzo 15 [.int 0, .int x, y, z])]] _ _ := hO
  refine W.eq (g2 := F0 m 4 ls []) rfl ?_
  refine lv_aload_n X.x X.b dJ2_init_4 rfl (lv_at hl 0 rfl) ?_
  refine lv_iconst (v := 0) X.x X.b dJ2_init_5 (by decide) ?_
  refine dz_put (v := .int 0) X hO 0 rfl in_J19 tyJ19 tyJ19_ok nmJ19 rfl 0 (by decide) q479 (Or.inl rfl) (Or.inl rfl) rfl rfl (Nat.le_of_ble_eq_true rfl) dJ2_init_6 (fun H locs hO => ?_)
  have hO : dz_O G.1 dz_CL A s.heap [[(q, dzo 15 [.int 0, .int x, y, z])]] _ _ := hO
  exact dz_vret X hO rfl (⟨rfl, rfl⟩) (Nat.le_of_ble_eq_true rfl) (Nat.le_of_ble_eq_true rfl) dJ2_init_9
set_option maxHeartbeats 4000000 in
set_option maxRecDepth 100000 in
/-- a list with room for cap -/
theorem dz_J3_init (l : Launch) (G : dz_G) (sz : Nat) (al : Nat) (cap : Nat) (hc : 0 < cap) (hc2 : cap ≤ 12) : dz_M l G yJ3_init cJ3_init 2 none ({ frames := 60, cells := 1, slots := 12, locals := 900 } : Room) [.ref al, .int (nI cap)] [[(al, dzo 14 [.int 0, .null, .int 0])]] sz (fun r w1 => ∃ (ar : Nat), r = none ∧ w1 = [[(al, dzo 14 [.int 0, .ref ar, .int 0])], [(ar, dzO G cap (fun _ => none))]]) (dz_np) := by
  refine dz_start (by decide) (Nat.le_of_ble_eq_true rfl) ?_
  intro p e s m below meth c A ls X hO hsz hl
  have hl : lv_has ls 2 [(0, .ref al), (1, .int (nI cap))] := hl
  refine lv_aload_n X.x X.b dJ3_init_0 rfl (lv_at hl 0 rfl) ?_
  refine dz_I (ret1 := none) (n := 0) (k9 := 0) (n9 := 0) (As := []) (rest := []) (wr := []) X hO hl (dz_J2_init l G _ al .null 0 ) q148 q51 q146 q147 rfl (by decide +kernel) ⟨Nat.le_of_ble_eq_true rfl, Nat.le_of_ble_eq_true rfl⟩ ⟨(Nat.le_of_ble_eq_true rfl), (Nat.le_of_ble_eq_true rfl), (Nat.le_of_ble_eq_true rfl), (Nat.le_of_ble_eq_true rfl)⟩ [0] [] rfl rfl rfl rfl rfl (Nat.le_of_ble_eq_true rfl) dJ3_init_1 (fun E w1 q9 ce9 H locs hpx hO hce hv9 hcl9 => hpx.elim) (fun r w1 H locs hpo hO => ?_)
  obtain ⟨rfl, rfl⟩ := hpo
  have hO : dz_O G.1 dz_CL A s.heap [[(al, dzo 14 [.int 0, .null, .int 0])]] _ _ := hO
  refine W.eq (g2 := F0 m 4 ls []) rfl ?_
  refine lv_iload_n X.x X.b dJ3_init_4 rfl (lv_at hl 1 rfl) ?_
  refine lv_if_le (tgt := 19) X.x X.b dJ3_init_5 (by decide) (fun c_1 => absurd c_1 (by rw [show (0 : Int32) = nI 0 by decide, nI_leI (by omega) (by omega)]; omega)) (fun _ => ?_)
  refine lv_aload_n X.x X.b dJ3_init_8 rfl (lv_at hl 0 rfl) ?_
  refine lv_iload_n X.x X.b dJ3_init_9 rfl (lv_at hl 1 rfl) ?_
  refine dz_newaO X hO q153 (j := cap) rfl (by omega) (by omega) (Nat.le_of_ble_eq_true rfl) (by first | omega | (dsimp only; omega)) dJ3_init_10 (fun q_2 H hO => ?_)
  have hO : dz_O G.1 dz_CL A s.heap [[(al, dzo 14 [.int 0, .null, .int 0])], [(q_2, dzO G cap (fun _ => none))]] _ _ := hO
  refine W.widen (k := 1) (n := 12) (Nat.le_of_ble_eq_true rfl) (by first | omega | (dsimp only; omega)) ?_
  refine dz_put (v := .ref q_2) X hO 0 rfl in_J3 tyJ3 tyJ3_ok nmJ3 rfl 1 (by decide) q474 (Or.inl rfl) (Or.inl rfl) rfl rfl (Nat.le_of_ble_eq_true rfl) dJ3_init_13 (fun H locs hO => ?_)
  have hO : dz_O G.1 dz_CL A s.heap [[(al, dzo 14 [.int 0, .ref q_2, .int 0])], [(q_2, dzO G cap (fun _ => none))]] _ _ := hO
  refine lv_goto (tgt := 60) X.x X.b dJ3_init_16 (by decide) ?_
  exact dz_vret X hO rfl (⟨q_2, rfl, rfl⟩) (Nat.le_of_ble_eq_true rfl) (Nat.le_of_ble_eq_true rfl) dJ3_init_60
set_option maxHeartbeats 4000000 in
set_option maxRecDepth 100000 in
/-- a list with no room yet -/
theorem dz_J3_init_2 (l : Launch) (G : dz_G) (sz : Nat) (al : Nat)  : dz_M l G yJ3_init_2 cJ3_init_2 1 none ({ frames := 60, cells := 0, slots := 0, locals := 900 } : Room) [.ref al] [[(al, dzo 14 [.int 0, .null, .int 0])]] sz (fun r w1 => r = none ∧ w1 = [[(al, dzo 14 [.int 0, .ref (G.2.2.1 9), .int 0])]]) (dz_np) := by
  refine dz_start (by decide) (Nat.le_of_ble_eq_true rfl) ?_
  intro p e s m below meth c A ls X hO hsz hl
  have hl : lv_has ls 1 [(0, .ref al)] := hl
  refine lv_aload_n X.x X.b dJ3_init_2_0 rfl (lv_at hl 0 rfl) ?_
  refine dz_I (ret1 := none) (n := 0) (k9 := 0) (n9 := 0) (As := []) (rest := []) (wr := []) X hO hl (dz_J2_init l G _ al .null 0 ) q148 q51 q146 q147 rfl (by decide +kernel) ⟨Nat.le_of_ble_eq_true rfl, Nat.le_of_ble_eq_true rfl⟩ ⟨(Nat.le_of_ble_eq_true rfl), (Nat.le_of_ble_eq_true rfl), (Nat.le_of_ble_eq_true rfl), (Nat.le_of_ble_eq_true rfl)⟩ [0] [] rfl rfl rfl rfl rfl (Nat.le_of_ble_eq_true rfl) dJ3_init_2_1 (fun E w1 q9 ce9 H locs hpx hO hce hv9 hcl9 => hpx.elim) (fun r w1 H locs hpo hO => ?_)
  obtain ⟨rfl, rfl⟩ := hpo
  have hO : dz_O G.1 dz_CL A s.heap [[(al, dzo 14 [.int 0, .null, .int 0])]] _ _ := hO
  refine W.eq (g2 := F0 m 4 ls []) rfl ?_
  refine lv_aload_n X.x X.b dJ3_init_2_4 rfl (lv_at hl 0 rfl) ?_
  refine dz_gets (v := .ref (G.2.2.1 9)) X hO X.st.2.2.2.2.2.2.2.2.2.2.1 q1590 (Or.inl rfl) dJ3_init_2_5 ?_
  refine dz_put (v := .ref (G.2.2.1 9)) X hO 0 rfl in_J3 tyJ3 tyJ3_ok nmJ3 rfl 1 (by decide) q474 (Or.inl rfl) (Or.inl rfl) rfl rfl (Nat.le_of_ble_eq_true rfl) dJ3_init_2_8 (fun H locs hO => ?_)
  have hO : dz_O G.1 dz_CL A s.heap [[(al, dzo 14 [.int 0, .ref (G.2.2.1 9), .int 0])]] _ _ := hO
  exact dz_vret X hO rfl (⟨rfl, rfl⟩) (Nat.le_of_ble_eq_true rfl) (Nat.le_of_ble_eq_true rfl) dJ3_init_2_11
set_option maxHeartbeats 4000000 in
set_option maxRecDepth 100000 in
/-- size -/
theorem dz_J3_size (l : Launch) (G : dz_G) (sz : Nat) (al : Nat) (mc : Int32) (ar : Nat) (n : Nat)  : dz_M l G yJ3_size cJ3_size 1 (some FieldType.int) ({ frames := 20, cells := 0, slots := 0, locals := 300 } : Room) [.ref al] [[(al, dzo 14 [.int mc, .ref ar, .int (nI n)])]] sz (fun r w1 => r = some (.int (nI n)) ∧ w1 = [[(al, dzo 14 [.int mc, .ref ar, .int (nI n)])]]) (dz_np) := by
  refine dz_start (by decide) (Nat.le_of_ble_eq_true rfl) ?_
  intro p e s m below meth c A ls X hO hsz hl
  have hl : lv_has ls 1 [(0, .ref al)] := hl
  refine lv_aload_n X.x X.b dJ3_size_0 rfl (lv_at hl 0 rfl) ?_
  refine dz_get (v := .int (nI n)) X (hO.at1 0 rfl) in_J3 rfl 2 (by decide) q478 (Or.inl rfl) rfl dJ3_size_1 ?_
  exact dz_iret X hO rfl (⟨rfl, rfl⟩) (Nat.le_of_ble_eq_true rfl) (Nat.le_of_ble_eq_true rfl) dJ3_size_4
set_option maxHeartbeats 4000000 in
set_option maxRecDepth 100000 in
/-- an index that fits -/
theorem dz_J15_checkIndex (l : Launch) (G : dz_G) (sz : Nat) (k : Nat) (n : Nat) (hk : k < n) (hn : n < 1000000) : dz_M l G yJ15_checkIndex cJ15_checkIndex 3 (some FieldType.int) ({ frames := 20, cells := 0, slots := 0, locals := 300 } : Room) [.int (nI k), .int (nI n), .null] [] sz (fun r w1 => r = some (.int (nI k)) ∧ w1 = []) (dz_np) := by
  refine dz_start (by decide) (Nat.le_of_ble_eq_true rfl) ?_
  intro p e s m below meth c A ls X hO hsz hl
  have hl : lv_has ls 3 [(0, .int (nI k)), (1, .int (nI n)), (2, .null)] := hl
  refine lv_iload_n X.x X.b dJ15_checkIndex_0 rfl (lv_at hl 0 rfl) ?_
  refine lv_if_lt (tgt := 9) X.x X.b dJ15_checkIndex_1 (by decide) (fun c_1 => absurd c_1 (nI_pos (by omega))) (fun _ => ?_)
  refine lv_iload_n X.x X.b dJ15_checkIndex_4 rfl (lv_at hl 0 rfl) ?_
  refine lv_iload_n X.x X.b dJ15_checkIndex_5 rfl (lv_at hl 1 rfl) ?_
  refine lv_icmp_lt (tgt := 16) X.x X.b dJ15_checkIndex_6 (by decide) (fun _ => ?_) (fun c_2 => absurd ((nI_ltI (by omega) (by omega)).mpr hk) c_2)
  refine lv_iload_n X.x X.b dJ15_checkIndex_16 rfl (lv_at hl 0 rfl) ?_
  exact dz_iret X hO rfl (⟨rfl, rfl⟩) (Nat.le_of_ble_eq_true rfl) (Nat.le_of_ble_eq_true rfl) dJ15_checkIndex_17
set_option maxHeartbeats 4000000 in
set_option maxRecDepth 100000 in
/-- an index that fits -/
theorem dz_J32_checkIndex (l : Launch) (G : dz_G) (sz : Nat) (k : Nat) (n : Nat) (hk : k < n) (hn : n < 1000000) : dz_M l G yJ32_checkIndex cJ32_checkIndex 2 (some FieldType.int) ({ frames := 40, cells := 0, slots := 0, locals := 600 } : Room) [.int (nI k), .int (nI n)] [] sz (fun r w1 => r = some (.int (nI k)) ∧ w1 = []) (dz_np) := by
  refine dz_start (by decide) (Nat.le_of_ble_eq_true rfl) ?_
  intro p e s m below meth c A ls X hO hsz hl
  have hl : lv_has ls 2 [(0, .int (nI k)), (1, .int (nI n))] := hl
  refine lv_iload_n X.x X.b dJ32_checkIndex_0 rfl (lv_at hl 0 rfl) ?_
  refine lv_iload_n X.x X.b dJ32_checkIndex_1 rfl (lv_at hl 1 rfl) ?_
  refine lv_null X.x X.b dJ32_checkIndex_2 ?_
  refine dz_S (n := 3) (k9 := 0) (n9 := 0) (As := [.int (nI k), .int (nI n), .null]) (rest := []) (wr := []) X hO hl (dz_J15_checkIndex l G _ k n (by first | assumption | omega | decide) (by first | assumption | omega | decide)) (lw_S q737 q738 q65 q739) (by decide +kernel) ⟨Nat.le_of_ble_eq_true rfl, Nat.le_of_ble_eq_true rfl⟩ ⟨(Nat.le_of_ble_eq_true rfl), (Nat.le_of_ble_eq_true rfl), (Nat.le_of_ble_eq_true rfl), (Nat.le_of_ble_eq_true rfl)⟩ [] [] rfl rfl rfl rfl rfl (Nat.le_of_ble_eq_true rfl) dJ32_checkIndex_3 (fun E w1 q9 ce9 H locs hpx hO hce hv9 hcl9 => hpx.elim) (fun r w1 H locs hpo hO => ?_)
  obtain ⟨rfl, rfl⟩ := hpo
  have hO : dz_O G.1 dz_CL A s.heap [] _ _ := hO
  refine W.eq (g2 := F0 m 6 ls [.int (nI k)]) rfl ?_
  exact dz_iret X hO rfl (⟨rfl, rfl⟩) (Nat.le_of_ble_eq_true rfl) (Nat.le_of_ble_eq_true rfl) dJ32_checkIndex_6
set_option maxHeartbeats 4000000 in
set_option maxRecDepth 100000 in
/-- elementData -/
theorem dz_J3_elementData (l : Launch) (G : dz_G) (sz : Nat) (al : Nat) (mc : Int32) (ar : Nat) (n : Nat) (cap : Nat) (f : Nat → Option Nat) (k : Nat) (hk : k < cap) (hc : cap < 1000000) : dz_M l G yJ3_elementData cJ3_elementData 2 (some (FieldType.object "java/lang/Object")) ({ frames := 20, cells := 0, slots := 0, locals := 300 } : Room) [.ref al, .int (nI k)] [[(al, dzo 14 [.int mc, .ref ar, .int (nI n)])], [(ar, dzO G cap f)]] sz (fun r w1 => r = some (va_rf (f k)) ∧ w1 = [[(al, dzo 14 [.int mc, .ref ar, .int (nI n)])], [(ar, dzO G cap f)]]) (dz_np) := by
  refine dz_start (by decide) (Nat.le_of_ble_eq_true rfl) ?_
  intro p e s m below meth c A ls X hO hsz hl
  have hl : lv_has ls 2 [(0, .ref al), (1, .int (nI k))] := hl
  refine lv_aload_n X.x X.b dJ3_elementData_0 rfl (lv_at hl 0 rfl) ?_
  refine dz_get (v := .ref ar) X (hO.at1 0 rfl) in_J3 rfl 1 (by decide) q474 (Or.inl rfl) rfl dJ3_elementData_1 ?_
  refine lv_iload_n X.x X.b dJ3_elementData_4 rfl (lv_at hl 1 rfl) ?_
  refine dz_aldO X (hO.at1 1 rfl) (j := k) rfl (by omega) (by omega) dJ3_elementData_5 ?_
  exact dz_aret X hO rfl (Or.inl ⟨_, rfl⟩) (va_rf_or _) (⟨rfl, rfl⟩) (Nat.le_of_ble_eq_true rfl) (Nat.le_of_ble_eq_true rfl) dJ3_elementData_6
set_option maxHeartbeats 4000000 in
set_option maxRecDepth 100000 in
/-- get -/
theorem dz_J3_get (l : Launch) (G : dz_G) (sz : Nat) (al : Nat) (mc : Int32) (ar : Nat) (n : Nat) (cap : Nat) (f : Nat → Option Nat) (k : Nat) (hk : k < n) (hn : n ≤ cap) (hc : cap < 1000000) : dz_M l G yJ3_get cJ3_get 2 (some (FieldType.object "java/lang/Object")) ({ frames := 60, cells := 0, slots := 0, locals := 900 } : Room) [.ref al, .int (nI k)] [[(al, dzo 14 [.int mc, .ref ar, .int (nI n)])], [(ar, dzO G cap f)]] sz (fun r w1 => r = some (va_rf (f k)) ∧ w1 = [[(al, dzo 14 [.int mc, .ref ar, .int (nI n)])], [(ar, dzO G cap f)]]) (dz_np) := by
  refine dz_start (by decide) (Nat.le_of_ble_eq_true rfl) ?_
  intro p e s m below meth c A ls X hO hsz hl
  have hl : lv_has ls 2 [(0, .ref al), (1, .int (nI k))] := hl
  refine lv_iload_n X.x X.b dJ3_get_0 rfl (lv_at hl 1 rfl) ?_
  refine lv_aload_n X.x X.b dJ3_get_1 rfl (lv_at hl 0 rfl) ?_
  refine dz_get (v := .int (nI n)) X (hO.at1 0 rfl) in_J3 rfl 2 (by decide) q478 (Or.inl rfl) rfl dJ3_get_2 ?_
  refine dz_S (n := 2) (k9 := 0) (n9 := 0) (As := [.int (nI k), .int (nI n)]) (rest := []) (wr := [[(al, dzo 14 [.int mc, .ref ar, .int (nI n)])], [(ar, dzO G cap f)]]) X hO hl (dz_J32_checkIndex l G _ k n (by first | assumption | omega | decide) (by first | assumption | omega | decide)) (lw_S q734 q735 q91 q736) (by decide +kernel) ⟨Nat.le_of_ble_eq_true rfl, Nat.le_of_ble_eq_true rfl⟩ ⟨(Nat.le_of_ble_eq_true rfl), (Nat.le_of_ble_eq_true rfl), (Nat.le_of_ble_eq_true rfl), (Nat.le_of_ble_eq_true rfl)⟩ [] [0, 1] rfl rfl rfl rfl rfl (Nat.le_of_ble_eq_true rfl) dJ3_get_5 (fun E w1 q9 ce9 H locs hpx hO hce hv9 hcl9 => hpx.elim) (fun r w1 H locs hpo hO => ?_)
  obtain ⟨rfl, rfl⟩ := hpo
  have hO : dz_O G.1 dz_CL A s.heap [[(al, dzo 14 [.int mc, .ref ar, .int (nI n)])], [(ar, dzO G cap f)]] _ _ := hO
  refine W.eq (g2 := F0 m 8 ls [.int (nI k)]) rfl ?_
  refine lv_pop X.x X.b dJ3_get_8 rfl ?_
  refine lv_aload_n X.x X.b dJ3_get_9 rfl (lv_at hl 0 rfl) ?_
  refine lv_iload_n X.x X.b dJ3_get_10 rfl (lv_at hl 1 rfl) ?_
  refine dz_V (n := 1) (k9 := 0) (n9 := 0) (As := [.int (nI k)]) (rest := []) (wr := []) X hO hl (dz_J3_elementData l G _ al mc ar n cap f k (by first | assumption | omega | decide) (by first | assumption | omega | decide)) (lw_V q740 q741 q742 q52 q743) (by decide +kernel) ⟨Nat.le_of_ble_eq_true rfl, Nat.le_of_ble_eq_true rfl⟩ ⟨(Nat.le_of_ble_eq_true rfl), (Nat.le_of_ble_eq_true rfl), (Nat.le_of_ble_eq_true rfl), (Nat.le_of_ble_eq_true rfl)⟩ [0, 1] [] rfl rfl rfl (dz_rc X (hO.at1 0 rfl) (r := (RJ3, TJ3, 3)) rfl) rfl rfl (Nat.le_of_ble_eq_true rfl) dJ3_get_11 (fun E w1 q9 ce9 H locs hpx hO hce hv9 hcl9 => hpx.elim) (fun r w1 H locs hpo hO => ?_)
  obtain ⟨rfl, rfl⟩ := hpo
  have hO : dz_O G.1 dz_CL A s.heap [[(al, dzo 14 [.int mc, .ref ar, .int (nI n)])], [(ar, dzO G cap f)]] _ _ := hO
  refine W.eq (g2 := F0 m 14 ls [va_rf (f k)]) rfl ?_
  exact dz_aret X hO rfl (Or.inl ⟨_, rfl⟩) (va_rf_or _) (⟨rfl, rfl⟩) (Nat.le_of_ble_eq_true rfl) (Nat.le_of_ble_eq_true rfl) dJ3_get_14
set_option maxHeartbeats 4000000 in
set_option maxRecDepth 100000 in
/-- add where there is room -/
theorem dz_J3_add_2 (l : Launch) (G : dz_G) (sz : Nat) (al : Nat) (mc : Int32) (ar : Nat) (n : Nat) (cap : Nat) (f : Nat → Option Nat) (v : Nat) (vp : va_W) (hn : n < cap) (hc : cap < 1000000) (hv : dz_is vp v) : dz_M l G yJ3_add_2 cJ3_add_2 4 none ({ frames := 20, cells := 0, slots := 0, locals := 300 } : Room) [.ref al, .ref v, .ref ar, .int (nI n)] [[(al, dzo 14 [.int mc, .ref ar, .int (nI n)])], [(ar, dzO G cap f)], vp] sz (fun r w1 => r = none ∧ w1 = [[(al, dzo 14 [.int mc, .ref ar, .int (nI (n + 1))])], [(ar, dzO G cap (va_up f n (some v)))], vp]) (dz_np) := by
  refine dz_start (by decide) (Nat.le_of_ble_eq_true rfl) ?_
  intro p e s m below meth c A ls X hO hsz hl
  have hl : lv_has ls 4 [(0, .ref al), (1, .ref v), (2, .ref ar), (3, .int (nI n))] := hl
  refine lv_iload_n X.x X.b dJ3_add_2_0 rfl (lv_at hl 3 rfl) ?_
  refine lv_aload_n X.x X.b dJ3_add_2_1 rfl (lv_at hl 2 rfl) ?_
  refine dz_alen (v := nI cap) X (hO.at1 1 rfl) 5 rfl (by first | rfl | decide) dJ3_add_2_2 ?_
  refine lv_icmp_ne (tgt := 11) X.x X.b dJ3_add_2_3 (by decide) (fun _ => ?_) (fun c_1 => absurd c_1 (fun z => by have := (nI_eq (by omega) (by omega)).mp z; omega))
  refine lv_aload_n X.x X.b dJ3_add_2_11 rfl (lv_at hl 2 rfl) ?_
  refine lv_iload_n X.x X.b dJ3_add_2_12 rfl (lv_at hl 3 rfl) ?_
  refine lv_aload_n X.x X.b dJ3_add_2_13 rfl (lv_at hl 1 rfl) ?_
  refine dz_aastO X hO 1 rfl (dz_is_any X hO 2 rfl hv) (j := n) rfl (by omega) (by omega) dJ3_add_2_14 (fun H locs hO => ?_)
  have hO : dz_O G.1 dz_CL A s.heap [[(al, dzo 14 [.int mc, .ref ar, .int (nI n)])], [(ar, dzO G cap (va_up f n (some v)))], vp] _ _ := hO
  refine lv_aload_n X.x X.b dJ3_add_2_15 rfl (lv_at hl 0 rfl) ?_
  refine lv_iload_n X.x X.b dJ3_add_2_16 rfl (lv_at hl 3 rfl) ?_
  refine lv_iconst (v := 1) X.x X.b dJ3_add_2_17 (by decide) ?_
  refine lv_iadd X.x X.b dJ3_add_2_18 ?_
  refine dz_rei (y := nI (n + 1)) (nI_add n 1) ?_
  refine dz_put (v := .int (nI (n + 1))) X hO 0 rfl in_J3 tyJ3 tyJ3_ok nmJ3 rfl 2 (by decide) q478 (Or.inl rfl) (Or.inl rfl) rfl rfl (Nat.le_of_ble_eq_true rfl) dJ3_add_2_19 (fun H locs hO => ?_)
  have hO : dz_O G.1 dz_CL A s.heap [[(al, dzo 14 [.int mc, .ref ar, .int (nI (n + 1))])], [(ar, dzO G cap (va_up f n (some v)))], vp] _ _ := hO
  exact dz_vret X hO rfl (⟨rfl, rfl⟩) (Nat.le_of_ble_eq_true rfl) (Nat.le_of_ble_eq_true rfl) dJ3_add_2_22
set_option maxHeartbeats 4000000 in
set_option maxRecDepth 100000 in
/-- add where there is room -/
theorem dz_J3_add (l : Launch) (G : dz_G) (sz : Nat) (al : Nat) (mc : Int32) (ar : Nat) (n : Nat) (cap : Nat) (f : Nat → Option Nat) (v : Nat) (vp : va_W) (hn : n < cap) (hc : cap < 1000000) (hv : dz_is vp v) : dz_M l G yJ3_add cJ3_add 2 (some FieldType.boolean) ({ frames := 40, cells := 0, slots := 0, locals := 600 } : Room) [.ref al, .ref v] [[(al, dzo 14 [.int mc, .ref ar, .int (nI n)])], [(ar, dzO G cap f)], vp] sz (fun r w1 => r = some (.int 1) ∧ w1 = [[(al, dzo 14 [.int (mc + 1), .ref ar, .int (nI (n + 1))])], [(ar, dzO G cap (va_up f n (some v)))], vp]) (dz_np) := by
  refine dz_start (by decide) (Nat.le_of_ble_eq_true rfl) ?_
  intro p e s m below meth c A ls X hO hsz hl
  have hl : lv_has ls 2 [(0, .ref al), (1, .ref v)] := hl
  refine lv_aload_n X.x X.b dJ3_add_0 rfl (lv_at hl 0 rfl) ?_
  refine lv_dup X.x X.b dJ3_add_1 rfl ?_
  refine dz_get (v := .int mc) X (hO.at1 0 rfl) in_J3 rfl 0 (by decide) q487 (Or.inr q483) rfl dJ3_add_2 ?_
  refine lv_iconst (v := 1) X.x X.b dJ3_add_5 (by decide) ?_
  refine lv_iadd X.x X.b dJ3_add_6 ?_
  refine dz_put (v := .int (mc + 1)) X hO 0 rfl in_J3 tyJ3 tyJ3_ok nmJ3 rfl 0 (by decide) q487 (Or.inr q483) (Or.inl rfl) rfl rfl (Nat.le_of_ble_eq_true rfl) dJ3_add_7 (fun H locs hO => ?_)
  have hO : dz_O G.1 dz_CL A s.heap [[(al, dzo 14 [.int (mc + 1), .ref ar, .int (nI n)])], [(ar, dzO G cap f)], vp] _ _ := hO
  refine lv_aload_n X.x X.b dJ3_add_10 rfl (lv_at hl 0 rfl) ?_
  refine lv_aload_n X.x X.b dJ3_add_11 rfl (lv_at hl 1 rfl) ?_
  refine lv_aload_n X.x X.b dJ3_add_12 rfl (lv_at hl 0 rfl) ?_
  refine dz_get (v := .ref ar) X (hO.at1 0 rfl) in_J3 rfl 1 (by decide) q474 (Or.inl rfl) rfl dJ3_add_13 ?_
  refine lv_aload_n X.x X.b dJ3_add_16 rfl (lv_at hl 0 rfl) ?_
  refine dz_get (v := .int (nI n)) X (hO.at1 0 rfl) in_J3 rfl 2 (by decide) q478 (Or.inl rfl) rfl dJ3_add_17 ?_
  refine dz_V (n := 3) (k9 := 0) (n9 := 0) (As := [.ref v, .ref ar, .int (nI n)]) (rest := []) (wr := []) X hO hl (dz_J3_add_2 l G _ al (mc + 1) ar n cap f v vp (by first | assumption | omega | decide) (by first | assumption | omega | decide) (by first | assumption | omega | decide)) (lw_V q1578 q1580 qs21 q52 q1581) (by decide +kernel) ⟨Nat.le_of_ble_eq_true rfl, Nat.le_of_ble_eq_true rfl⟩ ⟨(Nat.le_of_ble_eq_true rfl), (Nat.le_of_ble_eq_true rfl), (Nat.le_of_ble_eq_true rfl), (Nat.le_of_ble_eq_true rfl)⟩ [0, 1, 2] [] rfl rfl rfl (dz_rc X (hO.at1 0 rfl) (r := (RJ3, TJ3, 3)) rfl) rfl rfl (Nat.le_of_ble_eq_true rfl) dJ3_add_20 (fun E w1 q9 ce9 H locs hpx hO hce hv9 hcl9 => hpx.elim) (fun r w1 H locs hpo hO => ?_)
  obtain ⟨rfl, rfl⟩ := hpo
  have hO : dz_O G.1 dz_CL A s.heap [[(al, dzo 14 [.int (mc + 1), .ref ar, .int (nI (n + 1))])], [(ar, dzO G cap (va_up f n (some v)))], vp] _ _ := hO
  refine W.eq (g2 := F0 m 23 ls []) rfl ?_
  refine lv_iconst (v := 1) X.x X.b dJ3_add_23 (by decide) ?_
  exact dz_zret X hO rfl (rfl) (⟨rfl, rfl⟩) (Nat.le_of_ble_eq_true rfl) (Nat.le_of_ble_eq_true rfl) dJ3_add_24
set_option maxHeartbeats 4000000 in
set_option maxRecDepth 100000 in
/-- an iterator of a list -/
theorem dz_J29_init (l : Launch) (G : dz_G) (sz : Nat) (q : Nat) (al : Nat) (mc : Int32) (ar : Nat) (n : Nat)  : dz_M l G yJ29_init cJ29_init 2 none ({ frames := 20, cells := 0, slots := 0, locals := 300 } : Room) [.ref q, .ref al] [[(q, dzo 18 [.int 0, .int 0, .int 0, .null])], [(al, dzo 14 [.int mc, .ref ar, .int (nI n)])]] sz (fun r w1 => r = none ∧ w1 = [[(q, dzo 18 [.int 0, .int (-1), .int mc, .ref al])], [(al, dzo 14 [.int mc, .ref ar, .int (nI n)])]]) (dz_np) := by
  refine dz_start (by decide) (Nat.le_of_ble_eq_true rfl) ?_
  intro p e s m below meth c A ls X hO hsz hl
  have hl : lv_has ls 2 [(0, .ref q), (1, .ref al)] := hl
  refine lv_aload_n X.x X.b dJ29_init_0 rfl (lv_at hl 0 rfl) ?_
  refine lv_aload_n X.x X.b dJ29_init_1 rfl (lv_at hl 1 rfl) ?_
  refine dz_put (v := .ref al) X hO 0 rfl in_J29 tyJ29 tyJ29_ok nmJ29 rfl 3 (by decide) q1090 (Or.inl rfl) (Or.inr ⟨rfl, rfl, rfl⟩) rfl rfl (Nat.le_of_ble_eq_true rfl) dJ29_init_2 (fun H locs hO => ?_)
  have hO : dz_O G.1 dz_CL A s.heap [[(q, dzo 18 [.int 0, .int 0, .int 0, .ref al])], [(al, dzo 14 [.int mc, .ref ar, .int (nI n)])]] _ _ := hO
  refine lv_aload_n X.x X.b dJ29_init_5 rfl (lv_at hl 0 rfl) ?_
  refine dz_objInit X hl q1082 dJ29_init_6 (Nat.le_of_ble_eq_true rfl) (Nat.le_of_ble_eq_true rfl) (Nat.le_of_ble_eq_true rfl) ?_
  refine lv_aload_n X.x X.b dJ29_init_9 rfl (lv_at hl 0 rfl) ?_
  refine lv_iconst (v := (-1)) X.x X.b dJ29_init_10 (by decide) ?_
  refine dz_put (v := .int (-1)) X hO 0 rfl in_J29 tyJ29 tyJ29_ok nmJ29 rfl 1 (by decide) q1086 (Or.inl rfl) (Or.inl rfl) rfl rfl (Nat.le_of_ble_eq_true rfl) dJ29_init_11 (fun H locs hO => ?_)
  have hO : dz_O G.1 dz_CL A s.heap [[(q, dzo 18 [.int 0, .int (-1), .int 0, .ref al])], [(al, dzo 14 [.int mc, .ref ar, .int (nI n)])]] _ _ := hO
  refine lv_aload_n X.x X.b dJ29_init_14 rfl (lv_at hl 0 rfl) ?_
  refine lv_aload_n X.x X.b dJ29_init_15 rfl (lv_at hl 0 rfl) ?_
  refine dz_get (v := .ref al) X (hO.at1 0 rfl) in_J29 rfl 3 (by decide) q1090 (Or.inl rfl) rfl dJ29_init_16 ?_
  refine dz_get (v := .int mc) X (hO.at1 1 rfl) in_J3 rfl 0 (by decide) q482 (Or.inr q483) rfl dJ29_init_19 ?_
  refine dz_put (v := .int mc) X hO 0 rfl in_J29 tyJ29 tyJ29_ok nmJ29 rfl 2 (by decide) q1089 (Or.inl rfl) (Or.inl rfl) rfl rfl (Nat.le_of_ble_eq_true rfl) dJ29_init_22 (fun H locs hO => ?_)
  have hO : dz_O G.1 dz_CL A s.heap [[(q, dzo 18 [.int 0, .int (-1), .int mc, .ref al])], [(al, dzo 14 [.int mc, .ref ar, .int (nI n)])]] _ _ := hO
  exact dz_vret X hO rfl (⟨rfl, rfl⟩) (Nat.le_of_ble_eq_true rfl) (Nat.le_of_ble_eq_true rfl) dJ29_init_25
set_option maxHeartbeats 4000000 in
set_option maxRecDepth 100000 in
/-- iterator -/
theorem dz_J3_iterator (l : Launch) (G : dz_G) (sz : Nat) (al : Nat) (mc : Int32) (ar : Nat) (n : Nat)  : dz_M l G yJ3_iterator cJ3_iterator 1 (some (FieldType.object "java/util/Iterator")) ({ frames := 40, cells := 1, slots := 4, locals := 600 } : Room) [.ref al] [[(al, dzo 14 [.int mc, .ref ar, .int (nI n)])]] sz (fun r w1 => ∃ (q : Nat), r = some (.ref q) ∧ w1 = [[(q, dzo 18 [.int 0, .int (-1), .int mc, .ref al])], [(al, dzo 14 [.int mc, .ref ar, .int (nI n)])]]) (dz_np) := by
  refine dz_start (by decide) (Nat.le_of_ble_eq_true rfl) ?_
  intro p e s m below meth c A ls X hO hsz hl
  have hl : lv_has ls 1 [(0, .ref al)] := hl
  refine dz_new X hO 18 in_J29 tyJ29 tyJ29_ok q1077 q1078 q88 rfl [.int 0, .int 0, .int 0, .null] dz_dfJ29 (Nat.le_of_ble_eq_true rfl) (Nat.le_of_ble_eq_true rfl) dJ3_iterator_0 (fun q_1 H hO => ?_)
  have hO : dz_O G.1 dz_CL A s.heap [[(al, dzo 14 [.int mc, .ref ar, .int (nI n)])], [(q_1, dzo 18 [.int 0, .int 0, .int 0, .null])]] _ _ := hO
  refine W.widen (k := 1) (n := 4) (Nat.le_of_ble_eq_true rfl) (Nat.le_of_ble_eq_true rfl) ?_
  refine lv_dup X.x X.b dJ3_iterator_3 rfl ?_
  refine lv_aload_n X.x X.b dJ3_iterator_4 rfl (lv_at hl 0 rfl) ?_
  refine dz_I (ret1 := none) (n := 1) (k9 := 1) (n9 := 4) (As := [.ref al]) (rest := [.ref q_1]) (wr := []) X hO hl (dz_J29_init l G _ q_1 al mc ar n ) q1081 q88 q1079 q1080 rfl (by decide +kernel) ⟨Nat.le_of_ble_eq_true rfl, Nat.le_of_ble_eq_true rfl⟩ ⟨(Nat.le_of_ble_eq_true rfl), (Nat.le_of_ble_eq_true rfl), (Nat.le_of_ble_eq_true rfl), (Nat.le_of_ble_eq_true rfl)⟩ [1, 0] [] rfl rfl rfl rfl rfl (Nat.le_of_ble_eq_true rfl) dJ3_iterator_5 (fun E w1 q9 ce9 H locs hpx hO hce hv9 hcl9 => hpx.elim) (fun r w1 H locs hpo hO => ?_)
  obtain ⟨rfl, rfl⟩ := hpo
  have hO : dz_O G.1 dz_CL A s.heap [[(q_1, dzo 18 [.int 0, .int (-1), .int mc, .ref al])], [(al, dzo 14 [.int mc, .ref ar, .int (nI n)])]] _ _ := hO
  refine W.eq (g2 := F0 m 8 ls [.ref q_1]) rfl ?_
  exact dz_aret X hO rfl (Or.inl ⟨_, rfl⟩) (Or.inr ⟨_, rfl⟩) (⟨q_1, rfl, rfl⟩) (Nat.le_of_ble_eq_true rfl) (Nat.le_of_ble_eq_true rfl) dJ3_iterator_8
set_option maxHeartbeats 4000000 in
set_option maxRecDepth 100000 in
/-- hasNext -/
theorem dz_J29_hasNext (l : Launch) (G : dz_G) (sz : Nat) (q : Nat) (k : Nat) (lr : Int32) (al : Nat) (mc : Int32) (ar : Nat) (n : Nat) (hk : k < 1000000) (hn : n < 1000000) : dz_M l G yJ29_hasNext cJ29_hasNext 1 (some FieldType.boolean) ({ frames := 20, cells := 0, slots := 0, locals := 300 } : Room) [.ref q] [[(q, dzo 18 [.int (nI k), .int lr, .int mc, .ref al])], [(al, dzo 14 [.int mc, .ref ar, .int (nI n)])]] sz (fun r w1 => r = some (.int (dz_nz k n)) ∧ w1 = [[(q, dzo 18 [.int (nI k), .int lr, .int mc, .ref al])], [(al, dzo 14 [.int mc, .ref ar, .int (nI n)])]]) (dz_np) := by
  refine dz_start (by decide) (Nat.le_of_ble_eq_true rfl) ?_
  intro p e s m below meth c A ls X hO hsz hl
  have hl : lv_has ls 1 [(0, .ref q)] := hl
  refine lv_aload_n X.x X.b dJ29_hasNext_0 rfl (lv_at hl 0 rfl) ?_
  refine dz_get (v := .int (nI k)) X (hO.at1 0 rfl) in_J29 rfl 0 (by decide) q1085 (Or.inl rfl) rfl dJ29_hasNext_1 ?_
  refine lv_aload_n X.x X.b dJ29_hasNext_4 rfl (lv_at hl 0 rfl) ?_
  refine dz_get (v := .ref al) X (hO.at1 0 rfl) in_J29 rfl 3 (by decide) q1090 (Or.inl rfl) rfl dJ29_hasNext_5 ?_
  refine dz_getN (v := .int (nI n)) X (hO.at1 1 rfl) in_J3 rfl 2 (by decide) q477 (Or.inl rfl) rfl dJ29_hasNext_8 ?_
  refine lv_icmp_eq (tgt := 18) X.x X.b dJ29_hasNext_11 (by decide) (fun c_1 => ?_) (fun c_1 => ?_)
  · have nc_1 : k = n := (nI_eq (a := k) (b := n) (by omega) (by omega)).mp c_1
    refine lv_iconst (v := 0) X.x X.b dJ29_hasNext_18 (by decide) ?_
    exact dz_zret X hO rfl (rfl) (⟨by unfold dz_nz; first | (rw [if_pos (by assumption)]; done) | (rw [if_neg (by assumption)]; done), rfl⟩) (Nat.le_of_ble_eq_true rfl) (Nat.le_of_ble_eq_true rfl) dJ29_hasNext_19
  · have nc_1 : ¬ k = n := fun z9 => c_1 ((nI_eq (a := k) (b := n) (by omega) (by omega)).mpr z9)
    refine lv_iconst (v := 1) X.x X.b dJ29_hasNext_14 (by decide) ?_
    refine lv_goto (tgt := 19) X.x X.b dJ29_hasNext_15 (by decide) ?_
    exact dz_zret X hO rfl (rfl) (⟨by unfold dz_nz; first | (rw [if_pos (by assumption)]; done) | (rw [if_neg (by assumption)]; done), rfl⟩) (Nat.le_of_ble_eq_true rfl) (Nat.le_of_ble_eq_true rfl) dJ29_hasNext_19
set_option maxHeartbeats 4000000 in
set_option maxRecDepth 100000 in
/-- nothing has changed the list -/
theorem dz_J29_checkForComodification (l : Launch) (G : dz_G) (sz : Nat) (q : Nat) (k : Nat) (lr : Int32) (al : Nat) (mc : Int32) (ar : Nat) (n : Nat)  : dz_M l G yJ29_checkForComodification cJ29_checkForComodification 1 none ({ frames := 20, cells := 0, slots := 0, locals := 300 } : Room) [.ref q] [[(q, dzo 18 [.int (nI k), .int lr, .int mc, .ref al])], [(al, dzo 14 [.int mc, .ref ar, .int (nI n)])]] sz (fun r w1 => r = none ∧ w1 = [[(q, dzo 18 [.int (nI k), .int lr, .int mc, .ref al])], [(al, dzo 14 [.int mc, .ref ar, .int (nI n)])]]) (dz_np) := by
  refine dz_start (by decide) (Nat.le_of_ble_eq_true rfl) ?_
  intro p e s m below meth c A ls X hO hsz hl
  have hl : lv_has ls 1 [(0, .ref q)] := hl
  refine lv_aload_n X.x X.b dJ29_checkForComodification_0 rfl (lv_at hl 0 rfl) ?_
  refine dz_get (v := .ref al) X (hO.at1 0 rfl) in_J29 rfl 3 (by decide) q1090 (Or.inl rfl) rfl dJ29_checkForComodification_1 ?_
  refine dz_get (v := .int mc) X (hO.at1 1 rfl) in_J3 rfl 0 (by decide) q482 (Or.inr q483) rfl dJ29_checkForComodification_4 ?_
  refine lv_aload_n X.x X.b dJ29_checkForComodification_7 rfl (lv_at hl 0 rfl) ?_
  refine dz_get (v := .int mc) X (hO.at1 0 rfl) in_J29 rfl 2 (by decide) q1089 (Or.inl rfl) rfl dJ29_checkForComodification_8 ?_
  refine lv_icmp_eq (tgt := 22) X.x X.b dJ29_checkForComodification_11 (by decide) (fun _ => ?_) (fun c_1 => absurd (rfl) c_1)
  exact dz_vret X hO rfl (⟨rfl, rfl⟩) (Nat.le_of_ble_eq_true rfl) (Nat.le_of_ble_eq_true rfl) dJ29_checkForComodification_22
set_option maxHeartbeats 4000000 in
set_option maxRecDepth 100000 in
/-- next -/
theorem dz_J29_next (l : Launch) (G : dz_G) (sz : Nat) (q : Nat) (k : Nat) (lr : Int32) (al : Nat) (mc : Int32) (ar : Nat) (n : Nat) (cap : Nat) (f : Nat → Option Nat) (hk : k < n) (hn : n ≤ cap) (hc : cap < 1000000) : dz_M l G yJ29_next cJ29_next 3 (some (FieldType.object "java/lang/Object")) ({ frames := 40, cells := 0, slots := 0, locals := 600 } : Room) [.ref q] [[(q, dzo 18 [.int (nI k), .int lr, .int mc, .ref al])], [(al, dzo 14 [.int mc, .ref ar, .int (nI n)])], [(ar, dzO G cap f)]] sz (fun r w1 => r = some (va_rf (f k)) ∧ w1 = [[(q, dzo 18 [.int (nI (k + 1)), .int (nI k), .int mc, .ref al])], [(al, dzo 14 [.int mc, .ref ar, .int (nI n)])], [(ar, dzO G cap f)]]) (dz_np) := by
  refine dz_start (by decide) (Nat.le_of_ble_eq_true rfl) ?_
  intro p e s m below meth c A ls X hO hsz hl
  have hl : lv_has ls 3 [(0, .ref q)] := hl
  refine lv_aload_n X.x X.b dJ29_next_0 rfl (lv_at hl 0 rfl) ?_
  refine dz_V (n := 0) (k9 := 0) (n9 := 0) (As := []) (rest := []) (wr := [[(ar, dzO G cap f)]]) X hO hl (dz_J29_checkForComodification l G _ q k lr al mc ar n ) (lw_V q918 q919 q920 q88 q923) (by decide +kernel) ⟨Nat.le_of_ble_eq_true rfl, Nat.le_of_ble_eq_true rfl⟩ ⟨(Nat.le_of_ble_eq_true rfl), (Nat.le_of_ble_eq_true rfl), (Nat.le_of_ble_eq_true rfl), (Nat.le_of_ble_eq_true rfl)⟩ [0, 1] [2] rfl rfl rfl (dz_rc X (hO.at1 0 rfl) (r := (RJ29, TJ29, 4)) rfl) rfl rfl (Nat.le_of_ble_eq_true rfl) dJ29_next_1 (fun E w1 q9 ce9 H locs hpx hO hce hv9 hcl9 => hpx.elim) (fun r w1 H locs hpo hO => ?_)
  obtain ⟨rfl, rfl⟩ := hpo
  have hO : dz_O G.1 dz_CL A s.heap [[(ar, dzO G cap f)], [(q, dzo 18 [.int (nI k), .int lr, .int mc, .ref al])], [(al, dzo 14 [.int mc, .ref ar, .int (nI n)])]] _ _ := hO
  refine W.eq (g2 := F0 m 4 ls []) rfl ?_
  refine lv_aload_n X.x X.b dJ29_next_4 rfl (lv_at hl 0 rfl) ?_
  refine dz_get (v := .int (nI k)) X (hO.at1 1 rfl) in_J29 rfl 0 (by decide) q1085 (Or.inl rfl) rfl dJ29_next_5 ?_
  refine lv_istore_n (lv' := [(1, .int (nI k)), (0, .ref q)]) X.x X.b dJ29_next_8 rfl hl (by decide) rfl (fun ls hl => ?_)
  refine lv_iload_n X.x X.b dJ29_next_9 rfl (lv_at hl 0 rfl) ?_
  refine lv_aload_n X.x X.b dJ29_next_10 rfl (lv_at hl 1 rfl) ?_
  refine dz_get (v := .ref al) X (hO.at1 1 rfl) in_J29 rfl 3 (by decide) q1090 (Or.inl rfl) rfl dJ29_next_11 ?_
  refine dz_getN (v := .int (nI n)) X (hO.at1 2 rfl) in_J3 rfl 2 (by decide) q477 (Or.inl rfl) rfl dJ29_next_14 ?_
  refine lv_icmp_lt (tgt := 28) X.x X.b dJ29_next_17 (by decide) (fun _ => ?_) (fun c_1 => absurd ((nI_ltI (by omega) (by omega)).mpr hk) c_1)
  refine lv_aload_n X.x X.b dJ29_next_28 rfl (lv_at hl 1 rfl) ?_
  refine dz_get (v := .ref al) X (hO.at1 1 rfl) in_J29 rfl 3 (by decide) q1090 (Or.inl rfl) rfl dJ29_next_29 ?_
  refine dz_get (v := .ref ar) X (hO.at1 2 rfl) in_J3 rfl 1 (by decide) q475 (Or.inl rfl) rfl dJ29_next_32 ?_
  refine lv_astore_n (lv' := [(2, .ref ar), (1, .int (nI k)), (0, .ref q)]) X.x X.b dJ29_next_35 rfl hl (by decide) rfl (fun ls hl => ?_)
  refine lv_iload_n X.x X.b dJ29_next_36 rfl (lv_at hl 1 rfl) ?_
  refine lv_aload_n X.x X.b dJ29_next_37 rfl (lv_at hl 0 rfl) ?_
  refine dz_alen (v := nI cap) X (hO.at1 0 rfl) 5 rfl (by first | rfl | decide) dJ29_next_38 ?_
  refine lv_icmp_lt (tgt := 50) X.x X.b dJ29_next_39 (by decide) (fun _ => ?_) (fun c_2 => absurd ((nI_ltI (by omega) (by omega)).mpr (show k < cap by omega)) c_2)
  refine lv_aload_n X.x X.b dJ29_next_50 rfl (lv_at hl 2 rfl) ?_
  refine lv_iload_n X.x X.b dJ29_next_51 rfl (lv_at hl 1 rfl) ?_
  refine lv_iconst (v := 1) X.x X.b dJ29_next_52 (by decide) ?_
  refine lv_iadd X.x X.b dJ29_next_53 ?_
  refine dz_rei (y := nI (k + 1)) (nI_add k 1) ?_
  refine dz_put (v := .int (nI (k + 1))) X hO 1 rfl in_J29 tyJ29 tyJ29_ok nmJ29 rfl 0 (by decide) q1085 (Or.inl rfl) (Or.inl rfl) rfl rfl (Nat.le_of_ble_eq_true rfl) dJ29_next_54 (fun H locs hO => ?_)
  have hO : dz_O G.1 dz_CL A s.heap [[(ar, dzO G cap f)], [(q, dzo 18 [.int (nI (k + 1)), .int lr, .int mc, .ref al])], [(al, dzo 14 [.int mc, .ref ar, .int (nI n)])]] _ _ := hO
  refine lv_aload_n X.x X.b dJ29_next_57 rfl (lv_at hl 0 rfl) ?_
  refine lv_aload_n X.x X.b dJ29_next_58 rfl (lv_at hl 2 rfl) ?_
  refine lv_iload_n X.x X.b dJ29_next_59 rfl (lv_at hl 1 rfl) ?_
  refine lv_dup_x1 X.x X.b dJ29_next_60 rfl rfl ?_
  refine dz_put (v := .int (nI k)) X hO 1 rfl in_J29 tyJ29 tyJ29_ok nmJ29 rfl 1 (by decide) q1086 (Or.inl rfl) (Or.inl rfl) rfl rfl (Nat.le_of_ble_eq_true rfl) dJ29_next_61 (fun H locs hO => ?_)
  have hO : dz_O G.1 dz_CL A s.heap [[(ar, dzO G cap f)], [(q, dzo 18 [.int (nI (k + 1)), .int (nI k), .int mc, .ref al])], [(al, dzo 14 [.int mc, .ref ar, .int (nI n)])]] _ _ := hO
  refine dz_aldO X (hO.at1 0 rfl) (j := k) rfl (by omega) (by omega) dJ29_next_64 ?_
  have hO := hO.sel (v := [[(q, dzo 18 [.int (nI (k + 1)), .int (nI k), .int mc, .ref al])], [(al, dzo 14 [.int mc, .ref ar, .int (nI n)])], [(ar, dzO G cap f)]]) [1, 2, 0] rfl rfl
  exact dz_aret X hO rfl (Or.inl ⟨_, rfl⟩) (va_rf_or _) (⟨rfl, rfl⟩) (Nat.le_of_ble_eq_true rfl) (Nat.le_of_ble_eq_true rfl) dJ29_next_65
set_option maxHeartbeats 4000000 in
set_option maxRecDepth 100000 in
/-- the last one is taken away -/
theorem dz_J3_fastRemove (l : Launch) (G : dz_G) (sz : Nat) (al : Nat) (mc : Int32) (ar : Nat) (n : Nat) (cap : Nat) (f : Nat → Option Nat) (hn : n < cap) (hc : cap < 1000000) : dz_M l G yJ3_fastRemove cJ3_fastRemove 4 none ({ frames := 20, cells := 0, slots := 0, locals := 300 } : Room) [.ref al, .ref ar, .int (nI n)] [[(al, dzo 14 [.int mc, .ref ar, .int (nI (n + 1))])], [(ar, dzO G cap f)]] sz (fun r w1 => r = none ∧ w1 = [[(al, dzo 14 [.int (mc + 1), .ref ar, .int (nI n)])], [(ar, dzO G cap (va_up f n none))]]) (dz_np) := by
  refine dz_start (by decide) (Nat.le_of_ble_eq_true rfl) ?_
  intro p e s m below meth c A ls X hO hsz hl
  have hl : lv_has ls 4 [(0, .ref al), (1, .ref ar), (2, .int (nI n))] := hl
  refine lv_aload_n X.x X.b dJ3_fastRemove_0 rfl (lv_at hl 0 rfl) ?_
  refine lv_dup X.x X.b dJ3_fastRemove_1 rfl ?_
  refine dz_get (v := .int mc) X (hO.at1 0 rfl) in_J3 rfl 0 (by decide) q487 (Or.inr q483) rfl dJ3_fastRemove_2 ?_
  refine lv_iconst (v := 1) X.x X.b dJ3_fastRemove_5 (by decide) ?_
  refine lv_iadd X.x X.b dJ3_fastRemove_6 ?_
  refine dz_put (v := .int (mc + 1)) X hO 0 rfl in_J3 tyJ3 tyJ3_ok nmJ3 rfl 0 (by decide) q487 (Or.inr q483) (Or.inl rfl) rfl rfl (Nat.le_of_ble_eq_true rfl) dJ3_fastRemove_7 (fun H locs hO => ?_)
  have hO : dz_O G.1 dz_CL A s.heap [[(al, dzo 14 [.int (mc + 1), .ref ar, .int (nI (n + 1))])], [(ar, dzO G cap f)]] _ _ := hO
  refine lv_aload_n X.x X.b dJ3_fastRemove_10 rfl (lv_at hl 0 rfl) ?_
  refine dz_get (v := .int (nI (n + 1))) X (hO.at1 0 rfl) in_J3 rfl 2 (by decide) q478 (Or.inl rfl) rfl dJ3_fastRemove_11 ?_
  refine lv_iconst (v := 1) X.x X.b dJ3_fastRemove_14 (by decide) ?_
  refine lv_isub X.x X.b dJ3_fastRemove_15 ?_
  refine dz_rei (y := nI n) (nI_pred n) ?_
  refine lv_dup X.x X.b dJ3_fastRemove_16 rfl ?_
  refine lv_istore_n (lv' := [(3, .int (nI n)), (0, .ref al), (1, .ref ar), (2, .int (nI n))]) X.x X.b dJ3_fastRemove_17 rfl hl (by decide) rfl (fun ls hl => ?_)
  refine lv_iload_n X.x X.b dJ3_fastRemove_18 rfl (lv_at hl 3 rfl) ?_
  refine lv_icmp_le (tgt := 34) X.x X.b dJ3_fastRemove_19 (by decide) (fun _ => ?_) (fun c_1 => absurd (Int32.le_refl _) c_1)
  refine lv_aload_n X.x X.b dJ3_fastRemove_34 rfl (lv_at hl 2 rfl) ?_
  refine lv_aload_n X.x X.b dJ3_fastRemove_35 rfl (lv_at hl 1 rfl) ?_
  refine lv_iload_n X.x X.b dJ3_fastRemove_36 rfl (lv_at hl 0 rfl) ?_
  refine lv_dup_x1 X.x X.b dJ3_fastRemove_37 rfl rfl ?_
  refine dz_put (v := .int (nI n)) X hO 0 rfl in_J3 tyJ3 tyJ3_ok nmJ3 rfl 2 (by decide) q478 (Or.inl rfl) (Or.inl rfl) rfl rfl (Nat.le_of_ble_eq_true rfl) dJ3_fastRemove_38 (fun H locs hO => ?_)
  have hO : dz_O G.1 dz_CL A s.heap [[(al, dzo 14 [.int (mc + 1), .ref ar, .int (nI n)])], [(ar, dzO G cap f)]] _ _ := hO
  refine lv_null X.x X.b dJ3_fastRemove_41 ?_
  refine dz_aastNO X hO 1 rfl (j := n) rfl (by omega) (by omega) dJ3_fastRemove_42 (fun H locs hO => ?_)
  have hO : dz_O G.1 dz_CL A s.heap [[(al, dzo 14 [.int (mc + 1), .ref ar, .int (nI n)])], [(ar, dzO G cap (va_up f n none))]] _ _ := hO
  exact dz_vret X hO rfl (⟨rfl, rfl⟩) (Nat.le_of_ble_eq_true rfl) (Nat.le_of_ble_eq_true rfl) dJ3_fastRemove_43
set_option maxHeartbeats 4000000 in
set_option maxRecDepth 100000 in
/-- the last one is taken away -/
theorem dz_J3_remove (l : Launch) (G : dz_G) (sz : Nat) (al : Nat) (mc : Int32) (ar : Nat) (n : Nat) (cap : Nat) (f : Nat → Option Nat) (v : Nat) (hn : n < cap) (hc : cap < 1000000) (hf : f n = some v) : dz_M l G yJ3_remove cJ3_remove 4 (some (FieldType.object "java/lang/Object")) ({ frames := 60, cells := 0, slots := 0, locals := 900 } : Room) [.ref al, .int (nI n)] [[(al, dzo 14 [.int mc, .ref ar, .int (nI (n + 1))])], [(ar, dzO G cap f)]] sz (fun r w1 => r = some (.ref v) ∧ w1 = [[(al, dzo 14 [.int (mc + 1), .ref ar, .int (nI n)])], [(ar, dzO G cap (va_up f n none))]]) (dz_np) := by
  refine dz_start (by decide) (Nat.le_of_ble_eq_true rfl) ?_
  intro p e s m below meth c A ls X hO hsz hl
  have hl : lv_has ls 4 [(0, .ref al), (1, .int (nI n))] := hl
  refine lv_iload_n X.x X.b dJ3_remove_0 rfl (lv_at hl 1 rfl) ?_
  refine lv_aload_n X.x X.b dJ3_remove_1 rfl (lv_at hl 0 rfl) ?_
  refine dz_get (v := .int (nI (n + 1))) X (hO.at1 0 rfl) in_J3 rfl 2 (by decide) q478 (Or.inl rfl) rfl dJ3_remove_2 ?_
  refine dz_S (n := 2) (k9 := 0) (n9 := 0) (As := [.int (nI n), .int (nI (n + 1))]) (rest := []) (wr := [[(al, dzo 14 [.int mc, .ref ar, .int (nI (n + 1))])], [(ar, dzO G cap f)]]) X hO hl (dz_J32_checkIndex l G _ n (n + 1) (by first | assumption | omega | decide) (by first | assumption | omega | decide)) (lw_S q734 q735 q91 q736) (by decide +kernel) ⟨Nat.le_of_ble_eq_true rfl, Nat.le_of_ble_eq_true rfl⟩ ⟨(Nat.le_of_ble_eq_true rfl), (Nat.le_of_ble_eq_true rfl), (Nat.le_of_ble_eq_true rfl), (Nat.le_of_ble_eq_true rfl)⟩ [] [0, 1] rfl rfl rfl rfl rfl (Nat.le_of_ble_eq_true rfl) dJ3_remove_5 (fun E w1 q9 ce9 H locs hpx hO hce hv9 hcl9 => hpx.elim) (fun r w1 H locs hpo hO => ?_)
  obtain ⟨rfl, rfl⟩ := hpo
  have hO : dz_O G.1 dz_CL A s.heap [[(al, dzo 14 [.int mc, .ref ar, .int (nI (n + 1))])], [(ar, dzO G cap f)]] _ _ := hO
  refine W.eq (g2 := F0 m 8 ls [.int (nI n)]) rfl ?_
  refine lv_pop X.x X.b dJ3_remove_8 rfl ?_
  refine lv_aload_n X.x X.b dJ3_remove_9 rfl (lv_at hl 0 rfl) ?_
  refine dz_get (v := .ref ar) X (hO.at1 0 rfl) in_J3 rfl 1 (by decide) q474 (Or.inl rfl) rfl dJ3_remove_10 ?_
  refine lv_astore_n (lv' := [(2, .ref ar), (0, .ref al), (1, .int (nI n))]) X.x X.b dJ3_remove_13 rfl hl (by decide) rfl (fun ls hl => ?_)
  refine lv_aload_n X.x X.b dJ3_remove_14 rfl (lv_at hl 0 rfl) ?_
  refine lv_iload_n X.x X.b dJ3_remove_15 rfl (lv_at hl 2 rfl) ?_
  refine dz_aldO X (hO.at1 1 rfl) (j := n) rfl (by omega) (by omega) dJ3_remove_16 ?_
  refine dz_rev (w := .ref v) (by rw [hf]; rfl) ?_
  refine lv_astore_n (lv' := [(3, .ref v), (2, .ref ar), (0, .ref al), (1, .int (nI n))]) X.x X.b dJ3_remove_17 rfl hl (by decide) rfl (fun ls hl => ?_)
  refine lv_aload_n X.x X.b dJ3_remove_18 rfl (lv_at hl 2 rfl) ?_
  refine lv_aload_n X.x X.b dJ3_remove_19 rfl (lv_at hl 1 rfl) ?_
  refine lv_iload_n X.x X.b dJ3_remove_20 rfl (lv_at hl 3 rfl) ?_
  refine dz_V (n := 2) (k9 := 0) (n9 := 0) (As := [.ref ar, .int (nI n)]) (rest := []) (wr := []) X hO hl (dz_J3_fastRemove l G _ al mc ar n cap f (by first | assumption | omega | decide) (by first | assumption | omega | decide)) (lw_V q1476 q1478 qs20 q52 q1479) (by decide +kernel) ⟨Nat.le_of_ble_eq_true rfl, Nat.le_of_ble_eq_true rfl⟩ ⟨(Nat.le_of_ble_eq_true rfl), (Nat.le_of_ble_eq_true rfl), (Nat.le_of_ble_eq_true rfl), (Nat.le_of_ble_eq_true rfl)⟩ [0, 1] [] rfl rfl rfl (dz_rc X (hO.at1 0 rfl) (r := (RJ3, TJ3, 3)) rfl) rfl rfl (Nat.le_of_ble_eq_true rfl) dJ3_remove_21 (fun E w1 q9 ce9 H locs hpx hO hce hv9 hcl9 => hpx.elim) (fun r w1 H locs hpo hO => ?_)
  obtain ⟨rfl, rfl⟩ := hpo
  have hO : dz_O G.1 dz_CL A s.heap [[(al, dzo 14 [.int (mc + 1), .ref ar, .int (nI n)])], [(ar, dzO G cap (va_up f n none))]] _ _ := hO
  refine W.eq (g2 := F0 m 24 ls []) rfl ?_
  refine lv_aload_n X.x X.b dJ3_remove_24 rfl (lv_at hl 0 rfl) ?_
  exact dz_aret X hO rfl (Or.inl ⟨_, rfl⟩) (Or.inr ⟨_, rfl⟩) (⟨rfl, rfl⟩) (Nat.le_of_ble_eq_true rfl) (Nat.le_of_ble_eq_true rfl) dJ3_remove_25
set_option maxHeartbeats 4000000 in
set_option maxRecDepth 100000 in
/-- set -/
theorem dz_J3_set (l : Launch) (G : dz_G) (sz : Nat) (al : Nat) (mc : Int32) (ar : Nat) (n : Nat) (cap : Nat) (f : Nat → Option Nat) (k : Nat) (u : Nat) (v : Nat) (vp : va_W) (hk : k < n) (hn : n ≤ cap) (hc : cap < 1000000) (hf : f k = some u) (hv : dz_is vp v) : dz_M l G yJ3_set cJ3_set 4 (some (FieldType.object "java/lang/Object")) ({ frames := 60, cells := 0, slots := 0, locals := 900 } : Room) [.ref al, .int (nI k), .ref v] [[(al, dzo 14 [.int mc, .ref ar, .int (nI n)])], [(ar, dzO G cap f)], vp] sz (fun r w1 => r = some (.ref u) ∧ w1 = [[(al, dzo 14 [.int mc, .ref ar, .int (nI n)])], [(ar, dzO G cap (va_up f k (some v)))], vp]) (dz_np) := by
  refine dz_start (by decide) (Nat.le_of_ble_eq_true rfl) ?_
  intro p e s m below meth c A ls X hO hsz hl
  have hl : lv_has ls 4 [(0, .ref al), (1, .int (nI k)), (2, .ref v)] := hl
  refine lv_iload_n X.x X.b dJ3_set_0 rfl (lv_at hl 1 rfl) ?_
  refine lv_aload_n X.x X.b dJ3_set_1 rfl (lv_at hl 0 rfl) ?_
  refine dz_get (v := .int (nI n)) X (hO.at1 0 rfl) in_J3 rfl 2 (by decide) q478 (Or.inl rfl) rfl dJ3_set_2 ?_
  refine dz_S (n := 2) (k9 := 0) (n9 := 0) (As := [.int (nI k), .int (nI n)]) (rest := []) (wr := [[(al, dzo 14 [.int mc, .ref ar, .int (nI n)])], [(ar, dzO G cap f)], vp]) X hO hl (dz_J32_checkIndex l G _ k n (by first | assumption | omega | decide) (by first | assumption | omega | decide)) (lw_S q734 q735 q91 q736) (by decide +kernel) ⟨Nat.le_of_ble_eq_true rfl, Nat.le_of_ble_eq_true rfl⟩ ⟨(Nat.le_of_ble_eq_true rfl), (Nat.le_of_ble_eq_true rfl), (Nat.le_of_ble_eq_true rfl), (Nat.le_of_ble_eq_true rfl)⟩ [] [0, 1, 2] rfl rfl rfl rfl rfl (Nat.le_of_ble_eq_true rfl) dJ3_set_5 (fun E w1 q9 ce9 H locs hpx hO hce hv9 hcl9 => hpx.elim) (fun r w1 H locs hpo hO => ?_)
  obtain ⟨rfl, rfl⟩ := hpo
  have hO : dz_O G.1 dz_CL A s.heap [[(al, dzo 14 [.int mc, .ref ar, .int (nI n)])], [(ar, dzO G cap f)], vp] _ _ := hO
  refine W.eq (g2 := F0 m 8 ls [.int (nI k)]) rfl ?_
  refine lv_pop X.x X.b dJ3_set_8 rfl ?_
  refine lv_aload_n X.x X.b dJ3_set_9 rfl (lv_at hl 0 rfl) ?_
  refine lv_iload_n X.x X.b dJ3_set_10 rfl (lv_at hl 1 rfl) ?_
  refine dz_V (n := 1) (k9 := 0) (n9 := 0) (As := [.int (nI k)]) (rest := []) (wr := [vp]) X hO hl (dz_J3_elementData l G _ al mc ar n cap f k (by first | assumption | omega | decide) (by first | assumption | omega | decide)) (lw_V q740 q741 q742 q52 q743) (by decide +kernel) ⟨Nat.le_of_ble_eq_true rfl, Nat.le_of_ble_eq_true rfl⟩ ⟨(Nat.le_of_ble_eq_true rfl), (Nat.le_of_ble_eq_true rfl), (Nat.le_of_ble_eq_true rfl), (Nat.le_of_ble_eq_true rfl)⟩ [0, 1] [2] rfl rfl rfl (dz_rc X (hO.at1 0 rfl) (r := (RJ3, TJ3, 3)) rfl) rfl rfl (Nat.le_of_ble_eq_true rfl) dJ3_set_11 (fun E w1 q9 ce9 H locs hpx hO hce hv9 hcl9 => hpx.elim) (fun r w1 H locs hpo hO => ?_)
  obtain ⟨rfl, rfl⟩ := hpo
  have hO : dz_O G.1 dz_CL A s.heap [vp, [(al, dzo 14 [.int mc, .ref ar, .int (nI n)])], [(ar, dzO G cap f)]] _ _ := hO
  refine W.eq (g2 := F0 m 14 ls [va_rf (f k)]) rfl ?_
  refine dz_rev (w := .ref u) (by rw [hf]; rfl) ?_
  refine lv_astore_n (lv' := [(3, .ref u), (0, .ref al), (1, .int (nI k)), (2, .ref v)]) X.x X.b dJ3_set_14 rfl hl (by decide) rfl (fun ls hl => ?_)
  refine lv_aload_n X.x X.b dJ3_set_15 rfl (lv_at hl 1 rfl) ?_
  refine dz_get (v := .ref ar) X (hO.at1 1 rfl) in_J3 rfl 1 (by decide) q474 (Or.inl rfl) rfl dJ3_set_16 ?_
  refine lv_iload_n X.x X.b dJ3_set_19 rfl (lv_at hl 2 rfl) ?_
  refine lv_aload_n X.x X.b dJ3_set_20 rfl (lv_at hl 3 rfl) ?_
  refine dz_aastO X hO 2 rfl (dz_is_any X hO 0 rfl hv) (j := k) rfl (by omega) (by omega) dJ3_set_21 (fun H locs hO => ?_)
  have hO : dz_O G.1 dz_CL A s.heap [vp, [(al, dzo 14 [.int mc, .ref ar, .int (nI n)])], [(ar, dzO G cap (va_up f k (some v)))]] _ _ := hO
  refine lv_aload_n X.x X.b dJ3_set_22 rfl (lv_at hl 0 rfl) ?_
  have hO := hO.sel (v := [[(al, dzo 14 [.int mc, .ref ar, .int (nI n)])], [(ar, dzO G cap (va_up f k (some v)))], vp]) [1, 2, 0] rfl rfl
  exact dz_aret X hO rfl (Or.inl ⟨_, rfl⟩) (Or.inr ⟨_, rfl⟩) (⟨rfl, rfl⟩) (Nat.le_of_ble_eq_true rfl) (Nat.le_of_ble_eq_true rfl) dJ3_set_23
set_option maxHeartbeats 4000000 in
set_option maxRecDepth 100000 in
/-- newLength -/
theorem dz_J12_newLength (l : Launch) (G : dz_G) (sz : Nat) (a : Nat) (b : Nat) (d : Nat) (h0 : 0 < a + (if b < d then d else b)) (h : a < 1000000 ∧ b < 1000000 ∧ d < 1000000) : dz_M l G yJ12_newLength cJ12_newLength 4 (some FieldType.int) ({ frames := 20, cells := 0, slots := 0, locals := 300 } : Room) [.int (nI a), .int (nI b), .int (nI d)] [] sz (fun r w1 => r = some (.int (nI (a + (if b < d then d else b)))) ∧ w1 = []) (dz_np) := by
  refine dz_start (by decide) (Nat.le_of_ble_eq_true rfl) ?_
  intro p e s m below meth c A ls X hO hsz hl
  have hl : lv_has ls 4 [(0, .int (nI a)), (1, .int (nI b)), (2, .int (nI d))] := hl
  refine lv_iload_n X.x X.b dJ12_newLength_0 rfl (lv_at hl 0 rfl) ?_
  refine lv_iload_n X.x X.b dJ12_newLength_1 rfl (lv_at hl 1 rfl) ?_
  refine lv_iload_n X.x X.b dJ12_newLength_2 rfl (lv_at hl 2 rfl) ?_
  refine dz_mmax X hl q258 (Nat.le_of_ble_eq_true rfl) (Nat.le_of_ble_eq_true rfl) (Nat.le_of_ble_eq_true rfl) (Nat.le_of_ble_eq_true rfl) (Nat.le_of_ble_eq_true rfl) dJ12_newLength_3 ?_
  refine lv_iadd X.x X.b dJ12_newLength_6 ?_
  refine dz_rei (y := nI (a + (if b < d then d else b))) (by unfold dz_max; simp only [nI_ltI (show b < 2 ^ 31 by omega) (show d < 2 ^ 31 by omega)]; rw [← apply_ite nI, nI_add]) ?_
  refine lv_istore_n (lv' := [(3, .int (nI (a + (if b < d then d else b)))), (0, .int (nI a)), (1, .int (nI b)), (2, .int (nI d))]) X.x X.b dJ12_newLength_7 rfl hl (by decide) rfl (fun ls hl => ?_)
  refine lv_iconst (v := 0) X.x X.b dJ12_newLength_8 (by decide) ?_
  refine lv_iload_n X.x X.b dJ12_newLength_9 rfl (lv_at hl 0 rfl) ?_
  refine lv_icmp_ge (tgt := 21) X.x X.b dJ12_newLength_10 (by decide) (fun c_1 => absurd c_1 (Int32.not_le.mpr (by rw [show (0 : Int32) = nI 0 by decide, nI_ltI (by omega) (by split <;> omega)]; exact h0))) (fun _ => ?_)
  refine lv_iload_n X.x X.b dJ12_newLength_13 rfl (lv_at hl 0 rfl) ?_
  refine lv_ldc (v := 2147483639) X.x X.b X.own (X.ts _ q261) dJ12_newLength_14 ?_
  refine lv_icmp_gt (tgt := 21) X.x X.b dJ12_newLength_16 (by decide) (fun c_2 => absurd c_2 (Int32.not_lt.mpr (by rw [show (2147483639 : Int32) = nI 2147483639 by decide, nI_leI (by split <;> omega) (by omega)]; split <;> omega))) (fun _ => ?_)
  refine lv_iload_n X.x X.b dJ12_newLength_19 rfl (lv_at hl 0 rfl) ?_
  exact dz_iret X hO rfl (⟨rfl, rfl⟩) (Nat.le_of_ble_eq_true rfl) (Nat.le_of_ble_eq_true rfl) dJ12_newLength_20
set_option maxHeartbeats 4000000 in
set_option maxRecDepth 100000 in
/-- copyOf: objects -/
theorem dz_J14_copyOf_3 (l : Launch) (G : dz_G) (sz : Nat) (ar : Nat) (cap : Nat) (f : Nat → Option Nat) (c2 : Nat) (vp : va_W) (hc : cap ≤ c2) (hc2 : c2 ≤ 15) (hv : ∀ i, i < cap → ∀ y, f i = some y → dz_is vp y) : dz_M l G yJ14_copyOf_3 cJ14_copyOf_3 4 (some (FieldType.array (FieldType.object "java/lang/Object"))) ({ frames := 20, cells := 1, slots := 15, locals := 300 } : Room) [.ref ar, .int (nI c2), .ref (G.2.2.1 10)] [[(ar, dzO G cap f)], vp] sz (fun r w1 => ∃ (q : Nat), r = some (.ref q) ∧ w1 = [[(ar, dzO G cap f)], [(q, dzO G c2 (va_cpy f (fun _ => none) 0 0 cap))], vp]) (dz_np) := by
  refine dz_start (by decide) (Nat.le_of_ble_eq_true rfl) ?_
  intro p e s m below meth c A ls X hO hsz hl
  have hl : lv_has ls 4 [(0, .ref ar), (1, .int (nI c2)), (2, .ref (G.2.2.1 10))] := hl
  refine lv_aload_n X.x X.b dJ14_copyOf_3_0 rfl (lv_at hl 2 rfl) ?_
  refine dz_ldcM X q1319 dJ14_copyOf_3_1 ?_
  refine lv_acmp_ne (rx := (some (G.2.2.1 10))) (ry := (some (G.2.2.1 10))) (tgt := 13) X.x X.b dJ14_copyOf_3_3 (by decide) (fun c_1 => absurd (rfl) c_1) (fun _ => ?_)
  refine lv_iload_n X.x X.b dJ14_copyOf_3_6 rfl (lv_at hl 1 rfl) ?_
  refine dz_newaO X hO q1320 (j := c2) rfl (by omega) (by omega) (Nat.le_of_ble_eq_true rfl) (by first | omega | (dsimp only; omega)) dJ14_copyOf_3_7 (fun q_2 H hO => ?_)
  have hO : dz_O G.1 dz_CL A s.heap [[(ar, dzO G cap f)], vp, [(q_2, dzO G c2 (fun _ => none))]] _ _ := hO
  refine W.widen (k := 1) (n := 15) (Nat.le_of_ble_eq_true rfl) (by first | omega | (dsimp only; omega)) ?_
  refine lv_goto (tgt := 24) X.x X.b dJ14_copyOf_3_10 (by decide) ?_
  refine lv_astore_n (lv' := [(3, .ref q_2), (0, .ref ar), (1, .int (nI c2)), (2, .ref (G.2.2.1 10))]) X.x X.b dJ14_copyOf_3_24 rfl hl (by decide) rfl (fun ls hl => ?_)
  refine lv_aload_n X.x X.b dJ14_copyOf_3_25 rfl (lv_at hl 1 rfl) ?_
  refine lv_iconst (v := 0) X.x X.b dJ14_copyOf_3_26 (by decide) ?_
  refine lv_aload_n X.x X.b dJ14_copyOf_3_27 rfl (lv_at hl 0 rfl) ?_
  refine lv_iconst (v := 0) X.x X.b dJ14_copyOf_3_28 (by decide) ?_
  refine lv_aload_n X.x X.b dJ14_copyOf_3_29 rfl (lv_at hl 1 rfl) ?_
  refine dz_alen (v := nI cap) X (hO.at1 0 rfl) 5 rfl (by first | rfl | decide) dJ14_copyOf_3_30 ?_
  refine lv_iload_n X.x X.b dJ14_copyOf_3_31 rfl (lv_at hl 2 rfl) ?_
  refine dz_mmin X hl q276 (Nat.le_of_ble_eq_true rfl) (Nat.le_of_ble_eq_true rfl) (Nat.le_of_ble_eq_true rfl) (Nat.le_of_ble_eq_true rfl) (Nat.le_of_ble_eq_true rfl) dJ14_copyOf_3_32 ?_
  refine dz_rei (y := nI cap) (by unfold dz_min; rw [if_neg (Int32.not_lt.mpr ((nI_leI (by omega) (by omega)).mpr hc))]) ?_
  have hO := hO.sel (v := [[(ar, dzO G cap f)], [(q_2, dzO G c2 (fun _ => none))], vp]) [0, 2, 1] rfl rfl
  refine dz_copyO X hl q279 hO (i := 0) (j := 0) (k := cap) (by decide) (by decide) rfl (by omega) (by omega) ⟨by omega, by omega⟩ (fun x9 hx9 y9 hy9 => dz_is_any X hO 2 rfl (hv _ (by omega) y9 hy9)) (Nat.le_of_ble_eq_true rfl) (Nat.le_of_ble_eq_true rfl) (Nat.le_of_ble_eq_true rfl) dJ14_copyOf_3_35 (fun H locs hO => ?_)
  have hO : dz_O G.1 dz_CL A s.heap [[(ar, dzO G cap f)], [(q_2, dzO G c2 (va_cpy f (fun _ => none) 0 0 cap))], vp] _ _ := hO
  refine lv_aload_n X.x X.b dJ14_copyOf_3_38 rfl (lv_at hl 0 rfl) ?_
  exact dz_aret X hO rfl (Or.inr ⟨_, rfl⟩) (Or.inr ⟨_, rfl⟩) (⟨q_2, rfl, rfl⟩) (Nat.le_of_ble_eq_true rfl) (Nat.le_of_ble_eq_true rfl) dJ14_copyOf_3_39
set_option maxHeartbeats 4000000 in
set_option maxRecDepth 100000 in
/-- copyOf: objects -/
theorem dz_J14_copyOf_2 (l : Launch) (G : dz_G) (sz : Nat) (ar : Nat) (cap : Nat) (f : Nat → Option Nat) (c2 : Nat) (vp : va_W) (hc : cap ≤ c2) (hc2 : c2 ≤ 15) (hv : ∀ i, i < cap → ∀ y, f i = some y → dz_is vp y) : dz_M l G yJ14_copyOf_2 cJ14_copyOf_2 2 (some (FieldType.array (FieldType.object "java/lang/Object"))) ({ frames := 40, cells := 1, slots := 15, locals := 600 } : Room) [.ref ar, .int (nI c2)] [[(ar, dzO G cap f)], vp] sz (fun r w1 => ∃ (q : Nat), r = some (.ref q) ∧ w1 = [[(ar, dzO G cap f)], [(q, dzO G c2 (va_cpy f (fun _ => none) 0 0 cap))], vp]) (dz_np) := by
  refine dz_start (by decide) (Nat.le_of_ble_eq_true rfl) ?_
  intro p e s m below meth c A ls X hO hsz hl
  have hl : lv_has ls 2 [(0, .ref ar), (1, .int (nI c2))] := hl
  refine lv_aload_n X.x X.b dJ14_copyOf_2_0 rfl (lv_at hl 0 rfl) ?_
  refine lv_iload_n X.x X.b dJ14_copyOf_2_1 rfl (lv_at hl 1 rfl) ?_
  refine lv_aload_n X.x X.b dJ14_copyOf_2_2 rfl (lv_at hl 0 rfl) ?_
  refine dz_getC X hl q1315 (hO.at1 0 rfl) (Nat.le_of_ble_eq_true rfl) (Nat.le_of_ble_eq_true rfl) (Nat.le_of_ble_eq_true rfl) dJ14_copyOf_2_3 ?_
  refine dz_S (n := 3) (k9 := 1) (n9 := 15) (As := [.ref ar, .int (nI c2), .ref (G.2.2.1 10)]) (rest := []) (wr := []) X hO hl (dz_J14_copyOf_3 l G _ ar cap f c2 vp (by first | assumption | omega | decide) (by first | assumption | omega | decide) (by first | assumption | omega | decide)) (lw_S q1316 q1317 q63 q1318) (by decide +kernel) ⟨Nat.le_of_ble_eq_true rfl, Nat.le_of_ble_eq_true rfl⟩ ⟨(Nat.le_of_ble_eq_true rfl), (Nat.le_of_ble_eq_true rfl), (Nat.le_of_ble_eq_true rfl), (Nat.le_of_ble_eq_true rfl)⟩ [0, 1] [] rfl rfl rfl rfl rfl (Nat.le_of_ble_eq_true rfl) dJ14_copyOf_2_6 (fun E w1 q9 ce9 H locs hpx hO hce hv9 hcl9 => hpx.elim) (fun r w1 H locs hpo hO => ?_)
  obtain ⟨q_1, rfl, rfl⟩ := hpo
  have hO : dz_O G.1 dz_CL A s.heap [[(ar, dzO G cap f)], [(q_1, dzO G c2 (va_cpy f (fun _ => none) 0 0 cap))], vp] _ _ := hO
  refine W.eq (g2 := F0 m 9 ls [.ref q_1]) rfl ?_
  exact dz_aret X hO rfl (Or.inr ⟨_, rfl⟩) (Or.inr ⟨_, rfl⟩) (⟨q_1, rfl, rfl⟩) (Nat.le_of_ble_eq_true rfl) (Nat.le_of_ble_eq_true rfl) dJ14_copyOf_2_9
set_option maxHeartbeats 4000000 in
set_option maxRecDepth 100000 in
/-- the first room: 10 -/
theorem dz_J3_grow_2_0 (l : Launch) (G : dz_G) (sz : Nat) (al : Nat) (mc : Int32)  : dz_M l G yJ3_grow_2 cJ3_grow_2 4 (some (FieldType.array (FieldType.object "java/lang/Object"))) ({ frames := 60, cells := 1, slots := 10, locals := 900 } : Room) [.ref al, .int 1] [[(al, dzo 14 [.int mc, .ref (G.2.2.1 9), .int 0])]] sz (fun r w1 => ∃ (q : Nat), r = some (.ref q) ∧ w1 = [[(al, dzo 14 [.int mc, .ref q, .int 0])], [(q, dzO G 10 (fun _ => none))]]) (dz_np) := by
  refine dz_start (by decide) (Nat.le_of_ble_eq_true rfl) ?_
  intro p e s m below meth c A ls X hO hsz hl
  have hl : lv_has ls 4 [(0, .ref al), (1, .int 1)] := hl
  refine lv_aload_n X.x X.b dJ3_grow_2_0 rfl (lv_at hl 0 rfl) ?_
  refine dz_get (v := .ref (G.2.2.1 9)) X (hO.at1 0 rfl) in_J3 rfl 1 (by decide) q474 (Or.inl rfl) rfl dJ3_grow_2_1 ?_
  refine dz_tlen (v := 0) X hO X.st.2.2.2.2.2.2.2.2.2.2.2.1 (by decide) dJ3_grow_2_4 ?_
  refine lv_istore_n (lv' := [(2, .int 0), (0, .ref al), (1, .int 1)]) X.x X.b dJ3_grow_2_5 rfl hl (by decide) rfl (fun ls hl => ?_)
  refine lv_iload_n X.x X.b dJ3_grow_2_6 rfl (lv_at hl 0 rfl) ?_
  refine lv_if_gt (tgt := 20) X.x X.b dJ3_grow_2_7 (by decide) (fun c_1 => absurd c_1 (by decide)) (fun _ => ?_)
  refine lv_aload_n X.x X.b dJ3_grow_2_10 rfl (lv_at hl 1 rfl) ?_
  refine dz_get (v := .ref (G.2.2.1 9)) X (hO.at1 0 rfl) in_J3 rfl 1 (by decide) q474 (Or.inl rfl) rfl dJ3_grow_2_11 ?_
  refine dz_gets (v := .ref (G.2.2.1 9)) X hO X.st.2.2.2.2.2.2.2.2.2.2.1 q1590 (Or.inl rfl) dJ3_grow_2_14 ?_
  refine lv_acmp_eq (rx := (some (G.2.2.1 9))) (ry := (some (G.2.2.1 9))) (tgt := 45) X.x X.b dJ3_grow_2_17 (by decide) (fun _ => ?_) (fun c_2 => absurd (rfl) c_2)
  refine lv_aload_n X.x X.b dJ3_grow_2_45 rfl (lv_at hl 1 rfl) ?_
  refine lv_bipush (v := 10) X.x X.b dJ3_grow_2_46 (by decide) ?_
  refine lv_iload_n X.x X.b dJ3_grow_2_48 rfl (lv_at hl 2 rfl) ?_
  refine dz_mmax X hl q1594 (Nat.le_of_ble_eq_true rfl) (Nat.le_of_ble_eq_true rfl) (Nat.le_of_ble_eq_true rfl) (Nat.le_of_ble_eq_true rfl) (Nat.le_of_ble_eq_true rfl) dJ3_grow_2_49 ?_
  refine dz_rei (y := 10) (by decide) ?_
  refine dz_newaO X hO q153 (j := 10) (by decide) (by decide) (by decide) (Nat.le_of_ble_eq_true rfl) (Nat.le_of_ble_eq_true rfl) dJ3_grow_2_52 (fun q_3 H hO => ?_)
  have hO : dz_O G.1 dz_CL A s.heap [[(al, dzo 14 [.int mc, .ref (G.2.2.1 9), .int 0])], [(q_3, dzO G 10 (fun _ => none))]] _ _ := hO
  refine W.widen (k := 1) (n := 10) (Nat.le_of_ble_eq_true rfl) (Nat.le_of_ble_eq_true rfl) ?_
  refine lv_dup_x1 X.x X.b dJ3_grow_2_55 rfl rfl ?_
  refine dz_put (v := .ref q_3) X hO 0 rfl in_J3 tyJ3 tyJ3_ok nmJ3 rfl 1 (by decide) q474 (Or.inl rfl) (Or.inl rfl) rfl rfl (Nat.le_of_ble_eq_true rfl) dJ3_grow_2_56 (fun H locs hO => ?_)
  have hO : dz_O G.1 dz_CL A s.heap [[(al, dzo 14 [.int mc, .ref q_3, .int 0])], [(q_3, dzO G 10 (fun _ => none))]] _ _ := hO
  exact dz_aret X hO rfl (Or.inr ⟨_, rfl⟩) (Or.inr ⟨_, rfl⟩) (⟨q_3, rfl, rfl⟩) (Nat.le_of_ble_eq_true rfl) (Nat.le_of_ble_eq_true rfl) dJ3_grow_2_59
set_option maxHeartbeats 4000000 in
set_option maxRecDepth 100000 in
/-- the first room: 10 -/
theorem dz_J3_grow_0 (l : Launch) (G : dz_G) (sz : Nat) (al : Nat) (mc : Int32)  : dz_M l G yJ3_grow cJ3_grow 1 (some (FieldType.array (FieldType.object "java/lang/Object"))) ({ frames := 80, cells := 1, slots := 10, locals := 1200 } : Room) [.ref al] [[(al, dzo 14 [.int mc, .ref (G.2.2.1 9), .int 0])]] sz (fun r w1 => ∃ (q : Nat), r = some (.ref q) ∧ w1 = [[(al, dzo 14 [.int mc, .ref q, .int 0])], [(q, dzO G 10 (fun _ => none))]]) (dz_np) := by
  refine dz_start (by decide) (Nat.le_of_ble_eq_true rfl) ?_
  intro p e s m below meth c A ls X hO hsz hl
  have hl : lv_has ls 1 [(0, .ref al)] := hl
  refine lv_aload_n X.x X.b dJ3_grow_0 rfl (lv_at hl 0 rfl) ?_
  refine lv_aload_n X.x X.b dJ3_grow_1 rfl (lv_at hl 0 rfl) ?_
  refine dz_get (v := .int 0) X (hO.at1 0 rfl) in_J3 rfl 2 (by decide) q478 (Or.inl rfl) rfl dJ3_grow_2 ?_
  refine lv_iconst (v := 1) X.x X.b dJ3_grow_5 (by decide) ?_
  refine lv_iadd X.x X.b dJ3_grow_6 ?_
  refine dz_rei (y := 1) (by decide) ?_
  refine dz_V (n := 1) (k9 := 1) (n9 := 10) (As := [.int 1]) (rest := []) (wr := []) X hO hl (dz_J3_grow_2_0 l G _ al mc ) (lw_V q1586 q1588 qs23 q52 q1589) (by decide +kernel) ⟨Nat.le_of_ble_eq_true rfl, Nat.le_of_ble_eq_true rfl⟩ ⟨(Nat.le_of_ble_eq_true rfl), (Nat.le_of_ble_eq_true rfl), (Nat.le_of_ble_eq_true rfl), (Nat.le_of_ble_eq_true rfl)⟩ [0] [] rfl rfl rfl (dz_rc X (hO.at1 0 rfl) (r := (RJ3, TJ3, 3)) rfl) rfl rfl (Nat.le_of_ble_eq_true rfl) dJ3_grow_7 (fun E w1 q9 ce9 H locs hpx hO hce hv9 hcl9 => hpx.elim) (fun r w1 H locs hpo hO => ?_)
  obtain ⟨q_1, rfl, rfl⟩ := hpo
  have hO : dz_O G.1 dz_CL A s.heap [[(al, dzo 14 [.int mc, .ref q_1, .int 0])], [(q_1, dzO G 10 (fun _ => none))]] _ _ := hO
  refine W.eq (g2 := F0 m 10 ls [.ref q_1]) rfl ?_
  exact dz_aret X hO rfl (Or.inr ⟨_, rfl⟩) (Or.inr ⟨_, rfl⟩) (⟨q_1, rfl, rfl⟩) (Nat.le_of_ble_eq_true rfl) (Nat.le_of_ble_eq_true rfl) dJ3_grow_10
set_option maxHeartbeats 4000000 in
set_option maxRecDepth 100000 in
/-- room for 15 -/
theorem dz_J3_grow_2_10 (l : Launch) (G : dz_G) (sz : Nat) (al : Nat) (mc : Int32) (ar : Nat) (f : Nat → Option Nat) (vp : va_W) (hv : ∀ i, i < 10 → ∀ y, f i = some y → dz_is vp y) : dz_M l G yJ3_grow_2 cJ3_grow_2 4 (some (FieldType.array (FieldType.object "java/lang/Object"))) ({ frames := 60, cells := 1, slots := 15, locals := 900 } : Room) [.ref al, .int 11] [[(al, dzo 14 [.int mc, .ref ar, .int 10])], [(ar, dzO G 10 f)], vp] sz (fun r w1 => ∃ (q : Nat), r = some (.ref q) ∧ w1 = [[(al, dzo 14 [.int mc, .ref q, .int 10])], [(q, dzO G 15 (va_cpy f (fun _ => none) 0 0 10))], vp]) (dz_np) := by
  refine dz_start (by decide) (Nat.le_of_ble_eq_true rfl) ?_
  intro p e s m below meth c A ls X hO hsz hl
  have hl : lv_has ls 4 [(0, .ref al), (1, .int 11)] := hl
  refine lv_aload_n X.x X.b dJ3_grow_2_0 rfl (lv_at hl 0 rfl) ?_
  refine dz_get (v := .ref ar) X (hO.at1 0 rfl) in_J3 rfl 1 (by decide) q474 (Or.inl rfl) rfl dJ3_grow_2_1 ?_
  refine dz_alen (v := 10) X (hO.at1 1 rfl) 5 rfl (by first | rfl | decide) dJ3_grow_2_4 ?_
  refine lv_istore_n (lv' := [(2, .int 10), (0, .ref al), (1, .int 11)]) X.x X.b dJ3_grow_2_5 rfl hl (by decide) rfl (fun ls hl => ?_)
  refine lv_iload_n X.x X.b dJ3_grow_2_6 rfl (lv_at hl 0 rfl) ?_
  refine lv_if_gt (tgt := 20) X.x X.b dJ3_grow_2_7 (by decide) (fun _ => ?_) (fun c_1 => absurd (by decide) c_1)
  refine lv_iload_n X.x X.b dJ3_grow_2_20 rfl (lv_at hl 0 rfl) ?_
  refine lv_iload_n X.x X.b dJ3_grow_2_21 rfl (lv_at hl 2 rfl) ?_
  refine lv_iload_n X.x X.b dJ3_grow_2_22 rfl (lv_at hl 0 rfl) ?_
  refine lv_isub X.x X.b dJ3_grow_2_23 ?_
  refine dz_rei (y := 1) (by decide) ?_
  refine lv_iload_n X.x X.b dJ3_grow_2_24 rfl (lv_at hl 0 rfl) ?_
  refine lv_iconst (v := 1) X.x X.b dJ3_grow_2_25 (by decide) ?_
  refine lv_ishr X.x X.b dJ3_grow_2_26 ?_
  refine dz_rei (y := 5) (by decide) ?_
  refine dz_S (n := 3) (k9 := 0) (n9 := 0) (As := [.int 10, .int 1, .int 5]) (rest := []) (wr := [[(al, dzo 14 [.int mc, .ref ar, .int 10])], [(ar, dzO G 10 f)], vp]) X hO hl (dz_J12_newLength l G _ 10 1 5 (by decide) (by decide)) (lw_S q1592 q256 q61 q257) (by decide +kernel) ⟨Nat.le_of_ble_eq_true rfl, Nat.le_of_ble_eq_true rfl⟩ ⟨(Nat.le_of_ble_eq_true rfl), (Nat.le_of_ble_eq_true rfl), (Nat.le_of_ble_eq_true rfl), (Nat.le_of_ble_eq_true rfl)⟩ [] [0, 1, 2] rfl rfl rfl rfl rfl (Nat.le_of_ble_eq_true rfl) dJ3_grow_2_27 (fun E w1 q9 ce9 H locs hpx hO hce hv9 hcl9 => hpx.elim) (fun r w1 H locs hpo hO => ?_)
  obtain ⟨rfl, rfl⟩ := hpo
  have hO : dz_O G.1 dz_CL A s.heap [[(al, dzo 14 [.int mc, .ref ar, .int 10])], [(ar, dzO G 10 f)], vp] _ _ := hO
  refine W.eq (g2 := F0 m 30 ls [.int (nI (10 + (if 1 < 5 then 5 else 1)))]) rfl ?_
  refine dz_rei (y := 15) (by decide) ?_
  refine lv_istore_n (lv' := [(3, .int 15), (2, .int 10), (0, .ref al), (1, .int 11)]) X.x X.b dJ3_grow_2_30 rfl hl (by decide) rfl (fun ls hl => ?_)
  refine lv_aload_n X.x X.b dJ3_grow_2_31 rfl (lv_at hl 2 rfl) ?_
  refine lv_aload_n X.x X.b dJ3_grow_2_32 rfl (lv_at hl 2 rfl) ?_
  refine dz_get (v := .ref ar) X (hO.at1 0 rfl) in_J3 rfl 1 (by decide) q474 (Or.inl rfl) rfl dJ3_grow_2_33 ?_
  refine lv_iload_n X.x X.b dJ3_grow_2_36 rfl (lv_at hl 0 rfl) ?_
  refine dz_S (n := 2) (k9 := 1) (n9 := 15) (As := [.ref ar, .int 15]) (rest := [.ref al]) (wr := [[(al, dzo 14 [.int mc, .ref ar, .int 10])]]) X hO hl (dz_J14_copyOf_2 l G _ ar 10 f 15 vp (by decide) (by decide) (by first | assumption | omega | decide)) (lw_S q1593 q1313 q63 q1314) (by decide +kernel) ⟨Nat.le_of_ble_eq_true rfl, Nat.le_of_ble_eq_true rfl⟩ ⟨(Nat.le_of_ble_eq_true rfl), (Nat.le_of_ble_eq_true rfl), (Nat.le_of_ble_eq_true rfl), (Nat.le_of_ble_eq_true rfl)⟩ [1, 2] [0] rfl rfl rfl rfl rfl (Nat.le_of_ble_eq_true rfl) dJ3_grow_2_37 (fun E w1 q9 ce9 H locs hpx hO hce hv9 hcl9 => hpx.elim) (fun r w1 H locs hpo hO => ?_)
  obtain ⟨q_2, rfl, rfl⟩ := hpo
  have hO : dz_O G.1 dz_CL A s.heap [[(al, dzo 14 [.int mc, .ref ar, .int 10])], [(ar, dzO G 10 f)], [(q_2, dzO G 15 (va_cpy f (fun _ => none) 0 0 10))], vp] _ _ := hO
  refine W.eq (g2 := F0 m 40 ls [.ref q_2, .ref al]) rfl ?_
  refine lv_dup_x1 X.x X.b dJ3_grow_2_40 rfl rfl ?_
  refine dz_put (v := .ref q_2) X hO 0 rfl in_J3 tyJ3 tyJ3_ok nmJ3 rfl 1 (by decide) q474 (Or.inl rfl) (Or.inl rfl) rfl rfl (Nat.le_of_ble_eq_true rfl) dJ3_grow_2_41 (fun H locs hO => ?_)
  have hO : dz_O G.1 dz_CL A s.heap [[(al, dzo 14 [.int mc, .ref q_2, .int 10])], [(ar, dzO G 10 f)], [(q_2, dzO G 15 (va_cpy f (fun _ => none) 0 0 10))], vp] _ _ := hO
  have hO := hO.sel (v := [[(al, dzo 14 [.int mc, .ref q_2, .int 10])], [(q_2, dzO G 15 (va_cpy f (fun _ => none) 0 0 10))], vp]) [0, 2, 3] rfl rfl
  exact dz_aret X hO rfl (Or.inr ⟨_, rfl⟩) (Or.inr ⟨_, rfl⟩) (⟨q_2, rfl, rfl⟩) (Nat.le_of_ble_eq_true rfl) (Nat.le_of_ble_eq_true rfl) dJ3_grow_2_44
set_option maxHeartbeats 4000000 in
set_option maxRecDepth 100000 in
/-- room for 15 -/
theorem dz_J3_grow_10 (l : Launch) (G : dz_G) (sz : Nat) (al : Nat) (mc : Int32) (ar : Nat) (f : Nat → Option Nat) (vp : va_W) (hv : ∀ i, i < 10 → ∀ y, f i = some y → dz_is vp y) : dz_M l G yJ3_grow cJ3_grow 1 (some (FieldType.array (FieldType.object "java/lang/Object"))) ({ frames := 80, cells := 1, slots := 15, locals := 1200 } : Room) [.ref al] [[(al, dzo 14 [.int mc, .ref ar, .int 10])], [(ar, dzO G 10 f)], vp] sz (fun r w1 => ∃ (q : Nat), r = some (.ref q) ∧ w1 = [[(al, dzo 14 [.int mc, .ref q, .int 10])], [(q, dzO G 15 (va_cpy f (fun _ => none) 0 0 10))], vp]) (dz_np) := by
  refine dz_start (by decide) (Nat.le_of_ble_eq_true rfl) ?_
  intro p e s m below meth c A ls X hO hsz hl
  have hl : lv_has ls 1 [(0, .ref al)] := hl
  refine lv_aload_n X.x X.b dJ3_grow_0 rfl (lv_at hl 0 rfl) ?_
  refine lv_aload_n X.x X.b dJ3_grow_1 rfl (lv_at hl 0 rfl) ?_
  refine dz_get (v := .int 10) X (hO.at1 0 rfl) in_J3 rfl 2 (by decide) q478 (Or.inl rfl) rfl dJ3_grow_2 ?_
  refine lv_iconst (v := 1) X.x X.b dJ3_grow_5 (by decide) ?_
  refine lv_iadd X.x X.b dJ3_grow_6 ?_
  refine dz_rei (y := 11) (by decide) ?_
  refine dz_V (n := 1) (k9 := 1) (n9 := 15) (As := [.int 11]) (rest := []) (wr := []) X hO hl (dz_J3_grow_2_10 l G _ al mc ar f vp (by first | assumption | omega | decide)) (lw_V q1586 q1588 qs23 q52 q1589) (by decide +kernel) ⟨Nat.le_of_ble_eq_true rfl, Nat.le_of_ble_eq_true rfl⟩ ⟨(Nat.le_of_ble_eq_true rfl), (Nat.le_of_ble_eq_true rfl), (Nat.le_of_ble_eq_true rfl), (Nat.le_of_ble_eq_true rfl)⟩ [0, 1, 2] [] rfl rfl rfl (dz_rc X (hO.at1 0 rfl) (r := (RJ3, TJ3, 3)) rfl) rfl rfl (Nat.le_of_ble_eq_true rfl) dJ3_grow_7 (fun E w1 q9 ce9 H locs hpx hO hce hv9 hcl9 => hpx.elim) (fun r w1 H locs hpo hO => ?_)
  obtain ⟨q_1, rfl, rfl⟩ := hpo
  have hO : dz_O G.1 dz_CL A s.heap [[(al, dzo 14 [.int mc, .ref q_1, .int 10])], [(q_1, dzO G 15 (va_cpy f (fun _ => none) 0 0 10))], vp] _ _ := hO
  refine W.eq (g2 := F0 m 10 ls [.ref q_1]) rfl ?_
  exact dz_aret X hO rfl (Or.inr ⟨_, rfl⟩) (Or.inr ⟨_, rfl⟩) (⟨q_1, rfl, rfl⟩) (Nat.le_of_ble_eq_true rfl) (Nat.le_of_ble_eq_true rfl) dJ3_grow_10
set_option maxHeartbeats 4000000 in
set_option maxRecDepth 100000 in
/-- add where the list grows -/
theorem dz_J3_add_2_0 (l : Launch) (G : dz_G) (sz : Nat) (al : Nat) (mc : Int32) (vp : va_W) (v : Nat) (hv : dz_is vp v) : dz_M l G yJ3_add_2 cJ3_add_2 4 none ({ frames := 100, cells := 1, slots := 10, locals := 1500 } : Room) [.ref al, .ref v, .ref (G.2.2.1 9), .int 0] [[(al, dzo 14 [.int mc, .ref (G.2.2.1 9), .int 0])], vp] sz (fun r w1 => ∃ (q : Nat), r = none ∧ w1 = [[(al, dzo 14 [.int mc, .ref q, .int 1])], [(q, dzO G 10 (va_up (fun _ => none) 0 (some v)))], vp]) (dz_np) := by
  refine dz_start (by decide) (Nat.le_of_ble_eq_true rfl) ?_
  intro p e s m below meth c A ls X hO hsz hl
  have hl : lv_has ls 4 [(0, .ref al), (1, .ref v), (2, .ref (G.2.2.1 9)), (3, .int 0)] := hl
  refine lv_iload_n X.x X.b dJ3_add_2_0 rfl (lv_at hl 3 rfl) ?_
  refine lv_aload_n X.x X.b dJ3_add_2_1 rfl (lv_at hl 2 rfl) ?_
  refine dz_tlen (v := 0) X hO X.st.2.2.2.2.2.2.2.2.2.2.2.1 (by decide) dJ3_add_2_2 ?_
  refine lv_icmp_ne (tgt := 11) X.x X.b dJ3_add_2_3 (by decide) (fun c_1 => absurd (by decide) c_1) (fun _ => ?_)
  refine lv_aload_n X.x X.b dJ3_add_2_6 rfl (lv_at hl 0 rfl) ?_
  refine dz_V (n := 0) (k9 := 1) (n9 := 10) (As := []) (rest := []) (wr := [vp]) X hO hl (dz_J3_grow_0 l G _ al mc ) (lw_V q1582 q1584 qs22 q52 q1585) (by decide +kernel) ⟨Nat.le_of_ble_eq_true rfl, Nat.le_of_ble_eq_true rfl⟩ ⟨(Nat.le_of_ble_eq_true rfl), (Nat.le_of_ble_eq_true rfl), (Nat.le_of_ble_eq_true rfl), (Nat.le_of_ble_eq_true rfl)⟩ [0] [1] rfl rfl rfl (dz_rc X (hO.at1 0 rfl) (r := (RJ3, TJ3, 3)) rfl) rfl rfl (Nat.le_of_ble_eq_true rfl) dJ3_add_2_7 (fun E w1 q9 ce9 H locs hpx hO hce hv9 hcl9 => hpx.elim) (fun r w1 H locs hpo hO => ?_)
  obtain ⟨q_2, rfl, rfl⟩ := hpo
  have hO : dz_O G.1 dz_CL A s.heap [vp, [(al, dzo 14 [.int mc, .ref q_2, .int 0])], [(q_2, dzO G 10 (fun _ => none))]] _ _ := hO
  refine W.eq (g2 := F0 m 10 ls [.ref q_2]) rfl ?_
  refine lv_astore_n (lv' := [(2, .ref q_2), (0, .ref al), (1, .ref v), (3, .int 0)]) X.x X.b dJ3_add_2_10 rfl hl (by decide) rfl (fun ls hl => ?_)
  refine lv_aload_n X.x X.b dJ3_add_2_11 rfl (lv_at hl 0 rfl) ?_
  refine lv_iload_n X.x X.b dJ3_add_2_12 rfl (lv_at hl 3 rfl) ?_
  refine lv_aload_n X.x X.b dJ3_add_2_13 rfl (lv_at hl 2 rfl) ?_
  refine dz_aastO X hO 2 rfl (dz_is_any X hO 0 rfl hv) (j := 0) (by decide) (by decide) (by decide) dJ3_add_2_14 (fun H locs hO => ?_)
  have hO : dz_O G.1 dz_CL A s.heap [vp, [(al, dzo 14 [.int mc, .ref q_2, .int 0])], [(q_2, dzO G 10 (va_up (fun _ => none) 0 (some v)))]] _ _ := hO
  refine lv_aload_n X.x X.b dJ3_add_2_15 rfl (lv_at hl 1 rfl) ?_
  refine lv_iload_n X.x X.b dJ3_add_2_16 rfl (lv_at hl 3 rfl) ?_
  refine lv_iconst (v := 1) X.x X.b dJ3_add_2_17 (by decide) ?_
  refine lv_iadd X.x X.b dJ3_add_2_18 ?_
  refine dz_rei (y := 1) (by decide) ?_
  refine dz_put (v := .int 1) X hO 1 rfl in_J3 tyJ3 tyJ3_ok nmJ3 rfl 2 (by decide) q478 (Or.inl rfl) (Or.inl rfl) rfl rfl (Nat.le_of_ble_eq_true rfl) dJ3_add_2_19 (fun H locs hO => ?_)
  have hO : dz_O G.1 dz_CL A s.heap [vp, [(al, dzo 14 [.int mc, .ref q_2, .int 1])], [(q_2, dzO G 10 (va_up (fun _ => none) 0 (some v)))]] _ _ := hO
  have hO := hO.sel (v := [[(al, dzo 14 [.int mc, .ref q_2, .int 1])], [(q_2, dzO G 10 (va_up (fun _ => none) 0 (some v)))], vp]) [1, 2, 0] rfl rfl
  exact dz_vret X hO rfl (⟨q_2, rfl, rfl⟩) (Nat.le_of_ble_eq_true rfl) (Nat.le_of_ble_eq_true rfl) dJ3_add_2_22
set_option maxHeartbeats 4000000 in
set_option maxRecDepth 100000 in
/-- add where the list grows -/
theorem dz_J3_add_0 (l : Launch) (G : dz_G) (sz : Nat) (al : Nat) (mc : Int32) (vp : va_W) (v : Nat) (hv : dz_is vp v) : dz_M l G yJ3_add cJ3_add 2 (some FieldType.boolean) ({ frames := 120, cells := 1, slots := 10, locals := 1800 } : Room) [.ref al, .ref v] [[(al, dzo 14 [.int mc, .ref (G.2.2.1 9), .int 0])], vp] sz (fun r w1 => ∃ (q : Nat), r = some (.int 1) ∧ w1 = [[(al, dzo 14 [.int (mc + 1), .ref q, .int 1])], [(q, dzO G 10 (va_up (fun _ => none) 0 (some v)))], vp]) (dz_np) := by
  refine dz_start (by decide) (Nat.le_of_ble_eq_true rfl) ?_
  intro p e s m below meth c A ls X hO hsz hl
  have hl : lv_has ls 2 [(0, .ref al), (1, .ref v)] := hl
  refine lv_aload_n X.x X.b dJ3_add_0 rfl (lv_at hl 0 rfl) ?_
  refine lv_dup X.x X.b dJ3_add_1 rfl ?_
  refine dz_get (v := .int mc) X (hO.at1 0 rfl) in_J3 rfl 0 (by decide) q487 (Or.inr q483) rfl dJ3_add_2 ?_
  refine lv_iconst (v := 1) X.x X.b dJ3_add_5 (by decide) ?_
  refine lv_iadd X.x X.b dJ3_add_6 ?_
  refine dz_put (v := .int (mc + 1)) X hO 0 rfl in_J3 tyJ3 tyJ3_ok nmJ3 rfl 0 (by decide) q487 (Or.inr q483) (Or.inl rfl) rfl rfl (Nat.le_of_ble_eq_true rfl) dJ3_add_7 (fun H locs hO => ?_)
  have hO : dz_O G.1 dz_CL A s.heap [[(al, dzo 14 [.int (mc + 1), .ref (G.2.2.1 9), .int 0])], vp] _ _ := hO
  refine lv_aload_n X.x X.b dJ3_add_10 rfl (lv_at hl 0 rfl) ?_
  refine lv_aload_n X.x X.b dJ3_add_11 rfl (lv_at hl 1 rfl) ?_
  refine lv_aload_n X.x X.b dJ3_add_12 rfl (lv_at hl 0 rfl) ?_
  refine dz_get (v := .ref (G.2.2.1 9)) X (hO.at1 0 rfl) in_J3 rfl 1 (by decide) q474 (Or.inl rfl) rfl dJ3_add_13 ?_
  refine lv_aload_n X.x X.b dJ3_add_16 rfl (lv_at hl 0 rfl) ?_
  refine dz_get (v := .int 0) X (hO.at1 0 rfl) in_J3 rfl 2 (by decide) q478 (Or.inl rfl) rfl dJ3_add_17 ?_
  refine dz_V (n := 3) (k9 := 1) (n9 := 10) (As := [.ref v, .ref (G.2.2.1 9), .int 0]) (rest := []) (wr := []) X hO hl (dz_J3_add_2_0 l G _ al (mc + 1) vp v (by first | assumption | omega | decide)) (lw_V q1578 q1580 qs21 q52 q1581) (by decide +kernel) ⟨Nat.le_of_ble_eq_true rfl, Nat.le_of_ble_eq_true rfl⟩ ⟨(Nat.le_of_ble_eq_true rfl), (Nat.le_of_ble_eq_true rfl), (Nat.le_of_ble_eq_true rfl), (Nat.le_of_ble_eq_true rfl)⟩ [0, 1] [] rfl rfl rfl (dz_rc X (hO.at1 0 rfl) (r := (RJ3, TJ3, 3)) rfl) rfl rfl (Nat.le_of_ble_eq_true rfl) dJ3_add_20 (fun E w1 q9 ce9 H locs hpx hO hce hv9 hcl9 => hpx.elim) (fun r w1 H locs hpo hO => ?_)
  obtain ⟨q_1, rfl, rfl⟩ := hpo
  have hO : dz_O G.1 dz_CL A s.heap [[(al, dzo 14 [.int (mc + 1), .ref q_1, .int 1])], [(q_1, dzO G 10 (va_up (fun _ => none) 0 (some v)))], vp] _ _ := hO
  refine W.eq (g2 := F0 m 23 ls []) rfl ?_
  refine lv_iconst (v := 1) X.x X.b dJ3_add_23 (by decide) ?_
  exact dz_zret X hO rfl (rfl) (⟨q_1, rfl, rfl⟩) (Nat.le_of_ble_eq_true rfl) (Nat.le_of_ble_eq_true rfl) dJ3_add_24
set_option maxHeartbeats 4000000 in
set_option maxRecDepth 100000 in
/-- add where the list grows -/
theorem dz_J3_add_2_10 (l : Launch) (G : dz_G) (sz : Nat) (al : Nat) (mc : Int32) (ar : Nat) (f : Nat → Option Nat) (vp : va_W) (v : Nat) (hv2 : ∀ i, i < 10 → ∀ y, f i = some y → dz_is vp y) (hv : dz_is vp v) : dz_M l G yJ3_add_2 cJ3_add_2 4 none ({ frames := 100, cells := 1, slots := 15, locals := 1500 } : Room) [.ref al, .ref v, .ref ar, .int 10] [[(al, dzo 14 [.int mc, .ref ar, .int 10])], [(ar, dzO G 10 f)], vp] sz (fun r w1 => ∃ (q : Nat), r = none ∧ w1 = [[(al, dzo 14 [.int mc, .ref q, .int 11])], [(q, dzO G 15 (va_up (va_cpy f (fun _ => none) 0 0 10) 10 (some v)))], vp]) (dz_np) := by
  refine dz_start (by decide) (Nat.le_of_ble_eq_true rfl) ?_
  intro p e s m below meth c A ls X hO hsz hl
  have hl : lv_has ls 4 [(0, .ref al), (1, .ref v), (2, .ref ar), (3, .int 10)] := hl
  refine lv_iload_n X.x X.b dJ3_add_2_0 rfl (lv_at hl 3 rfl) ?_
  refine lv_aload_n X.x X.b dJ3_add_2_1 rfl (lv_at hl 2 rfl) ?_
  refine dz_alen (v := 10) X (hO.at1 1 rfl) 5 rfl (by first | rfl | decide) dJ3_add_2_2 ?_
  refine lv_icmp_ne (tgt := 11) X.x X.b dJ3_add_2_3 (by decide) (fun c_1 => absurd (by decide) c_1) (fun _ => ?_)
  refine lv_aload_n X.x X.b dJ3_add_2_6 rfl (lv_at hl 0 rfl) ?_
  refine dz_V (n := 0) (k9 := 1) (n9 := 15) (As := []) (rest := []) (wr := []) X hO hl (dz_J3_grow_10 l G _ al mc ar f vp (hv2)) (lw_V q1582 q1584 qs22 q52 q1585) (by decide +kernel) ⟨Nat.le_of_ble_eq_true rfl, Nat.le_of_ble_eq_true rfl⟩ ⟨(Nat.le_of_ble_eq_true rfl), (Nat.le_of_ble_eq_true rfl), (Nat.le_of_ble_eq_true rfl), (Nat.le_of_ble_eq_true rfl)⟩ [0, 1, 2] [] rfl rfl rfl (dz_rc X (hO.at1 0 rfl) (r := (RJ3, TJ3, 3)) rfl) rfl rfl (Nat.le_of_ble_eq_true rfl) dJ3_add_2_7 (fun E w1 q9 ce9 H locs hpx hO hce hv9 hcl9 => hpx.elim) (fun r w1 H locs hpo hO => ?_)
  obtain ⟨q_2, rfl, rfl⟩ := hpo
  have hO : dz_O G.1 dz_CL A s.heap [[(al, dzo 14 [.int mc, .ref q_2, .int 10])], [(q_2, dzO G 15 (va_cpy f (fun _ => none) 0 0 10))], vp] _ _ := hO
  refine W.eq (g2 := F0 m 10 ls [.ref q_2]) rfl ?_
  refine lv_astore_n (lv' := [(2, .ref q_2), (0, .ref al), (1, .ref v), (3, .int 10)]) X.x X.b dJ3_add_2_10 rfl hl (by decide) rfl (fun ls hl => ?_)
  refine lv_aload_n X.x X.b dJ3_add_2_11 rfl (lv_at hl 0 rfl) ?_
  refine lv_iload_n X.x X.b dJ3_add_2_12 rfl (lv_at hl 3 rfl) ?_
  refine lv_aload_n X.x X.b dJ3_add_2_13 rfl (lv_at hl 2 rfl) ?_
  refine dz_aastO X hO 1 rfl (dz_is_any X hO 2 rfl hv) (j := 10) (by decide) (by decide) (by decide) dJ3_add_2_14 (fun H locs hO => ?_)
  have hO : dz_O G.1 dz_CL A s.heap [[(al, dzo 14 [.int mc, .ref q_2, .int 10])], [(q_2, dzO G 15 (va_up (va_cpy f (fun _ => none) 0 0 10) 10 (some v)))], vp] _ _ := hO
  refine lv_aload_n X.x X.b dJ3_add_2_15 rfl (lv_at hl 1 rfl) ?_
  refine lv_iload_n X.x X.b dJ3_add_2_16 rfl (lv_at hl 3 rfl) ?_
  refine lv_iconst (v := 1) X.x X.b dJ3_add_2_17 (by decide) ?_
  refine lv_iadd X.x X.b dJ3_add_2_18 ?_
  refine dz_rei (y := 11) (by decide) ?_
  refine dz_put (v := .int 11) X hO 0 rfl in_J3 tyJ3 tyJ3_ok nmJ3 rfl 2 (by decide) q478 (Or.inl rfl) (Or.inl rfl) rfl rfl (Nat.le_of_ble_eq_true rfl) dJ3_add_2_19 (fun H locs hO => ?_)
  have hO : dz_O G.1 dz_CL A s.heap [[(al, dzo 14 [.int mc, .ref q_2, .int 11])], [(q_2, dzO G 15 (va_up (va_cpy f (fun _ => none) 0 0 10) 10 (some v)))], vp] _ _ := hO
  exact dz_vret X hO rfl (⟨q_2, rfl, rfl⟩) (Nat.le_of_ble_eq_true rfl) (Nat.le_of_ble_eq_true rfl) dJ3_add_2_22
set_option maxHeartbeats 4000000 in
set_option maxRecDepth 100000 in
/-- add where the list grows -/
theorem dz_J3_add_10 (l : Launch) (G : dz_G) (sz : Nat) (al : Nat) (mc : Int32) (ar : Nat) (f : Nat → Option Nat) (vp : va_W) (v : Nat) (hv2 : ∀ i, i < 10 → ∀ y, f i = some y → dz_is vp y) (hv : dz_is vp v) : dz_M l G yJ3_add cJ3_add 2 (some FieldType.boolean) ({ frames := 120, cells := 1, slots := 15, locals := 1800 } : Room) [.ref al, .ref v] [[(al, dzo 14 [.int mc, .ref ar, .int 10])], [(ar, dzO G 10 f)], vp] sz (fun r w1 => ∃ (q : Nat), r = some (.int 1) ∧ w1 = [[(al, dzo 14 [.int (mc + 1), .ref q, .int 11])], [(q, dzO G 15 (va_up (va_cpy f (fun _ => none) 0 0 10) 10 (some v)))], vp]) (dz_np) := by
  refine dz_start (by decide) (Nat.le_of_ble_eq_true rfl) ?_
  intro p e s m below meth c A ls X hO hsz hl
  have hl : lv_has ls 2 [(0, .ref al), (1, .ref v)] := hl
  refine lv_aload_n X.x X.b dJ3_add_0 rfl (lv_at hl 0 rfl) ?_
  refine lv_dup X.x X.b dJ3_add_1 rfl ?_
  refine dz_get (v := .int mc) X (hO.at1 0 rfl) in_J3 rfl 0 (by decide) q487 (Or.inr q483) rfl dJ3_add_2 ?_
  refine lv_iconst (v := 1) X.x X.b dJ3_add_5 (by decide) ?_
  refine lv_iadd X.x X.b dJ3_add_6 ?_
  refine dz_put (v := .int (mc + 1)) X hO 0 rfl in_J3 tyJ3 tyJ3_ok nmJ3 rfl 0 (by decide) q487 (Or.inr q483) (Or.inl rfl) rfl rfl (Nat.le_of_ble_eq_true rfl) dJ3_add_7 (fun H locs hO => ?_)
  have hO : dz_O G.1 dz_CL A s.heap [[(al, dzo 14 [.int (mc + 1), .ref ar, .int 10])], [(ar, dzO G 10 f)], vp] _ _ := hO
  refine lv_aload_n X.x X.b dJ3_add_10 rfl (lv_at hl 0 rfl) ?_
  refine lv_aload_n X.x X.b dJ3_add_11 rfl (lv_at hl 1 rfl) ?_
  refine lv_aload_n X.x X.b dJ3_add_12 rfl (lv_at hl 0 rfl) ?_
  refine dz_get (v := .ref ar) X (hO.at1 0 rfl) in_J3 rfl 1 (by decide) q474 (Or.inl rfl) rfl dJ3_add_13 ?_
  refine lv_aload_n X.x X.b dJ3_add_16 rfl (lv_at hl 0 rfl) ?_
  refine dz_get (v := .int 10) X (hO.at1 0 rfl) in_J3 rfl 2 (by decide) q478 (Or.inl rfl) rfl dJ3_add_17 ?_
  refine dz_V (n := 3) (k9 := 1) (n9 := 15) (As := [.ref v, .ref ar, .int 10]) (rest := []) (wr := []) X hO hl (dz_J3_add_2_10 l G _ al (mc + 1) ar f vp v (by first | assumption | omega | decide) (by first | assumption | omega | decide)) (lw_V q1578 q1580 qs21 q52 q1581) (by decide +kernel) ⟨Nat.le_of_ble_eq_true rfl, Nat.le_of_ble_eq_true rfl⟩ ⟨(Nat.le_of_ble_eq_true rfl), (Nat.le_of_ble_eq_true rfl), (Nat.le_of_ble_eq_true rfl), (Nat.le_of_ble_eq_true rfl)⟩ [0, 1, 2] [] rfl rfl rfl (dz_rc X (hO.at1 0 rfl) (r := (RJ3, TJ3, 3)) rfl) rfl rfl (Nat.le_of_ble_eq_true rfl) dJ3_add_20 (fun E w1 q9 ce9 H locs hpx hO hce hv9 hcl9 => hpx.elim) (fun r w1 H locs hpo hO => ?_)
  obtain ⟨q_1, rfl, rfl⟩ := hpo
  have hO : dz_O G.1 dz_CL A s.heap [[(al, dzo 14 [.int (mc + 1), .ref q_1, .int 11])], [(q_1, dzO G 15 (va_up (va_cpy f (fun _ => none) 0 0 10) 10 (some v)))], vp] _ _ := hO
  refine W.eq (g2 := F0 m 23 ls []) rfl ?_
  refine lv_iconst (v := 1) X.x X.b dJ3_add_23 (by decide) ?_
  exact dz_zret X hO rfl (rfl) (⟨q_1, rfl, rfl⟩) (Nat.le_of_ble_eq_true rfl) (Nat.le_of_ble_eq_true rfl) dJ3_add_24
