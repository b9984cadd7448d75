/-! words that several methods need: new objects' fields; what a throw asks; tables of interface calls -/
theorem dz_dfX1 : ∀ j, j < 21 → defaultValue (tyX1 j) = vp_V [.null, .null, .null, .null, .null, .null, .null, .null, .null, .null, .int 0, .int 0, .int 0, .int 0, .int 0, .int 0, .int 0, .int 0, .int 0, .int 0, .long 0] j := by
  intro j hj
  have h : j = 0 ∨ j = 1 ∨ j = 2 ∨ j = 3 ∨ j = 4 ∨ j = 5 ∨ j = 6 ∨ j = 7 ∨ j = 8 ∨ j = 9 ∨ j = 10 ∨ j = 11 ∨ j = 12 ∨ j = 13 ∨ j = 14 ∨ j = 15 ∨ j = 16 ∨ j = 17 ∨ j = 18 ∨ j = 19 ∨ j = 20 := by omega
  rcases h with rfl | rfl | rfl | rfl | rfl | rfl | rfl | rfl | rfl | rfl | rfl | rfl | rfl | rfl | rfl | rfl | rfl | rfl | rfl | rfl | rfl <;> rfl
theorem dz_dfX2 : ∀ j, j < 2 → defaultValue (tyX2 j) = vp_V [.null, .null] j := by
  intro j hj
  have h : j = 0 ∨ j = 1 := by omega
  rcases h with rfl | rfl <;> rfl
theorem dz_dfX3 : ∀ j, j < 35 → defaultValue (tyX3 j) = vp_V [.int 0, .int 0, .null, .null, .null, .null, .null, .int 0, .int 0, .int 0, .int 0, .int 0, .int 0, .int 0, .null, .null, .null, .int 0, .null, .null, .null, .null, .int 0, .null, .null, .null, .null, .int 0, .int 0, .int 0, .long 0, .int 0, .null, .null, .null] j := by
  intro j hj
  have h : j = 0 ∨ j = 1 ∨ j = 2 ∨ j = 3 ∨ j = 4 ∨ j = 5 ∨ j = 6 ∨ j = 7 ∨ j = 8 ∨ j = 9 ∨ j = 10 ∨ j = 11 ∨ j = 12 ∨ j = 13 ∨ j = 14 ∨ j = 15 ∨ j = 16 ∨ j = 17 ∨ j = 18 ∨ j = 19 ∨ j = 20 ∨ j = 21 ∨ j = 22 ∨ j = 23 ∨ j = 24 ∨ j = 25 ∨ j = 26 ∨ j = 27 ∨ j = 28 ∨ j = 29 ∨ j = 30 ∨ j = 31 ∨ j = 32 ∨ j = 33 ∨ j = 34 := by omega
  rcases h with rfl | rfl | rfl | rfl | rfl | rfl | rfl | rfl | rfl | rfl | rfl | rfl | rfl | rfl | rfl | rfl | rfl | rfl | rfl | rfl | rfl | rfl | rfl | rfl | rfl | rfl | rfl | rfl | rfl | rfl | rfl | rfl | rfl | rfl | rfl <;> rfl
theorem dz_dfX4 : ∀ j, j < 3 → defaultValue (tyX4 j) = vp_V [.long 0, .double 0, .null] j := by
  intro j hj
  have h : j = 0 ∨ j = 1 ∨ j = 2 := by omega
  rcases h with rfl | rfl | rfl <;> rfl
theorem dz_dfX5 : ∀ j, j < 2 → defaultValue (tyX5 j) = vp_V [.int 0, .int 0] j := by
  intro j hj
  have h : j = 0 ∨ j = 1 := by omega
  rcases h with rfl | rfl <;> rfl
theorem dz_dfX6 : ∀ j, j < 2 → defaultValue (tyX6 j) = vp_V [.null, .null] j := by
  intro j hj
  have h : j = 0 ∨ j = 1 := by omega
  rcases h with rfl | rfl <;> rfl
theorem dz_dfX7 : ∀ j, j < 3 → defaultValue (tyX7 j) = vp_V [.null, .int 0, .int 0] j := by
  intro j hj
  have h : j = 0 ∨ j = 1 ∨ j = 2 := by omega
  rcases h with rfl | rfl | rfl <;> rfl
theorem dz_dfX8 : ∀ j, j < 3 → defaultValue (tyX8 j) = vp_V [.int 0, .int 0, .int 0] j := by
  intro j hj
  have h : j = 0 ∨ j = 1 ∨ j = 2 := by omega
  rcases h with rfl | rfl | rfl <;> rfl
theorem dz_dfX9 : ∀ j, j < 4 → defaultValue (tyX9 j) = vp_V [.int 0, .int 0, .int 0, .int 0] j := by
  intro j hj
  have h : j = 0 ∨ j = 1 ∨ j = 2 ∨ j = 3 := by omega
  rcases h with rfl | rfl | rfl | rfl <;> rfl
theorem dz_dfX10 : ∀ j, j < 5 → defaultValue (tyX10 j) = vp_V [.int 0, .int 0, .int 0, .null, .int 0] j := by
  intro j hj
  have h : j = 0 ∨ j = 1 ∨ j = 2 ∨ j = 3 ∨ j = 4 := by omega
  rcases h with rfl | rfl | rfl | rfl | rfl <;> rfl
theorem dz_dfX11 : ∀ j, j < 1 → defaultValue (tyX11 j) = vp_V [.null] j := by
  intro j hj
  have h : j = 0 := by omega
  rcases h with rfl <;> rfl
theorem dz_dfX12 : ∀ j, j < 2 → defaultValue (tyX12 j) = vp_V [.int 0, .null] j := by
  intro j hj
  have h : j = 0 ∨ j = 1 := by omega
  rcases h with rfl | rfl <;> rfl
theorem dz_dfX13 : ∀ j, j < 2 → defaultValue (tyX13 j) = vp_V [.null, .null] j := by
  intro j hj
  have h : j = 0 ∨ j = 1 := by omega
  rcases h with rfl | rfl <;> rfl
theorem dz_dfJ0 : ∀ j, j < 3 → defaultValue (tyJ0 j) = vp_V [.null, .int 0, .int 0] j := by
  intro j hj
  have h : j = 0 ∨ j = 1 ∨ j = 2 := by omega
  rcases h with rfl | rfl | rfl <;> rfl
theorem dz_dfJ3 : ∀ j, j < 3 → defaultValue (tyJ3 j) = vp_V [.int 0, .null, .int 0] j := by
  intro j hj
  have h : j = 0 ∨ j = 1 ∨ j = 2 := by omega
  rcases h with rfl | rfl | rfl <;> rfl
theorem dz_dfJ19 : ∀ j, j < 4 → defaultValue (tyJ19 j) = vp_V [.int 0, .int 0, .null, .null] j := by
  intro j hj
  have h : j = 0 ∨ j = 1 ∨ j = 2 ∨ j = 3 := by omega
  rcases h with rfl | rfl | rfl | rfl <;> rfl
theorem dz_dfJ35 : ∀ j, j < 3 → defaultValue (tyJ35 j) = vp_V [.null, .null, .null] j := by
  intro j hj
  have h : j = 0 ∨ j = 1 ∨ j = 2 := by omega
  rcases h with rfl | rfl | rfl <;> rfl
theorem dz_dfJ20 : ∀ j, j < 3 → defaultValue (tyJ20 j) = vp_V [.null, .int 0, .int 0] j := by
  intro j hj
  have h : j = 0 ∨ j = 1 ∨ j = 2 := by omega
  rcases h with rfl | rfl | rfl <;> rfl
theorem dz_dfJ29 : ∀ j, j < 4 → defaultValue (tyJ29 j) = vp_V [.int 0, .int 0, .int 0, .null] j := by
  intro j hj
  have h : j = 0 ∨ j = 1 ∨ j = 2 ∨ j = 3 := by omega
  rcases h with rfl | rfl | rfl | rfl <;> rfl
theorem dz_dfJ31 : ∀ j, j < 5 → defaultValue (tyJ31 j) = vp_V [.null, .null, .int 0, .int 0, .null] j := by
  intro j hj
  have h : j = 0 ∨ j = 1 ∨ j = 2 ∨ j = 3 ∨ j = 4 := by omega
  rcases h with rfl | rfl | rfl | rfl | rfl <;> rfl
theorem dz_dfJ40 : ∀ j, j < 4 → defaultValue (tyJ40 j) = vp_V [.int 0, .int 0, .int 0, .null] j := by
  intro j hj
  have h : j = 0 ∨ j = 1 ∨ j = 2 ∨ j = 3 := by omega
  rcases h with rfl | rfl | rfl | rfl <;> rfl
theorem dz_dfJ9 : ∀ j, j < 4 → defaultValue (tyJ9 j) = vp_V [.null, .int 0, .int 0, .int 0] j := by
  intro j hj
  have h : j = 0 ∨ j = 1 ∨ j = 2 ∨ j = 3 := by omega
  rcases h with rfl | rfl | rfl | rfl <;> rfl
theorem dz_dfJ10 : ∀ j, j < 4 → defaultValue (tyJ10 j) = vp_V [.null, .int 0, .int 0, .int 0] j := by
  intro j hj
  have h : j = 0 ∨ j = 1 ∨ j = 2 ∨ j = 3 := by omega
  rcases h with rfl | rfl | rfl | rfl <;> rfl
theorem dz_xbl (ws : List Cond) (ps : List Nat) (hp : ws = ps.filterMap (fun i => lw_tbl[i]?)) (hg : ws.all isNw = true) : ∀ w ∈ ws, w ∈ lw_tbl ∧ isNw w = true := by
  intro w h
  refine ⟨?_, List.all_eq_true.mp hg w h⟩
  rw [hp] at h
  obtain ⟨i, -, hi⟩ := List.mem_filterMap.mp h
  exact List.mem_of_getElem? hi
theorem dz_F4 {own : String} {idx : Nat} {C : String} {x y : MethodName} {b : ByteArray} {L : Nat} {r : Option FieldType} (h1 : Cond.methodLink own idx x ∈ lw_all) (h2 : Cond.selects C x y ∈ lw_all) (h3 : Cond.instanceMethod y ∈ lw_all) (h4 : Cond.initialized y.cls ∈ lw_all) (h5 : Cond.code y b L r ∈ lw_all) : GoodIn lw_all (va_wsF own idx C x y (ws_ y b L r)) := by
  refine lw_app ?_ (lw_meth h5)
  intro w hw
  simp only [List.mem_cons, List.not_mem_nil, or_false] at hw
  rcases hw with e | e | e | e
  · rw [e]; exact h1
  · rw [e]; exact h2
  · rw [e]; exact h3
  · rw [e]; exact h4
theorem dz_U4 {own : String} {idx : Nat} {C owner : String} {x y : MethodName} {b : ByteArray} {L : Nat} {r : Option FieldType} (h1 : Cond.methodLink own idx x ∈ lw_all) (h0 : Cond.sameMethod x.cls owner x.name x.desc ∈ lw_all) (h2 : Cond.selects C x y ∈ lw_all) (h3 : Cond.instanceMethod y ∈ lw_all) (h4 : Cond.initialized y.cls ∈ lw_all) (h5 : Cond.code y b L r ∈ lw_all) : GoodIn lw_all (va_wsU own idx C owner x y (ws_ y b L r)) := by
  refine lw_app ?_ (lw_meth h5)
  intro w hw
  simp only [List.mem_cons, List.not_mem_nil, or_false] at hw
  rcases hw with e | e | e | e | e
  · rw [e]; exact h1
  · rw [e]; exact h0
  · rw [e]; exact h2
  · rw [e]; exact h3
  · rw [e]; exact h4
theorem dz_O4 {own : String} {idx : Nat} {C owner : String} {x y : MethodName} {b : ByteArray} {L : Nat} {r : Option FieldType} (h1 : Cond.methodLink own idx x ∈ lw_all) (h0 : Cond.sameMethod x.cls owner x.name x.desc ∈ lw_all) (h6 : Cond.instanceMethod ⟨owner, x.name, x.desc⟩ ∈ lw_all) (h2 : Cond.selects C x y ∈ lw_all) (h3 : Cond.instanceMethod y ∈ lw_all) (h4 : Cond.initialized y.cls ∈ lw_all) (h5 : Cond.code y b L r ∈ lw_all) : GoodIn lw_all (va_wsO own idx C owner x y (ws_ y b L r)) := by
  refine lw_app ?_ (lw_meth h5)
  intro w hw
  simp only [List.mem_cons, List.not_mem_nil, or_false] at hw
  rcases hw with e | e | e | e | e | e
  · rw [e]; exact h1
  · rw [e]; exact h0
  · rw [e]; exact h6
  · rw [e]; exact h2
  · rw [e]; exact h3
  · rw [e]; exact h4
theorem dz_xg_X1_ArithmeticException : ∀ w ∈ (vx_at0 RX1 93 "java/lang/ArithmeticException" ["java/lang/RuntimeException", "java/lang/Exception"]).filter goodWord, w ∈ lw_all := lw_in _ [53, 179, 188, 197, 200, 202, 180, 181, 114, 115, 182, 187, 198, 438, 169, 439, 171, 440, 173, 183, 185, 175, 2178, 2179, 2180, 901, 901, 902, 903, 904, 904, 905, 906, 180, 2177, 2156, 2168, 190, 2162, 2163, 2165, 2161, 178, 177, 2160] (by decide +kernel) (by decide +kernel)
theorem dz_xb_X1_ArithmeticException : ∀ w ∈ (vx_at0 RX1 93 "java/lang/ArithmeticException" ["java/lang/RuntimeException", "java/lang/Exception"]).filter (fun w => !goodWord w), w ∈ lw_tbl ∧ isNw w = true := dz_xbl _ [160, 162, 164, 2167] (by decide +kernel) (by decide +kernel)
theorem dz_xg_X1_IllegalArgumentException : ∀ w ∈ (vx_at0 RX1 74 "java/lang/IllegalArgumentException" ["java/lang/RuntimeException", "java/lang/Exception"]).filter goodWord, w ∈ lw_all := lw_in _ [53, 179, 188, 197, 200, 202, 180, 181, 114, 115, 182, 187, 198, 438, 169, 439, 171, 440, 173, 183, 185, 175, 1137, 1138, 1139, 901, 901, 902, 903, 904, 904, 905, 906, 180, 1136, 158, 166, 167, 168, 170, 172, 174, 178, 177, 176] (by decide +kernel) (by decide +kernel)
theorem dz_xb_X1_IllegalArgumentException : ∀ w ∈ (vx_at0 RX1 74 "java/lang/IllegalArgumentException" ["java/lang/RuntimeException", "java/lang/Exception"]).filter (fun w => !goodWord w), w ∈ lw_tbl ∧ isNw w = true := dz_xbl _ [160, 162, 164, 159] (by decide +kernel) (by decide +kernel)
theorem dz_xg_X1_IllegalStateException : ∀ w ∈ (vx_at0 RX1 77 "java/lang/IllegalStateException" ["java/lang/RuntimeException", "java/lang/Exception"]).filter goodWord, w ∈ lw_all := lw_in _ [53, 179, 188, 197, 200, 202, 180, 181, 114, 115, 182, 187, 198, 438, 169, 439, 171, 440, 173, 183, 185, 175, 1153, 1154, 1155, 901, 901, 902, 903, 904, 904, 905, 906, 180, 1152, 1144, 1146, 192, 1147, 1148, 1149, 1150, 178, 177, 1151] (by decide +kernel) (by decide +kernel)
theorem dz_xb_X1_IllegalStateException : ∀ w ∈ (vx_at0 RX1 77 "java/lang/IllegalStateException" ["java/lang/RuntimeException", "java/lang/Exception"]).filter (fun w => !goodWord w), w ∈ lw_tbl ∧ isNw w = true := dz_xbl _ [160, 162, 164, 1145] (by decide +kernel) (by decide +kernel)
theorem dz_xg_X1_IndexOutOfBoundsException : ∀ w ∈ (vx_at0 RX1 90 "java/lang/IndexOutOfBoundsException" ["java/lang/RuntimeException", "java/lang/Exception"]).filter goodWord, w ∈ lw_all := lw_in _ [53, 179, 188, 197, 200, 202, 180, 181, 114, 115, 182, 187, 198, 438, 169, 439, 171, 440, 173, 183, 185, 175, 1190, 1191, 1192, 901, 901, 902, 903, 904, 904, 905, 906, 180, 1189, 756, 758, 193, 759, 760, 761, 762, 178, 177, 763] (by decide +kernel) (by decide +kernel)
theorem dz_xb_X1_IndexOutOfBoundsException : ∀ w ∈ (vx_at0 RX1 90 "java/lang/IndexOutOfBoundsException" ["java/lang/RuntimeException", "java/lang/Exception"]).filter (fun w => !goodWord w), w ∈ lw_tbl ∧ isNw w = true := dz_xbl _ [160, 162, 164, 757] (by decide +kernel) (by decide +kernel)
theorem dz_xg_X1_UnsupportedOperationException : ∀ w ∈ (vx_at0 RX1 80 "java/lang/UnsupportedOperationException" ["java/lang/RuntimeException", "java/lang/Exception"]).filter goodWord, w ∈ lw_all := lw_in _ [53, 179, 188, 197, 200, 202, 180, 181, 114, 115, 182, 187, 198, 438, 169, 439, 171, 440, 173, 183, 185, 175, 1262, 1263, 1264, 901, 901, 902, 903, 904, 904, 905, 906, 180, 1261, 1253, 1255, 194, 1256, 1257, 1258, 1259, 178, 177, 1260] (by decide +kernel) (by decide +kernel)
theorem dz_xb_X1_UnsupportedOperationException : ∀ w ∈ (vx_at0 RX1 80 "java/lang/UnsupportedOperationException" ["java/lang/RuntimeException", "java/lang/Exception"]).filter (fun w => !goodWord w), w ∈ lw_tbl ∧ isNw w = true := dz_xbl _ [160, 162, 164, 1254] (by decide +kernel) (by decide +kernel)
theorem dz_xg_X1_NoSuchElementException : ∀ w ∈ (vx_at0 RX1 83 "java/util/NoSuchElementException" ["java/lang/RuntimeException", "java/lang/Exception"]).filter goodWord, w ∈ lw_all := lw_in _ [53, 179, 188, 197, 200, 202, 180, 181, 114, 115, 182, 187, 198, 438, 169, 439, 171, 440, 173, 183, 185, 175, 898, 899, 900, 901, 901, 902, 903, 904, 904, 905, 906, 180, 1748, 786, 788, 196, 789, 790, 791, 792, 178, 177, 793] (by decide +kernel) (by decide +kernel)
theorem dz_xb_X1_NoSuchElementException : ∀ w ∈ (vx_at0 RX1 83 "java/util/NoSuchElementException" ["java/lang/RuntimeException", "java/lang/Exception"]).filter (fun w => !goodWord w), w ∈ lw_tbl ∧ isNw w = true := dz_xbl _ [160, 162, 164, 787] (by decide +kernel) (by decide +kernel)
/-- 1 within, 0 without -/
def dz_bi (v lo hi : Int32) : Int32 := if lo ≤ v ∧ v ≤ hi then 1 else 0
theorem dz_bi01 (v lo hi : Int32) : narrow .boolean (.int (dz_bi v lo hi)) = .int (dz_bi v lo hi) := by unfold dz_bi; split <;> rfl
set_option maxHeartbeats 4000000 in
set_option maxRecDepth 100000 in
/-- isBetween: 1 within, 0 without -/
theorem dz_X1_isBetween (l : Launch) (G : dz_G) (sz : Nat) (v : Int32) (lo : Int32) (hi : Int32)  : dz_M l G yX1_isBetween cX1_isBetween 3 (some FieldType.boolean) ({ frames := 20, cells := 0, slots := 0, locals := 300 } : Room) [.int v, .int lo, .int hi] [] sz (fun r w1 => r = some (.int (dz_bi v lo hi)) ∧ w1 = []) (dz_np) := by
  refine dz_start (by decide) (Nat.le_of_ble_eq_true rfl) ?_
  intro p e s m below meth c A ls X hO hsz hl
  have hl : lv_has ls 3 [(0, .int v), (1, .int lo), (2, .int hi)] := hl
  refine lv_iload_n X.x X.b dX1_isBetween_0 rfl (lv_at hl 0 rfl) ?_
  refine lv_iload_n X.x X.b dX1_isBetween_1 rfl (lv_at hl 1 rfl) ?_
  refine lv_icmp_lt (tgt := 14) X.x X.b dX1_isBetween_2 (by decide) (fun c_1 => ?_) (fun c_1 => ?_)
  · refine lv_iconst (v := 0) X.x X.b dX1_isBetween_14 (by decide) ?_
    exact dz_zret X hO rfl (rfl) (⟨by unfold dz_bi; grind, rfl⟩) (Nat.le_of_ble_eq_true rfl) (Nat.le_of_ble_eq_true rfl) dX1_isBetween_15
  · refine lv_iload_n X.x X.b dX1_isBetween_5 rfl (lv_at hl 0 rfl) ?_
    refine lv_iload_n X.x X.b dX1_isBetween_6 rfl (lv_at hl 2 rfl) ?_
    refine lv_icmp_gt (tgt := 14) X.x X.b dX1_isBetween_7 (by decide) (fun c_2 => ?_) (fun c_2 => ?_)
    · refine lv_iconst (v := 0) X.x X.b dX1_isBetween_14 (by decide) ?_
      exact dz_zret X hO rfl (rfl) (⟨by unfold dz_bi; grind, rfl⟩) (Nat.le_of_ble_eq_true rfl) (Nat.le_of_ble_eq_true rfl) dX1_isBetween_15
    · refine lv_iconst (v := 1) X.x X.b dX1_isBetween_10 (by decide) ?_
      refine lv_goto (tgt := 15) X.x X.b dX1_isBetween_11 (by decide) ?_
      exact dz_zret X hO rfl (rfl) (⟨by unfold dz_bi; grind, rfl⟩) (Nat.le_of_ble_eq_true rfl) (Nat.le_of_ble_eq_true rfl) dX1_isBetween_15
set_option maxHeartbeats 4000000 in
set_option maxRecDepth 100000 in
/-- checkArgument: throws where its argument is 0 -/
theorem dz_X1_checkArgument (l : Launch) (hst : l.stackTraces = false) (G : dz_G) (sz : Nat) (b : Int32)  : dz_M l G yX1_checkArgument cX1_checkArgument 1 none ({ frames := 20, cells := 1, slots := 6, locals := 300 } : Room) [.int b] [] sz (fun r w1 => r = none ∧ w1 = [] ∧ ¬ b = 0) (fun E w1 => w1 = [] ∧ E = "java/lang/IllegalArgumentException" ∧ b = 0) := by
  refine dz_start (by decide) (Nat.le_of_ble_eq_true rfl) ?_
  intro p e s m below meth c A ls X hO hsz hl
  have hl : lv_has ls 1 [(0, .int b)] := hl
  refine lv_iload_n X.x X.b dX1_checkArgument_0 rfl (lv_at hl 0 rfl) ?_
  refine lv_if_ne (tgt := 12) X.x X.b dX1_checkArgument_1 (by decide) (fun c_1 => ?_) (fun c_1 => ?_)
  · exact dz_vret X hO rfl (⟨rfl, rfl, c_1⟩) (Nat.le_of_ble_eq_true rfl) (Nat.le_of_ble_eq_true rfl) dX1_checkArgument_12
  · exact dz_throw0 X hst hl rfl hO (cls := "java/lang/IllegalArgumentException") (names := ["java/lang/RuntimeException", "java/lang/Exception"]) (by decide) (by decide) q1135 q56 (dz_xg_X1_IllegalArgumentException) (dz_xb_X1_IllegalArgumentException) dX1_checkArgument_4 dX1_checkArgument_7 dX1_checkArgument_8 dX1_checkArgument_11 (Nat.le_of_ble_eq_true rfl) (Nat.le_of_ble_eq_true rfl) (Nat.le_of_ble_eq_true rfl) (Nat.le_of_ble_eq_true rfl) (⟨rfl, rfl, c_1⟩) (Nat.le_of_ble_eq_true rfl) (Nat.le_of_ble_eq_true rfl)
set_option maxHeartbeats 4000000 in
set_option maxRecDepth 100000 in
/-- checkState: throws where its argument is 0 -/
theorem dz_X1_checkState (l : Launch) (hst : l.stackTraces = false) (G : dz_G) (sz : Nat) (b : Int32)  : dz_M l G yX1_checkState cX1_checkState 1 none ({ frames := 20, cells := 1, slots := 6, locals := 300 } : Room) [.int b] [] sz (fun r w1 => r = none ∧ w1 = [] ∧ ¬ b = 0) (fun E w1 => w1 = [] ∧ E = "java/lang/IllegalStateException" ∧ b = 0) := by
  refine dz_start (by decide) (Nat.le_of_ble_eq_true rfl) ?_
  intro p e s m below meth c A ls X hO hsz hl
  have hl : lv_has ls 1 [(0, .int b)] := hl
  refine lv_iload_n X.x X.b dX1_checkState_0 rfl (lv_at hl 0 rfl) ?_
  refine lv_if_ne (tgt := 12) X.x X.b dX1_checkState_1 (by decide) (fun c_1 => ?_) (fun c_1 => ?_)
  · exact dz_vret X hO rfl (⟨rfl, rfl, c_1⟩) (Nat.le_of_ble_eq_true rfl) (Nat.le_of_ble_eq_true rfl) dX1_checkState_12
  · exact dz_throw0 X hst hl rfl hO (cls := "java/lang/IllegalStateException") (names := ["java/lang/RuntimeException", "java/lang/Exception"]) (by decide) (by decide) q1143 q75 (dz_xg_X1_IllegalStateException) (dz_xb_X1_IllegalStateException) dX1_checkState_4 dX1_checkState_7 dX1_checkState_8 dX1_checkState_11 (Nat.le_of_ble_eq_true rfl) (Nat.le_of_ble_eq_true rfl) (Nat.le_of_ble_eq_true rfl) (Nat.le_of_ble_eq_true rfl) (⟨rfl, rfl, c_1⟩) (Nat.le_of_ble_eq_true rfl) (Nat.le_of_ble_eq_true rfl)
set_option maxHeartbeats 4000000 in
set_option maxRecDepth 100000 in
/-- checkAllowed: throws where its argument is 0 -/
theorem dz_X1_checkAllowed (l : Launch) (hst : l.stackTraces = false) (G : dz_G) (sz : Nat) (b : Int32)  : dz_M l G yX1_checkAllowed cX1_checkAllowed 1 none ({ frames := 20, cells := 1, slots := 6, locals := 300 } : Room) [.int b] [] sz (fun r w1 => r = none ∧ w1 = [] ∧ ¬ b = 0) (fun E w1 => w1 = [] ∧ E = "java/lang/UnsupportedOperationException" ∧ b = 0) := by
  refine dz_start (by decide) (Nat.le_of_ble_eq_true rfl) ?_
  intro p e s m below meth c A ls X hO hsz hl
  have hl : lv_has ls 1 [(0, .int b)] := hl
  refine lv_iload_n X.x X.b dX1_checkAllowed_0 rfl (lv_at hl 0 rfl) ?_
  refine lv_if_ne (tgt := 12) X.x X.b dX1_checkAllowed_1 (by decide) (fun c_1 => ?_) (fun c_1 => ?_)
  · exact dz_vret X hO rfl (⟨rfl, rfl, c_1⟩) (Nat.le_of_ble_eq_true rfl) (Nat.le_of_ble_eq_true rfl) dX1_checkAllowed_12
  · exact dz_throw0 X hst hl rfl hO (cls := "java/lang/UnsupportedOperationException") (names := ["java/lang/RuntimeException", "java/lang/Exception"]) (by decide) (by decide) q1252 q81 (dz_xg_X1_UnsupportedOperationException) (dz_xb_X1_UnsupportedOperationException) dX1_checkAllowed_4 dX1_checkAllowed_7 dX1_checkAllowed_8 dX1_checkAllowed_11 (Nat.le_of_ble_eq_true rfl) (Nat.le_of_ble_eq_true rfl) (Nat.le_of_ble_eq_true rfl) (Nat.le_of_ble_eq_true rfl) (⟨rfl, rfl, c_1⟩) (Nat.le_of_ble_eq_true rfl) (Nat.le_of_ble_eq_true rfl)
set_option maxHeartbeats 4000000 in
set_option maxRecDepth 100000 in
/-- checkElement: throws where its argument is 0 -/
theorem dz_X1_checkElement (l : Launch) (hst : l.stackTraces = false) (G : dz_G) (sz : Nat) (b : Int32)  : dz_M l G yX1_checkElement cX1_checkElement 1 none ({ frames := 20, cells := 1, slots := 6, locals := 300 } : Room) [.int b] [] sz (fun r w1 => r = none ∧ w1 = [] ∧ ¬ b = 0) (fun E w1 => w1 = [] ∧ E = "java/util/NoSuchElementException" ∧ b = 0) := by
  refine dz_start (by decide) (Nat.le_of_ble_eq_true rfl) ?_
  intro p e s m below meth c A ls X hO hsz hl
  have hl : lv_has ls 1 [(0, .int b)] := hl
  refine lv_iload_n X.x X.b dX1_checkElement_0 rfl (lv_at hl 0 rfl) ?_
  refine lv_if_ne (tgt := 12) X.x X.b dX1_checkElement_1 (by decide) (fun c_1 => ?_) (fun c_1 => ?_)
  · exact dz_vret X hO rfl (⟨rfl, rfl, c_1⟩) (Nat.le_of_ble_eq_true rfl) (Nat.le_of_ble_eq_true rfl) dX1_checkElement_12
  · exact dz_throw0 X hst hl rfl hO (cls := "java/util/NoSuchElementException") (names := ["java/lang/RuntimeException", "java/lang/Exception"]) (by decide) (by decide) q1747 q85 (dz_xg_X1_NoSuchElementException) (dz_xb_X1_NoSuchElementException) dX1_checkElement_4 dX1_checkElement_7 dX1_checkElement_8 dX1_checkElement_11 (Nat.le_of_ble_eq_true rfl) (Nat.le_of_ble_eq_true rfl) (Nat.le_of_ble_eq_true rfl) (Nat.le_of_ble_eq_true rfl) (⟨rfl, rfl, c_1⟩) (Nat.le_of_ble_eq_true rfl) (Nat.le_of_ble_eq_true rfl)
set_option maxHeartbeats 4000000 in
set_option maxRecDepth 100000 in
/-- checkDivisor: throws where its argument is 0 -/
theorem dz_X1_checkDivisor (l : Launch) (hst : l.stackTraces = false) (G : dz_G) (sz : Nat) (b : Int32)  : dz_M l G yX1_checkDivisor cX1_checkDivisor 1 none ({ frames := 20, cells := 1, slots := 6, locals := 300 } : Room) [.int b] [] sz (fun r w1 => r = none ∧ w1 = [] ∧ ¬ b = 0) (fun E w1 => w1 = [] ∧ E = "java/lang/ArithmeticException" ∧ b = 0) := by
  refine dz_start (by decide) (Nat.le_of_ble_eq_true rfl) ?_
  intro p e s m below meth c A ls X hO hsz hl
  have hl : lv_has ls 1 [(0, .int b)] := hl
  refine lv_iload_n X.x X.b dX1_checkDivisor_0 rfl (lv_at hl 0 rfl) ?_
  refine lv_if_ne (tgt := 12) X.x X.b dX1_checkDivisor_1 (by decide) (fun c_1 => ?_) (fun c_1 => ?_)
  · exact dz_vret X hO rfl (⟨rfl, rfl, c_1⟩) (Nat.le_of_ble_eq_true rfl) (Nat.le_of_ble_eq_true rfl) dX1_checkDivisor_12
  · exact dz_throw0 X hst hl rfl hO (cls := "java/lang/ArithmeticException") (names := ["java/lang/RuntimeException", "java/lang/Exception"]) (by decide) (by decide) q2176 q107 (dz_xg_X1_ArithmeticException) (dz_xb_X1_ArithmeticException) dX1_checkDivisor_4 dX1_checkDivisor_7 dX1_checkDivisor_8 dX1_checkDivisor_11 (Nat.le_of_ble_eq_true rfl) (Nat.le_of_ble_eq_true rfl) (Nat.le_of_ble_eq_true rfl) (Nat.le_of_ble_eq_true rfl) (⟨rfl, rfl, c_1⟩) (Nat.le_of_ble_eq_true rfl) (Nat.le_of_ble_eq_true rfl)
set_option maxHeartbeats 4000000 in
set_option maxRecDepth 100000 in
/-- checkIndex: throws where the index is not within -/
theorem dz_X1_checkIndex (l : Launch) (hst : l.stackTraces = false) (G : dz_G) (sz : Nat) (i : Int32) (n : Int32)  : dz_M l G yX1_checkIndex cX1_checkIndex 2 none ({ frames := 40, cells := 1, slots := 6, locals := 600 } : Room) [.int i, .int n] [] sz (fun r w1 => r = none ∧ w1 = [] ∧ ¬ dz_bi i 0 (n - 1) = 0) (fun E w1 => w1 = [] ∧ E = "java/lang/IndexOutOfBoundsException" ∧ dz_bi i 0 (n - 1) = 0) := by
  refine dz_start (by decide) (Nat.le_of_ble_eq_true rfl) ?_
  intro p e s m below meth c A ls X hO hsz hl
  have hl : lv_has ls 2 [(0, .int i), (1, .int n)] := hl
  refine lv_iload_n X.x X.b dX1_checkIndex_0 rfl (lv_at hl 0 rfl) ?_
  refine lv_iconst (v := 0) X.x X.b dX1_checkIndex_1 (by decide) ?_
  refine lv_iload_n X.x X.b dX1_checkIndex_2 rfl (lv_at hl 1 rfl) ?_
  refine lv_iconst (v := 1) X.x X.b dX1_checkIndex_3 (by decide) ?_
  refine lv_isub X.x X.b dX1_checkIndex_4 ?_
  refine dz_S (n := 3) (k9 := 0) (n9 := 0) (As := [.int i, .int 0, .int (n - 1)]) (rest := []) (wr := []) X hO hl (dz_X1_isBetween l G _ i 0 (n - 1) ) (lw_S q1131 q1003 q48 q1004) (by decide +kernel) ⟨Nat.le_of_ble_eq_true rfl, Nat.le_of_ble_eq_true rfl⟩ ⟨(Nat.le_of_ble_eq_true rfl), (Nat.le_of_ble_eq_true rfl), (Nat.le_of_ble_eq_true rfl), (Nat.le_of_ble_eq_true rfl)⟩ [] [] rfl rfl rfl rfl rfl (Nat.le_of_ble_eq_true rfl) dX1_checkIndex_5 (fun E w1 q9 ce9 H locs hpx hO hce hv9 hcl9 => hpx.elim) (fun r w1 H locs hpo hO => ?_)
  obtain ⟨rfl, rfl⟩ := hpo
  have hO : dz_O G.1 dz_CL A s.heap [] H locs := hO
  refine W.eq (g2 := F0 m 8 ls [.int (dz_bi i 0 (n - 1))]) rfl ?_
  refine lv_if_ne (tgt := 19) X.x X.b dX1_checkIndex_8 (by decide) (fun c_1 => ?_) (fun c_1 => ?_)
  · exact dz_vret X hO rfl (⟨rfl, rfl, c_1⟩) (Nat.le_of_ble_eq_true rfl) (Nat.le_of_ble_eq_true rfl) dX1_checkIndex_19
  · exact dz_throw0 X hst hl rfl hO (cls := "java/lang/IndexOutOfBoundsException") (names := ["java/lang/RuntimeException", "java/lang/Exception"]) (by decide) (by decide) q1188 q76 (dz_xg_X1_IndexOutOfBoundsException) (dz_xb_X1_IndexOutOfBoundsException) dX1_checkIndex_11 dX1_checkIndex_14 dX1_checkIndex_15 dX1_checkIndex_18 (Nat.le_of_ble_eq_true rfl) (Nat.le_of_ble_eq_true rfl) (Nat.le_of_ble_eq_true rfl) (Nat.le_of_ble_eq_true rfl) (⟨rfl, rfl, c_1⟩) (Nat.le_of_ble_eq_true rfl) (Nat.le_of_ble_eq_true rfl)
