set_option maxHeartbeats 4000000 in
set_option maxRecDepth 100000 in
/-- notes: an entry ahead of the others -/
theorem dz_X3_notes (l : Launch) (G : dz_G) (sz : Nat) (md : Nat) (mr : Nat → Nat) (th : Int32) (sl : Int32) (da : Int32) (ho : Int32) (dr : Int32) (cr : Int32) (ti : Int32) (st : Int32) (pr : Int32) (pa : Int32) (n : Nat) (g : Nat) (pn : Nat) (sn : Nat) (en : Nat) (mo : Int64) (kd : Nat) (nu : Int32) (ld : Nat → Option Nat) (ly : Nat → Int32) (lu : Nat → Int32) (hk : kd < 6) (hld : dz_deedy G ld) (hen : en ≤ 8) : dz_M l G yX3_notes cX3_notes 4 none ({ frames := 40, cells := 0, slots := 0, locals := 600 } : Room) [.ref md, .ref (G.2.2.1 kd), .int nu] [[(md, dzo 2 [.int th, .int (nI n), .ref (mr 2), .ref (mr 3), .ref (mr 4), .ref (mr 5), .ref (mr 6), .int sl, .int da, .int ho, .int dr, .int cr, .int ti, .int (nI g), .ref (mr 14), .ref (mr 15), .ref (mr 16), .int (nI pn), .ref (mr 18), .ref (mr 19), .ref (mr 20), .ref (mr 21), .int (nI sn), .ref (mr 23), .ref (mr 24), .ref (mr 25), .ref (mr 26), .int st, .int pr, .int pa, .long mo, .int (nI en), .ref (mr 32), .ref (mr 33), .ref (mr 34)])], [(mr 32, dzD G 8 ld)], [(mr 33, dzI G 8 ly)], [(mr 34, dzI G 8 lu)]] sz (fun r w1 => r = none ∧ w1 = [[(md, dzo 2 [.int th, .int (nI n), .ref (mr 2), .ref (mr 3), .ref (mr 4), .ref (mr 5), .ref (mr 6), .int sl, .int da, .int ho, .int dr, .int cr, .int ti, .int (nI g), .ref (mr 14), .ref (mr 15), .ref (mr 16), .int (nI pn), .ref (mr 18), .ref (mr 19), .ref (mr 20), .ref (mr 21), .int (nI sn), .ref (mr 23), .ref (mr 24), .ref (mr 25), .ref (mr 26), .int st, .int pr, .int pa, .long mo, .int (nI (if en < 8 then en + 1 else en)), .ref (mr 32), .ref (mr 33), .ref (mr 34)])], [(mr 32, dzD G 8 (dz_push ld (some (G.2.2.1 kd))))], [(mr 33, dzI G 8 (dz_push ly da))], [(mr 34, dzI G 8 (dz_push lu nu))]]) (dz_np) := by
  refine dz_start (by decide) (Nat.le_of_ble_eq_true rfl) ?_
  intro p e s m below meth c A ls X hO hsz hl
  have hl : lv_has ls 4 [(0, .ref md), (1, .ref (G.2.2.1 kd)), (2, .int nu)] := hl
  refine lv_bipush (v := 7) X.x X.b dX3_notes_0 (by decide) ?_
  refine lv_istore_n (lv' := [(3, .int 7), (0, .ref md), (1, .ref (G.2.2.1 kd)), (2, .int nu)]) X.x X.b dX3_notes_2 rfl hl (by decide) rfl (fun ls hl => ?_)
  have hcut_3 : ∀ (n9 : Nat), ∀ (k : Nat), (k ≤ 7) → k < n9 → ∀ (H : Heap) (locs : List Loc), dz_O G.1 dz_CL A s.heap [[(md, dzo 2 [.int th, .int (nI n), .ref (mr 2), .ref (mr 3), .ref (mr 4), .ref (mr 5), .ref (mr 6), .int sl, .int da, .int ho, .int dr, .int cr, .int ti, .int (nI g), .ref (mr 14), .ref (mr 15), .ref (mr 16), .int (nI pn), .ref (mr 18), .ref (mr 19), .ref (mr 20), .ref (mr 21), .int (nI sn), .ref (mr 23), .ref (mr 24), .ref (mr 25), .ref (mr 26), .int st, .int pr, .int pa, .long mo, .int (nI en), .ref (mr 32), .ref (mr 33), .ref (mr 34)])], [(mr 32, dzD G 8 (dz_shr ld k))], [(mr 33, dzI G 8 (dz_shr ly k))], [(mr 34, dzI G 8 (dz_shr lu k))]] H locs → ∀ (ls : Array Slot), lv_has ls 4 [(3, .int (nI k)), (0, .ref md), (1, .ref (G.2.2.1 kd)), (2, .int nu)] → W p l e ({ frames := 40, cells := 0, slots := 0, locals := 600 } : Room) s m ([.ref md, .ref (G.2.2.1 kd), .int nu] : List Value).toArray below meth c H locs 0 0 (vx_MQ below (dz_Q G (fun r w1 => r = none ∧ w1 = [[(md, dzo 2 [.int th, .int (nI n), .ref (mr 2), .ref (mr 3), .ref (mr 4), .ref (mr 5), .ref (mr 6), .int sl, .int da, .int ho, .int dr, .int cr, .int ti, .int (nI g), .ref (mr 14), .ref (mr 15), .ref (mr 16), .int (nI pn), .ref (mr 18), .ref (mr 19), .ref (mr 20), .ref (mr 21), .int (nI sn), .ref (mr 23), .ref (mr 24), .ref (mr 25), .ref (mr 26), .int st, .int pr, .int pa, .long mo, .int (nI (if en < 8 then en + 1 else en)), .ref (mr 32), .ref (mr 33), .ref (mr 34)])], [(mr 32, dzD G 8 (dz_push ld (some (G.2.2.1 kd))))], [(mr 33, dzI G 8 (dz_push ly da))], [(mr 34, dzI G 8 (dz_push lu nu))]]) A) (dz_QX G (dz_np) A) ([.ref md, .ref (G.2.2.1 kd), .int nu] : List Value).toArray s 0 0 A) (F0 m 3 ls []) := by
    intro n9
    induction n9 with
    | zero => intro k hk7 hmu9; exact absurd hmu9 (Nat.not_lt_zero _)
    | succ n9 ih =>
      intro k hk7 hmu9 H locs hO ls hl
      refine lv_iload_n X.x X.b dX3_notes_3 rfl (lv_at hl 0 rfl) ?_
      refine lv_if_le (tgt := 55) X.x X.b dX3_notes_4 (by decide) (fun c_1 => ?_) (fun c_1 => ?_)
      · have nc_1 : k ≤ 0 := (nI_leI (a := k) (b := 0) (by omega) (by omega)).mp c_1
        obtain rfl : k = 0 := by omega
        refine lv_aload_n X.x X.b dX3_notes_55 rfl (lv_at hl 1 rfl) ?_
        refine dz_get (v := .ref (mr 32)) X (hO.at1 0 rfl) in_X3 rfl 32 (by decide) q2228 (Or.inl rfl) rfl dX3_notes_56 ?_
        refine lv_iconst (v := 0) X.x X.b dX3_notes_59 (by decide) ?_
        refine lv_aload_n X.x X.b dX3_notes_60 rfl (lv_at hl 2 rfl) ?_
        refine dz_aastD X hO 1 rfl (dz_anyDeed X hO hk) (j := 0) (by decide) (by decide) (by decide) dX3_notes_61 (fun H locs hO => ?_)
        have hO : dz_O G.1 dz_CL A s.heap [[(md, dzo 2 [.int th, .int (nI n), .ref (mr 2), .ref (mr 3), .ref (mr 4), .ref (mr 5), .ref (mr 6), .int sl, .int da, .int ho, .int dr, .int cr, .int ti, .int (nI g), .ref (mr 14), .ref (mr 15), .ref (mr 16), .int (nI pn), .ref (mr 18), .ref (mr 19), .ref (mr 20), .ref (mr 21), .int (nI sn), .ref (mr 23), .ref (mr 24), .ref (mr 25), .ref (mr 26), .int st, .int pr, .int pa, .long mo, .int (nI en), .ref (mr 32), .ref (mr 33), .ref (mr 34)])], [(mr 32, dzD G 8 (va_up (dz_shr ld 0) 0 (some (G.2.2.1 kd))))], [(mr 33, dzI G 8 (dz_shr ly 0))], [(mr 34, dzI G 8 (dz_shr lu 0))]] _ _ := hO
        refine lv_aload_n X.x X.b dX3_notes_62 rfl (lv_at hl 1 rfl) ?_
        refine dz_get (v := .ref (mr 33)) X (hO.at1 0 rfl) in_X3 rfl 33 (by decide) q2229 (Or.inl rfl) rfl dX3_notes_63 ?_
        refine lv_iconst (v := 0) X.x X.b dX3_notes_66 (by decide) ?_
        refine lv_aload_n X.x X.b dX3_notes_67 rfl (lv_at hl 1 rfl) ?_
        refine dz_get (v := .int da) X (hO.at1 0 rfl) in_X3 rfl 8 (by decide) q2204 (Or.inl rfl) rfl dX3_notes_68 ?_
        refine dz_iast X hO 2 rfl (j := 0) (by decide) (by decide) (by decide) dX3_notes_71 (fun H locs hO => ?_)
        have hO : dz_O G.1 dz_CL A s.heap [[(md, dzo 2 [.int th, .int (nI n), .ref (mr 2), .ref (mr 3), .ref (mr 4), .ref (mr 5), .ref (mr 6), .int sl, .int da, .int ho, .int dr, .int cr, .int ti, .int (nI g), .ref (mr 14), .ref (mr 15), .ref (mr 16), .int (nI pn), .ref (mr 18), .ref (mr 19), .ref (mr 20), .ref (mr 21), .int (nI sn), .ref (mr 23), .ref (mr 24), .ref (mr 25), .ref (mr 26), .int st, .int pr, .int pa, .long mo, .int (nI en), .ref (mr 32), .ref (mr 33), .ref (mr 34)])], [(mr 32, dzD G 8 (va_up (dz_shr ld 0) 0 (some (G.2.2.1 kd))))], [(mr 33, dzI G 8 (upd (dz_shr ly 0) 0 da))], [(mr 34, dzI G 8 (dz_shr lu 0))]] _ _ := hO
        refine lv_aload_n X.x X.b dX3_notes_72 rfl (lv_at hl 1 rfl) ?_
        refine dz_get (v := .ref (mr 34)) X (hO.at1 0 rfl) in_X3 rfl 34 (by decide) q2230 (Or.inl rfl) rfl dX3_notes_73 ?_
        refine lv_iconst (v := 0) X.x X.b dX3_notes_76 (by decide) ?_
        refine lv_iload_n X.x X.b dX3_notes_77 rfl (lv_at hl 3 rfl) ?_
        refine dz_iast X hO 3 rfl (j := 0) (by decide) (by decide) (by decide) dX3_notes_78 (fun H locs hO => ?_)
        have hO : dz_O G.1 dz_CL A s.heap [[(md, dzo 2 [.int th, .int (nI n), .ref (mr 2), .ref (mr 3), .ref (mr 4), .ref (mr 5), .ref (mr 6), .int sl, .int da, .int ho, .int dr, .int cr, .int ti, .int (nI g), .ref (mr 14), .ref (mr 15), .ref (mr 16), .int (nI pn), .ref (mr 18), .ref (mr 19), .ref (mr 20), .ref (mr 21), .int (nI sn), .ref (mr 23), .ref (mr 24), .ref (mr 25), .ref (mr 26), .int st, .int pr, .int pa, .long mo, .int (nI en), .ref (mr 32), .ref (mr 33), .ref (mr 34)])], [(mr 32, dzD G 8 (va_up (dz_shr ld 0) 0 (some (G.2.2.1 kd))))], [(mr 33, dzI G 8 (upd (dz_shr ly 0) 0 da))], [(mr 34, dzI G 8 (upd (dz_shr lu 0) 0 nu))]] _ _ := hO
        refine lv_aload_n X.x X.b dX3_notes_79 rfl (lv_at hl 1 rfl) ?_
        refine lv_dup X.x X.b dX3_notes_80 rfl ?_
        refine dz_get (v := .int (nI en)) X (hO.at1 0 rfl) in_X3 rfl 31 (by decide) q2227 (Or.inl rfl) rfl dX3_notes_81 ?_
        refine lv_aload_n X.x X.b dX3_notes_84 rfl (lv_at hl 1 rfl) ?_
        refine dz_get (v := .int (nI en)) X (hO.at1 0 rfl) in_X3 rfl 31 (by decide) q2227 (Or.inl rfl) rfl dX3_notes_85 ?_
        refine lv_bipush (v := 8) X.x X.b dX3_notes_88 (by decide) ?_
        refine lv_icmp_ge (tgt := 97) X.x X.b dX3_notes_90 (by decide) (fun c_2 => ?_) (fun c_2 => ?_)
        · have nc_2 : 8 ≤ en := (nI_leI (a := 8) (b := en) (by omega) (by omega)).mp c_2
          refine lv_iconst (v := 0) X.x X.b dX3_notes_97 (by decide) ?_
          refine lv_iadd X.x X.b dX3_notes_98 ?_
          refine dz_rei (y := nI (en + 0)) (nI_add en 0) ?_
          refine dz_put (v := .int (nI (en + 0))) X hO 0 rfl in_X3 tyX3 tyX3_ok nmX3 rfl 31 (by decide) q2227 (Or.inl rfl) (Or.inl rfl) rfl rfl (Nat.le_of_ble_eq_true rfl) dX3_notes_99 (fun H locs hO => ?_)
          have hO : dz_O G.1 dz_CL A s.heap [[(md, dzo 2 [.int th, .int (nI n), .ref (mr 2), .ref (mr 3), .ref (mr 4), .ref (mr 5), .ref (mr 6), .int sl, .int da, .int ho, .int dr, .int cr, .int ti, .int (nI g), .ref (mr 14), .ref (mr 15), .ref (mr 16), .int (nI pn), .ref (mr 18), .ref (mr 19), .ref (mr 20), .ref (mr 21), .int (nI sn), .ref (mr 23), .ref (mr 24), .ref (mr 25), .ref (mr 26), .int st, .int pr, .int pa, .long mo, .int (nI (en + 0)), .ref (mr 32), .ref (mr 33), .ref (mr 34)])], [(mr 32, dzD G 8 (va_up (dz_shr ld 0) 0 (some (G.2.2.1 kd))))], [(mr 33, dzI G 8 (upd (dz_shr ly 0) 0 da))], [(mr 34, dzI G 8 (upd (dz_shr lu 0) 0 nu))]] _ _ := hO
          exact dz_vret X hO rfl (⟨rfl, by first | (rw [if_pos (by omega)]; rfl) | (rw [if_neg (by omega)]; rfl)⟩) (Nat.le_of_ble_eq_true rfl) (Nat.le_of_ble_eq_true rfl) dX3_notes_102
        · have nc_2 : ¬ 8 ≤ en := fun z9 => c_2 ((nI_leI (a := 8) (b := en) (by omega) (by omega)).mpr z9)
          refine lv_iconst (v := 1) X.x X.b dX3_notes_93 (by decide) ?_
          refine lv_goto (tgt := 98) X.x X.b dX3_notes_94 (by decide) ?_
          refine lv_iadd X.x X.b dX3_notes_98 ?_
          refine dz_rei (y := nI (en + 1)) (nI_add en 1) ?_
          refine dz_put (v := .int (nI (en + 1))) X hO 0 rfl in_X3 tyX3 tyX3_ok nmX3 rfl 31 (by decide) q2227 (Or.inl rfl) (Or.inl rfl) rfl rfl (Nat.le_of_ble_eq_true rfl) dX3_notes_99 (fun H locs hO => ?_)
          have hO : dz_O G.1 dz_CL A s.heap [[(md, dzo 2 [.int th, .int (nI n), .ref (mr 2), .ref (mr 3), .ref (mr 4), .ref (mr 5), .ref (mr 6), .int sl, .int da, .int ho, .int dr, .int cr, .int ti, .int (nI g), .ref (mr 14), .ref (mr 15), .ref (mr 16), .int (nI pn), .ref (mr 18), .ref (mr 19), .ref (mr 20), .ref (mr 21), .int (nI sn), .ref (mr 23), .ref (mr 24), .ref (mr 25), .ref (mr 26), .int st, .int pr, .int pa, .long mo, .int (nI (en + 1)), .ref (mr 32), .ref (mr 33), .ref (mr 34)])], [(mr 32, dzD G 8 (va_up (dz_shr ld 0) 0 (some (G.2.2.1 kd))))], [(mr 33, dzI G 8 (upd (dz_shr ly 0) 0 da))], [(mr 34, dzI G 8 (upd (dz_shr lu 0) 0 nu))]] _ _ := hO
          exact dz_vret X hO rfl (⟨rfl, by first | (rw [if_pos (by omega)]; rfl) | (rw [if_neg (by omega)]; rfl)⟩) (Nat.le_of_ble_eq_true rfl) (Nat.le_of_ble_eq_true rfl) dX3_notes_102
      · have nc_1 : ¬ k ≤ 0 := fun z9 => c_1 ((nI_leI (a := k) (b := 0) (by omega) (by omega)).mpr z9)
        obtain ⟨q, hq9⟩ : ∃ q, k = q + 1 := ⟨k - 1, by omega⟩
        subst hq9
        refine lv_aload_n X.x X.b dX3_notes_7 rfl (lv_at hl 1 rfl) ?_
        refine dz_get (v := .ref (mr 32)) X (hO.at1 0 rfl) in_X3 rfl 32 (by decide) q2228 (Or.inl rfl) rfl dX3_notes_8 ?_
        refine lv_iload_n X.x X.b dX3_notes_11 rfl (lv_at hl 0 rfl) ?_
        refine lv_aload_n X.x X.b dX3_notes_12 rfl (lv_at hl 1 rfl) ?_
        refine dz_get (v := .ref (mr 32)) X (hO.at1 0 rfl) in_X3 rfl 32 (by decide) q2228 (Or.inl rfl) rfl dX3_notes_13 ?_
        refine lv_iload_n X.x X.b dX3_notes_16 rfl (lv_at hl 0 rfl) ?_
        refine lv_iconst (v := 1) X.x X.b dX3_notes_17 (by decide) ?_
        refine lv_isub X.x X.b dX3_notes_18 ?_
        refine dz_aldD X (hO.at1 1 rfl) (j := q) (nI_pred q) (by omega) (by decide) dX3_notes_19 ?_
        refine dz_aastRD X hO 1 rfl (fun v9 hv9 => by obtain ⟨i9, hi9, rfl⟩ := dz_deedy_shr hld _ _ v9 hv9; exact dz_anyDeed X hO hi9) (j := q + 1) rfl (by omega) (by decide) dX3_notes_20 (fun H locs hO => ?_)
        have hO : dz_O G.1 dz_CL A s.heap [[(md, dzo 2 [.int th, .int (nI n), .ref (mr 2), .ref (mr 3), .ref (mr 4), .ref (mr 5), .ref (mr 6), .int sl, .int da, .int ho, .int dr, .int cr, .int ti, .int (nI g), .ref (mr 14), .ref (mr 15), .ref (mr 16), .int (nI pn), .ref (mr 18), .ref (mr 19), .ref (mr 20), .ref (mr 21), .int (nI sn), .ref (mr 23), .ref (mr 24), .ref (mr 25), .ref (mr 26), .int st, .int pr, .int pa, .long mo, .int (nI en), .ref (mr 32), .ref (mr 33), .ref (mr 34)])], [(mr 32, dzD G 8 (va_up (dz_shr ld (q + 1)) (q + 1) (dz_shr ld (q + 1) q)))], [(mr 33, dzI G 8 (dz_shr ly (q + 1)))], [(mr 34, dzI G 8 (dz_shr lu (q + 1)))]] _ _ := hO
        refine lv_aload_n X.x X.b dX3_notes_21 rfl (lv_at hl 1 rfl) ?_
        refine dz_get (v := .ref (mr 33)) X (hO.at1 0 rfl) in_X3 rfl 33 (by decide) q2229 (Or.inl rfl) rfl dX3_notes_22 ?_
        refine lv_iload_n X.x X.b dX3_notes_25 rfl (lv_at hl 0 rfl) ?_
        refine lv_aload_n X.x X.b dX3_notes_26 rfl (lv_at hl 1 rfl) ?_
        refine dz_get (v := .ref (mr 33)) X (hO.at1 0 rfl) in_X3 rfl 33 (by decide) q2229 (Or.inl rfl) rfl dX3_notes_27 ?_
        refine lv_iload_n X.x X.b dX3_notes_30 rfl (lv_at hl 0 rfl) ?_
        refine lv_iconst (v := 1) X.x X.b dX3_notes_31 (by decide) ?_
        refine lv_isub X.x X.b dX3_notes_32 ?_
        refine dz_iald X (hO.at1 2 rfl) (j := q) (nI_pred q) (by omega) (by decide) dX3_notes_33 ?_
        refine dz_iast X hO 2 rfl (j := q + 1) rfl (by omega) (by decide) dX3_notes_34 (fun H locs hO => ?_)
        have hO : dz_O G.1 dz_CL A s.heap [[(md, dzo 2 [.int th, .int (nI n), .ref (mr 2), .ref (mr 3), .ref (mr 4), .ref (mr 5), .ref (mr 6), .int sl, .int da, .int ho, .int dr, .int cr, .int ti, .int (nI g), .ref (mr 14), .ref (mr 15), .ref (mr 16), .int (nI pn), .ref (mr 18), .ref (mr 19), .ref (mr 20), .ref (mr 21), .int (nI sn), .ref (mr 23), .ref (mr 24), .ref (mr 25), .ref (mr 26), .int st, .int pr, .int pa, .long mo, .int (nI en), .ref (mr 32), .ref (mr 33), .ref (mr 34)])], [(mr 32, dzD G 8 (va_up (dz_shr ld (q + 1)) (q + 1) (dz_shr ld (q + 1) q)))], [(mr 33, dzI G 8 (upd (dz_shr ly (q + 1)) (q + 1) (dz_shr ly (q + 1) q)))], [(mr 34, dzI G 8 (dz_shr lu (q + 1)))]] _ _ := hO
        refine lv_aload_n X.x X.b dX3_notes_35 rfl (lv_at hl 1 rfl) ?_
        refine dz_get (v := .ref (mr 34)) X (hO.at1 0 rfl) in_X3 rfl 34 (by decide) q2230 (Or.inl rfl) rfl dX3_notes_36 ?_
        refine lv_iload_n X.x X.b dX3_notes_39 rfl (lv_at hl 0 rfl) ?_
        refine lv_aload_n X.x X.b dX3_notes_40 rfl (lv_at hl 1 rfl) ?_
        refine dz_get (v := .ref (mr 34)) X (hO.at1 0 rfl) in_X3 rfl 34 (by decide) q2230 (Or.inl rfl) rfl dX3_notes_41 ?_
        refine lv_iload_n X.x X.b dX3_notes_44 rfl (lv_at hl 0 rfl) ?_
        refine lv_iconst (v := 1) X.x X.b dX3_notes_45 (by decide) ?_
        refine lv_isub X.x X.b dX3_notes_46 ?_
        refine dz_iald X (hO.at1 3 rfl) (j := q) (nI_pred q) (by omega) (by decide) dX3_notes_47 ?_
        refine dz_iast X hO 3 rfl (j := q + 1) rfl (by omega) (by decide) dX3_notes_48 (fun H locs hO => ?_)
        have hO : dz_O G.1 dz_CL A s.heap [[(md, dzo 2 [.int th, .int (nI n), .ref (mr 2), .ref (mr 3), .ref (mr 4), .ref (mr 5), .ref (mr 6), .int sl, .int da, .int ho, .int dr, .int cr, .int ti, .int (nI g), .ref (mr 14), .ref (mr 15), .ref (mr 16), .int (nI pn), .ref (mr 18), .ref (mr 19), .ref (mr 20), .ref (mr 21), .int (nI sn), .ref (mr 23), .ref (mr 24), .ref (mr 25), .ref (mr 26), .int st, .int pr, .int pa, .long mo, .int (nI en), .ref (mr 32), .ref (mr 33), .ref (mr 34)])], [(mr 32, dzD G 8 (va_up (dz_shr ld (q + 1)) (q + 1) (dz_shr ld (q + 1) q)))], [(mr 33, dzI G 8 (upd (dz_shr ly (q + 1)) (q + 1) (dz_shr ly (q + 1) q)))], [(mr 34, dzI G 8 (upd (dz_shr lu (q + 1)) (q + 1) (dz_shr lu (q + 1) q)))]] _ _ := hO
        refine lv_iinc (v := nI q) (lv' := [(3, .int (nI q)), (0, .ref md), (1, .ref (G.2.2.1 kd)), (2, .int nu)]) X.x X.b dX3_notes_49 hl (k := 0) rfl (pk_m1 q) (by decide) rfl (fun ls hl => ?_)
        refine lv_goto (tgt := 3) X.x X.b dX3_notes_52 (by decide) ?_
        have hO := hO.cong 1 rfl (w1 := [(mr 32, dzD G 8 (dz_shr ld q))]) (congrArg (fun z9 => [(mr 32, dzD G 8 z9)]) (show dz_shr ld q = va_up (dz_shr ld (q + 1)) (q + 1) (dz_shr ld (q + 1) q) from by exact (dz_shr_s _ q (by omega)).symm))
        have hO : dz_O G.1 dz_CL A s.heap [[(md, dzo 2 [.int th, .int (nI n), .ref (mr 2), .ref (mr 3), .ref (mr 4), .ref (mr 5), .ref (mr 6), .int sl, .int da, .int ho, .int dr, .int cr, .int ti, .int (nI g), .ref (mr 14), .ref (mr 15), .ref (mr 16), .int (nI pn), .ref (mr 18), .ref (mr 19), .ref (mr 20), .ref (mr 21), .int (nI sn), .ref (mr 23), .ref (mr 24), .ref (mr 25), .ref (mr 26), .int st, .int pr, .int pa, .long mo, .int (nI en), .ref (mr 32), .ref (mr 33), .ref (mr 34)])], [(mr 32, dzD G 8 (dz_shr ld q))], [(mr 33, dzI G 8 (upd (dz_shr ly (q + 1)) (q + 1) (dz_shr ly (q + 1) q)))], [(mr 34, dzI G 8 (upd (dz_shr lu (q + 1)) (q + 1) (dz_shr lu (q + 1) q)))]] _ _ := hO
        have hO := hO.cong 2 rfl (w1 := [(mr 33, dzI G 8 (dz_shr ly q))]) (congrArg (fun z9 => [(mr 33, dzI G 8 z9)]) (show dz_shr ly q = upd (dz_shr ly (q + 1)) (q + 1) (dz_shr ly (q + 1) q) from by exact (dz_shr_s _ q (by omega)).symm))
        have hO : dz_O G.1 dz_CL A s.heap [[(md, dzo 2 [.int th, .int (nI n), .ref (mr 2), .ref (mr 3), .ref (mr 4), .ref (mr 5), .ref (mr 6), .int sl, .int da, .int ho, .int dr, .int cr, .int ti, .int (nI g), .ref (mr 14), .ref (mr 15), .ref (mr 16), .int (nI pn), .ref (mr 18), .ref (mr 19), .ref (mr 20), .ref (mr 21), .int (nI sn), .ref (mr 23), .ref (mr 24), .ref (mr 25), .ref (mr 26), .int st, .int pr, .int pa, .long mo, .int (nI en), .ref (mr 32), .ref (mr 33), .ref (mr 34)])], [(mr 32, dzD G 8 (dz_shr ld q))], [(mr 33, dzI G 8 (dz_shr ly q))], [(mr 34, dzI G 8 (upd (dz_shr lu (q + 1)) (q + 1) (dz_shr lu (q + 1) q)))]] _ _ := hO
        have hO := hO.cong 3 rfl (w1 := [(mr 34, dzI G 8 (dz_shr lu q))]) (congrArg (fun z9 => [(mr 34, dzI G 8 z9)]) (show dz_shr lu q = upd (dz_shr lu (q + 1)) (q + 1) (dz_shr lu (q + 1) q) from by exact (dz_shr_s _ q (by omega)).symm))
        have hO : dz_O G.1 dz_CL A s.heap [[(md, dzo 2 [.int th, .int (nI n), .ref (mr 2), .ref (mr 3), .ref (mr 4), .ref (mr 5), .ref (mr 6), .int sl, .int da, .int ho, .int dr, .int cr, .int ti, .int (nI g), .ref (mr 14), .ref (mr 15), .ref (mr 16), .int (nI pn), .ref (mr 18), .ref (mr 19), .ref (mr 20), .ref (mr 21), .int (nI sn), .ref (mr 23), .ref (mr 24), .ref (mr 25), .ref (mr 26), .int st, .int pr, .int pa, .long mo, .int (nI en), .ref (mr 32), .ref (mr 33), .ref (mr 34)])], [(mr 32, dzD G 8 (dz_shr ld q))], [(mr 33, dzI G 8 (dz_shr ly q))], [(mr 34, dzI G 8 (dz_shr lu q))]] _ _ := hO
        exact ih q (by first | assumption | omega) (by omega) _ _ hO ls (lv_sub hl [0, 1, 2, 3] rfl)
  have hl : lv_has ls 4 [(3, .int (nI 7)), (0, .ref md), (1, .ref (G.2.2.1 kd)), (2, .int nu)] := hl
  have hO := hO.cong 1 rfl (w1 := [(mr 32, dzD G 8 (dz_shr ld 7))]) (congrArg (fun z9 => [(mr 32, dzD G 8 z9)]) (show dz_shr ld 7 = ld from by rw [dz_shr_0]))
  have hO : dz_O G.1 dz_CL A s.heap [[(md, dzo 2 [.int th, .int (nI n), .ref (mr 2), .ref (mr 3), .ref (mr 4), .ref (mr 5), .ref (mr 6), .int sl, .int da, .int ho, .int dr, .int cr, .int ti, .int (nI g), .ref (mr 14), .ref (mr 15), .ref (mr 16), .int (nI pn), .ref (mr 18), .ref (mr 19), .ref (mr 20), .ref (mr 21), .int (nI sn), .ref (mr 23), .ref (mr 24), .ref (mr 25), .ref (mr 26), .int st, .int pr, .int pa, .long mo, .int (nI en), .ref (mr 32), .ref (mr 33), .ref (mr 34)])], [(mr 32, dzD G 8 (dz_shr ld 7))], [(mr 33, dzI G 8 ly)], [(mr 34, dzI G 8 lu)]] _ _ := hO
  have hO := hO.cong 2 rfl (w1 := [(mr 33, dzI G 8 (dz_shr ly 7))]) (congrArg (fun z9 => [(mr 33, dzI G 8 z9)]) (show dz_shr ly 7 = ly from by rw [dz_shr_0]))
  have hO : dz_O G.1 dz_CL A s.heap [[(md, dzo 2 [.int th, .int (nI n), .ref (mr 2), .ref (mr 3), .ref (mr 4), .ref (mr 5), .ref (mr 6), .int sl, .int da, .int ho, .int dr, .int cr, .int ti, .int (nI g), .ref (mr 14), .ref (mr 15), .ref (mr 16), .int (nI pn), .ref (mr 18), .ref (mr 19), .ref (mr 20), .ref (mr 21), .int (nI sn), .ref (mr 23), .ref (mr 24), .ref (mr 25), .ref (mr 26), .int st, .int pr, .int pa, .long mo, .int (nI en), .ref (mr 32), .ref (mr 33), .ref (mr 34)])], [(mr 32, dzD G 8 (dz_shr ld 7))], [(mr 33, dzI G 8 (dz_shr ly 7))], [(mr 34, dzI G 8 lu)]] _ _ := hO
  have hO := hO.cong 3 rfl (w1 := [(mr 34, dzI G 8 (dz_shr lu 7))]) (congrArg (fun z9 => [(mr 34, dzI G 8 z9)]) (show dz_shr lu 7 = lu from by rw [dz_shr_0]))
  have hO : dz_O G.1 dz_CL A s.heap [[(md, dzo 2 [.int th, .int (nI n), .ref (mr 2), .ref (mr 3), .ref (mr 4), .ref (mr 5), .ref (mr 6), .int sl, .int da, .int ho, .int dr, .int cr, .int ti, .int (nI g), .ref (mr 14), .ref (mr 15), .ref (mr 16), .int (nI pn), .ref (mr 18), .ref (mr 19), .ref (mr 20), .ref (mr 21), .int (nI sn), .ref (mr 23), .ref (mr 24), .ref (mr 25), .ref (mr 26), .int st, .int pr, .int pa, .long mo, .int (nI en), .ref (mr 32), .ref (mr 33), .ref (mr 34)])], [(mr 32, dzD G 8 (dz_shr ld 7))], [(mr 33, dzI G 8 (dz_shr ly 7))], [(mr 34, dzI G 8 (dz_shr lu 7))]] _ _ := hO
  exact hcut_3 _ 7 (by first | assumption | omega) (Nat.lt_succ_self _) _ _ hO ls (lv_sub hl [0, 1, 2, 3] rfl)
set_option maxHeartbeats 4000000 in
set_option maxRecDepth 100000 in
/-- depthAt -/
theorem dz_X3_depthAt (l : Launch) (G : dz_G) (sz : Nat) (md : Nat) (mr : Nat → Nat) (th : Int32) (sl : Int32) (da : Int32) (ho : Int32) (dr : Int32) (cr : Int32) (ti : Int32) (st : Int32) (pr : Int32) (pa : Int32) (n : Nat) (g : Nat) (pn : Nat) (sn : Nat) (en : Nat) (mo : Int64) (i : Int32) (dp : Nat → Int32) (hn : n ≤ 24) : dz_M l G yX3_depthAt cX3_depthAt 2 (some FieldType.int) ({ frames := 80, cells := 0, slots := 0, locals := 1200 } : Room) [.ref md, .int i] [[(md, dzo 2 [.int th, .int (nI n), .ref (mr 2), .ref (mr 3), .ref (mr 4), .ref (mr 5), .ref (mr 6), .int sl, .int da, .int ho, .int dr, .int cr, .int ti, .int (nI g), .ref (mr 14), .ref (mr 15), .ref (mr 16), .int (nI pn), .ref (mr 18), .ref (mr 19), .ref (mr 20), .ref (mr 21), .int (nI sn), .ref (mr 23), .ref (mr 24), .ref (mr 25), .ref (mr 26), .int st, .int pr, .int pa, .long mo, .int (nI en), .ref (mr 32), .ref (mr 33), .ref (mr 34)])], [(mr 2, dzI G 24 dp)]] sz (fun r w1 => r = some (.int (dz_dat n dp i)) ∧ w1 = [[(md, dzo 2 [.int th, .int (nI n), .ref (mr 2), .ref (mr 3), .ref (mr 4), .ref (mr 5), .ref (mr 6), .int sl, .int da, .int ho, .int dr, .int cr, .int ti, .int (nI g), .ref (mr 14), .ref (mr 15), .ref (mr 16), .int (nI pn), .ref (mr 18), .ref (mr 19), .ref (mr 20), .ref (mr 21), .int (nI sn), .ref (mr 23), .ref (mr 24), .ref (mr 25), .ref (mr 26), .int st, .int pr, .int pa, .long mo, .int (nI en), .ref (mr 32), .ref (mr 33), .ref (mr 34)])], [(mr 2, dzI G 24 dp)]]) (dz_np) := by
  refine dz_start (by decide) (Nat.le_of_ble_eq_true rfl) ?_
  intro p e s m below meth c A ls X hO hsz hl
  have hl : lv_has ls 2 [(0, .ref md), (1, .int i)] := hl
  refine lv_aload_n X.x X.b dX3_depthAt_0 rfl (lv_at hl 0 rfl) ?_
  refine lv_iload_n X.x X.b dX3_depthAt_1 rfl (lv_at hl 1 rfl) ?_
  refine dz_V (n := 1) (k9 := 0) (n9 := 0) (As := [.int i]) (rest := []) (wr := [[(mr 2, dzI G 24 dp)]]) X hO hl (dz_X3_isCell l G _ md mr th sl da ho dr cr ti st pr pa n g pn sn en mo i ) (lw_V q2322 q2324 qs34 q73 q2325) (by decide +kernel) ⟨Nat.le_of_ble_eq_true rfl, Nat.le_of_ble_eq_true rfl⟩ ⟨(Nat.le_of_ble_eq_true rfl), (Nat.le_of_ble_eq_true rfl), (Nat.le_of_ble_eq_true rfl), (Nat.le_of_ble_eq_true rfl)⟩ [0] [1] rfl rfl rfl (dz_rc X (hO.at1 0 rfl) (r := (RX3, TX3, 35)) rfl) rfl rfl (Nat.le_of_ble_eq_true rfl) dX3_depthAt_2 (fun E w1 q9 ce9 H locs hpx hO hce hv9 hcl9 => hpx.elim) (fun r w1 H locs hpo hO => ?_)
  obtain ⟨rfl, rfl⟩ := hpo
  have hO : dz_O G.1 dz_CL A s.heap [[(mr 2, dzI G 24 dp)], [(md, dzo 2 [.int th, .int (nI n), .ref (mr 2), .ref (mr 3), .ref (mr 4), .ref (mr 5), .ref (mr 6), .int sl, .int da, .int ho, .int dr, .int cr, .int ti, .int (nI g), .ref (mr 14), .ref (mr 15), .ref (mr 16), .int (nI pn), .ref (mr 18), .ref (mr 19), .ref (mr 20), .ref (mr 21), .int (nI sn), .ref (mr 23), .ref (mr 24), .ref (mr 25), .ref (mr 26), .int st, .int pr, .int pa, .long mo, .int (nI en), .ref (mr 32), .ref (mr 33), .ref (mr 34)])]] _ _ := hO
  refine W.eq (g2 := F0 m 5 ls [.int (dz_bi i 0 (nI n - 1))]) rfl ?_
  refine lv_if_eq (tgt := 17) X.x X.b dX3_depthAt_5 (by decide) (fun c_1 => ?_) (fun c_1 => ?_)
  · refine lv_iconst (v := 0) X.x X.b dX3_depthAt_17 (by decide) ?_
    have hO := hO.sel (v := [[(md, dzo 2 [.int th, .int (nI n), .ref (mr 2), .ref (mr 3), .ref (mr 4), .ref (mr 5), .ref (mr 6), .int sl, .int da, .int ho, .int dr, .int cr, .int ti, .int (nI g), .ref (mr 14), .ref (mr 15), .ref (mr 16), .int (nI pn), .ref (mr 18), .ref (mr 19), .ref (mr 20), .ref (mr 21), .int (nI sn), .ref (mr 23), .ref (mr 24), .ref (mr 25), .ref (mr 26), .int st, .int pr, .int pa, .long mo, .int (nI en), .ref (mr 32), .ref (mr 33), .ref (mr 34)])], [(mr 2, dzI G 24 dp)]]) [1, 0] rfl rfl
    exact dz_iret X hO rfl (⟨by unfold dz_dat; first | (rw [if_pos (by assumption)]; done) | (rw [if_neg (by assumption), nI_clamp (by omega)]), rfl⟩) (Nat.le_of_ble_eq_true rfl) (Nat.le_of_ble_eq_true rfl) dX3_depthAt_18
  · refine lv_aload_n X.x X.b dX3_depthAt_8 rfl (lv_at hl 0 rfl) ?_
    refine dz_get (v := .ref (mr 2)) X (hO.at1 1 rfl) in_X3 rfl 2 (by decide) q2198 (Or.inl rfl) rfl dX3_depthAt_9 ?_
    refine lv_iload_n X.x X.b dX3_depthAt_12 rfl (lv_at hl 1 rfl) ?_
    obtain ⟨j9, hj9, hi9⟩ := dz_bi_ix (by omega) c_1
    subst hi9
    refine dz_iald X (hO.at1 0 rfl) (j := j9) rfl (by omega) (by decide) dX3_depthAt_13 ?_
    refine lv_goto (tgt := 18) X.x X.b dX3_depthAt_14 (by decide) ?_
    have hO := hO.sel (v := [[(md, dzo 2 [.int th, .int (nI n), .ref (mr 2), .ref (mr 3), .ref (mr 4), .ref (mr 5), .ref (mr 6), .int sl, .int da, .int ho, .int dr, .int cr, .int ti, .int (nI g), .ref (mr 14), .ref (mr 15), .ref (mr 16), .int (nI pn), .ref (mr 18), .ref (mr 19), .ref (mr 20), .ref (mr 21), .int (nI sn), .ref (mr 23), .ref (mr 24), .ref (mr 25), .ref (mr 26), .int st, .int pr, .int pa, .long mo, .int (nI en), .ref (mr 32), .ref (mr 33), .ref (mr 34)])], [(mr 2, dzI G 24 dp)]]) [1, 0] rfl rfl
    exact dz_iret X hO rfl (⟨by unfold dz_dat; first | (rw [if_pos (by assumption)]; done) | (rw [if_neg (by assumption), nI_clamp (by omega)]), rfl⟩) (Nat.le_of_ble_eq_true rfl) (Nat.le_of_ble_eq_true rfl) dX3_depthAt_18
set_option maxHeartbeats 4000000 in
set_option maxRecDepth 100000 in
/-- creeps: a day of creeping -/
theorem dz_X3_creeps (l : Launch) (G : dz_G) (sz : Nat) (md : Nat) (mr : Nat → Nat) (th : Int32) (sl : Int32) (da : Int32) (ho : Int32) (dr : Int32) (cr : Int32) (ti : Int32) (st : Int32) (pr : Int32) (pa : Int32) (n : Nat) (g : Nat) (pn : Nat) (sn : Nat) (en : Nat) (mo : Int64) (dp : Nat → Int32) (nx : Nat → Int32) (hn : n ≤ 24) : dz_M l G yX3_creeps cX3_creeps 5 (some FieldType.int) ({ frames := 100, cells := 0, slots := 0, locals := 1500 } : Room) [.ref md] [[(md, dzo 2 [.int th, .int (nI n), .ref (mr 2), .ref (mr 3), .ref (mr 4), .ref (mr 5), .ref (mr 6), .int sl, .int da, .int ho, .int dr, .int cr, .int ti, .int (nI g), .ref (mr 14), .ref (mr 15), .ref (mr 16), .int (nI pn), .ref (mr 18), .ref (mr 19), .ref (mr 20), .ref (mr 21), .int (nI sn), .ref (mr 23), .ref (mr 24), .ref (mr 25), .ref (mr 26), .int st, .int pr, .int pa, .long mo, .int (nI en), .ref (mr 32), .ref (mr 33), .ref (mr 34)])], [(mr 2, dzI G 24 dp)], [(mr 3, dzI G 24 nx)]] sz (fun r w1 => ∃ (nx2 : Nat → Int32), r = some (.int (dz_cI n sl dp)) ∧ w1 = [[(md, dzo 2 [.int th, .int (nI n), .ref (mr 2), .ref (mr 3), .ref (mr 4), .ref (mr 5), .ref (mr 6), .int sl, .int da, .int ho, .int dr, .int cr, .int ti, .int (nI g), .ref (mr 14), .ref (mr 15), .ref (mr 16), .int (nI pn), .ref (mr 18), .ref (mr 19), .ref (mr 20), .ref (mr 21), .int (nI sn), .ref (mr 23), .ref (mr 24), .ref (mr 25), .ref (mr 26), .int st, .int pr, .int pa, .long mo, .int (nI en), .ref (mr 32), .ref (mr 33), .ref (mr 34)])], [(mr 2, dzI G 24 (dz_cD n sl dp))], [(mr 3, dzI G 24 nx2)]]) (dz_np) := by
  refine dz_start (by decide) (Nat.le_of_ble_eq_true rfl) ?_
  intro p e s m below meth c A ls X hO hsz hl
  have hl : lv_has ls 5 [(0, .ref md)] := hl
  refine lv_iconst (v := 0) X.x X.b dX3_creeps_0 (by decide) ?_
  refine lv_istore_n (lv' := [(1, .int 0), (0, .ref md)]) X.x X.b dX3_creeps_1 rfl hl (by decide) rfl (fun ls hl => ?_)
  refine lv_iconst (v := 0) X.x X.b dX3_creeps_2 (by decide) ?_
  refine lv_istore_n (lv' := [(2, .int 0), (1, .int 0), (0, .ref md)]) X.x X.b dX3_creeps_3 rfl hl (by decide) rfl (fun ls hl => ?_)
  have hcut_4 : ∀ (n9 : Nat), ∀ (i : Nat), (i ≤ n) → n - i < n9 → ∀ (H : Heap) (locs : List Loc), dz_O G.1 dz_CL A s.heap [[(md, dzo 2 [.int th, .int (nI n), .ref (mr 2), .ref (mr 3), .ref (mr 4), .ref (mr 5), .ref (mr 6), .int sl, .int da, .int ho, .int dr, .int cr, .int ti, .int (nI g), .ref (mr 14), .ref (mr 15), .ref (mr 16), .int (nI pn), .ref (mr 18), .ref (mr 19), .ref (mr 20), .ref (mr 21), .int (nI sn), .ref (mr 23), .ref (mr 24), .ref (mr 25), .ref (mr 26), .int st, .int pr, .int pa, .long mo, .int (nI en), .ref (mr 32), .ref (mr 33), .ref (mr 34)])], [(mr 2, dzI G 24 dp)], [(mr 3, dzI G 24 (dz_cp dp nx i))]] H locs → ∀ (ls : Array Slot), lv_has ls 5 [(2, .int (nI i)), (1, .int 0), (0, .ref md)] → W p l e ({ frames := 100, cells := 0, slots := 0, locals := 1500 } : Room) s m ([.ref md] : List Value).toArray below meth c H locs 0 0 (vx_MQ below (dz_Q G (fun r w1 => ∃ (nx2 : Nat → Int32), r = some (.int (dz_cI n sl dp)) ∧ w1 = [[(md, dzo 2 [.int th, .int (nI n), .ref (mr 2), .ref (mr 3), .ref (mr 4), .ref (mr 5), .ref (mr 6), .int sl, .int da, .int ho, .int dr, .int cr, .int ti, .int (nI g), .ref (mr 14), .ref (mr 15), .ref (mr 16), .int (nI pn), .ref (mr 18), .ref (mr 19), .ref (mr 20), .ref (mr 21), .int (nI sn), .ref (mr 23), .ref (mr 24), .ref (mr 25), .ref (mr 26), .int st, .int pr, .int pa, .long mo, .int (nI en), .ref (mr 32), .ref (mr 33), .ref (mr 34)])], [(mr 2, dzI G 24 (dz_cD n sl dp))], [(mr 3, dzI G 24 nx2)]]) A) (dz_QX G (dz_np) A) ([.ref md] : List Value).toArray s 0 0 A) (F0 m 4 ls []) := by
    intro n9
    induction n9 with
    | zero => intro i hi hmu9; exact absurd hmu9 (Nat.not_lt_zero _)
    | succ n9 ih =>
      intro i hi hmu9 H locs hO ls hl
      refine lv_iload_n X.x X.b dX3_creeps_4 rfl (lv_at hl 0 rfl) ?_
      refine lv_aload_n X.x X.b dX3_creeps_5 rfl (lv_at hl 2 rfl) ?_
      refine dz_get (v := .int (nI n)) X (hO.at1 0 rfl) in_X3 rfl 1 (by decide) q2197 (Or.inl rfl) rfl dX3_creeps_6 ?_
      refine lv_icmp_ge (tgt := 30) X.x X.b dX3_creeps_9 (by decide) (fun c_1 => ?_) (fun c_1 => ?_)
      · have nc_1 : n ≤ i := (nI_leI (a := n) (b := i) (by omega) (by omega)).mp c_1
        have hin : i = n := by omega
        refine lv_iconst (v := (-1)) X.x X.b dX3_creeps_30 (by decide) ?_
        refine lv_istore_n (lv' := [(2, .int (-1)), (1, .int 0), (0, .ref md)]) X.x X.b dX3_creeps_31 rfl hl (by decide) rfl (fun ls hl => ?_)
        have hcut_32 : ∀ (n9 : Nat), ∀ (b : Nat), (b ≤ n + 1) → (0 < b → 0 < n) → n + 2 - b < n9 → ∀ (H : Heap) (locs : List Loc), dz_O G.1 dz_CL A s.heap [[(md, dzo 2 [.int th, .int (nI n), .ref (mr 2), .ref (mr 3), .ref (mr 4), .ref (mr 5), .ref (mr 6), .int sl, .int da, .int ho, .int dr, .int cr, .int ti, .int (nI g), .ref (mr 14), .ref (mr 15), .ref (mr 16), .int (nI pn), .ref (mr 18), .ref (mr 19), .ref (mr 20), .ref (mr 21), .int (nI sn), .ref (mr 23), .ref (mr 24), .ref (mr 25), .ref (mr 26), .int st, .int pr, .int pa, .long mo, .int (nI en), .ref (mr 32), .ref (mr 33), .ref (mr 34)])], [(mr 2, dzI G 24 dp)], [(mr 3, dzI G 24 (dz_nx n sl dp nx b))]] H locs → ∀ (ls : Array Slot), lv_has ls 5 [(2, .int (nI b - 1)), (1, .int (dz_cm n sl dp b)), (0, .ref md)] → W p l e ({ frames := 100, cells := 0, slots := 0, locals := 1500 } : Room) s m ([.ref md] : List Value).toArray below meth c H locs 0 0 (vx_MQ below (dz_Q G (fun r w1 => ∃ (nx2 : Nat → Int32), r = some (.int (dz_cI n sl dp)) ∧ w1 = [[(md, dzo 2 [.int th, .int (nI n), .ref (mr 2), .ref (mr 3), .ref (mr 4), .ref (mr 5), .ref (mr 6), .int sl, .int da, .int ho, .int dr, .int cr, .int ti, .int (nI g), .ref (mr 14), .ref (mr 15), .ref (mr 16), .int (nI pn), .ref (mr 18), .ref (mr 19), .ref (mr 20), .ref (mr 21), .int (nI sn), .ref (mr 23), .ref (mr 24), .ref (mr 25), .ref (mr 26), .int st, .int pr, .int pa, .long mo, .int (nI en), .ref (mr 32), .ref (mr 33), .ref (mr 34)])], [(mr 2, dzI G 24 (dz_cD n sl dp))], [(mr 3, dzI G 24 nx2)]]) A) (dz_QX G (dz_np) A) ([.ref md] : List Value).toArray s 0 0 A) (F0 m 32 ls []) := by
          intro n9
          induction n9 with
          | zero => intro b hb hb0 hmu9; exact absurd hmu9 (Nat.not_lt_zero _)
          | succ n9 ih =>
            intro b hb hb0 hmu9 H locs hO ls hl
            refine lv_iload_n X.x X.b dX3_creeps_32 rfl (lv_at hl 0 rfl) ?_
            refine lv_aload_n X.x X.b dX3_creeps_33 rfl (lv_at hl 2 rfl) ?_
            refine dz_get (v := .int (nI n)) X (hO.at1 0 rfl) in_X3 rfl 1 (by decide) q2197 (Or.inl rfl) rfl dX3_creeps_34 ?_
            refine lv_icmp_ge (tgt := 169) X.x X.b dX3_creeps_37 (by decide) (fun c_2 => ?_) (fun c_2 => ?_)
            · have hbn : b = n + 1 := by have := (dz_le_m1 (by omega) (by omega)).mp c_2; omega
              have hf9 : b = n + 1 ∨ (n = 0 ∧ b = 0) := Or.inl hbn
              refine lv_iconst (v := 0) X.x X.b dX3_creeps_169 (by decide) ?_
              refine lv_istore_n (lv' := [(2, .int 0), (1, .int (dz_cm n sl dp b)), (0, .ref md)]) X.x X.b dX3_creeps_170 rfl hl (by decide) rfl (fun ls hl => ?_)
              have hcut3 : ∀ (n9 : Nat), ∀ (i3 : Nat), (i3 ≤ n) → n - i3 < n9 → ∀ (H : Heap) (locs : List Loc), dz_O G.1 dz_CL A s.heap [[(md, dzo 2 [.int th, .int (nI n), .ref (mr 2), .ref (mr 3), .ref (mr 4), .ref (mr 5), .ref (mr 6), .int sl, .int da, .int ho, .int dr, .int cr, .int ti, .int (nI g), .ref (mr 14), .ref (mr 15), .ref (mr 16), .int (nI pn), .ref (mr 18), .ref (mr 19), .ref (mr 20), .ref (mr 21), .int (nI sn), .ref (mr 23), .ref (mr 24), .ref (mr 25), .ref (mr 26), .int st, .int pr, .int pa, .long mo, .int (nI en), .ref (mr 32), .ref (mr 33), .ref (mr 34)])], [(mr 2, dzI G 24 (dz_cp (dz_nx n sl dp nx b) dp i3))], [(mr 3, dzI G 24 (dz_nx n sl dp nx b))]] H locs → ∀ (ls : Array Slot), lv_has ls 5 [(2, .int (nI i3)), (1, .int (dz_cm n sl dp b)), (0, .ref md)] → W p l e ({ frames := 100, cells := 0, slots := 0, locals := 1500 } : Room) s m ([.ref md] : List Value).toArray below meth c H locs 0 0 (vx_MQ below (dz_Q G (fun r w1 => ∃ (nx2 : Nat → Int32), r = some (.int (dz_cI n sl dp)) ∧ w1 = [[(md, dzo 2 [.int th, .int (nI n), .ref (mr 2), .ref (mr 3), .ref (mr 4), .ref (mr 5), .ref (mr 6), .int sl, .int da, .int ho, .int dr, .int cr, .int ti, .int (nI g), .ref (mr 14), .ref (mr 15), .ref (mr 16), .int (nI pn), .ref (mr 18), .ref (mr 19), .ref (mr 20), .ref (mr 21), .int (nI sn), .ref (mr 23), .ref (mr 24), .ref (mr 25), .ref (mr 26), .int st, .int pr, .int pa, .long mo, .int (nI en), .ref (mr 32), .ref (mr 33), .ref (mr 34)])], [(mr 2, dzI G 24 (dz_cD n sl dp))], [(mr 3, dzI G 24 nx2)]]) A) (dz_QX G (dz_np) A) ([.ref md] : List Value).toArray s 0 0 A) (F0 m 171 ls []) := by
                intro n9
                induction n9 with
                | zero => intro i3 hi3 hmu9; exact absurd hmu9 (Nat.not_lt_zero _)
                | succ n9 ih =>
                  intro i3 hi3 hmu9 H locs hO ls hl
                  refine lv_iload_n X.x X.b dX3_creeps_171 rfl (lv_at hl 0 rfl) ?_
                  refine lv_aload_n X.x X.b dX3_creeps_172 rfl (lv_at hl 2 rfl) ?_
                  refine dz_get (v := .int (nI n)) X (hO.at1 0 rfl) in_X3 rfl 1 (by decide) q2197 (Or.inl rfl) rfl dX3_creeps_173 ?_
                  refine lv_icmp_ge (tgt := 197) X.x X.b dX3_creeps_176 (by decide) (fun c_3 => ?_) (fun c_3 => ?_)
                  · have nc_3 : n ≤ i3 := (nI_leI (a := n) (b := i3) (by omega) (by omega)).mp c_3
                    refine lv_iload_n X.x X.b dX3_creeps_197 rfl (lv_at hl 1 rfl) ?_
                    have hi9 : i3 = n := by omega
                    exact dz_iret X hO rfl (⟨dz_nx n sl dp nx b, by rw [dz_cmfin n sl dp b hf9 hb0], by rw [hi9, dz_cfin n sl dp nx b (by omega)]⟩) (Nat.le_of_ble_eq_true rfl) (Nat.le_of_ble_eq_true rfl) dX3_creeps_198
                  · have nc_3 : ¬ n ≤ i3 := fun z9 => c_3 ((nI_leI (a := n) (b := i3) (by omega) (by omega)).mpr z9)
                    refine lv_aload_n X.x X.b dX3_creeps_179 rfl (lv_at hl 2 rfl) ?_
                    refine dz_get (v := .ref (mr 2)) X (hO.at1 0 rfl) in_X3 rfl 2 (by decide) q2198 (Or.inl rfl) rfl dX3_creeps_180 ?_
                    refine lv_iload_n X.x X.b dX3_creeps_183 rfl (lv_at hl 0 rfl) ?_
                    refine lv_aload_n X.x X.b dX3_creeps_184 rfl (lv_at hl 2 rfl) ?_
                    refine dz_get (v := .ref (mr 3)) X (hO.at1 0 rfl) in_X3 rfl 3 (by decide) q2199 (Or.inl rfl) rfl dX3_creeps_185 ?_
                    refine lv_iload_n X.x X.b dX3_creeps_188 rfl (lv_at hl 0 rfl) ?_
                    refine dz_iald X (hO.at1 2 rfl) (j := i3) rfl (by omega) (by decide) dX3_creeps_189 ?_
                    refine dz_iast X hO 1 rfl (j := i3) rfl (by omega) (by decide) dX3_creeps_190 (fun H locs hO => ?_)
                    have hO : dz_O G.1 dz_CL A s.heap [[(md, dzo 2 [.int th, .int (nI n), .ref (mr 2), .ref (mr 3), .ref (mr 4), .ref (mr 5), .ref (mr 6), .int sl, .int da, .int ho, .int dr, .int cr, .int ti, .int (nI g), .ref (mr 14), .ref (mr 15), .ref (mr 16), .int (nI pn), .ref (mr 18), .ref (mr 19), .ref (mr 20), .ref (mr 21), .int (nI sn), .ref (mr 23), .ref (mr 24), .ref (mr 25), .ref (mr 26), .int st, .int pr, .int pa, .long mo, .int (nI en), .ref (mr 32), .ref (mr 33), .ref (mr 34)])], [(mr 2, dzI G 24 (upd (dz_cp (dz_nx n sl dp nx b) dp i3) i3 (dz_nx n sl dp nx b i3)))], [(mr 3, dzI G 24 (dz_nx n sl dp nx b))]] _ _ := hO
                    refine lv_iinc (v := nI (i3 + 1)) (lv' := [(2, .int (nI (i3 + 1))), (1, .int (dz_cm n sl dp b)), (0, .ref md)]) X.x X.b dX3_creeps_191 hl (k := 0) rfl (nI_1 i3) (by decide) rfl (fun ls hl => ?_)
                    refine lv_goto (tgt := 171) X.x X.b dX3_creeps_194 (by decide) ?_
                    have hO := hO.cong 1 rfl (w1 := [(mr 2, dzI G 24 (dz_cp (dz_nx n sl dp nx b) dp (i3 + 1)))]) (congrArg (fun z9 => [(mr 2, dzI G 24 z9)]) (show dz_cp (dz_nx n sl dp nx b) dp (i3 + 1) = upd (dz_cp (dz_nx n sl dp nx b) dp i3) i3 (dz_nx n sl dp nx b i3) from by exact (dz_cp_s _ _ _).symm))
                    have hO : dz_O G.1 dz_CL A s.heap [[(md, dzo 2 [.int th, .int (nI n), .ref (mr 2), .ref (mr 3), .ref (mr 4), .ref (mr 5), .ref (mr 6), .int sl, .int da, .int ho, .int dr, .int cr, .int ti, .int (nI g), .ref (mr 14), .ref (mr 15), .ref (mr 16), .int (nI pn), .ref (mr 18), .ref (mr 19), .ref (mr 20), .ref (mr 21), .int (nI sn), .ref (mr 23), .ref (mr 24), .ref (mr 25), .ref (mr 26), .int st, .int pr, .int pa, .long mo, .int (nI en), .ref (mr 32), .ref (mr 33), .ref (mr 34)])], [(mr 2, dzI G 24 (dz_cp (dz_nx n sl dp nx b) dp (i3 + 1)))], [(mr 3, dzI G 24 (dz_nx n sl dp nx b))]] _ _ := hO
                    exact ih (i3 + 1) (by first | assumption | omega) (by omega) _ _ hO ls (lv_sub hl [0, 1, 2] rfl)
              have hl : lv_has ls 5 [(2, .int (nI 0)), (1, .int (dz_cm n sl dp b)), (0, .ref md)] := hl
              have hO := hO.cong 1 rfl (w1 := [(mr 2, dzI G 24 (dz_cp (dz_nx n sl dp nx b) dp 0))]) (congrArg (fun z9 => [(mr 2, dzI G 24 z9)]) (show dz_cp (dz_nx n sl dp nx b) dp 0 = dp from by rw [dz_cp_0]))
              have hO : dz_O G.1 dz_CL A s.heap [[(md, dzo 2 [.int th, .int (nI n), .ref (mr 2), .ref (mr 3), .ref (mr 4), .ref (mr 5), .ref (mr 6), .int sl, .int da, .int ho, .int dr, .int cr, .int ti, .int (nI g), .ref (mr 14), .ref (mr 15), .ref (mr 16), .int (nI pn), .ref (mr 18), .ref (mr 19), .ref (mr 20), .ref (mr 21), .int (nI sn), .ref (mr 23), .ref (mr 24), .ref (mr 25), .ref (mr 26), .int st, .int pr, .int pa, .long mo, .int (nI en), .ref (mr 32), .ref (mr 33), .ref (mr 34)])], [(mr 2, dzI G 24 (dz_cp (dz_nx n sl dp nx b) dp 0))], [(mr 3, dzI G 24 (dz_nx n sl dp nx b))]] _ _ := hO
              exact hcut3 _ 0 (by first | assumption | omega) (Nat.lt_succ_self _) _ _ hO ls (lv_sub hl [0, 1, 2] rfl)
            · have hbn : b ≤ n := by have h9 : ¬ n + 1 ≤ b := fun z => c_2 ((dz_le_m1 (by omega) (by omega)).mpr z); omega
              refine lv_aload_n X.x X.b dX3_creeps_40 rfl (lv_at hl 2 rfl) ?_
              refine dz_get (v := .int (nI n)) X (hO.at1 0 rfl) in_X3 rfl 1 (by decide) q2197 (Or.inl rfl) rfl dX3_creeps_41 ?_
              refine lv_if_le (tgt := 169) X.x X.b dX3_creeps_44 (by decide) (fun c_4 => ?_) (fun c_4 => ?_)
              · have nc_4 : n ≤ 0 := (nI_leI (a := n) (b := 0) (by omega) (by omega)).mp c_4
                have hf9 : b = n + 1 ∨ (n = 0 ∧ b = 0) := Or.inr (by omega)
                refine lv_iconst (v := 0) X.x X.b dX3_creeps_169 (by decide) ?_
                refine lv_istore_n (lv' := [(2, .int 0), (1, .int (dz_cm n sl dp b)), (0, .ref md)]) X.x X.b dX3_creeps_170 rfl hl (by decide) rfl (fun ls hl => ?_)
                have hcut3 : ∀ (n9 : Nat), ∀ (i3 : Nat), (i3 ≤ n) → n - i3 < n9 → ∀ (H : Heap) (locs : List Loc), dz_O G.1 dz_CL A s.heap [[(md, dzo 2 [.int th, .int (nI n), .ref (mr 2), .ref (mr 3), .ref (mr 4), .ref (mr 5), .ref (mr 6), .int sl, .int da, .int ho, .int dr, .int cr, .int ti, .int (nI g), .ref (mr 14), .ref (mr 15), .ref (mr 16), .int (nI pn), .ref (mr 18), .ref (mr 19), .ref (mr 20), .ref (mr 21), .int (nI sn), .ref (mr 23), .ref (mr 24), .ref (mr 25), .ref (mr 26), .int st, .int pr, .int pa, .long mo, .int (nI en), .ref (mr 32), .ref (mr 33), .ref (mr 34)])], [(mr 2, dzI G 24 (dz_cp (dz_nx n sl dp nx b) dp i3))], [(mr 3, dzI G 24 (dz_nx n sl dp nx b))]] H locs → ∀ (ls : Array Slot), lv_has ls 5 [(2, .int (nI i3)), (1, .int (dz_cm n sl dp b)), (0, .ref md)] → W p l e ({ frames := 100, cells := 0, slots := 0, locals := 1500 } : Room) s m ([.ref md] : List Value).toArray below meth c H locs 0 0 (vx_MQ below (dz_Q G (fun r w1 => ∃ (nx2 : Nat → Int32), r = some (.int (dz_cI n sl dp)) ∧ w1 = [[(md, dzo 2 [.int th, .int (nI n), .ref (mr 2), .ref (mr 3), .ref (mr 4), .ref (mr 5), .ref (mr 6), .int sl, .int da, .int ho, .int dr, .int cr, .int ti, .int (nI g), .ref (mr 14), .ref (mr 15), .ref (mr 16), .int (nI pn), .ref (mr 18), .ref (mr 19), .ref (mr 20), .ref (mr 21), .int (nI sn), .ref (mr 23), .ref (mr 24), .ref (mr 25), .ref (mr 26), .int st, .int pr, .int pa, .long mo, .int (nI en), .ref (mr 32), .ref (mr 33), .ref (mr 34)])], [(mr 2, dzI G 24 (dz_cD n sl dp))], [(mr 3, dzI G 24 nx2)]]) A) (dz_QX G (dz_np) A) ([.ref md] : List Value).toArray s 0 0 A) (F0 m 171 ls []) := by
                  intro n9
                  induction n9 with
                  | zero => intro i3 hi3 hmu9; exact absurd hmu9 (Nat.not_lt_zero _)
                  | succ n9 ih =>
                    intro i3 hi3 hmu9 H locs hO ls hl
                    refine lv_iload_n X.x X.b dX3_creeps_171 rfl (lv_at hl 0 rfl) ?_
                    refine lv_aload_n X.x X.b dX3_creeps_172 rfl (lv_at hl 2 rfl) ?_
                    refine dz_get (v := .int (nI n)) X (hO.at1 0 rfl) in_X3 rfl 1 (by decide) q2197 (Or.inl rfl) rfl dX3_creeps_173 ?_
                    refine lv_icmp_ge (tgt := 197) X.x X.b dX3_creeps_176 (by decide) (fun c_5 => ?_) (fun c_5 => ?_)
                    · have nc_5 : n ≤ i3 := (nI_leI (a := n) (b := i3) (by omega) (by omega)).mp c_5
                      refine lv_iload_n X.x X.b dX3_creeps_197 rfl (lv_at hl 1 rfl) ?_
                      have hi9 : i3 = n := by omega
                      exact dz_iret X hO rfl (⟨dz_nx n sl dp nx b, by rw [dz_cmfin n sl dp b hf9 hb0], by rw [hi9, dz_cfin n sl dp nx b (by omega)]⟩) (Nat.le_of_ble_eq_true rfl) (Nat.le_of_ble_eq_true rfl) dX3_creeps_198
                    · have nc_5 : ¬ n ≤ i3 := fun z9 => c_5 ((nI_leI (a := n) (b := i3) (by omega) (by omega)).mpr z9)
                      refine lv_aload_n X.x X.b dX3_creeps_179 rfl (lv_at hl 2 rfl) ?_
                      refine dz_get (v := .ref (mr 2)) X (hO.at1 0 rfl) in_X3 rfl 2 (by decide) q2198 (Or.inl rfl) rfl dX3_creeps_180 ?_
                      refine lv_iload_n X.x X.b dX3_creeps_183 rfl (lv_at hl 0 rfl) ?_
                      refine lv_aload_n X.x X.b dX3_creeps_184 rfl (lv_at hl 2 rfl) ?_
                      refine dz_get (v := .ref (mr 3)) X (hO.at1 0 rfl) in_X3 rfl 3 (by decide) q2199 (Or.inl rfl) rfl dX3_creeps_185 ?_
                      refine lv_iload_n X.x X.b dX3_creeps_188 rfl (lv_at hl 0 rfl) ?_
                      refine dz_iald X (hO.at1 2 rfl) (j := i3) rfl (by omega) (by decide) dX3_creeps_189 ?_
                      refine dz_iast X hO 1 rfl (j := i3) rfl (by omega) (by decide) dX3_creeps_190 (fun H locs hO => ?_)
                      have hO : dz_O G.1 dz_CL A s.heap [[(md, dzo 2 [.int th, .int (nI n), .ref (mr 2), .ref (mr 3), .ref (mr 4), .ref (mr 5), .ref (mr 6), .int sl, .int da, .int ho, .int dr, .int cr, .int ti, .int (nI g), .ref (mr 14), .ref (mr 15), .ref (mr 16), .int (nI pn), .ref (mr 18), .ref (mr 19), .ref (mr 20), .ref (mr 21), .int (nI sn), .ref (mr 23), .ref (mr 24), .ref (mr 25), .ref (mr 26), .int st, .int pr, .int pa, .long mo, .int (nI en), .ref (mr 32), .ref (mr 33), .ref (mr 34)])], [(mr 2, dzI G 24 (upd (dz_cp (dz_nx n sl dp nx b) dp i3) i3 (dz_nx n sl dp nx b i3)))], [(mr 3, dzI G 24 (dz_nx n sl dp nx b))]] _ _ := hO
                      refine lv_iinc (v := nI (i3 + 1)) (lv' := [(2, .int (nI (i3 + 1))), (1, .int (dz_cm n sl dp b)), (0, .ref md)]) X.x X.b dX3_creeps_191 hl (k := 0) rfl (nI_1 i3) (by decide) rfl (fun ls hl => ?_)
                      refine lv_goto (tgt := 171) X.x X.b dX3_creeps_194 (by decide) ?_
                      have hO := hO.cong 1 rfl (w1 := [(mr 2, dzI G 24 (dz_cp (dz_nx n sl dp nx b) dp (i3 + 1)))]) (congrArg (fun z9 => [(mr 2, dzI G 24 z9)]) (show dz_cp (dz_nx n sl dp nx b) dp (i3 + 1) = upd (dz_cp (dz_nx n sl dp nx b) dp i3) i3 (dz_nx n sl dp nx b i3) from by exact (dz_cp_s _ _ _).symm))
                      have hO : dz_O G.1 dz_CL A s.heap [[(md, dzo 2 [.int th, .int (nI n), .ref (mr 2), .ref (mr 3), .ref (mr 4), .ref (mr 5), .ref (mr 6), .int sl, .int da, .int ho, .int dr, .int cr, .int ti, .int (nI g), .ref (mr 14), .ref (mr 15), .ref (mr 16), .int (nI pn), .ref (mr 18), .ref (mr 19), .ref (mr 20), .ref (mr 21), .int (nI sn), .ref (mr 23), .ref (mr 24), .ref (mr 25), .ref (mr 26), .int st, .int pr, .int pa, .long mo, .int (nI en), .ref (mr 32), .ref (mr 33), .ref (mr 34)])], [(mr 2, dzI G 24 (dz_cp (dz_nx n sl dp nx b) dp (i3 + 1)))], [(mr 3, dzI G 24 (dz_nx n sl dp nx b))]] _ _ := hO
                      exact ih (i3 + 1) (by first | assumption | omega) (by omega) _ _ hO ls (lv_sub hl [0, 1, 2] rfl)
                have hl : lv_has ls 5 [(2, .int (nI 0)), (1, .int (dz_cm n sl dp b)), (0, .ref md)] := hl
                have hO := hO.cong 1 rfl (w1 := [(mr 2, dzI G 24 (dz_cp (dz_nx n sl dp nx b) dp 0))]) (congrArg (fun z9 => [(mr 2, dzI G 24 z9)]) (show dz_cp (dz_nx n sl dp nx b) dp 0 = dp from by rw [dz_cp_0]))
                have hO : dz_O G.1 dz_CL A s.heap [[(md, dzo 2 [.int th, .int (nI n), .ref (mr 2), .ref (mr 3), .ref (mr 4), .ref (mr 5), .ref (mr 6), .int sl, .int da, .int ho, .int dr, .int cr, .int ti, .int (nI g), .ref (mr 14), .ref (mr 15), .ref (mr 16), .int (nI pn), .ref (mr 18), .ref (mr 19), .ref (mr 20), .ref (mr 21), .int (nI sn), .ref (mr 23), .ref (mr 24), .ref (mr 25), .ref (mr 26), .int st, .int pr, .int pa, .long mo, .int (nI en), .ref (mr 32), .ref (mr 33), .ref (mr 34)])], [(mr 2, dzI G 24 (dz_cp (dz_nx n sl dp nx b) dp 0))], [(mr 3, dzI G 24 (dz_nx n sl dp nx b))]] _ _ := hO
                exact hcut3 _ 0 (by first | assumption | omega) (Nat.lt_succ_self _) _ _ hO ls (lv_sub hl [0, 1, 2] rfl)
              · have nc_4 : ¬ n ≤ 0 := fun z9 => c_4 ((nI_leI (a := n) (b := 0) (by omega) (by omega)).mpr z9)
                refine lv_aload_n X.x X.b dX3_creeps_47 rfl (lv_at hl 2 rfl) ?_
                refine lv_iload_n X.x X.b dX3_creeps_48 rfl (lv_at hl 0 rfl) ?_
                refine dz_V (n := 1) (k9 := 0) (n9 := 0) (As := [.int (nI b - 1)]) (rest := []) (wr := [[(mr 3, dzI G 24 (dz_nx n sl dp nx b))]]) X hO hl (dz_X3_depthAt l G _ md mr th sl da ho dr cr ti st pr pa n g pn sn en mo (nI b - 1) dp (by first | assumption | omega | decide)) (lw_V q2351 q2353 qs37 q73 q2354) (by decide +kernel) ⟨Nat.le_of_ble_eq_true rfl, Nat.le_of_ble_eq_true rfl⟩ ⟨(Nat.le_of_ble_eq_true rfl), (Nat.le_of_ble_eq_true rfl), (Nat.le_of_ble_eq_true rfl), (Nat.le_of_ble_eq_true rfl)⟩ [0, 1] [2] rfl rfl rfl (dz_rc X (hO.at1 0 rfl) (r := (RX3, TX3, 35)) rfl) rfl rfl (Nat.le_of_ble_eq_true rfl) dX3_creeps_49 (fun E w1 q9 ce9 H locs hpx hO hce hv9 hcl9 => hpx.elim) (fun r w1 H locs hpo hO => ?_)
                obtain ⟨rfl, rfl⟩ := hpo
                have hO : dz_O G.1 dz_CL A s.heap [[(mr 3, dzI G 24 (dz_nx n sl dp nx b))], [(md, dzo 2 [.int th, .int (nI n), .ref (mr 2), .ref (mr 3), .ref (mr 4), .ref (mr 5), .ref (mr 6), .int sl, .int da, .int ho, .int dr, .int cr, .int ti, .int (nI g), .ref (mr 14), .ref (mr 15), .ref (mr 16), .int (nI pn), .ref (mr 18), .ref (mr 19), .ref (mr 20), .ref (mr 21), .int (nI sn), .ref (mr 23), .ref (mr 24), .ref (mr 25), .ref (mr 26), .int st, .int pr, .int pa, .long mo, .int (nI en), .ref (mr 32), .ref (mr 33), .ref (mr 34)])], [(mr 2, dzI G 24 dp)]] _ _ := hO
                refine W.eq (g2 := F0 m 52 ls [.int (dz_dat n dp (nI b - 1))]) rfl ?_
                refine dz_rei (y := dz_dl dp b) (dz_dat_l (by omega) dp (by omega)) ?_
                refine lv_aload_n X.x X.b dX3_creeps_52 rfl (lv_at hl 2 rfl) ?_
                refine lv_iload_n X.x X.b dX3_creeps_53 rfl (lv_at hl 0 rfl) ?_
                refine lv_iconst (v := 1) X.x X.b dX3_creeps_54 (by decide) ?_
                refine lv_iadd X.x X.b dX3_creeps_55 ?_
                refine dz_V (n := 1) (k9 := 0) (n9 := 0) (As := [.int (nI b - 1 + 1)]) (rest := [.int (dz_dl dp b)]) (wr := [[(mr 3, dzI G 24 (dz_nx n sl dp nx b))]]) X hO hl (dz_X3_depthAt l G _ md mr th sl da ho dr cr ti st pr pa n g pn sn en mo (nI b - 1 + 1) dp (by first | assumption | omega | decide)) (lw_V q2351 q2353 qs37 q73 q2354) (by decide +kernel) ⟨Nat.le_of_ble_eq_true rfl, Nat.le_of_ble_eq_true rfl⟩ ⟨(Nat.le_of_ble_eq_true rfl), (Nat.le_of_ble_eq_true rfl), (Nat.le_of_ble_eq_true rfl), (Nat.le_of_ble_eq_true rfl)⟩ [1, 2] [0] rfl rfl rfl (dz_rc X (hO.at1 1 rfl) (r := (RX3, TX3, 35)) rfl) rfl rfl (Nat.le_of_ble_eq_true rfl) dX3_creeps_56 (fun E w1 q9 ce9 H locs hpx hO hce hv9 hcl9 => hpx.elim) (fun r w1 H locs hpo hO => ?_)
                obtain ⟨rfl, rfl⟩ := hpo
                have hO : dz_O G.1 dz_CL A s.heap [[(mr 3, dzI G 24 (dz_nx n sl dp nx b))], [(md, dzo 2 [.int th, .int (nI n), .ref (mr 2), .ref (mr 3), .ref (mr 4), .ref (mr 5), .ref (mr 6), .int sl, .int da, .int ho, .int dr, .int cr, .int ti, .int (nI g), .ref (mr 14), .ref (mr 15), .ref (mr 16), .int (nI pn), .ref (mr 18), .ref (mr 19), .ref (mr 20), .ref (mr 21), .int (nI sn), .ref (mr 23), .ref (mr 24), .ref (mr 25), .ref (mr 26), .int st, .int pr, .int pa, .long mo, .int (nI en), .ref (mr 32), .ref (mr 33), .ref (mr 34)])], [(mr 2, dzI G 24 dp)]] _ _ := hO
                refine W.eq (g2 := F0 m 59 ls [.int (dz_dat n dp (nI b - 1 + 1)), .int (dz_dl dp b)]) rfl ?_
                refine dz_rei (y := dz_dr n dp b) (by rw [dz_sac]; exact dz_dat_r (by omega) dp (by omega)) ?_
                refine lv_isub X.x X.b dX3_creeps_59 ?_
                refine lv_istore_n (lv' := [(3, .int (dz_dl dp b - dz_dr n dp b)), (2, .int (nI b - 1)), (1, .int (dz_cm n sl dp b)), (0, .ref md)]) X.x X.b dX3_creeps_60 rfl hl (by decide) rfl (fun ls hl => ?_)
                have hjoin : ∀ (mv : Int32), (mv = dz_mvb n sl dp b) → ∀ (H : Heap) (locs : List Loc), dz_O G.1 dz_CL A s.heap [[(mr 3, dzI G 24 (dz_nx n sl dp nx b))], [(md, dzo 2 [.int th, .int (nI n), .ref (mr 2), .ref (mr 3), .ref (mr 4), .ref (mr 5), .ref (mr 6), .int sl, .int da, .int ho, .int dr, .int cr, .int ti, .int (nI g), .ref (mr 14), .ref (mr 15), .ref (mr 16), .int (nI pn), .ref (mr 18), .ref (mr 19), .ref (mr 20), .ref (mr 21), .int (nI sn), .ref (mr 23), .ref (mr 24), .ref (mr 25), .ref (mr 26), .int st, .int pr, .int pa, .long mo, .int (nI en), .ref (mr 32), .ref (mr 33), .ref (mr 34)])], [(mr 2, dzI G 24 dp)]] H locs → ∀ (ls : Array Slot), lv_has ls 5 [(3, .int (dz_dl dp b - dz_dr n dp b)), (2, .int (nI b - 1)), (1, .int (dz_cm n sl dp b)), (0, .ref md)] → W p l e ({ frames := 100, cells := 0, slots := 0, locals := 1500 } : Room) s m ([.ref md] : List Value).toArray below meth c H locs 0 0 (vx_MQ below (dz_Q G (fun r w1 => ∃ (nx2 : Nat → Int32), r = some (.int (dz_cI n sl dp)) ∧ w1 = [[(md, dzo 2 [.int th, .int (nI n), .ref (mr 2), .ref (mr 3), .ref (mr 4), .ref (mr 5), .ref (mr 6), .int sl, .int da, .int ho, .int dr, .int cr, .int ti, .int (nI g), .ref (mr 14), .ref (mr 15), .ref (mr 16), .int (nI pn), .ref (mr 18), .ref (mr 19), .ref (mr 20), .ref (mr 21), .int (nI sn), .ref (mr 23), .ref (mr 24), .ref (mr 25), .ref (mr 26), .int st, .int pr, .int pa, .long mo, .int (nI en), .ref (mr 32), .ref (mr 33), .ref (mr 34)])], [(mr 2, dzI G 24 (dz_cD n sl dp))], [(mr 3, dzI G 24 nx2)]]) A) (dz_QX G (dz_np) A) ([.ref md] : List Value).toArray s 0 0 A) (F0 m 87 ls [.int mv]) := by
                  intro mv hmv H locs hO ls hl
                  refine lv_istore (lv' := [(4, .int mv), (3, .int (dz_dl dp b - dz_dr n dp b)), (2, .int (nI b - 1)), (1, .int (dz_cm n sl dp b)), (0, .ref md)]) X.x X.b dX3_creeps_87 hl (by decide) rfl (fun ls hl => ?_)
                  rcases (show b = 0 ∨ (∃ q, b = q + 1 ∧ q + 1 < n) ∨ ∃ q, b = q + 1 ∧ q + 1 = n by
                      rcases Nat.eq_zero_or_pos b with z | z
                      · exact Or.inl z
                      · rcases Nat.lt_or_ge b n with y | y
                        · exact Or.inr (Or.inl ⟨b - 1, by omega, by omega⟩)
                        · exact Or.inr (Or.inr ⟨b - 1, by omega, by omega⟩)) with hcs | ⟨q, hcs, hcq⟩ | ⟨q, hcs, hcq⟩
                  · subst hcs
                    refine lv_aload_n X.x X.b dX3_creeps_89 rfl (lv_at hl 4 rfl) ?_
                    refine lv_iload_n X.x X.b dX3_creeps_90 rfl (lv_at hl 2 rfl) ?_
                    refine dz_V (n := 1) (k9 := 0) (n9 := 0) (As := [.int (nI 0 - 1)]) (rest := []) (wr := [[(mr 3, dzI G 24 (dz_nx n sl dp nx 0))], [(mr 2, dzI G 24 dp)]]) X hO hl (dz_X3_isCell l G _ md mr th sl da ho dr cr ti st pr pa n g pn sn en mo (nI 0 - 1) ) (lw_V q2322 q2324 qs34 q73 q2325) (by decide +kernel) ⟨Nat.le_of_ble_eq_true rfl, Nat.le_of_ble_eq_true rfl⟩ ⟨(Nat.le_of_ble_eq_true rfl), (Nat.le_of_ble_eq_true rfl), (Nat.le_of_ble_eq_true rfl), (Nat.le_of_ble_eq_true rfl)⟩ [1] [0, 2] rfl rfl rfl (dz_rc X (hO.at1 1 rfl) (r := (RX3, TX3, 35)) rfl) rfl rfl (Nat.le_of_ble_eq_true rfl) dX3_creeps_91 (fun E w1 q9 ce9 H locs hpx hO hce hv9 hcl9 => hpx.elim) (fun r w1 H locs hpo hO => ?_)
                    obtain ⟨rfl, rfl⟩ := hpo
                    have hO : dz_O G.1 dz_CL A s.heap [[(mr 3, dzI G 24 (dz_nx n sl dp nx 0))], [(mr 2, dzI G 24 dp)], [(md, dzo 2 [.int th, .int (nI n), .ref (mr 2), .ref (mr 3), .ref (mr 4), .ref (mr 5), .ref (mr 6), .int sl, .int da, .int ho, .int dr, .int cr, .int ti, .int (nI g), .ref (mr 14), .ref (mr 15), .ref (mr 16), .int (nI pn), .ref (mr 18), .ref (mr 19), .ref (mr 20), .ref (mr 21), .int (nI sn), .ref (mr 23), .ref (mr 24), .ref (mr 25), .ref (mr 26), .int st, .int pr, .int pa, .long mo, .int (nI en), .ref (mr 32), .ref (mr 33), .ref (mr 34)])]] _ _ := hO
                    refine W.eq (g2 := F0 m 94 ls [.int (dz_bi (nI 0 - 1) 0 (nI n - 1))]) rfl ?_
                    refine dz_rei (y := 0) ((dz_bi_l (b := 0) (by omega) (by omega)).trans (if_pos rfl)) ?_
                    refine lv_if_eq (tgt := 111) X.x X.b dX3_creeps_94 (by decide) (fun _ => ?_) (fun c_6 => absurd (by decide) c_6)
                    refine lv_iload_n X.x X.b dX3_creeps_111 rfl (lv_at hl 3 rfl) ?_
                    refine lv_iload X.x X.b dX3_creeps_112 (lv_at hl 0 rfl) ?_
                    refine lv_if_ne (tgt := 121) X.x X.b dX3_creeps_114 (by decide) (fun c_7 => ?_) (fun c_7 => ?_)
                    · refine lv_iconst (v := 1) X.x X.b dX3_creeps_121 (by decide) ?_
                      refine dz_rei (y := dz_n0 mv) (by unfold dz_n0; simp_all) ?_
                      refine lv_iadd X.x X.b dX3_creeps_122 ?_
                      refine lv_istore_n (lv' := [(1, .int (dz_cm n sl dp 0 + dz_n0 mv)), (4, .int mv), (3, .int (dz_dl dp 0 - dz_dr n dp 0)), (2, .int (nI 0 - 1)), (0, .ref md)]) X.x X.b dX3_creeps_123 rfl hl (by decide) rfl (fun ls hl => ?_)
                      refine lv_aload_n X.x X.b dX3_creeps_124 rfl (lv_at hl 4 rfl) ?_
                      refine lv_iload_n X.x X.b dX3_creeps_125 rfl (lv_at hl 3 rfl) ?_
                      refine lv_iconst (v := 1) X.x X.b dX3_creeps_126 (by decide) ?_
                      refine lv_iadd X.x X.b dX3_creeps_127 ?_
                      refine dz_V (n := 1) (k9 := 0) (n9 := 0) (As := [.int (nI 0 - 1 + 1)]) (rest := []) (wr := [[(mr 3, dzI G 24 (dz_nx n sl dp nx 0))], [(mr 2, dzI G 24 dp)]]) X hO hl (dz_X3_isCell l G _ md mr th sl da ho dr cr ti st pr pa n g pn sn en mo (nI 0 - 1 + 1) ) (lw_V q2322 q2324 qs34 q73 q2325) (by decide +kernel) ⟨Nat.le_of_ble_eq_true rfl, Nat.le_of_ble_eq_true rfl⟩ ⟨(Nat.le_of_ble_eq_true rfl), (Nat.le_of_ble_eq_true rfl), (Nat.le_of_ble_eq_true rfl), (Nat.le_of_ble_eq_true rfl)⟩ [2] [0, 1] rfl rfl rfl (dz_rc X (hO.at1 2 rfl) (r := (RX3, TX3, 35)) rfl) rfl rfl (Nat.le_of_ble_eq_true rfl) dX3_creeps_128 (fun E w1 q9 ce9 H locs hpx hO hce hv9 hcl9 => hpx.elim) (fun r w1 H locs hpo hO => ?_)
                      obtain ⟨rfl, rfl⟩ := hpo
                      have hO : dz_O G.1 dz_CL A s.heap [[(mr 3, dzI G 24 (dz_nx n sl dp nx 0))], [(mr 2, dzI G 24 dp)], [(md, dzo 2 [.int th, .int (nI n), .ref (mr 2), .ref (mr 3), .ref (mr 4), .ref (mr 5), .ref (mr 6), .int sl, .int da, .int ho, .int dr, .int cr, .int ti, .int (nI g), .ref (mr 14), .ref (mr 15), .ref (mr 16), .int (nI pn), .ref (mr 18), .ref (mr 19), .ref (mr 20), .ref (mr 21), .int (nI sn), .ref (mr 23), .ref (mr 24), .ref (mr 25), .ref (mr 26), .int st, .int pr, .int pa, .long mo, .int (nI en), .ref (mr 32), .ref (mr 33), .ref (mr 34)])]] _ _ := hO
                      refine W.eq (g2 := F0 m 131 ls [.int (dz_bi (nI 0 - 1 + 1) 0 (nI n - 1))]) rfl ?_
                      refine dz_rei (y := 1) (by rw [dz_sac]; exact (dz_bi_r (b := 0) (by omega) (by omega)).trans (if_pos (by omega))) ?_
                      refine lv_if_eq (tgt := 150) X.x X.b dX3_creeps_131 (by decide) (fun c_8 => absurd c_8 (by decide)) (fun _ => ?_)
                      refine lv_aload_n X.x X.b dX3_creeps_134 rfl (lv_at hl 4 rfl) ?_
                      refine dz_get (v := .ref (mr 3)) X (hO.at1 2 rfl) in_X3 rfl 3 (by decide) q2199 (Or.inl rfl) rfl dX3_creeps_135 ?_
                      refine lv_iload_n X.x X.b dX3_creeps_138 rfl (lv_at hl 3 rfl) ?_
                      refine lv_iconst (v := 1) X.x X.b dX3_creeps_139 (by decide) ?_
                      refine lv_iadd X.x X.b dX3_creeps_140 ?_
                      refine lv_dup2_11 X.x X.b dX3_creeps_141 rfl rfl ?_
                      refine dz_iald X (hO.at1 0 rfl) (j := 0) (by decide) (by decide) (by decide) dX3_creeps_142 ?_
                      refine lv_iload X.x X.b dX3_creeps_143 (lv_at hl 1 rfl) ?_
                      refine lv_iadd X.x X.b dX3_creeps_145 ?_
                      refine dz_iast X hO 0 rfl (j := 0) (by decide) (by decide) (by decide) dX3_creeps_146 (fun H locs hO => ?_)
                      have hO : dz_O G.1 dz_CL A s.heap [[(mr 3, dzI G 24 (upd (dz_nx n sl dp nx 0) 0 ((dz_nx n sl dp nx 0 0) + mv)))], [(mr 2, dzI G 24 dp)], [(md, dzo 2 [.int th, .int (nI n), .ref (mr 2), .ref (mr 3), .ref (mr 4), .ref (mr 5), .ref (mr 6), .int sl, .int da, .int ho, .int dr, .int cr, .int ti, .int (nI g), .ref (mr 14), .ref (mr 15), .ref (mr 16), .int (nI pn), .ref (mr 18), .ref (mr 19), .ref (mr 20), .ref (mr 21), .int (nI sn), .ref (mr 23), .ref (mr 24), .ref (mr 25), .ref (mr 26), .int st, .int pr, .int pa, .long mo, .int (nI en), .ref (mr 32), .ref (mr 33), .ref (mr 34)])]] _ _ := hO
                      refine lv_goto (tgt := 163) X.x X.b dX3_creeps_147 (by decide) ?_
                      refine lv_iinc (v := (nI 0 - 1 + 1)) (lv' := [(2, .int (nI 0 - 1 + 1)), (1, .int (dz_cm n sl dp 0 + dz_n0 mv)), (4, .int mv), (3, .int (dz_dl dp 0 - dz_dr n dp 0)), (0, .ref md)]) X.x X.b dX3_creeps_163 hl (k := 3) rfl rfl (by decide) rfl (fun ls hl => ?_)
                      refine lv_goto (tgt := 32) X.x X.b dX3_creeps_166 (by decide) ?_
                      have hl : lv_has ls 5 [(2, .int (nI (0 + 1) - 1)), (1, .int (dz_cm n sl dp 0 + dz_n0 mv)), (4, .int mv), (3, .int (dz_dl dp 0 - dz_dr n dp 0)), (0, .ref md)] := by rw [show nI (0 + 1) - 1 = (nI 0 - 1 + 1 : Int32) by decide]; exact hl
                      have hl : lv_has ls 5 [(2, .int (nI (0 + 1) - 1)), (1, .int (dz_cm n sl dp (0 + 1))), (4, .int mv), (3, .int (dz_dl dp 0 - dz_dr n dp 0)), (0, .ref md)] := by rw [← dz_cm_b0 n sl dp (by omega), ← hmv]; exact hl
                      have hO := hO.cong 0 rfl (w1 := [(mr 3, dzI G 24 (dz_nx n sl dp nx (0 + 1)))]) (congrArg (fun z9 => [(mr 3, dzI G 24 z9)]) (show dz_nx n sl dp nx (0 + 1) = upd (dz_nx n sl dp nx 0) 0 ((dz_nx n sl dp nx 0 0) + mv) from by rw [hmv]; exact (dz_nx_b0 n sl dp nx (by omega)).symm))
                      have hO : dz_O G.1 dz_CL A s.heap [[(mr 3, dzI G 24 (dz_nx n sl dp nx (0 + 1)))], [(mr 2, dzI G 24 dp)], [(md, dzo 2 [.int th, .int (nI n), .ref (mr 2), .ref (mr 3), .ref (mr 4), .ref (mr 5), .ref (mr 6), .int sl, .int da, .int ho, .int dr, .int cr, .int ti, .int (nI g), .ref (mr 14), .ref (mr 15), .ref (mr 16), .int (nI pn), .ref (mr 18), .ref (mr 19), .ref (mr 20), .ref (mr 21), .int (nI sn), .ref (mr 23), .ref (mr 24), .ref (mr 25), .ref (mr 26), .int st, .int pr, .int pa, .long mo, .int (nI en), .ref (mr 32), .ref (mr 33), .ref (mr 34)])]] _ _ := hO
                      have hO := hO.sel (v := [[(md, dzo 2 [.int th, .int (nI n), .ref (mr 2), .ref (mr 3), .ref (mr 4), .ref (mr 5), .ref (mr 6), .int sl, .int da, .int ho, .int dr, .int cr, .int ti, .int (nI g), .ref (mr 14), .ref (mr 15), .ref (mr 16), .int (nI pn), .ref (mr 18), .ref (mr 19), .ref (mr 20), .ref (mr 21), .int (nI sn), .ref (mr 23), .ref (mr 24), .ref (mr 25), .ref (mr 26), .int st, .int pr, .int pa, .long mo, .int (nI en), .ref (mr 32), .ref (mr 33), .ref (mr 34)])], [(mr 2, dzI G 24 dp)], [(mr 3, dzI G 24 (dz_nx n sl dp nx (0 + 1)))]]) [2, 1, 0] rfl rfl
                      exact ih (0 + 1) (by first | assumption | omega) (by omega) (by omega) _ _ hO ls (lv_sub hl [0, 1, 4] rfl)
                    · refine lv_iconst (v := 0) X.x X.b dX3_creeps_117 (by decide) ?_
                      refine lv_goto (tgt := 122) X.x X.b dX3_creeps_118 (by decide) ?_
                      refine dz_rei (y := dz_n0 mv) (by unfold dz_n0; simp_all) ?_
                      refine lv_iadd X.x X.b dX3_creeps_122 ?_
                      refine lv_istore_n (lv' := [(1, .int (dz_cm n sl dp 0 + dz_n0 mv)), (4, .int mv), (3, .int (dz_dl dp 0 - dz_dr n dp 0)), (2, .int (nI 0 - 1)), (0, .ref md)]) X.x X.b dX3_creeps_123 rfl hl (by decide) rfl (fun ls hl => ?_)
                      refine lv_aload_n X.x X.b dX3_creeps_124 rfl (lv_at hl 4 rfl) ?_
                      refine lv_iload_n X.x X.b dX3_creeps_125 rfl (lv_at hl 3 rfl) ?_
                      refine lv_iconst (v := 1) X.x X.b dX3_creeps_126 (by decide) ?_
                      refine lv_iadd X.x X.b dX3_creeps_127 ?_
                      refine dz_V (n := 1) (k9 := 0) (n9 := 0) (As := [.int (nI 0 - 1 + 1)]) (rest := []) (wr := [[(mr 3, dzI G 24 (dz_nx n sl dp nx 0))], [(mr 2, dzI G 24 dp)]]) X hO hl (dz_X3_isCell l G _ md mr th sl da ho dr cr ti st pr pa n g pn sn en mo (nI 0 - 1 + 1) ) (lw_V q2322 q2324 qs34 q73 q2325) (by decide +kernel) ⟨Nat.le_of_ble_eq_true rfl, Nat.le_of_ble_eq_true rfl⟩ ⟨(Nat.le_of_ble_eq_true rfl), (Nat.le_of_ble_eq_true rfl), (Nat.le_of_ble_eq_true rfl), (Nat.le_of_ble_eq_true rfl)⟩ [2] [0, 1] rfl rfl rfl (dz_rc X (hO.at1 2 rfl) (r := (RX3, TX3, 35)) rfl) rfl rfl (Nat.le_of_ble_eq_true rfl) dX3_creeps_128 (fun E w1 q9 ce9 H locs hpx hO hce hv9 hcl9 => hpx.elim) (fun r w1 H locs hpo hO => ?_)
                      obtain ⟨rfl, rfl⟩ := hpo
                      have hO : dz_O G.1 dz_CL A s.heap [[(mr 3, dzI G 24 (dz_nx n sl dp nx 0))], [(mr 2, dzI G 24 dp)], [(md, dzo 2 [.int th, .int (nI n), .ref (mr 2), .ref (mr 3), .ref (mr 4), .ref (mr 5), .ref (mr 6), .int sl, .int da, .int ho, .int dr, .int cr, .int ti, .int (nI g), .ref (mr 14), .ref (mr 15), .ref (mr 16), .int (nI pn), .ref (mr 18), .ref (mr 19), .ref (mr 20), .ref (mr 21), .int (nI sn), .ref (mr 23), .ref (mr 24), .ref (mr 25), .ref (mr 26), .int st, .int pr, .int pa, .long mo, .int (nI en), .ref (mr 32), .ref (mr 33), .ref (mr 34)])]] _ _ := hO
                      refine W.eq (g2 := F0 m 131 ls [.int (dz_bi (nI 0 - 1 + 1) 0 (nI n - 1))]) rfl ?_
                      refine dz_rei (y := 1) (by rw [dz_sac]; exact (dz_bi_r (b := 0) (by omega) (by omega)).trans (if_pos (by omega))) ?_
                      refine lv_if_eq (tgt := 150) X.x X.b dX3_creeps_131 (by decide) (fun c_9 => absurd c_9 (by decide)) (fun _ => ?_)
                      refine lv_aload_n X.x X.b dX3_creeps_134 rfl (lv_at hl 4 rfl) ?_
                      refine dz_get (v := .ref (mr 3)) X (hO.at1 2 rfl) in_X3 rfl 3 (by decide) q2199 (Or.inl rfl) rfl dX3_creeps_135 ?_
                      refine lv_iload_n X.x X.b dX3_creeps_138 rfl (lv_at hl 3 rfl) ?_
                      refine lv_iconst (v := 1) X.x X.b dX3_creeps_139 (by decide) ?_
                      refine lv_iadd X.x X.b dX3_creeps_140 ?_
                      refine lv_dup2_11 X.x X.b dX3_creeps_141 rfl rfl ?_
                      refine dz_iald X (hO.at1 0 rfl) (j := 0) (by decide) (by decide) (by decide) dX3_creeps_142 ?_
                      refine lv_iload X.x X.b dX3_creeps_143 (lv_at hl 1 rfl) ?_
                      refine lv_iadd X.x X.b dX3_creeps_145 ?_
                      refine dz_iast X hO 0 rfl (j := 0) (by decide) (by decide) (by decide) dX3_creeps_146 (fun H locs hO => ?_)
                      have hO : dz_O G.1 dz_CL A s.heap [[(mr 3, dzI G 24 (upd (dz_nx n sl dp nx 0) 0 ((dz_nx n sl dp nx 0 0) + mv)))], [(mr 2, dzI G 24 dp)], [(md, dzo 2 [.int th, .int (nI n), .ref (mr 2), .ref (mr 3), .ref (mr 4), .ref (mr 5), .ref (mr 6), .int sl, .int da, .int ho, .int dr, .int cr, .int ti, .int (nI g), .ref (mr 14), .ref (mr 15), .ref (mr 16), .int (nI pn), .ref (mr 18), .ref (mr 19), .ref (mr 20), .ref (mr 21), .int (nI sn), .ref (mr 23), .ref (mr 24), .ref (mr 25), .ref (mr 26), .int st, .int pr, .int pa, .long mo, .int (nI en), .ref (mr 32), .ref (mr 33), .ref (mr 34)])]] _ _ := hO
                      refine lv_goto (tgt := 163) X.x X.b dX3_creeps_147 (by decide) ?_
                      refine lv_iinc (v := (nI 0 - 1 + 1)) (lv' := [(2, .int (nI 0 - 1 + 1)), (1, .int (dz_cm n sl dp 0 + dz_n0 mv)), (4, .int mv), (3, .int (dz_dl dp 0 - dz_dr n dp 0)), (0, .ref md)]) X.x X.b dX3_creeps_163 hl (k := 3) rfl rfl (by decide) rfl (fun ls hl => ?_)
                      refine lv_goto (tgt := 32) X.x X.b dX3_creeps_166 (by decide) ?_
                      have hl : lv_has ls 5 [(2, .int (nI (0 + 1) - 1)), (1, .int (dz_cm n sl dp 0 + dz_n0 mv)), (4, .int mv), (3, .int (dz_dl dp 0 - dz_dr n dp 0)), (0, .ref md)] := by rw [show nI (0 + 1) - 1 = (nI 0 - 1 + 1 : Int32) by decide]; exact hl
                      have hl : lv_has ls 5 [(2, .int (nI (0 + 1) - 1)), (1, .int (dz_cm n sl dp (0 + 1))), (4, .int mv), (3, .int (dz_dl dp 0 - dz_dr n dp 0)), (0, .ref md)] := by rw [← dz_cm_b0 n sl dp (by omega), ← hmv]; exact hl
                      have hO := hO.cong 0 rfl (w1 := [(mr 3, dzI G 24 (dz_nx n sl dp nx (0 + 1)))]) (congrArg (fun z9 => [(mr 3, dzI G 24 z9)]) (show dz_nx n sl dp nx (0 + 1) = upd (dz_nx n sl dp nx 0) 0 ((dz_nx n sl dp nx 0 0) + mv) from by rw [hmv]; exact (dz_nx_b0 n sl dp nx (by omega)).symm))
                      have hO : dz_O G.1 dz_CL A s.heap [[(mr 3, dzI G 24 (dz_nx n sl dp nx (0 + 1)))], [(mr 2, dzI G 24 dp)], [(md, dzo 2 [.int th, .int (nI n), .ref (mr 2), .ref (mr 3), .ref (mr 4), .ref (mr 5), .ref (mr 6), .int sl, .int da, .int ho, .int dr, .int cr, .int ti, .int (nI g), .ref (mr 14), .ref (mr 15), .ref (mr 16), .int (nI pn), .ref (mr 18), .ref (mr 19), .ref (mr 20), .ref (mr 21), .int (nI sn), .ref (mr 23), .ref (mr 24), .ref (mr 25), .ref (mr 26), .int st, .int pr, .int pa, .long mo, .int (nI en), .ref (mr 32), .ref (mr 33), .ref (mr 34)])]] _ _ := hO
                      have hO := hO.sel (v := [[(md, dzo 2 [.int th, .int (nI n), .ref (mr 2), .ref (mr 3), .ref (mr 4), .ref (mr 5), .ref (mr 6), .int sl, .int da, .int ho, .int dr, .int cr, .int ti, .int (nI g), .ref (mr 14), .ref (mr 15), .ref (mr 16), .int (nI pn), .ref (mr 18), .ref (mr 19), .ref (mr 20), .ref (mr 21), .int (nI sn), .ref (mr 23), .ref (mr 24), .ref (mr 25), .ref (mr 26), .int st, .int pr, .int pa, .long mo, .int (nI en), .ref (mr 32), .ref (mr 33), .ref (mr 34)])], [(mr 2, dzI G 24 dp)], [(mr 3, dzI G 24 (dz_nx n sl dp nx (0 + 1)))]]) [2, 1, 0] rfl rfl
                      exact ih (0 + 1) (by first | assumption | omega) (by omega) (by omega) _ _ hO ls (lv_sub hl [0, 1, 4] rfl)
                  · subst hcs
                    refine lv_aload_n X.x X.b dX3_creeps_89 rfl (lv_at hl 4 rfl) ?_
                    refine lv_iload_n X.x X.b dX3_creeps_90 rfl (lv_at hl 2 rfl) ?_
                    refine dz_V (n := 1) (k9 := 0) (n9 := 0) (As := [.int (nI (q + 1) - 1)]) (rest := []) (wr := [[(mr 3, dzI G 24 (dz_nx n sl dp nx (q + 1)))], [(mr 2, dzI G 24 dp)]]) X hO hl (dz_X3_isCell l G _ md mr th sl da ho dr cr ti st pr pa n g pn sn en mo (nI (q + 1) - 1) ) (lw_V q2322 q2324 qs34 q73 q2325) (by decide +kernel) ⟨Nat.le_of_ble_eq_true rfl, Nat.le_of_ble_eq_true rfl⟩ ⟨(Nat.le_of_ble_eq_true rfl), (Nat.le_of_ble_eq_true rfl), (Nat.le_of_ble_eq_true rfl), (Nat.le_of_ble_eq_true rfl)⟩ [1] [0, 2] rfl rfl rfl (dz_rc X (hO.at1 1 rfl) (r := (RX3, TX3, 35)) rfl) rfl rfl (Nat.le_of_ble_eq_true rfl) dX3_creeps_91 (fun E w1 q9 ce9 H locs hpx hO hce hv9 hcl9 => hpx.elim) (fun r w1 H locs hpo hO => ?_)
                    obtain ⟨rfl, rfl⟩ := hpo
                    have hO : dz_O G.1 dz_CL A s.heap [[(mr 3, dzI G 24 (dz_nx n sl dp nx (q + 1)))], [(mr 2, dzI G 24 dp)], [(md, dzo 2 [.int th, .int (nI n), .ref (mr 2), .ref (mr 3), .ref (mr 4), .ref (mr 5), .ref (mr 6), .int sl, .int da, .int ho, .int dr, .int cr, .int ti, .int (nI g), .ref (mr 14), .ref (mr 15), .ref (mr 16), .int (nI pn), .ref (mr 18), .ref (mr 19), .ref (mr 20), .ref (mr 21), .int (nI sn), .ref (mr 23), .ref (mr 24), .ref (mr 25), .ref (mr 26), .int st, .int pr, .int pa, .long mo, .int (nI en), .ref (mr 32), .ref (mr 33), .ref (mr 34)])]] _ _ := hO
                    refine W.eq (g2 := F0 m 94 ls [.int (dz_bi (nI (q + 1) - 1) 0 (nI n - 1))]) rfl ?_
                    refine dz_rei (y := 1) ((dz_bi_l (b := q + 1) (by omega) (by omega)).trans (if_neg (by omega))) ?_
                    refine lv_if_eq (tgt := 111) X.x X.b dX3_creeps_94 (by decide) (fun c_10 => absurd c_10 (by decide)) (fun _ => ?_)
                    refine lv_aload_n X.x X.b dX3_creeps_97 rfl (lv_at hl 4 rfl) ?_
                    refine dz_get (v := .ref (mr 3)) X (hO.at1 2 rfl) in_X3 rfl 3 (by decide) q2199 (Or.inl rfl) rfl dX3_creeps_98 ?_
                    refine lv_iload_n X.x X.b dX3_creeps_101 rfl (lv_at hl 2 rfl) ?_
                    refine lv_dup2_11 X.x X.b dX3_creeps_102 rfl rfl ?_
                    refine dz_iald X (hO.at1 0 rfl) (j := q) (nI_pred q) (by omega) (by decide) dX3_creeps_103 ?_
                    refine lv_iload X.x X.b dX3_creeps_104 (lv_at hl 0 rfl) ?_
                    refine lv_isub X.x X.b dX3_creeps_106 ?_
                    refine dz_iast X hO 0 rfl (j := q) (nI_pred q) (by omega) (by decide) dX3_creeps_107 (fun H locs hO => ?_)
                    have hO : dz_O G.1 dz_CL A s.heap [[(mr 3, dzI G 24 (upd (dz_nx n sl dp nx (q + 1)) q ((dz_nx n sl dp nx (q + 1) q) - mv)))], [(mr 2, dzI G 24 dp)], [(md, dzo 2 [.int th, .int (nI n), .ref (mr 2), .ref (mr 3), .ref (mr 4), .ref (mr 5), .ref (mr 6), .int sl, .int da, .int ho, .int dr, .int cr, .int ti, .int (nI g), .ref (mr 14), .ref (mr 15), .ref (mr 16), .int (nI pn), .ref (mr 18), .ref (mr 19), .ref (mr 20), .ref (mr 21), .int (nI sn), .ref (mr 23), .ref (mr 24), .ref (mr 25), .ref (mr 26), .int st, .int pr, .int pa, .long mo, .int (nI en), .ref (mr 32), .ref (mr 33), .ref (mr 34)])]] _ _ := hO
                    refine lv_goto (tgt := 124) X.x X.b dX3_creeps_108 (by decide) ?_
                    refine lv_aload_n X.x X.b dX3_creeps_124 rfl (lv_at hl 4 rfl) ?_
                    refine lv_iload_n X.x X.b dX3_creeps_125 rfl (lv_at hl 2 rfl) ?_
                    refine lv_iconst (v := 1) X.x X.b dX3_creeps_126 (by decide) ?_
                    refine lv_iadd X.x X.b dX3_creeps_127 ?_
                    refine dz_V (n := 1) (k9 := 0) (n9 := 0) (As := [.int (nI (q + 1) - 1 + 1)]) (rest := []) (wr := [[(mr 3, dzI G 24 (upd (dz_nx n sl dp nx (q + 1)) q ((dz_nx n sl dp nx (q + 1) q) - mv)))], [(mr 2, dzI G 24 dp)]]) X hO hl (dz_X3_isCell l G _ md mr th sl da ho dr cr ti st pr pa n g pn sn en mo (nI (q + 1) - 1 + 1) ) (lw_V q2322 q2324 qs34 q73 q2325) (by decide +kernel) ⟨Nat.le_of_ble_eq_true rfl, Nat.le_of_ble_eq_true rfl⟩ ⟨(Nat.le_of_ble_eq_true rfl), (Nat.le_of_ble_eq_true rfl), (Nat.le_of_ble_eq_true rfl), (Nat.le_of_ble_eq_true rfl)⟩ [2] [0, 1] rfl rfl rfl (dz_rc X (hO.at1 2 rfl) (r := (RX3, TX3, 35)) rfl) rfl rfl (Nat.le_of_ble_eq_true rfl) dX3_creeps_128 (fun E w1 q9 ce9 H locs hpx hO hce hv9 hcl9 => hpx.elim) (fun r w1 H locs hpo hO => ?_)
                    obtain ⟨rfl, rfl⟩ := hpo
                    have hO : dz_O G.1 dz_CL A s.heap [[(mr 3, dzI G 24 (upd (dz_nx n sl dp nx (q + 1)) q ((dz_nx n sl dp nx (q + 1) q) - mv)))], [(mr 2, dzI G 24 dp)], [(md, dzo 2 [.int th, .int (nI n), .ref (mr 2), .ref (mr 3), .ref (mr 4), .ref (mr 5), .ref (mr 6), .int sl, .int da, .int ho, .int dr, .int cr, .int ti, .int (nI g), .ref (mr 14), .ref (mr 15), .ref (mr 16), .int (nI pn), .ref (mr 18), .ref (mr 19), .ref (mr 20), .ref (mr 21), .int (nI sn), .ref (mr 23), .ref (mr 24), .ref (mr 25), .ref (mr 26), .int st, .int pr, .int pa, .long mo, .int (nI en), .ref (mr 32), .ref (mr 33), .ref (mr 34)])]] _ _ := hO
                    refine W.eq (g2 := F0 m 131 ls [.int (dz_bi (nI (q + 1) - 1 + 1) 0 (nI n - 1))]) rfl ?_
                    refine dz_rei (y := 1) (by rw [dz_sac]; exact (dz_bi_r (b := q + 1) (by omega) (by omega)).trans (if_pos (by omega))) ?_
                    refine lv_if_eq (tgt := 150) X.x X.b dX3_creeps_131 (by decide) (fun c_11 => absurd c_11 (by decide)) (fun _ => ?_)
                    refine lv_aload_n X.x X.b dX3_creeps_134 rfl (lv_at hl 4 rfl) ?_
                    refine dz_get (v := .ref (mr 3)) X (hO.at1 2 rfl) in_X3 rfl 3 (by decide) q2199 (Or.inl rfl) rfl dX3_creeps_135 ?_
                    refine lv_iload_n X.x X.b dX3_creeps_138 rfl (lv_at hl 2 rfl) ?_
                    refine lv_iconst (v := 1) X.x X.b dX3_creeps_139 (by decide) ?_
                    refine lv_iadd X.x X.b dX3_creeps_140 ?_
                    refine lv_dup2_11 X.x X.b dX3_creeps_141 rfl rfl ?_
                    refine dz_iald X (hO.at1 0 rfl) (j := q + 1) (dz_sac _) (by omega) (by decide) dX3_creeps_142 ?_
                    refine lv_iload X.x X.b dX3_creeps_143 (lv_at hl 0 rfl) ?_
                    refine lv_iadd X.x X.b dX3_creeps_145 ?_
                    refine dz_iast X hO 0 rfl (j := q + 1) (dz_sac _) (by omega) (by decide) dX3_creeps_146 (fun H locs hO => ?_)
                    have hO : dz_O G.1 dz_CL A s.heap [[(mr 3, dzI G 24 (upd (upd (dz_nx n sl dp nx (q + 1)) q ((dz_nx n sl dp nx (q + 1) q) - mv)) (q + 1) ((upd (dz_nx n sl dp nx (q + 1)) q ((dz_nx n sl dp nx (q + 1) q) - mv) (q + 1)) + mv)))], [(mr 2, dzI G 24 dp)], [(md, dzo 2 [.int th, .int (nI n), .ref (mr 2), .ref (mr 3), .ref (mr 4), .ref (mr 5), .ref (mr 6), .int sl, .int da, .int ho, .int dr, .int cr, .int ti, .int (nI g), .ref (mr 14), .ref (mr 15), .ref (mr 16), .int (nI pn), .ref (mr 18), .ref (mr 19), .ref (mr 20), .ref (mr 21), .int (nI sn), .ref (mr 23), .ref (mr 24), .ref (mr 25), .ref (mr 26), .int st, .int pr, .int pa, .long mo, .int (nI en), .ref (mr 32), .ref (mr 33), .ref (mr 34)])]] _ _ := hO
                    refine lv_goto (tgt := 163) X.x X.b dX3_creeps_147 (by decide) ?_
                    refine lv_iinc (v := (nI (q + 1) - 1 + 1)) (lv' := [(2, .int (nI (q + 1) - 1 + 1)), (4, .int mv), (3, .int (dz_dl dp (q + 1) - dz_dr n dp (q + 1))), (1, .int (dz_cm n sl dp (q + 1))), (0, .ref md)]) X.x X.b dX3_creeps_163 hl (k := 2) rfl rfl (by decide) rfl (fun ls hl => ?_)
                    refine lv_goto (tgt := 32) X.x X.b dX3_creeps_166 (by decide) ?_
                    have hl : lv_has ls 5 [(2, .int (nI (q + 1 + 1) - 1)), (4, .int mv), (3, .int (dz_dl dp (q + 1) - dz_dr n dp (q + 1))), (1, .int (dz_cm n sl dp (q + 1))), (0, .ref md)] := by rw [show nI (q + 1 + 1) - 1 = (nI (q + 1) - 1 + 1 : Int32) by rw [dz_sac, nI_pred]]; exact hl
                    have hl : lv_has ls 5 [(2, .int (nI (q + 1 + 1) - 1)), (4, .int mv), (3, .int (dz_dl dp (q + 1) - dz_dr n dp (q + 1))), (1, .int (dz_cm n sl dp (q + 1 + 1))), (0, .ref md)] := by rw [← dz_cm_bm n sl dp q (by omega)]; exact hl
                    have hO := hO.cong 0 rfl (w1 := [(mr 3, dzI G 24 (dz_nx n sl dp nx (q + 1 + 1)))]) (congrArg (fun z9 => [(mr 3, dzI G 24 z9)]) (show dz_nx n sl dp nx (q + 1 + 1) = upd (upd (dz_nx n sl dp nx (q + 1)) q ((dz_nx n sl dp nx (q + 1) q) - mv)) (q + 1) ((upd (dz_nx n sl dp nx (q + 1)) q ((dz_nx n sl dp nx (q + 1) q) - mv) (q + 1)) + mv) from by rw [hmv]; exact (dz_nx_bm n sl dp nx q (by omega) _ rfl).symm))
                    have hO : dz_O G.1 dz_CL A s.heap [[(mr 3, dzI G 24 (dz_nx n sl dp nx (q + 1 + 1)))], [(mr 2, dzI G 24 dp)], [(md, dzo 2 [.int th, .int (nI n), .ref (mr 2), .ref (mr 3), .ref (mr 4), .ref (mr 5), .ref (mr 6), .int sl, .int da, .int ho, .int dr, .int cr, .int ti, .int (nI g), .ref (mr 14), .ref (mr 15), .ref (mr 16), .int (nI pn), .ref (mr 18), .ref (mr 19), .ref (mr 20), .ref (mr 21), .int (nI sn), .ref (mr 23), .ref (mr 24), .ref (mr 25), .ref (mr 26), .int st, .int pr, .int pa, .long mo, .int (nI en), .ref (mr 32), .ref (mr 33), .ref (mr 34)])]] _ _ := hO
                    have hO := hO.sel (v := [[(md, dzo 2 [.int th, .int (nI n), .ref (mr 2), .ref (mr 3), .ref (mr 4), .ref (mr 5), .ref (mr 6), .int sl, .int da, .int ho, .int dr, .int cr, .int ti, .int (nI g), .ref (mr 14), .ref (mr 15), .ref (mr 16), .int (nI pn), .ref (mr 18), .ref (mr 19), .ref (mr 20), .ref (mr 21), .int (nI sn), .ref (mr 23), .ref (mr 24), .ref (mr 25), .ref (mr 26), .int st, .int pr, .int pa, .long mo, .int (nI en), .ref (mr 32), .ref (mr 33), .ref (mr 34)])], [(mr 2, dzI G 24 dp)], [(mr 3, dzI G 24 (dz_nx n sl dp nx (q + 1 + 1)))]]) [2, 1, 0] rfl rfl
                    exact ih (q + 1 + 1) (by first | assumption | omega) (by omega) (by omega) _ _ hO ls (lv_sub hl [0, 3, 4] rfl)
                  · subst hcs
                    refine lv_aload_n X.x X.b dX3_creeps_89 rfl (lv_at hl 4 rfl) ?_
                    refine lv_iload_n X.x X.b dX3_creeps_90 rfl (lv_at hl 2 rfl) ?_
                    refine dz_V (n := 1) (k9 := 0) (n9 := 0) (As := [.int (nI (q + 1) - 1)]) (rest := []) (wr := [[(mr 3, dzI G 24 (dz_nx n sl dp nx (q + 1)))], [(mr 2, dzI G 24 dp)]]) X hO hl (dz_X3_isCell l G _ md mr th sl da ho dr cr ti st pr pa n g pn sn en mo (nI (q + 1) - 1) ) (lw_V q2322 q2324 qs34 q73 q2325) (by decide +kernel) ⟨Nat.le_of_ble_eq_true rfl, Nat.le_of_ble_eq_true rfl⟩ ⟨(Nat.le_of_ble_eq_true rfl), (Nat.le_of_ble_eq_true rfl), (Nat.le_of_ble_eq_true rfl), (Nat.le_of_ble_eq_true rfl)⟩ [1] [0, 2] rfl rfl rfl (dz_rc X (hO.at1 1 rfl) (r := (RX3, TX3, 35)) rfl) rfl rfl (Nat.le_of_ble_eq_true rfl) dX3_creeps_91 (fun E w1 q9 ce9 H locs hpx hO hce hv9 hcl9 => hpx.elim) (fun r w1 H locs hpo hO => ?_)
                    obtain ⟨rfl, rfl⟩ := hpo
                    have hO : dz_O G.1 dz_CL A s.heap [[(mr 3, dzI G 24 (dz_nx n sl dp nx (q + 1)))], [(mr 2, dzI G 24 dp)], [(md, dzo 2 [.int th, .int (nI n), .ref (mr 2), .ref (mr 3), .ref (mr 4), .ref (mr 5), .ref (mr 6), .int sl, .int da, .int ho, .int dr, .int cr, .int ti, .int (nI g), .ref (mr 14), .ref (mr 15), .ref (mr 16), .int (nI pn), .ref (mr 18), .ref (mr 19), .ref (mr 20), .ref (mr 21), .int (nI sn), .ref (mr 23), .ref (mr 24), .ref (mr 25), .ref (mr 26), .int st, .int pr, .int pa, .long mo, .int (nI en), .ref (mr 32), .ref (mr 33), .ref (mr 34)])]] _ _ := hO
                    refine W.eq (g2 := F0 m 94 ls [.int (dz_bi (nI (q + 1) - 1) 0 (nI n - 1))]) rfl ?_
                    refine dz_rei (y := 1) ((dz_bi_l (b := q + 1) (by omega) (by omega)).trans (if_neg (by omega))) ?_
                    refine lv_if_eq (tgt := 111) X.x X.b dX3_creeps_94 (by decide) (fun c_12 => absurd c_12 (by decide)) (fun _ => ?_)
                    refine lv_aload_n X.x X.b dX3_creeps_97 rfl (lv_at hl 4 rfl) ?_
                    refine dz_get (v := .ref (mr 3)) X (hO.at1 2 rfl) in_X3 rfl 3 (by decide) q2199 (Or.inl rfl) rfl dX3_creeps_98 ?_
                    refine lv_iload_n X.x X.b dX3_creeps_101 rfl (lv_at hl 2 rfl) ?_
                    refine lv_dup2_11 X.x X.b dX3_creeps_102 rfl rfl ?_
                    refine dz_iald X (hO.at1 0 rfl) (j := q) (nI_pred q) (by omega) (by decide) dX3_creeps_103 ?_
                    refine lv_iload X.x X.b dX3_creeps_104 (lv_at hl 0 rfl) ?_
                    refine lv_isub X.x X.b dX3_creeps_106 ?_
                    refine dz_iast X hO 0 rfl (j := q) (nI_pred q) (by omega) (by decide) dX3_creeps_107 (fun H locs hO => ?_)
                    have hO : dz_O G.1 dz_CL A s.heap [[(mr 3, dzI G 24 (upd (dz_nx n sl dp nx (q + 1)) q ((dz_nx n sl dp nx (q + 1) q) - mv)))], [(mr 2, dzI G 24 dp)], [(md, dzo 2 [.int th, .int (nI n), .ref (mr 2), .ref (mr 3), .ref (mr 4), .ref (mr 5), .ref (mr 6), .int sl, .int da, .int ho, .int dr, .int cr, .int ti, .int (nI g), .ref (mr 14), .ref (mr 15), .ref (mr 16), .int (nI pn), .ref (mr 18), .ref (mr 19), .ref (mr 20), .ref (mr 21), .int (nI sn), .ref (mr 23), .ref (mr 24), .ref (mr 25), .ref (mr 26), .int st, .int pr, .int pa, .long mo, .int (nI en), .ref (mr 32), .ref (mr 33), .ref (mr 34)])]] _ _ := hO
                    refine lv_goto (tgt := 124) X.x X.b dX3_creeps_108 (by decide) ?_
                    refine lv_aload_n X.x X.b dX3_creeps_124 rfl (lv_at hl 4 rfl) ?_
                    refine lv_iload_n X.x X.b dX3_creeps_125 rfl (lv_at hl 2 rfl) ?_
                    refine lv_iconst (v := 1) X.x X.b dX3_creeps_126 (by decide) ?_
                    refine lv_iadd X.x X.b dX3_creeps_127 ?_
                    refine dz_V (n := 1) (k9 := 0) (n9 := 0) (As := [.int (nI (q + 1) - 1 + 1)]) (rest := []) (wr := [[(mr 3, dzI G 24 (upd (dz_nx n sl dp nx (q + 1)) q ((dz_nx n sl dp nx (q + 1) q) - mv)))], [(mr 2, dzI G 24 dp)]]) X hO hl (dz_X3_isCell l G _ md mr th sl da ho dr cr ti st pr pa n g pn sn en mo (nI (q + 1) - 1 + 1) ) (lw_V q2322 q2324 qs34 q73 q2325) (by decide +kernel) ⟨Nat.le_of_ble_eq_true rfl, Nat.le_of_ble_eq_true rfl⟩ ⟨(Nat.le_of_ble_eq_true rfl), (Nat.le_of_ble_eq_true rfl), (Nat.le_of_ble_eq_true rfl), (Nat.le_of_ble_eq_true rfl)⟩ [2] [0, 1] rfl rfl rfl (dz_rc X (hO.at1 2 rfl) (r := (RX3, TX3, 35)) rfl) rfl rfl (Nat.le_of_ble_eq_true rfl) dX3_creeps_128 (fun E w1 q9 ce9 H locs hpx hO hce hv9 hcl9 => hpx.elim) (fun r w1 H locs hpo hO => ?_)
                    obtain ⟨rfl, rfl⟩ := hpo
                    have hO : dz_O G.1 dz_CL A s.heap [[(mr 3, dzI G 24 (upd (dz_nx n sl dp nx (q + 1)) q ((dz_nx n sl dp nx (q + 1) q) - mv)))], [(mr 2, dzI G 24 dp)], [(md, dzo 2 [.int th, .int (nI n), .ref (mr 2), .ref (mr 3), .ref (mr 4), .ref (mr 5), .ref (mr 6), .int sl, .int da, .int ho, .int dr, .int cr, .int ti, .int (nI g), .ref (mr 14), .ref (mr 15), .ref (mr 16), .int (nI pn), .ref (mr 18), .ref (mr 19), .ref (mr 20), .ref (mr 21), .int (nI sn), .ref (mr 23), .ref (mr 24), .ref (mr 25), .ref (mr 26), .int st, .int pr, .int pa, .long mo, .int (nI en), .ref (mr 32), .ref (mr 33), .ref (mr 34)])]] _ _ := hO
                    refine W.eq (g2 := F0 m 131 ls [.int (dz_bi (nI (q + 1) - 1 + 1) 0 (nI n - 1))]) rfl ?_
                    refine dz_rei (y := 0) (by rw [dz_sac]; exact (dz_bi_r (b := q + 1) (by omega) (by omega)).trans (if_neg (by omega))) ?_
                    refine lv_if_eq (tgt := 150) X.x X.b dX3_creeps_131 (by decide) (fun _ => ?_) (fun c_13 => absurd (by decide) c_13)
                    refine lv_iload_n X.x X.b dX3_creeps_150 rfl (lv_at hl 3 rfl) ?_
                    refine lv_iload X.x X.b dX3_creeps_151 (lv_at hl 0 rfl) ?_
                    refine lv_if_ne (tgt := 160) X.x X.b dX3_creeps_153 (by decide) (fun c_14 => ?_) (fun c_14 => ?_)
                    · refine lv_iconst (v := 1) X.x X.b dX3_creeps_160 (by decide) ?_
                      refine dz_rei (y := dz_n0 mv) (by unfold dz_n0; simp_all) ?_
                      refine lv_iadd X.x X.b dX3_creeps_161 ?_
                      refine lv_istore_n (lv' := [(1, .int (dz_cm n sl dp (q + 1) + dz_n0 mv)), (4, .int mv), (3, .int (dz_dl dp (q + 1) - dz_dr n dp (q + 1))), (2, .int (nI (q + 1) - 1)), (0, .ref md)]) X.x X.b dX3_creeps_162 rfl hl (by decide) rfl (fun ls hl => ?_)
                      refine lv_iinc (v := (nI (q + 1) - 1 + 1)) (lv' := [(2, .int (nI (q + 1) - 1 + 1)), (1, .int (dz_cm n sl dp (q + 1) + dz_n0 mv)), (4, .int mv), (3, .int (dz_dl dp (q + 1) - dz_dr n dp (q + 1))), (0, .ref md)]) X.x X.b dX3_creeps_163 hl (k := 3) rfl rfl (by decide) rfl (fun ls hl => ?_)
                      refine lv_goto (tgt := 32) X.x X.b dX3_creeps_166 (by decide) ?_
                      have hl : lv_has ls 5 [(2, .int (nI (q + 1 + 1) - 1)), (1, .int (dz_cm n sl dp (q + 1) + dz_n0 mv)), (4, .int mv), (3, .int (dz_dl dp (q + 1) - dz_dr n dp (q + 1))), (0, .ref md)] := by rw [show nI (q + 1 + 1) - 1 = (nI (q + 1) - 1 + 1 : Int32) by rw [dz_sac, nI_pred]]; exact hl
                      have hl : lv_has ls 5 [(2, .int (nI (q + 1 + 1) - 1)), (1, .int (dz_cm n sl dp (q + 1 + 1))), (4, .int mv), (3, .int (dz_dl dp (q + 1) - dz_dr n dp (q + 1))), (0, .ref md)] := by rw [← dz_cm_bl n sl dp q (by omega), ← hmv]; exact hl
                      have hO := hO.cong 0 rfl (w1 := [(mr 3, dzI G 24 (dz_nx n sl dp nx (q + 1 + 1)))]) (congrArg (fun z9 => [(mr 3, dzI G 24 z9)]) (show dz_nx n sl dp nx (q + 1 + 1) = upd (dz_nx n sl dp nx (q + 1)) q ((dz_nx n sl dp nx (q + 1) q) - mv) from by rw [hmv]; exact (dz_nx_bl n sl dp nx q (by omega) (by omega)).symm))
                      have hO : dz_O G.1 dz_CL A s.heap [[(mr 3, dzI G 24 (dz_nx n sl dp nx (q + 1 + 1)))], [(mr 2, dzI G 24 dp)], [(md, dzo 2 [.int th, .int (nI n), .ref (mr 2), .ref (mr 3), .ref (mr 4), .ref (mr 5), .ref (mr 6), .int sl, .int da, .int ho, .int dr, .int cr, .int ti, .int (nI g), .ref (mr 14), .ref (mr 15), .ref (mr 16), .int (nI pn), .ref (mr 18), .ref (mr 19), .ref (mr 20), .ref (mr 21), .int (nI sn), .ref (mr 23), .ref (mr 24), .ref (mr 25), .ref (mr 26), .int st, .int pr, .int pa, .long mo, .int (nI en), .ref (mr 32), .ref (mr 33), .ref (mr 34)])]] _ _ := hO
                      have hO := hO.sel (v := [[(md, dzo 2 [.int th, .int (nI n), .ref (mr 2), .ref (mr 3), .ref (mr 4), .ref (mr 5), .ref (mr 6), .int sl, .int da, .int ho, .int dr, .int cr, .int ti, .int (nI g), .ref (mr 14), .ref (mr 15), .ref (mr 16), .int (nI pn), .ref (mr 18), .ref (mr 19), .ref (mr 20), .ref (mr 21), .int (nI sn), .ref (mr 23), .ref (mr 24), .ref (mr 25), .ref (mr 26), .int st, .int pr, .int pa, .long mo, .int (nI en), .ref (mr 32), .ref (mr 33), .ref (mr 34)])], [(mr 2, dzI G 24 dp)], [(mr 3, dzI G 24 (dz_nx n sl dp nx (q + 1 + 1)))]]) [2, 1, 0] rfl rfl
                      exact ih (q + 1 + 1) (by first | assumption | omega) (by omega) (by omega) _ _ hO ls (lv_sub hl [0, 1, 4] rfl)
                    · refine lv_iconst (v := 0) X.x X.b dX3_creeps_156 (by decide) ?_
                      refine lv_goto (tgt := 161) X.x X.b dX3_creeps_157 (by decide) ?_
                      refine dz_rei (y := dz_n0 mv) (by unfold dz_n0; simp_all) ?_
                      refine lv_iadd X.x X.b dX3_creeps_161 ?_
                      refine lv_istore_n (lv' := [(1, .int (dz_cm n sl dp (q + 1) + dz_n0 mv)), (4, .int mv), (3, .int (dz_dl dp (q + 1) - dz_dr n dp (q + 1))), (2, .int (nI (q + 1) - 1)), (0, .ref md)]) X.x X.b dX3_creeps_162 rfl hl (by decide) rfl (fun ls hl => ?_)
                      refine lv_iinc (v := (nI (q + 1) - 1 + 1)) (lv' := [(2, .int (nI (q + 1) - 1 + 1)), (1, .int (dz_cm n sl dp (q + 1) + dz_n0 mv)), (4, .int mv), (3, .int (dz_dl dp (q + 1) - dz_dr n dp (q + 1))), (0, .ref md)]) X.x X.b dX3_creeps_163 hl (k := 3) rfl rfl (by decide) rfl (fun ls hl => ?_)
                      refine lv_goto (tgt := 32) X.x X.b dX3_creeps_166 (by decide) ?_
                      have hl : lv_has ls 5 [(2, .int (nI (q + 1 + 1) - 1)), (1, .int (dz_cm n sl dp (q + 1) + dz_n0 mv)), (4, .int mv), (3, .int (dz_dl dp (q + 1) - dz_dr n dp (q + 1))), (0, .ref md)] := by rw [show nI (q + 1 + 1) - 1 = (nI (q + 1) - 1 + 1 : Int32) by rw [dz_sac, nI_pred]]; exact hl
                      have hl : lv_has ls 5 [(2, .int (nI (q + 1 + 1) - 1)), (1, .int (dz_cm n sl dp (q + 1 + 1))), (4, .int mv), (3, .int (dz_dl dp (q + 1) - dz_dr n dp (q + 1))), (0, .ref md)] := by rw [← dz_cm_bl n sl dp q (by omega), ← hmv]; exact hl
                      have hO := hO.cong 0 rfl (w1 := [(mr 3, dzI G 24 (dz_nx n sl dp nx (q + 1 + 1)))]) (congrArg (fun z9 => [(mr 3, dzI G 24 z9)]) (show dz_nx n sl dp nx (q + 1 + 1) = upd (dz_nx n sl dp nx (q + 1)) q ((dz_nx n sl dp nx (q + 1) q) - mv) from by rw [hmv]; exact (dz_nx_bl n sl dp nx q (by omega) (by omega)).symm))
                      have hO : dz_O G.1 dz_CL A s.heap [[(mr 3, dzI G 24 (dz_nx n sl dp nx (q + 1 + 1)))], [(mr 2, dzI G 24 dp)], [(md, dzo 2 [.int th, .int (nI n), .ref (mr 2), .ref (mr 3), .ref (mr 4), .ref (mr 5), .ref (mr 6), .int sl, .int da, .int ho, .int dr, .int cr, .int ti, .int (nI g), .ref (mr 14), .ref (mr 15), .ref (mr 16), .int (nI pn), .ref (mr 18), .ref (mr 19), .ref (mr 20), .ref (mr 21), .int (nI sn), .ref (mr 23), .ref (mr 24), .ref (mr 25), .ref (mr 26), .int st, .int pr, .int pa, .long mo, .int (nI en), .ref (mr 32), .ref (mr 33), .ref (mr 34)])]] _ _ := hO
                      have hO := hO.sel (v := [[(md, dzo 2 [.int th, .int (nI n), .ref (mr 2), .ref (mr 3), .ref (mr 4), .ref (mr 5), .ref (mr 6), .int sl, .int da, .int ho, .int dr, .int cr, .int ti, .int (nI g), .ref (mr 14), .ref (mr 15), .ref (mr 16), .int (nI pn), .ref (mr 18), .ref (mr 19), .ref (mr 20), .ref (mr 21), .int (nI sn), .ref (mr 23), .ref (mr 24), .ref (mr 25), .ref (mr 26), .int st, .int pr, .int pa, .long mo, .int (nI en), .ref (mr 32), .ref (mr 33), .ref (mr 34)])], [(mr 2, dzI G 24 dp)], [(mr 3, dzI G 24 (dz_nx n sl dp nx (q + 1 + 1)))]]) [2, 1, 0] rfl rfl
                      exact ih (q + 1 + 1) (by first | assumption | omega) (by omega) (by omega) _ _ hO ls (lv_sub hl [0, 1, 4] rfl)
                refine lv_iload_n X.x X.b dX3_creeps_61 rfl (lv_at hl 0 rfl) ?_
                refine lv_aload_n X.x X.b dX3_creeps_62 rfl (lv_at hl 3 rfl) ?_
                refine dz_get (v := .int sl) X (hO.at1 1 rfl) in_X3 rfl 7 (by decide) q2203 (Or.inl rfl) rfl dX3_creeps_63 ?_
                refine lv_icmp_le (tgt := 73) X.x X.b dX3_creeps_66 (by decide) (fun c_15 => ?_) (fun c_15 => ?_)
                · refine lv_iload_n X.x X.b dX3_creeps_73 rfl (lv_at hl 0 rfl) ?_
                  refine lv_ineg X.x X.b dX3_creeps_74 ?_
                  refine lv_aload_n X.x X.b dX3_creeps_75 rfl (lv_at hl 3 rfl) ?_
                  refine dz_get (v := .int sl) X (hO.at1 1 rfl) in_X3 rfl 7 (by decide) q2203 (Or.inl rfl) rfl dX3_creeps_76 ?_
                  refine lv_icmp_le (tgt := 86) X.x X.b dX3_creeps_79 (by decide) (fun c_16 => ?_) (fun c_16 => ?_)
                  · refine lv_iconst (v := 0) X.x X.b dX3_creeps_86 (by decide) ?_
                    exact hjoin 0 (by unfold dz_mvb dz_mv; grind)  _ _ hO ls (lv_sub hl [0, 1, 2, 3] rfl)
                  · refine lv_iconst (v := (-1)) X.x X.b dX3_creeps_82 (by decide) ?_
                    refine lv_goto (tgt := 87) X.x X.b dX3_creeps_83 (by decide) ?_
                    exact hjoin (-1) (by unfold dz_mvb dz_mv; grind)  _ _ hO ls (lv_sub hl [0, 1, 2, 3] rfl)
                · refine lv_iconst (v := 1) X.x X.b dX3_creeps_69 (by decide) ?_
                  refine lv_goto (tgt := 87) X.x X.b dX3_creeps_70 (by decide) ?_
                  exact hjoin 1 (by unfold dz_mvb dz_mv; grind)  _ _ hO ls (lv_sub hl [0, 1, 2, 3] rfl)
        have hl : lv_has ls 5 [(2, .int (nI 0 - 1)), (1, .int 0), (0, .ref md)] := by rw [show nI 0 - 1 = (-1 : Int32) by decide]; exact hl
        have hl : lv_has ls 5 [(2, .int (nI 0 - 1)), (1, .int (dz_cm n sl dp 0)), (0, .ref md)] := by rw [dz_cm_0]; exact hl
        have hO := hO.cong 2 rfl (w1 := [(mr 3, dzI G 24 (dz_nx n sl dp nx 0))]) (congrArg (fun z9 => [(mr 3, dzI G 24 z9)]) (show dz_nx n sl dp nx 0 = dz_cp dp nx i from by rw [dz_nx_0, hin]))
        have hO : dz_O G.1 dz_CL A s.heap [[(md, dzo 2 [.int th, .int (nI n), .ref (mr 2), .ref (mr 3), .ref (mr 4), .ref (mr 5), .ref (mr 6), .int sl, .int da, .int ho, .int dr, .int cr, .int ti, .int (nI g), .ref (mr 14), .ref (mr 15), .ref (mr 16), .int (nI pn), .ref (mr 18), .ref (mr 19), .ref (mr 20), .ref (mr 21), .int (nI sn), .ref (mr 23), .ref (mr 24), .ref (mr 25), .ref (mr 26), .int st, .int pr, .int pa, .long mo, .int (nI en), .ref (mr 32), .ref (mr 33), .ref (mr 34)])], [(mr 2, dzI G 24 dp)], [(mr 3, dzI G 24 (dz_nx n sl dp nx 0))]] _ _ := hO
        exact hcut_32 _ 0 (by first | assumption | omega) (by omega) (Nat.lt_succ_self _) _ _ hO ls (lv_sub hl [0, 1, 2] rfl)
      · have nc_1 : ¬ n ≤ i := fun z9 => c_1 ((nI_leI (a := n) (b := i) (by omega) (by omega)).mpr z9)
        refine lv_aload_n X.x X.b dX3_creeps_12 rfl (lv_at hl 2 rfl) ?_
        refine dz_get (v := .ref (mr 3)) X (hO.at1 0 rfl) in_X3 rfl 3 (by decide) q2199 (Or.inl rfl) rfl dX3_creeps_13 ?_
        refine lv_iload_n X.x X.b dX3_creeps_16 rfl (lv_at hl 0 rfl) ?_
        refine lv_aload_n X.x X.b dX3_creeps_17 rfl (lv_at hl 2 rfl) ?_
        refine dz_get (v := .ref (mr 2)) X (hO.at1 0 rfl) in_X3 rfl 2 (by decide) q2198 (Or.inl rfl) rfl dX3_creeps_18 ?_
        refine lv_iload_n X.x X.b dX3_creeps_21 rfl (lv_at hl 0 rfl) ?_
        refine dz_iald X (hO.at1 1 rfl) (j := i) rfl (by omega) (by decide) dX3_creeps_22 ?_
        refine dz_iast X hO 2 rfl (j := i) rfl (by omega) (by decide) dX3_creeps_23 (fun H locs hO => ?_)
        have hO : dz_O G.1 dz_CL A s.heap [[(md, dzo 2 [.int th, .int (nI n), .ref (mr 2), .ref (mr 3), .ref (mr 4), .ref (mr 5), .ref (mr 6), .int sl, .int da, .int ho, .int dr, .int cr, .int ti, .int (nI g), .ref (mr 14), .ref (mr 15), .ref (mr 16), .int (nI pn), .ref (mr 18), .ref (mr 19), .ref (mr 20), .ref (mr 21), .int (nI sn), .ref (mr 23), .ref (mr 24), .ref (mr 25), .ref (mr 26), .int st, .int pr, .int pa, .long mo, .int (nI en), .ref (mr 32), .ref (mr 33), .ref (mr 34)])], [(mr 2, dzI G 24 dp)], [(mr 3, dzI G 24 (upd (dz_cp dp nx i) i (dp i)))]] _ _ := hO
        refine lv_iinc (v := nI (i + 1)) (lv' := [(2, .int (nI (i + 1))), (1, .int 0), (0, .ref md)]) X.x X.b dX3_creeps_24 hl (k := 0) rfl (nI_1 i) (by decide) rfl (fun ls hl => ?_)
        refine lv_goto (tgt := 4) X.x X.b dX3_creeps_27 (by decide) ?_
        have hO := hO.cong 2 rfl (w1 := [(mr 3, dzI G 24 (dz_cp dp nx (i + 1)))]) (congrArg (fun z9 => [(mr 3, dzI G 24 z9)]) (show dz_cp dp nx (i + 1) = upd (dz_cp dp nx i) i (dp i) from by exact (dz_cp_s _ _ _).symm))
        have hO : dz_O G.1 dz_CL A s.heap [[(md, dzo 2 [.int th, .int (nI n), .ref (mr 2), .ref (mr 3), .ref (mr 4), .ref (mr 5), .ref (mr 6), .int sl, .int da, .int ho, .int dr, .int cr, .int ti, .int (nI g), .ref (mr 14), .ref (mr 15), .ref (mr 16), .int (nI pn), .ref (mr 18), .ref (mr 19), .ref (mr 20), .ref (mr 21), .int (nI sn), .ref (mr 23), .ref (mr 24), .ref (mr 25), .ref (mr 26), .int st, .int pr, .int pa, .long mo, .int (nI en), .ref (mr 32), .ref (mr 33), .ref (mr 34)])], [(mr 2, dzI G 24 dp)], [(mr 3, dzI G 24 (dz_cp dp nx (i + 1)))]] _ _ := hO
        exact ih (i + 1) (by first | assumption | omega) (by omega) _ _ hO ls (lv_sub hl [0, 1, 2] rfl)
  have hl : lv_has ls 5 [(2, .int (nI 0)), (1, .int 0), (0, .ref md)] := hl
  have hO := hO.cong 2 rfl (w1 := [(mr 3, dzI G 24 (dz_cp dp nx 0))]) (congrArg (fun z9 => [(mr 3, dzI G 24 z9)]) (show dz_cp dp nx 0 = nx from by rw [dz_cp_0]))
  have hO : dz_O G.1 dz_CL A s.heap [[(md, dzo 2 [.int th, .int (nI n), .ref (mr 2), .ref (mr 3), .ref (mr 4), .ref (mr 5), .ref (mr 6), .int sl, .int da, .int ho, .int dr, .int cr, .int ti, .int (nI g), .ref (mr 14), .ref (mr 15), .ref (mr 16), .int (nI pn), .ref (mr 18), .ref (mr 19), .ref (mr 20), .ref (mr 21), .int (nI sn), .ref (mr 23), .ref (mr 24), .ref (mr 25), .ref (mr 26), .int st, .int pr, .int pa, .long mo, .int (nI en), .ref (mr 32), .ref (mr 33), .ref (mr 34)])], [(mr 2, dzI G 24 dp)], [(mr 3, dzI G 24 (dz_cp dp nx 0))]] _ _ := hO
  exact hcut_4 _ 0 (by first | assumption | omega) (Nat.lt_succ_self _) _ _ hO ls (lv_sub hl [0, 1, 2] rfl)
