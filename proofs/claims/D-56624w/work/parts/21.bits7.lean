/-! a set of bits in one word: the word of a row of 0 and 1 -/
section DZLC
variable {p : Program} {l : Launch} {e : Env} {R : Room} {s : State} {m : MethodId} {args : Array Value} {below : List Frame} {meth : Method} {c : Code} {H : Heap} {locs : List Loc} {cells slots : Nat} {Q : State → Prop} {cc : ByteArray} {pc : Nat} {ls : Array Slot} {rest : List Value}
def dz_cmpL (x y : Int64) : Int32 := if y < x then 1 else if x = y then 0 else -1
theorem dz_lcmp (hexec : p.tables.exec = Jvm.exec) (hb : c.code = cc) {x y : Int64} (hdg : decode cc pc = .ok (.lcmp, 1))
    (k : W p l e R s m args below meth c H locs cells slots Q (F0 m (pc + 1) ls (.int (dz_cmpL x y) :: rest))) : W p l e R s m args below meth c H locs cells slots Q (F0 m pc ls (.long y :: .long x :: rest)) := by
  intro T hT X
  obtain ⟨t, a, b⟩ := k T hT X
  refine ⟨t, ?_, b⟩
  jvm_step X.here [X.here.top, hexec, hb, hdg]
  unfold dz_cmpL at a
  by_cases h1 : y < x
  · rw [if_pos h1] at a ⊢; exact a
  · rw [if_neg h1] at a ⊢
    by_cases h2 : x = y
    · rw [if_pos h2] at a ⊢; exact a
    · rw [if_neg h2] at a ⊢; exact a
end DZLC
theorem dz_cmpL_0 {x y : Int64} : dz_cmpL x y = 0 ↔ x = y := by
  unfold dz_cmpL
  by_cases h1 : y < x
  · rw [if_pos h1]
    refine ⟨fun z => absurd z (by decide), fun z => ?_⟩
    subst z
    exact absurd h1 Int64.lt_irrefl
  · rw [if_neg h1]
    by_cases h2 : x = y
    · rw [if_pos h2]; exact ⟨fun _ => h2, fun _ => rfl⟩
    · rw [if_neg h2]; exact ⟨fun z => absurd z (by decide), fun z => absurd z h2⟩
/-- the word of the first k places of a row -/
def dz_wd (db : Nat → Int32) : Nat → Nat
  | 0 => 0
  | k + 1 => dz_wd db k + (if db k = 0 then 0 else 2 ^ k)
theorem dz_wd_lt (db : Nat → Int32) : ∀ k, dz_wd db k < 2 ^ k
  | 0 => by show 0 < 1; decide
  | k + 1 => by
    have := dz_wd_lt db k
    unfold dz_wd
    rw [Nat.pow_succ]
    split <;> omega
theorem dz_wd_bit (db : Nat → Int32) (i : Nat) : ∀ k, (dz_wd db k).testBit i = (decide (i < k) && !decide (db i = 0))
  | 0 => by simp [dz_wd]
  | k + 1 => by
    have hl := dz_wd_lt db k
    have ih := dz_wd_bit db i k
    unfold dz_wd
    by_cases h : db k = 0
    · rw [if_pos h, Nat.add_zero, ih]
      by_cases hik : i = k
      · subst hik; simp [h]
      · have e : decide (i < k + 1) = decide (i < k) := by
          by_cases h2 : i < k
          · simp [h2]; omega
          · simp [h2]; omega
        rw [e]
    · rw [if_neg h, Nat.add_comm]
      by_cases hik : i = k
      · subst hik
        rw [Nat.testBit_two_pow_add_eq, ih]
        simp [h]
      · by_cases h2 : i < k
        · rw [Nat.testBit_two_pow_add_gt h2, ih]
          simp [h2]; omega
        · have h3 : 2 ^ k + dz_wd db k < 2 ^ i := by
            have : 2 ^ (k + 1) ≤ 2 ^ i := Nat.pow_le_pow_right (by decide) (by omega)
            rw [Nat.pow_succ] at this
            omega
          rw [Nat.testBit_lt_two_pow h3]
          have : ¬ i < k + 1 := by omega
          simp [this]
theorem dz_wd_or {db : Nat → Int32} {i k : Nat} {v : Int32} (hi : i < k) (hv : ¬ v = 0) : dz_wd db k ||| 2 ^ i = dz_wd (upd db i v) k := by
  apply Nat.eq_of_testBit_eq
  intro j
  rw [Nat.testBit_or, dz_wd_bit, dz_wd_bit, Nat.testBit_two_pow]
  by_cases h : i = j
  · subst h
    rw [pk_us]; simp [hi, hv]
  · rw [pk_un (fun z => h z.symm)]; simp [h]
theorem dz_wd_and {db : Nat → Int32} {i k : Nat} (hi : i < k) : dz_wd db k &&& 2 ^ i = if db i = 0 then 0 else 2 ^ i := by
  apply Nat.eq_of_testBit_eq
  intro j
  rw [Nat.testBit_and, dz_wd_bit, Nat.testBit_two_pow]
  by_cases h : i = j
  · subst h
    by_cases h2 : db i = 0
    · simp [h2]
    · simp [h2, hi, Nat.testBit_two_pow]
  · by_cases h2 : db i = 0
    · simp [h2, h]
    · simp [h2, h, Nat.testBit_two_pow]
theorem dz_msk : ∀ i, i < 24 → ∀ j, j < 24 → (18446744073709551615 - 2 ^ i).testBit j = !decide (i = j) := by decide +kernel
theorem dz_wd_clr {db : Nat → Int32} {i : Nat} (hi : i < 24) : dz_wd db 24 &&& (18446744073709551615 - 2 ^ i) = dz_wd (upd db i 0) 24 := by
  apply Nat.eq_of_testBit_eq
  intro j
  rw [Nat.testBit_and, dz_wd_bit, dz_wd_bit]
  by_cases hj : j < 24
  · rw [dz_msk i hi j hj]
    by_cases h : i = j
    · subst h; rw [pk_us]; simp
    · rw [pk_un (fun z => h z.symm)]; simp [h]
  · simp [hj]
theorem dz_wd_z {db : Nat → Int32} {k : Nat} (h : dz_wd db k = 0) {i : Nat} (hi : i < k) : db i = 0 := by
  have := dz_wd_bit db i k
  rw [h] at this
  simp [hi] at this
  exact this
theorem dz_wd_z' {db : Nat → Int32} {k : Nat} (h : ∀ i, i < k → db i = 0) : dz_wd db k = 0 := by
  apply Nat.eq_of_testBit_eq
  intro j
  rw [dz_wd_bit]
  by_cases hj : j < k
  · simp [h j hj]
  · simp [hj]
def dz_wu (db : Nat → Int32) : Int32 := if dz_wd db 24 = 0 then 0 else 1
theorem dz_shr6 : ∀ n, n < 24 → nI n >>> ((6 : Int32) &&& 31) = 0 := by decide +kernel
theorem dz_1shl {i : Nat} (hi : i < 24) : (1 : Int64) <<< ((nI i).toInt64 &&& 63) = lN (2 ^ i) := by
  have h := wb_shl 1 (k := i) (by omega)
  rw [Nat.one_mul] at h
  exact h
theorem dz_not : ∀ i, i < 24 → lN (2 ^ i) ^^^ (-1) = lN (18446744073709551615 - 2 ^ i) := by decide +kernel
theorem dz_lN0 {a : Nat} (h : a < 2 ^ 63) : lN a = 0 ↔ a = 0 := by
  constructor
  · intro z
    have := congrArg Int64.toInt z
    rw [show (lN a).toInt = (a : Int) from lg_ofNat_toInt h, Int64.toInt_zero] at this
    omega
  · intro z; subst z; rfl
