/-! shorts; the creep of sand as the component counts it -/
theorem dz_i16 {v : Int32} (h : 0 ≤ v.toInt ∧ v.toInt ≤ 32767) : v.toInt16.toInt32 = v := by
  apply Int32.toInt_inj.mp
  rw [Int16.toInt_toInt32, Int32.toInt_toInt16]
  exact Int.bmod_eq_of_le (by omega) (by omega)
theorem dz_i16s {v : Int32} (h : -32768 ≤ v.toInt ∧ v.toInt ≤ 32767) : v.toInt16.toInt32 = v := by
  apply Int32.toInt_inj.mp
  rw [Int16.toInt_toInt32, Int32.toInt_toInt16]
  exact Int.bmod_eq_of_le (by omega) (by omega)
theorem dz_nar16 (v : Int32) : vp_nar .short v = v.toInt16.toInt32 := rfl
/-- depths in range -/
def dz_dr3 (n : Nat) (d : Nat → Int32) : Prop := ∀ c, c < n → 0 ≤ (d c).toInt ∧ (d c).toInt ≤ 300
def dz_slr (sl : Int32) : Prop := 1 ≤ sl.toInt ∧ sl.toInt ≤ 50
theorem dz_mv_c {sl a b : Int32} (hs : dz_slr sl) (ha : 0 ≤ a.toInt ∧ a.toInt ≤ 300) (hb : 0 ≤ b.toInt ∧ b.toInt ≤ 300) : (dz_mv sl a b = 1 ∧ sl.toInt < a.toInt - b.toInt) ∨ (dz_mv sl a b = -1 ∧ sl.toInt < b.toInt - a.toInt) ∨ (dz_mv sl a b = 0 ∧ ¬ sl.toInt < a.toInt - b.toInt ∧ ¬ sl.toInt < b.toInt - a.toInt) := by
  unfold dz_slr at hs
  have e1 : (a - b).toInt = a.toInt - b.toInt := by rw [Int32.toInt_sub]; exact Int.bmod_eq_of_le (by omega) (by omega)
  have e2 : (-(a - b)).toInt = b.toInt - a.toInt := by
    rw [Int32.toInt_neg, e1, show -(a.toInt - b.toInt) = b.toInt - a.toInt by omega]
    exact Int.bmod_eq_of_le (by omega) (by omega)
  unfold dz_mv
  by_cases h1 : sl < a - b
  · rw [if_pos h1]
    exact Or.inl ⟨rfl, by have := Int32.lt_iff_toInt_lt.mp h1; omega⟩
  · rw [if_neg h1]
    by_cases h2 : sl < -(a - b)
    · rw [if_pos h2]
      exact Or.inr (Or.inl ⟨rfl, by have := Int32.lt_iff_toInt_lt.mp h2; omega⟩)
    · rw [if_neg h2]
      refine Or.inr (Or.inr ⟨rfl, fun z => h1 (Int32.lt_iff_toInt_lt.mpr (by omega)), fun z => h2 (Int32.lt_iff_toInt_lt.mpr (by omega))⟩)
/-- what the component counts at a border -/
def dz_xm (sl l r : Int32) : Int32 := if dz_abs (l - r) ≤ sl then 0 else if r < l then -1 else 1
theorem dz_xm_mv {sl a b : Int32} (hs : dz_slr sl) (ha : 0 ≤ a.toInt ∧ a.toInt ≤ 300) (hb : 0 ≤ b.toInt ∧ b.toInt ≤ 300) : dz_xm sl a b = 0 - dz_mv sl a b := by
  have e1 : (a - b).toInt = a.toInt - b.toInt := by rw [Int32.toInt_sub]; exact Int.bmod_eq_of_le (by omega) (by omega)
  have e3 : (0 - (a - b)).toInt = b.toInt - a.toInt := by rw [Int32.toInt_sub, e1, Int32.toInt_zero]; rw [show (0 : Int) - (a.toInt - b.toInt) = b.toInt - a.toInt by omega]; exact Int.bmod_eq_of_le (by omega) (by omega)
  have hab : (dz_abs (a - b)).toInt = if b.toInt ≤ a.toInt then a.toInt - b.toInt else b.toInt - a.toInt := by
    unfold dz_abs
    by_cases h : (0 : Int32) ≤ a - b
    · rw [if_pos h, e1, if_pos (by have := Int32.le_iff_toInt_le.mp h; rw [Int32.toInt_zero] at this; omega)]
    · rw [if_neg h, e3, if_neg (fun z => h (Int32.le_iff_toInt_le.mpr (by rw [Int32.toInt_zero]; omega)))]
  have hle : dz_abs (a - b) ≤ sl ↔ (if b.toInt ≤ a.toInt then a.toInt - b.toInt else b.toInt - a.toInt) ≤ sl.toInt := by rw [Int32.le_iff_toInt_le, hab]
  have hs' := hs
  unfold dz_slr at hs'
  unfold dz_xm
  rcases dz_mv_c hs ha hb with ⟨h1, h2⟩ | ⟨h1, h2⟩ | ⟨h1, h2, h3⟩
  · rw [h1, if_neg (fun z => by have := hle.mp z; split at this <;> omega), if_pos (Int32.lt_iff_toInt_lt.mpr (by omega))]; decide
  · rw [h1, if_neg (fun z => by have := hle.mp z; split at this <;> omega), if_neg (fun z => by have := Int32.lt_iff_toInt_lt.mp z; omega)]; decide
  · rw [h1, if_pos (hle.mpr (by split <;> omega))]; decide
theorem dz_dl_r {n b : Nat} {d : Nat → Int32} (h : dz_dr3 n d) (hb : b ≤ n) : 0 ≤ (dz_dl d b).toInt ∧ (dz_dl d b).toInt ≤ 300 := by
  unfold dz_dl
  split
  · rw [Int32.toInt_zero]; omega
  · exact h (b - 1) (by omega)
theorem dz_dr_r {n b : Nat} {d : Nat → Int32} (h : dz_dr3 n d) : 0 ≤ (dz_dr n d b).toInt ∧ (dz_dr n d b).toInt ≤ 300 := by
  unfold dz_dr
  split
  · exact h b (by assumption)
  · rw [Int32.toInt_zero]; omega
/-- a day of creep keeps the range -/
theorem dz_cD_r {n : Nat} {sl : Int32} {d : Nat → Int32} (hs : dz_slr sl) (h : dz_dr3 n d) : dz_dr3 n (dz_cD n sl d) := by
  intro c hc
  have hs' := hs
  unfold dz_slr at hs'
  unfold dz_cD
  rw [if_pos hc]
  unfold dz_mvb
  have r1 := dz_dl_r h (show c ≤ n by omega)
  have r2 := dz_dr_r (n := n) (b := c) h
  have r3 := dz_dl_r h (show c + 1 ≤ n by omega)
  have r4 := dz_dr_r (n := n) (b := c + 1) h
  have e2 : dz_dr n d c = d c := by unfold dz_dr; rw [if_pos hc]
  have e3 : dz_dl d (c + 1) = d c := rfl
  have hd := h c hc
  have m1 : ((1 : Int32)).toInt = 1 := by decide
  have m2 : ((-1 : Int32)).toInt = -1 := by decide
  rcases dz_mv_c hs r1 r2 with ⟨h1, h2⟩ | ⟨h1, h2⟩ | ⟨h1, h2, -⟩ <;> rcases dz_mv_c hs r3 r4 with ⟨g1, g2⟩ | ⟨g1, g2⟩ | ⟨g1, g2, -⟩ <;> rw [h1, g1, Int32.toInt_sub, Int32.toInt_add] <;> rw [e2] at h2 <;> rw [e3] at g2 <;> simp only [m1, m2, Int32.toInt_zero] <;> rw [Int.bmod_eq_of_le (n := (d c).toInt + _) (by omega) (by omega), Int.bmod_eq_of_le (by omega) (by omega)] <;> omega
theorem dz_bi16 {v lo hi : Int32} (h : ¬ dz_bi v lo hi = 0) (hb : 0 ≤ lo.toInt ∧ hi.toInt ≤ 32767) : v.toInt16.toInt32 = v := by
  rw [dz_bi_iff] at h
  have e1 := Int32.le_iff_toInt_le.mp h.1
  have e2 := Int32.le_iff_toInt_le.mp h.2
  exact dz_i16 (by omega)
