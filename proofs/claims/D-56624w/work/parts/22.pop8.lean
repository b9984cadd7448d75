/-! how many bits a word of three bytes has: what Long.bitCount computes -/
theorem dz_and8 (a b x y : Nat) (ha : a < 256) (hx : x < 256) : (a + 256 * b) &&& (x + 256 * y) = (a &&& x) + 256 * (b &&& y) := by
  have h1 : ((a + 256 * b) &&& (x + 256 * y)) % 2 ^ 8 = a &&& x := by
    rw [Nat.and_mod_two_pow, show (a + 256 * b) % 2 ^ 8 = a by omega, show (x + 256 * y) % 2 ^ 8 = x by omega]
  have h2 : ((a + 256 * b) &&& (x + 256 * y)) / 2 ^ 8 = b &&& y := by
    rw [Nat.and_div_two_pow, show (a + 256 * b) / 2 ^ 8 = b by omega, show (x + 256 * y) / 2 ^ 8 = y by omega]
  omega
theorem dz_and24 {a b c : Nat} (k : Nat) (hk : k < 256) (M : Nat) (ha : a < 256) (hb : b < 256) (hc : c < 256) : (a + 256 * (b + 256 * c)) &&& (k + 256 * (k + 256 * (k + 256 * M))) = (a &&& k) + 256 * ((b &&& k) + 256 * (c &&& k)) := by
  rw [dz_and8 _ _ _ _ ha hk, dz_and8 _ _ _ _ hb hk]
  have h := dz_and8 c 0 k M hc hk
  rw [Nat.mul_zero, Nat.add_zero, Nat.zero_and, Nat.mul_zero, Nat.add_zero] at h
  rw [h]
def dz_p1 (a : Nat) : Nat := a - (a / 2 &&& 0x55)
def dz_p2 (a : Nat) : Nat := (dz_p1 a &&& 0x33) + (dz_p1 a / 4 &&& 0x33)
def dz_p3 (a : Nat) : Nat := (dz_p2 a + dz_p2 a / 16) &&& 0x0f
theorem dz_b1 : ∀ a, a < 256 → ∀ z, z < 2 → (a / 2 + 128 * z &&& 0x55) = (a / 2 &&& 0x55) ∧ (a / 2 &&& 0x55) ≤ a := by decide +kernel
theorem dz_b2 : ∀ a, a < 256 → ∀ z, z < 4 → (a / 4 + 64 * z &&& 0x33) = (a / 4 &&& 0x33) := by decide +kernel
theorem dz_b3 : ∀ a, a < 256 → ∀ z, z < 5 → ((dz_p2 a + dz_p2 a / 16 + 16 * z) &&& 0x0f) = dz_p3 a ∧ dz_p2 a % 16 < 5 ∧ dz_p2 a < 70 ∧ dz_p1 a < 256 ∧ dz_p3 a ≤ 8 := by decide +kernel
def dz_s1 (w : Nat) : Nat := w - (w / 2 &&& 0x5555555555555555)
def dz_s2 (w : Nat) : Nat := (dz_s1 w &&& 0x3333333333333333) + (dz_s1 w / 4 &&& 0x3333333333333333)
def dz_s3 (w : Nat) : Nat := (dz_s2 w + dz_s2 w / 16) &&& 0x0f0f0f0f0f0f0f0f
theorem dz_s1b {a b c : Nat} (ha : a < 256) (hb : b < 256) (hc : c < 256) : dz_s1 (a + 256 * (b + 256 * c)) = dz_p1 a + 256 * (dz_p1 b + 256 * dz_p1 c) := by
  unfold dz_s1 dz_p1
  have e : (a + 256 * (b + 256 * c)) / 2 = (a / 2 + 128 * (b % 2)) + 256 * ((b / 2 + 128 * (c % 2)) + 256 * (c / 2 + 128 * 0)) := by omega
  rw [e, show (0x5555555555555555 : Nat) = 0x55 + 256 * (0x55 + 256 * (0x55 + 256 * 0x5555555555)) by decide, dz_and24 0x55 (by decide) _ (by omega) (by omega) (by omega)]
  have h1 := dz_b1 a ha (b % 2) (by omega)
  have h2 := dz_b1 b hb (c % 2) (by omega)
  have h3 := dz_b1 c hc 0 (by omega)
  rw [h1.1, h2.1, h3.1]
  have g1 := h1.2
  have g2 := h2.2
  have g3 := h3.2
  omega
theorem dz_s2b {a b c : Nat} (ha : a < 256) (hb : b < 256) (hc : c < 256) : dz_s2 (a + 256 * (b + 256 * c)) = dz_p2 a + 256 * (dz_p2 b + 256 * dz_p2 c) := by
  unfold dz_s2
  rw [dz_s1b ha hb hc]
  have ga := (dz_b3 a ha 0 (by omega)).2.2.2.1
  have gb := (dz_b3 b hb 0 (by omega)).2.2.2.1
  have gc := (dz_b3 c hc 0 (by omega)).2.2.2.1
  have e : (dz_p1 a + 256 * (dz_p1 b + 256 * dz_p1 c)) / 4 = (dz_p1 a / 4 + 64 * (dz_p1 b % 4)) + 256 * ((dz_p1 b / 4 + 64 * (dz_p1 c % 4)) + 256 * (dz_p1 c / 4 + 64 * 0)) := by omega
  rw [e, show (0x3333333333333333 : Nat) = 0x33 + 256 * (0x33 + 256 * (0x33 + 256 * 0x3333333333)) by decide, dz_and24 0x33 (by decide) _ ga gb gc, dz_and24 0x33 (by decide) _ (by omega) (by omega) (by omega), dz_b2 _ ga _ (by omega), dz_b2 _ gb _ (by omega), dz_b2 _ gc 0 (by omega)]
  unfold dz_p2
  omega
theorem dz_s3b {a b c : Nat} (ha : a < 256) (hb : b < 256) (hc : c < 256) : dz_s3 (a + 256 * (b + 256 * c)) = dz_p3 a + 256 * (dz_p3 b + 256 * dz_p3 c) := by
  unfold dz_s3
  rw [dz_s2b ha hb hc]
  have za := dz_b3 a ha 0 (by omega)
  have zb := dz_b3 b hb 0 (by omega)
  have zc := dz_b3 c hc 0 (by omega)
  have ga := za.2.2.1
  have gb := zb.2.2.1
  have gc := zc.2.2.1
  have ya := dz_b3 a ha (dz_p2 b % 16) zb.2.1
  have yb := dz_b3 b hb (dz_p2 c % 16) zc.2.1
  have kb := zb.2.1
  have kc := zc.2.1
  have e : dz_p2 a + 256 * (dz_p2 b + 256 * dz_p2 c) + (dz_p2 a + 256 * (dz_p2 b + 256 * dz_p2 c)) / 16 = (dz_p2 a + dz_p2 a / 16 + 16 * (dz_p2 b % 16)) + 256 * ((dz_p2 b + dz_p2 b / 16 + 16 * (dz_p2 c % 16)) + 256 * (dz_p2 c + dz_p2 c / 16 + 16 * 0)) := by omega
  rw [e, show (0x0f0f0f0f0f0f0f0f : Nat) = 0x0f + 256 * (0x0f + 256 * (0x0f + 256 * 0x0f0f0f0f0f)) by decide, dz_and24 0x0f (by decide) _ (by omega) (by omega) (by omega), ya.1, yb.1, zc.1]
/-- the bits below k -/
def dz_pc (w : Nat) : Nat → Nat
  | 0 => 0
  | k + 1 => dz_pc w k + (w.testBit k).toNat
theorem dz_b4 : ∀ a, a < 256 → dz_p3 a = dz_pc a 8 := by decide +kernel
theorem dz_pc_wd (db : Nat → Int32) (n : Nat) : ∀ k, k ≤ n → dz_pc (dz_wd db n) k = dz_nq db k
  | 0, _ => rfl
  | k + 1, h => by
    unfold dz_pc dz_nq
    rw [dz_pc_wd db n k (by omega), dz_wd_bit]
    by_cases h0 : db k = 0
    · simp [h0]
    · have : k < n := by omega
      simp [h0, this]
theorem dz_pc_app (w j : Nat) : ∀ k, dz_pc w (j + k) = dz_pc w j + dz_pc (w / 2 ^ j) k
  | 0 => rfl
  | k + 1 => by
    show dz_pc w (j + k) + (w.testBit (j + k)).toNat = _
    rw [dz_pc_app w j k]
    show _ = dz_pc w j + (dz_pc (w / 2 ^ j) k + ((w / 2 ^ j).testBit k).toNat)
    rw [Nat.testBit_div_two_pow, Nat.add_comm k j]
    omega
theorem dz_pc_mod (w j : Nat) : ∀ k, k ≤ j → dz_pc (w % 2 ^ j) k = dz_pc w k
  | 0, _ => rfl
  | k + 1, h => by
    unfold dz_pc
    rw [dz_pc_mod w j k (by omega), Nat.testBit_mod_two_pow]
    have : k < j := by omega
    simp [this]
theorem dz_pop {w : Nat} (h : w < 2 ^ 24) : ∃ x, dz_s3 w + dz_s3 w / 256 + (dz_s3 w + dz_s3 w / 256) / 65536 = dz_pc w 24 + 256 * x ∧ dz_s3 w ≤ 8 + 256 * (8 + 256 * 8) ∧ dz_pc w 24 ≤ 24 := by
  have e : w = w % 256 + 256 * (w / 256 % 256 + 256 * (w / 65536)) := by omega
  have ha : w % 256 < 256 := by omega
  have hb : w / 256 % 256 < 256 := by omega
  have hc : w / 65536 < 256 := by omega
  have h3 := dz_s3b ha hb hc
  rw [← e] at h3
  have ba := (dz_b3 _ ha 0 (by omega)).2.2.2.2
  have bb := (dz_b3 _ hb 0 (by omega)).2.2.2.2
  have bc := (dz_b3 _ hc 0 (by omega)).2.2.2.2
  have p : dz_pc w 24 = dz_p3 (w % 256) + dz_p3 (w / 256 % 256) + dz_p3 (w / 65536) := by
    rw [dz_b4 _ ha, dz_b4 _ hb, dz_b4 _ hc]
    have q1 : dz_pc w 24 = dz_pc w 8 + dz_pc (w / 2 ^ 8) 16 := dz_pc_app w 8 16
    have q2 : dz_pc (w / 2 ^ 8) 16 = dz_pc (w / 2 ^ 8) 8 + dz_pc (w / 2 ^ 8 / 2 ^ 8) 8 := dz_pc_app (w / 2 ^ 8) 8 8
    have m1 := dz_pc_mod w 8 8 (Nat.le_refl 8)
    have m2 := dz_pc_mod (w / 2 ^ 8) 8 8 (Nat.le_refl 8)
    rw [show w / 2 ^ 8 / 2 ^ 8 = w / 65536 by omega] at q2
    rw [show (2 : Nat) ^ 8 = 256 by decide] at *
    omega
  refine ⟨dz_p3 (w / 256 % 256) + dz_p3 (w / 65536) + 256 * dz_p3 (w / 65536), ?_, by omega, by omega⟩
  rw [h3, p]
  omega
