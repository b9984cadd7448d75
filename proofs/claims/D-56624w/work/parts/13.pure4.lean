/-! surveys -/
def dz_svr (n sn : Nat) (fn tn : Nat → Nat) : Prop := ∀ s, s < sn → fn s ≤ tn s ∧ tn s < n
def dz_tl (fn tn : Nat → Nat) (s c : Nat) : Int32 := if fn s ≤ c ∧ c ≤ tn s then 1 else 0
theorem dz_tl_bi {fn tn : Nat → Nat} {s c : Nat} (h1 : fn s < 1000) (h2 : tn s < 1000) (h3 : c < 1000) : dz_bi (nI c) (nI (fn s)) (nI (tn s)) = dz_tl fn tn s c := by
  unfold dz_bi dz_tl
  simp only [nI_leI (show fn s < 2 ^ 31 by omega) (show c < 2 ^ 31 by omega), nI_leI (show c < 2 ^ 31 by omega) (show tn s < 2 ^ 31 by omega)]
theorem dz_tl01 (fn tn : Nat → Nat) (s c : Nat) : dz_tl fn tn s c = 0 ∨ dz_tl fn tn s c = 1 := by
  unfold dz_tl
  split
  · exact Or.inr rfl
  · exact Or.inl rfl
theorem dz_tl_1 {fn tn : Nat → Nat} {s c : Nat} (h : ¬ dz_tl fn tn s c = 0) : fn s ≤ c ∧ c ≤ tn s := by
  unfold dz_tl at h
  split at h
  · assumption
  · exact absurd rfl h
theorem dz_tl_0 {fn tn : Nat → Nat} {s c : Nat} (h : dz_tl fn tn s c = 0) : ¬ (fn s ≤ c ∧ c ≤ tn s) := by
  unfold dz_tl at h
  split at h
  · exact absurd h (by decide)
  · assumption
theorem dz_tl_in {fn tn : Nat → Nat} {s c : Nat} (h : fn s ≤ c ∧ c ≤ tn s) : dz_tl fn tn s c = 1 := by unfold dz_tl; rw [if_pos h]
theorem dz_tl_out {fn tn : Nat → Nat} {s c : Nat} (h : ¬ (fn s ≤ c ∧ c ≤ tn s)) : dz_tl fn tn s c = 0 := by unfold dz_tl; rw [if_neg h]
theorem dz_svr_24 {n sn : Nat} {fn tn : Nat → Nat} (h : dz_svr n sn fn tn) (hn : n ≤ 24) {s : Nat} (hs : s < sn) : fn s < 24 ∧ tn s < 24 := by
  have := h s hs
  omega
def dz_nup (f : Nat → Nat) (k v : Nat) : Nat → Nat := fun j => if j = k then v else f j
theorem dz_nup_I (f : Nat → Nat) (k v : Nat) : upd (fun j => nI (f j)) k (nI v) = fun j => nI (dz_nup f k v j) := by
  funext j
  unfold upd dz_nup
  by_cases h : j = k
  · rw [if_pos h, if_pos h]
  · rw [if_neg h, if_neg h]
/-- what a survey tells of a cell -/
def dz_tv (dp : Nat → Int32) (er : Int32) (c : Nat) : Int32 := if dp c + er < 0 then 0 else dp c + er
def dz_tw (tt dp : Nat → Int32) (er : Int32) (o a c : Nat) : Nat → Int32 := fun j => if o + a ≤ j ∧ j < o + c then dz_tv dp er (j - o) else tt j
theorem dz_tw_0 (tt dp : Nat → Int32) (er : Int32) (o a : Nat) : dz_tw tt dp er o a a = tt := by
  funext j; unfold dz_tw; rw [if_neg (by omega)]
theorem dz_tw_s (tt dp : Nat → Int32) (er : Int32) (o a c : Nat) (h : a ≤ c) : upd (dz_tw tt dp er o a c) (o + c) (dz_tv dp er c) = dz_tw tt dp er o a (c + 1) := by
  funext j
  unfold upd dz_tw
  by_cases hj : j = o + c
  · rw [if_pos hj, if_pos (by omega), hj, Nat.add_sub_cancel_left]
  · rw [if_neg hj]
    by_cases h2 : o + a ≤ j ∧ j < o + c
    · rw [if_pos h2, if_pos (by omega)]
    · rw [if_neg h2, if_neg (by omega)]
def dz_ksurvey (n sn : Nat) (a b w e : Int32) : Int32 := if dz_bi a 0 (nI n - 1) = 0 ∨ dz_bi b 0 (nI n - 1) = 0 then 1 else if b < a ∨ dz_bi w 1 9 = 0 ∨ dz_bi e (-9) 9 = 0 then 2 else if sn = 12 then 3 else 0
def dz_ktold (n sn : Nat) (fn tn : Nat → Nat) (s c : Int32) : Int32 := if dz_bi s 0 (nI sn - 1) = 0 ∨ dz_bi c 0 (nI n - 1) = 0 then 1 else if dz_tl fn tn s.toNatClampNeg c.toNatClampNeg = 0 then 2 else 0
/-- the bed: sum, trusts and number of the (at most three) latest surveys that tell -/
def dz_bs (fn tn : Nat → Nat) (tt sw : Nat → Int32) (c : Nat) : Nat → Int32 → Int32 → Nat → Int32 × Int32 × Nat
  | 0, su, tr, m => (su, tr, m)
  | s + 1, su, tr, m => if m < 3 then (if dz_tl fn tn s c = 0 then dz_bs fn tn tt sw c s su tr m else dz_bs fn tn tt sw c s (su + tt (24 * s + c) * sw s) (tr + sw s) (m + 1)) else (su, tr, m)
theorem dz_bs_f {fn tn : Nat → Nat} {tt sw : Nat → Int32} {c m : Nat} (h : ¬ m < 3) (s : Nat) (su tr : Int32) : dz_bs fn tn tt sw c s su tr m = (su, tr, m) := by
  cases s with
  | zero => rfl
  | succ s => unfold dz_bs; rw [if_neg h]
theorem dz_bs_n {fn tn : Nat → Nat} {tt sw : Nat → Int32} {c m s : Nat} (h : m < 3) (h2 : dz_tl fn tn s c = 0) (su tr : Int32) : dz_bs fn tn tt sw c (s + 1) su tr m = dz_bs fn tn tt sw c s su tr m := by
  conv => lhs; unfold dz_bs
  rw [if_pos h, if_pos h2]
theorem dz_bs_y {fn tn : Nat → Nat} {tt sw : Nat → Int32} {c m s : Nat} (h : m < 3) (h2 : ¬ dz_tl fn tn s c = 0) (su tr : Int32) : dz_bs fn tn tt sw c (s + 1) su tr m = dz_bs fn tn tt sw c s (su + tt (24 * s + c) * sw s) (tr + sw s) (m + 1) := by
  conv => lhs; unfold dz_bs
  rw [if_pos h, if_neg h2]
def dz_bd (fn tn : Nat → Nat) (tt sw : Nat → Int32) (sn c : Nat) : Int32 := if (dz_bs fn tn tt sw c sn 0 0 0).2.2 = 0 then -1 else (dz_bs fn tn tt sw c sn 0 0 0).1 / (dz_bs fn tn tt sw c sn 0 0 0).2.1
/-- trusts in range -/
def dz_swr (sw : Nat → Int32) (sn : Nat) : Prop := ∀ s, s < sn → 1 ≤ sw s ∧ sw s ≤ 9
def dz_trr (tr : Int32) (m : Nat) : Prop := (m : Int) ≤ tr.toInt ∧ tr.toInt ≤ 9 * (m : Int)
theorem dz_trr_0 : dz_trr 0 0 := by unfold dz_trr; decide
theorem dz_trr_s {tr w : Int32} {m : Nat} (h : dz_trr tr m) (hm : m < 3) (hw : 1 ≤ w ∧ w ≤ 9) : dz_trr (tr + w) (m + 1) := by
  unfold dz_trr at *
  have e1 := Int32.le_iff_toInt_le.mp hw.1
  have e2 := Int32.le_iff_toInt_le.mp hw.2
  rw [show (1 : Int32).toInt = 1 by decide] at e1
  rw [show (9 : Int32).toInt = 9 by decide] at e2
  rw [Int32.toInt_add, Int.bmod_eq_of_le (by omega) (by omega)]
  omega
theorem dz_trr_ne {tr : Int32} {m : Nat} (h : dz_trr tr m) (hm : ¬ m = 0) : ¬ tr = 0 := by
  intro z
  unfold dz_trr at h
  rw [z, Int32.toInt_zero] at h
  omega
theorem dz_km1 {k : Nat} (hk : k < 1000) : (nI k - 1 : Int32) < 0 ↔ k = 0 := by
  rw [Int32.lt_iff_toInt_lt, dz_nm1 (by omega), Int32.toInt_zero]
  omega
def dz_kbed (n : Nat) (c bd : Int32) : Int32 := if dz_bi c 0 (nI n - 1) = 0 then 1 else if bd = -1 then 2 else 0
def dz_k2s (sn : Nat) (s o : Int32) : Int32 := if dz_bi s 0 (nI sn - 1) = 0 ∨ dz_bi o 0 (nI sn - 1) = 0 then 1 else 0
/-- what lies between two surveys, over the cells -/
def dz_bw (fn tn : Nat → Nat) (tt : Nat → Int32) (s o : Nat) : Nat → Int32
  | 0 => 0
  | c + 1 => dz_bw fn tn tt s o c + (if ¬ dz_tl fn tn s c = 0 ∧ ¬ dz_tl fn tn o c = 0 then tt (24 * o + c) - tt (24 * s + c) else 0)
theorem dz_bw_1 {fn tn : Nat → Nat} {tt : Nat → Int32} {s o c : Nat} (h1 : ¬ dz_tl fn tn s c = 0) (h2 : ¬ dz_tl fn tn o c = 0) : dz_bw fn tn tt s o (c + 1) = dz_bw fn tn tt s o c + (tt (24 * o + c) - tt (24 * s + c)) := by
  conv => lhs; unfold dz_bw
  rw [if_pos ⟨h1, h2⟩]
theorem dz_bw_a {fn tn : Nat → Nat} {tt : Nat → Int32} {s o c : Nat} (h1 : dz_tl fn tn s c = 0) : dz_bw fn tn tt s o (c + 1) = dz_bw fn tn tt s o c + 0 := by
  conv => lhs; unfold dz_bw
  rw [if_neg (fun z => z.1 h1)]
theorem dz_bw_b {fn tn : Nat → Nat} {tt : Nat → Int32} {s o c : Nat} (h1 : dz_tl fn tn o c = 0) : dz_bw fn tn tt s o (c + 1) = dz_bw fn tn tt s o c + 0 := by
  conv => lhs; unfold dz_bw
  rw [if_neg (fun z => z.2 h1)]
/-! pay -/
def dz_ksettle (sn : Nat) (st s : Int32) : Int32 := if dz_bi s 0 (nI sn - 1) = 0 then 1 else if s ≤ st then 2 else 0
/-- what is paid more for a cell -/
def dz_mo (fn tn : Nat → Nat) (tt lm pd db : Nat → Int32) (s c : Nat) : Int32 := if ¬ dz_tl fn tn s c = 0 ∧ db c = 0 ∧ pd c < dz_min (tt (24 * s + c)) (lm c) then dz_min (tt (24 * s + c)) (lm c) - pd c else 0
def dz_ss (f : Nat → Int32) : Nat → Int32
  | 0 => 0
  | c + 1 => dz_ss f c + f c
def dz_sp (pd f : Nat → Int32) (k : Nat) : Nat → Int32 := fun c => if c < k then pd c + f c else pd c
theorem dz_ss_z {f : Nat → Int32} : ∀ {k : Nat}, (∀ c, c < k → f c = 0) → dz_ss f k = 0
  | 0, _ => rfl
  | k + 1, h => by
    unfold dz_ss
    rw [dz_ss_z (k := k) (fun c hc => h c (by omega)), h k (by omega)]; rfl
theorem dz_ss_hi {f : Nat → Int32} {k : Nat} : ∀ {j : Nat}, (∀ c, k ≤ c → f c = 0) → dz_ss f (k + j) = dz_ss f k
  | 0, _ => rfl
  | j + 1, h => by
    show dz_ss f (k + j) + f (k + j) = _
    rw [dz_ss_hi (j := j) h, h (k + j) (by omega), Int32.add_zero]
theorem dz_sp_z {pd f : Nat → Int32} {k : Nat} (h : ∀ c, c < k → f c = 0) : dz_sp pd f k = pd := by
  funext c
  unfold dz_sp
  split
  · rename_i hc; rw [h c hc, Int32.add_zero]
  · rfl
theorem dz_sp_hi {pd f : Nat → Int32} {k m : Nat} (hkm : k ≤ m) (h : ∀ c, k ≤ c → f c = 0) : dz_sp pd f m = dz_sp pd f k := by
  funext c
  unfold dz_sp
  by_cases h1 : c < k
  · rw [if_pos h1, if_pos (by omega)]
  · rw [if_neg h1]
    split
    · rw [h c (by omega), Int32.add_zero]
    · rfl
theorem dz_sp_at (pd f : Nat → Int32) (k : Nat) : dz_sp pd f k k = pd k := by unfold dz_sp; rw [if_neg (Nat.lt_irrefl k)]
theorem dz_sp_n {pd f : Nat → Int32} {k : Nat} (h : f k = 0) : dz_sp pd f (k + 1) = dz_sp pd f k := by
  funext c
  unfold dz_sp
  by_cases h1 : c < k
  · rw [if_pos h1, if_pos (by omega)]
  · rw [if_neg h1]
    split
    · rw [show c = k by omega, h, Int32.add_zero]
    · rfl
theorem dz_sp_y {pd f : Nat → Int32} {k : Nat} {v : Int32} (h : pd k + f k = v) : upd (dz_sp pd f k) k v = dz_sp pd f (k + 1) := by
  funext c
  unfold upd dz_sp
  by_cases h1 : c = k
  · rw [if_pos h1, if_pos (by omega), h1, h]
  · rw [if_neg h1]
    by_cases h2 : c < k
    · rw [if_pos h2, if_pos (by omega)]
    · rw [if_neg h2, if_neg (by omega)]
theorem dz_mo_out {fn tn : Nat → Nat} {tt lm pd db : Nat → Int32} {s c : Nat} (h : ¬ (fn s ≤ c ∧ c ≤ tn s)) : dz_mo fn tn tt lm pd db s c = 0 := by
  unfold dz_mo
  rw [if_neg (fun z => z.1 (dz_tl_out h))]
theorem dz_mo_d {fn tn : Nat → Nat} {tt lm pd db : Nat → Int32} {s c : Nat} (h : ¬ db c = 0) : dz_mo fn tn tt lm pd db s c = 0 := by
  unfold dz_mo
  rw [if_neg (fun z => h z.2.1)]
theorem dz_mo_p {fn tn : Nat → Nat} {tt lm pd db : Nat → Int32} {s c : Nat} (h : dz_min (tt (24 * s + c)) (lm c) ≤ pd c) : dz_mo fn tn tt lm pd db s c = 0 := by
  unfold dz_mo
  rw [if_neg (fun z => Int32.not_lt.mpr h z.2.2)]
theorem dz_mo_y {fn tn : Nat → Nat} {tt lm pd db : Nat → Int32} {s c : Nat} (h1 : fn s ≤ c ∧ c ≤ tn s) (h2 : db c = 0) (h3 : ¬ dz_min (tt (24 * s + c)) (lm c) ≤ pd c) : dz_mo fn tn tt lm pd db s c = dz_min (tt (24 * s + c)) (lm c) - pd c := by
  unfold dz_mo
  rw [if_pos ⟨by rw [dz_tl_in h1]; decide, h2, Int32.not_le.mp h3⟩]
/-- how many cells are disputed -/
def dz_nq (db : Nat → Int32) : Nat → Nat
  | 0 => 0
  | c + 1 => dz_nq db c + (if db c = 0 then 0 else 1)
theorem dz_nq_1 {db : Nat → Int32} {c : Nat} (h : ¬ db c = 0) : dz_nq db (c + 1) = dz_nq db c + 1 := by
  conv => lhs; unfold dz_nq
  rw [if_neg h]
theorem dz_nq_0 {db : Nat → Int32} {c : Nat} (h : db c = 0) : dz_nq db (c + 1) = dz_nq db c + 0 := by
  conv => lhs; unfold dz_nq
  rw [if_pos h]
def dz_kdispute (n : Nat) (c : Int32) (db : Nat → Int32) : Int32 := if dz_bi c 0 (nI n - 1) = 0 then 1 else if db c.toNatClampNeg = 0 then 0 else 2
def dz_kresolve (n : Nat) (c : Int32) (db : Nat → Int32) : Int32 := if dz_bi c 0 (nI n - 1) = 0 then 1 else if db c.toNatClampNeg = 0 then 2 else 0
def dz_kentry (en : Nat) (r : Int32) : Int32 := if dz_bi r 0 (nI en - 1) = 0 then 1 else 0
/-- cells with a bed; those done -/
def dz_nb (bd : Nat → Int32) : Nat → Nat
  | 0 => 0
  | c + 1 => dz_nb bd c + (if bd c = -1 then 0 else 1)
def dz_nd (bd lm : Nat → Int32) : Nat → Nat
  | 0 => 0
  | c + 1 => dz_nd bd lm c + (if ¬ bd c = -1 ∧ lm c ≤ bd c then 1 else 0)
theorem dz_nb_1 {bd : Nat → Int32} {c : Nat} (h : ¬ bd c = -1) : dz_nb bd (c + 1) = dz_nb bd c + 1 := by
  conv => lhs; unfold dz_nb
  rw [if_neg h]
theorem dz_nb_0 {bd : Nat → Int32} {c : Nat} (h : bd c = -1) : dz_nb bd (c + 1) = dz_nb bd c + 0 := by
  conv => lhs; unfold dz_nb
  rw [if_pos h]
theorem dz_nd_1 {bd lm : Nat → Int32} {c : Nat} (h : ¬ bd c = -1) (h2 : lm c ≤ bd c) : dz_nd bd lm (c + 1) = dz_nd bd lm c + 1 := by
  conv => lhs; unfold dz_nd
  rw [if_pos ⟨h, h2⟩]
theorem dz_nd_a {bd lm : Nat → Int32} {c : Nat} (h : bd c = -1) : dz_nd bd lm (c + 1) = dz_nd bd lm c + 0 := by
  conv => lhs; unfold dz_nd
  rw [if_neg (fun z => z.1 h)]
theorem dz_nd_b {bd lm : Nat → Int32} {c : Nat} (h : bd c < lm c) : dz_nd bd lm (c + 1) = dz_nd bd lm c + 0 := by
  conv => lhs; unfold dz_nd
  rw [if_neg (fun z => Int32.not_lt.mpr z.2 h)]
theorem dz_nb_le (bd : Nat → Int32) : ∀ c, dz_nb bd c ≤ c
  | 0 => Nat.le_refl 0
  | c + 1 => by
    have := dz_nb_le bd c
    unfold dz_nb
    split <;> omega
theorem dz_nd_le (bd lm : Nat → Int32) : ∀ c, dz_nd bd lm c ≤ c
  | 0 => Nat.le_refl 0
  | c + 1 => by
    have := dz_nd_le bd lm c
    unfold dz_nd
    split <;> omega
def dz_fq (a b : Nat) : UInt32 := FP.fdiv (FP.i2f (nI a)) (FP.i2f (nI b))
def dz_fcheck : Bool := (List.range 25).all fun a => (List.range 25).all fun b => b == 0 || (dz_fq a b &&& 0x7fffffff ≤ 0x7f800000 && FP.f2d (dz_fq a b) &&& 0x7fffffffffffffff ≤ 0x7ff0000000000000)
theorem dz_fcheck_ok : dz_fcheck = true := by decide +kernel
theorem dz_fq_ok {a b : Nat} (ha : a < 25) (hb : b < 25) (hb0 : ¬ b = 0) : vf_n32 (dz_fq a b) ∧ vf_n64 (FP.f2d (dz_fq a b)) := by
  have h := dz_fcheck_ok
  unfold dz_fcheck at h
  rw [List.all_eq_true] at h
  have h1 := h a (List.mem_range.mpr ha)
  rw [List.all_eq_true] at h1
  have h2 := h1 b (List.mem_range.mpr hb)
  rw [Bool.or_eq_true] at h2
  rcases h2 with h2 | h2
  · exact absurd (by simpa using h2) hb0
  · rw [Bool.and_eq_true] at h2
    exact ⟨(of_decide_eq_true h2.1 : dz_fq a b &&& 0x7fffffff ≤ 0x7f800000), (of_decide_eq_true h2.2 : FP.f2d (dz_fq a b) &&& 0x7fffffffffffffff ≤ 0x7ff0000000000000)⟩
/-! a quotient of two doubles that is no NaN -/
theorem dz_settle64 (s : Bool) (c : Nat) (q : Int) : (∃ c1 q1, FP.Core.settle FP.Core.b64 s c q = .fin s c1 q1 ∧ c1 < 2 ^ 53 ∧ q1 ≤ 971) ∨ FP.Core.settle FP.Core.b64 s c q = .inf s := by
  unfold FP.Core.settle FP.Core.bound
  have hq : FP.Core.b64.qmax = 971 := by decide
  rw [hq]
  split
  · rename_i h
    split
    · rename_i h2; exact Or.inl ⟨c, q, rfl, h, h2⟩
    · exact Or.inr rfl
  · split
    · rename_i h2; exact Or.inl ⟨_, _, rfl, by decide, h2⟩
    · exact Or.inr rfl
theorem dz_asm64 (s : Bool) (e t : Nat) (h : e * 2 ^ 52 + t ≤ 2047 * 2 ^ 52) : vf_n64 (UInt64.ofNat (FP.Core.assemble FP.Core.b64 s e t)) := by
  unfold vf_n64 FP.Core.assemble
  rw [show FP.Core.b64.exps = 2048 by decide, show FP.Core.b64.tails = 2 ^ 52 by decide, UInt64.le_iff_toNat_le, UInt64.toNat_and, show (0x7fffffffffffffff : UInt64).toNat = 2 ^ 63 - 1 by decide, Nat.and_two_pow_sub_one_eq_mod, show (0x7ff0000000000000 : UInt64).toNat = 2047 * 2 ^ 52 by decide]
  have hs : s.toNat ≤ 1 := by cases s <;> decide
  have e2 : (s.toNat * 2048 + e) * 2 ^ 52 + t = s.toNat * 2 ^ 63 + (e * 2 ^ 52 + t) := by omega
  rw [e2, UInt64.toNat_ofNat']
  have h3 : s.toNat * 2 ^ 63 + (e * 2 ^ 52 + t) < 2 ^ 64 := by omega
  have h4 : (s.toNat * 2 ^ 63 + (e * 2 ^ 52 + t)) % 2 ^ 64 % 2 ^ 63 = e * 2 ^ 52 + t := by omega
  rw [h4]
  exact h
theorem dz_enc64 (s : Bool) (num den : Nat) (e : Int) : vf_n64 (UInt64.ofNat (FP.Core.encode FP.Core.b64 (FP.Core.roundRatio FP.Core.b64 s num den e))) := by
  unfold FP.Core.roundRatio
  split
  · unfold FP.Core.encode
    simp only []
    rw [if_pos (by decide)]
    exact dz_asm64 s 0 0 (by decide)
  · unfold FP.Core.roundAt
    rcases dz_settle64 s (FP.Core.nearest (FP.Core.unitsNum num e (FP.Core.quantum FP.Core.b64 num den e)) (FP.Core.unitsDen den e (FP.Core.quantum FP.Core.b64 num den e))) (FP.Core.quantum FP.Core.b64 num den e) with ⟨c1, q1, h, hc, hq⟩ | h
    · rw [h]
      unfold FP.Core.encode
      simp only []
      split
      · rename_i h2
        refine dz_asm64 s 0 c1 ?_
        rw [show FP.Core.b64.tails = 2 ^ 52 by decide] at h2
        omega
      · rename_i h2
        refine dz_asm64 s _ _ ?_
        rw [show FP.Core.b64.tails = 2 ^ 52 by decide] at *
        rw [show FP.Core.b64.qmin = -1074 by decide]
        omega
    · rw [h]
      unfold FP.Core.encode
      exact dz_asm64 s _ _ (by decide)
def dz_isfin (n : Nat) (z : Bool) : Bool := match FP.Core.decode FP.Core.b64 n with
  | .fin _ c _ => z || c != 0
  | _ => false
def dz_dcheck : Bool := ((List.range 7201).all fun a => dz_isfin (FP.i2d (nI a)).toNat true) && ((List.range 25).all fun b => b == 0 || dz_isfin (FP.i2d (nI b)).toNat false)
theorem dz_dcheck_ok : dz_dcheck = true := by decide +kernel
def dz_dq (a b : Nat) : UInt64 := FP.ddiv (FP.i2d (nI a)) (FP.i2d (nI b))
theorem dz_dq_ok {a b : Nat} (ha : a ≤ 7200) (hb : b < 25) (hb0 : ¬ b = 0) : vf_n64 (dz_dq a b) := by
  have h := dz_dcheck_ok
  unfold dz_dcheck at h
  rw [Bool.and_eq_true, List.all_eq_true, List.all_eq_true] at h
  have h1 := h.1 a (List.mem_range.mpr (by omega))
  have h2 := h.2 b (List.mem_range.mpr hb)
  rw [Bool.or_eq_true] at h2
  rcases h2 with h2 | h2
  · exact absurd (by simpa using h2) hb0
  · unfold dz_isfin at h1 h2
    unfold dz_dq FP.ddiv FP.Core.ddiv FP.Core.div
    split at h1
    · rename_i s c q e1
      split at h2
      · rename_i t d r e2
        rw [e1, e2]
        unfold FP.Core.quotient
        simp only []
        have hd : ¬ d = 0 := by simpa using h2
        rw [if_neg hd]
        exact dz_enc64 _ _ _ _
      · exact absurd h2 (by decide)
    · exact absurd h1 (by decide)
