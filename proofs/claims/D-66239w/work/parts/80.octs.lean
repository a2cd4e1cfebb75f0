/-! PART 80 (src 80.octs.src): numbers out of octets -/
set_option maxHeartbeats 400000
def ub (r : Nat → Int32) (c k : Nat) : Nat := (u8 r c k).toBitVec.toNat
/-- a number out of n octets -/
def gv (r : Nat → Int32) (c k : Nat) : Nat → Nat
  | 0 => 0
  | n + 1 => gv r c k n * 256 + ub r c (k + n)
def gw (r : Nat → Int32) (c k : Nat) : Nat → Int64
  | 0 => 0
  | n + 1 => (gw r c k n <<< ((8 : Int32).toInt64 &&& 63)) ||| (u8 r c (k + n)).toInt64
theorem ub_lt (r : Nat → Int32) (c k : Nat) : ub r c k < 256 := by
  unfold ub u8
  rw [Int32.toBitVec_and, BitVec.toNat_and]
  exact Nat.lt_of_le_of_lt Nat.and_le_right (by decide)
theorem u8_ub (r : Nat → Int32) (c k : Nat) : u8 r c k = Int32.ofNat (ub r c k) := by
  apply Int32.toBitVec_inj.mp
  show _ = BitVec.ofNat 32 _
  unfold ub
  rw [BitVec.ofNat_toNat, BitVec.setWidth_eq]
theorem io_toInt64 {m : Nat} (h : m < 2147483648) : (Int32.ofNat m).toInt64 = Int64.ofNat m := by
  apply Int64.toInt_inj.mp
  rw [Int32.toInt_toInt64, io_toInt h, Int64.toInt_ofNat_of_lt (by omega)]
theorem gv_1 (r : Nat → Int32) (c k : Nat) : gv r c k 1 < 256 := by
  have := ub_lt r c k
  show 0 * 256 + ub r c (k + 0) < 256
  rw [Nat.add_zero]
  omega
theorem gv_lt (r : Nat → Int32) (c k : Nat) : ∀ n, gv r c k n < 256 ^ n
  | 0 => by
    show 0 < 256 ^ 0
    decide
  | n + 1 => by
    have h1 := gv_lt r c k n
    have h2 := ub_lt r c (k + n)
    show gv r c k n * 256 + ub r c (k + n) < 256 ^ (n + 1)
    rw [Nat.pow_succ]
    omega
theorem gw_nat (r : Nat → Int32) (c k : Nat) : ∀ n, n ≤ 8 → (gw r c k n).toBitVec.toNat = gv r c k n
  | 0, _ => rfl
  | n + 1, hn => by
    have ih := gw_nat r c k n (by omega)
    have hu := ub_lt r c (k + n)
    have hv := gv_lt r c k n
    have hp : 256 ^ n ≤ 256 ^ 7 := Nat.pow_le_pow_right (by decide) (by omega)
    have h7 : (256 : Nat) ^ 7 = 72057594037927936 := by decide
    show ((gw r c k n <<< ((8 : Int32).toInt64 &&& 63)) ||| (u8 r c (k + n)).toInt64).toBitVec.toNat = gv r c k n * 256 + ub r c (k + n)
    rw [show ((8 : Int32).toInt64 &&& 63) = (8 : Int64) from by decide, u8_ub, io_toInt64 (by omega), Int64.toBitVec_or, BitVec.toNat_or, Int64.toBitVec_shiftLeft, show BitVec.smod (8 : Int64).toBitVec 64 = 8#64 from by decide, BitVec.shiftLeft_eq', BitVec.toNat_shiftLeft, ih]
    have e1 : (Int64.ofNat (ub r c (k + n))).toBitVec.toNat = ub r c (k + n) := by
      show (BitVec.ofNat 64 (ub r c (k + n))).toNat = _
      rw [BitVec.toNat_ofNat]
      omega
    have e2 : (gv r c k n) <<< (8#64).toNat % 2 ^ 64 = gv r c k n <<< 8 := by
      show (gv r c k n) <<< 8 % 2 ^ 64 = _
      rw [Nat.shiftLeft_eq]
      omega
    rw [e1, e2, ← Nat.shiftLeft_add_eq_or_of_lt (show ub r c (k + n) < 2 ^ 8 by omega), Nat.shiftLeft_eq]
theorem sh_nat {x : Nat} (h : x < 256) {n : Nat} (hn : n ≤ 24) (y : Int32) (hy : y.toBitVec.smod 32 = BitVec.ofNat 32 n) : (Int32.ofNat x <<< y).toBitVec.toNat = x <<< n := by
  rw [Int32.toBitVec_shiftLeft, hy, BitVec.shiftLeft_eq', BitVec.toNat_shiftLeft]
  have e1 : (Int32.ofNat x).toBitVec.toNat = x := by
    show (BitVec.ofNat 32 x).toNat = x
    rw [BitVec.toNat_ofNat]
    omega
  have e2 : (BitVec.ofNat 32 n).toNat = n := by
    rw [BitVec.toNat_ofNat]
    omega
  rw [e1, e2]
  apply Nat.mod_eq_of_lt
  rw [Nat.shiftLeft_eq]
  have h2 : 2 ^ n ≤ 2 ^ 24 := Nat.pow_le_pow_right (by decide) hn
  have h3 : x * 2 ^ n ≤ 255 * 2 ^ n := Nat.mul_le_mul_right _ (by omega)
  omega
theorem ofn_nat {x : Nat} (h : x < 256) : (Int32.ofNat x).toBitVec.toNat = x := by
  show (BitVec.ofNat 32 x).toNat = x
  rw [BitVec.toNat_ofNat]
  omega
theorem n3_nat (r : Nat → Int32) (c k : Nat) : (n3 r c k).toBitVec.toNat = gv r c k 3 := by
  have h0 := ub_lt r c k
  have h1 := ub_lt r c (k + 1)
  have h2 := ub_lt r c (k + 2)
  unfold n3
  rw [u8_ub r c k, u8_ub r c (k + 1), u8_ub r c (k + 2), Int32.toBitVec_or, Int32.toBitVec_or, BitVec.toNat_or, BitVec.toNat_or, sh_nat h0 (n := 16) (by decide) _ (by decide), sh_nat h1 (n := 8) (by decide) _ (by decide), ofn_nat h2]
  have hg : gv r c k 3 = ((0 * 256 + ub r c k) * 256 + ub r c (k + 1)) * 256 + ub r c (k + 2) := rfl
  rw [hg]
  have a1 : ub r c k <<< 16 ||| ub r c (k + 1) <<< 8 = (ub r c k * 256 + ub r c (k + 1)) <<< 8 := by
    rw [← Nat.shiftLeft_add_eq_or_of_lt (show ub r c (k + 1) <<< 8 < 2 ^ 16 by rw [Nat.shiftLeft_eq]; omega), Nat.shiftLeft_eq, Nat.shiftLeft_eq, Nat.shiftLeft_eq]
    omega
  rw [a1, ← Nat.shiftLeft_add_eq_or_of_lt (show ub r c (k + 2) < 2 ^ 8 by omega), Nat.shiftLeft_eq]
  omega
theorem n4_nat (r : Nat → Int32) (c k : Nat) : (n4 r c k).toBitVec.toNat = gv r c k 4 := by
  have h0 := ub_lt r c k
  have h1 := ub_lt r c (k + 1)
  have h2 := ub_lt r c (k + 2)
  have h3 := ub_lt r c (k + 3)
  unfold n4
  rw [u8_ub r c k, u8_ub r c (k + 1), u8_ub r c (k + 2), u8_ub r c (k + 3), Int32.toBitVec_or, Int32.toBitVec_or, Int32.toBitVec_or, BitVec.toNat_or, BitVec.toNat_or, BitVec.toNat_or, sh_nat h0 (n := 24) (by decide) _ (by decide), sh_nat h1 (n := 16) (by decide) _ (by decide), sh_nat h2 (n := 8) (by decide) _ (by decide), ofn_nat h3]
  have hg : gv r c k 4 = (((0 * 256 + ub r c k) * 256 + ub r c (k + 1)) * 256 + ub r c (k + 2)) * 256 + ub r c (k + 3) := rfl
  rw [hg]
  have a1 : ub r c k <<< 24 ||| ub r c (k + 1) <<< 16 = (ub r c k * 256 + ub r c (k + 1)) <<< 16 := by
    rw [← Nat.shiftLeft_add_eq_or_of_lt (show ub r c (k + 1) <<< 16 < 2 ^ 24 by rw [Nat.shiftLeft_eq]; omega), Nat.shiftLeft_eq, Nat.shiftLeft_eq, Nat.shiftLeft_eq]
    omega
  have a2 : (ub r c k * 256 + ub r c (k + 1)) <<< 16 ||| ub r c (k + 2) <<< 8 = ((ub r c k * 256 + ub r c (k + 1)) * 256 + ub r c (k + 2)) <<< 8 := by
    rw [← Nat.shiftLeft_add_eq_or_of_lt (show ub r c (k + 2) <<< 8 < 2 ^ 16 by rw [Nat.shiftLeft_eq]; omega), Nat.shiftLeft_eq, Nat.shiftLeft_eq, Nat.shiftLeft_eq]
    omega
  rw [a1, a2, ← Nat.shiftLeft_add_eq_or_of_lt (show ub r c (k + 3) < 2 ^ 8 by omega), Nat.shiftLeft_eq]
  omega
theorem gv3_lt (r : Nat → Int32) (c k : Nat) : gv r c k 3 < 16777216 := gv_lt r c k 3
theorem n3_io (r : Nat → Int32) (c k : Nat) : n3 r c k = Int32.ofNat (gv r c k 3) := by
  apply Int32.toBitVec_inj.mp
  apply BitVec.eq_of_toNat_eq
  rw [n3_nat]
  show _ = (BitVec.ofNat 32 _).toNat
  have := gv3_lt r c k
  rw [BitVec.toNat_ofNat]
  omega
theorem nl_gv (r : Nat → Int32) (c k : Nat) : nl r c k = gv r c (k + 5) 3 := by
  have := gv3_lt r c (k + 5)
  unfold nl
  rw [n3_io, io_nat (by omega)]
theorem n3_nl (r : Nat → Int32) (c k : Nat) : n3 r c (k + 5) = Int32.ofNat (nl r c k) := by rw [nl_gv, n3_io]
theorem nl_lt (r : Nat → Int32) (c k : Nat) : nl r c k < 16777216 := by rw [nl_gv]; exact gv3_lt _ _ _
theorem gw3 (r : Nat → Int32) (c k : Nat) : (gw r c k 3).toInt32 = n3 r c k := by
  apply Int32.toBitVec_inj.mp
  apply BitVec.eq_of_toNat_eq
  have := gv3_lt r c k
  rw [n3_nat, Int64.toBitVec_toInt32, BitVec.signExtend_eq_setWidth_of_le _ (by decide), BitVec.toNat_setWidth, gw_nat r c k 3 (by decide)]
  omega
theorem gv4_lt (r : Nat → Int32) (c k : Nat) : gv r c k 4 < 4294967296 := gv_lt r c k 4
theorem gw4 (r : Nat → Int32) (c k : Nat) : (gw r c k 4).toInt32 = n4 r c k := by
  apply Int32.toBitVec_inj.mp
  apply BitVec.eq_of_toNat_eq
  have := gv4_lt r c k
  rw [n4_nat, Int64.toBitVec_toInt32, BitVec.signExtend_eq_setWidth_of_le _ (by decide), BitVec.toNat_setWidth, gw_nat r c k 4 (by decide)]
  omega
theorem sx_nat (x : BitVec 32) : (x.signExtend 64 &&& 4294967295#64) = x.setWidth 64 := by
  apply BitVec.eq_of_getLsbD_eq
  intro i hi
  rw [BitVec.getLsbD_and, BitVec.getLsbD_signExtend, BitVec.getLsbD_setWidth, show (4294967295#64) = (BitVec.allOnes 32).setWidth 64 from by decide, BitVec.getLsbD_setWidth, BitVec.getLsbD_allOnes]
  by_cases h : i < 32
  · simp [h, hi]
  · have : x.getLsbD i = false := BitVec.getLsbD_of_ge x i (by omega)
    simp [h, this]
theorem un4_nat (r : Nat → Int32) (c k : Nat) : (un4 r c k).toBitVec.toNat = gv r c k 4 := by
  have := gv4_lt r c k
  unfold un4
  rw [Int64.toBitVec_and, Int32.toBitVec_toInt64, show (4294967295 : Int64).toBitVec = 4294967295#64 from by decide, sx_nat, BitVec.toNat_setWidth, n4_nat]
  omega
theorem gw4u (r : Nat → Int32) (c k : Nat) : gw r c k 4 = un4 r c k := by
  apply Int64.toBitVec_inj.mp
  apply BitVec.eq_of_toNat_eq
  rw [un4_nat, gw_nat r c k 4 (by decide)]
theorem gv_8 (r : Nat → Int32) (c k : Nat) : gv r c k 8 = gv r c k 4 * 4294967296 + gv r c (k + 4) 4 := by
  have e1 : gv r c k 8 = (((gv r c k 4 * 256 + ub r c (k + 4)) * 256 + ub r c (k + 5)) * 256 + ub r c (k + 6)) * 256 + ub r c (k + 7) := rfl
  have e2 : gv r c (k + 4) 4 = (((0 * 256 + ub r c (k + 4 + 0)) * 256 + ub r c (k + 4 + 1)) * 256 + ub r c (k + 4 + 2)) * 256 + ub r c (k + 4 + 3) := rfl
  rw [e1, e2]
  rw [show k + 4 + 0 = k + 4 from rfl, show k + 4 + 1 = k + 5 from rfl, show k + 4 + 2 = k + 6 from rfl, show k + 4 + 3 = k + 7 from rfl]
  omega
theorem gw8 (r : Nat → Int32) (c k : Nat) : gw r c k 8 = n8 r c k := by
  apply Int64.toBitVec_inj.mp
  apply BitVec.eq_of_toNat_eq
  have h1 := gv4_lt r c k
  have h2 := gv4_lt r c (k + 4)
  unfold n8
  rw [gw_nat r c k 8 (by decide), gv_8, Int64.toBitVec_or, BitVec.toNat_or, un4_nat, Int64.toBitVec_shiftLeft, show BitVec.smod (32 : Int64).toBitVec 64 = 32#64 from by decide, BitVec.shiftLeft_eq', BitVec.toNat_shiftLeft, Int32.toBitVec_toInt64, BitVec.toNat_signExtend, BitVec.toNat_setWidth, n4_nat]
  have e : ∀ z : Nat, (z = 0 ∨ z = 2 ^ 64 - 2 ^ 32) → (gv r c k 4 % 2 ^ 64 + z) <<< (32#64).toNat % 2 ^ 64 = gv r c k 4 <<< 32 := by
    intro z hz
    show (gv r c k 4 % 2 ^ 64 + z) <<< 32 % 2 ^ 64 = _
    rw [Nat.shiftLeft_eq, Nat.shiftLeft_eq]
    rcases hz with rfl | rfl <;> omega
  rw [e _ (by split <;> simp), ← Nat.shiftLeft_add_eq_or_of_lt (show gv r c (k + 4) 4 < 2 ^ 32 by omega), Nat.shiftLeft_eq]
