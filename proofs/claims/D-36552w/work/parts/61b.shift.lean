/-! iushr by one -/
theorem vi_ushr1 {x : Int} (hx : 0 ≤ x ∧ x ≤ 2147483647) : ((Int32.ofInt x).toUInt32 >>> ((Int32.ofInt 1).toUInt32 &&& Int32.toUInt32 31)).toInt32 = Int32.ofInt (x / 2) := by
  obtain ⟨n, rfl⟩ := Int.eq_ofNat_of_zero_le hx.1
  apply Int32.toBitVec_inj.mp
  show ((Int32.ofInt (n : Int)).toUInt32 >>> ((Int32.ofInt 1).toUInt32 &&& Int32.toUInt32 31)).toBitVec = _
  rw [UInt32.toBitVec_shiftRight]
  show BitVec.ofInt 32 (n : Int) >>> (1 : BitVec 32) = BitVec.ofInt 32 ((n : Int) / 2)
  apply BitVec.eq_of_toNat_eq
  rw [show ((n : Int) / 2) = ((n / 2 : Nat) : Int) from rfl]
  rw [BitVec.ofInt_natCast, BitVec.ofInt_natCast]
  show (BitVec.ofNat 32 n >>> (1 : BitVec 32).toNat).toNat = _
  rw [BitVec.toNat_ushiftRight, BitVec.toNat_ofNat, BitVec.toNat_ofNat, Nat.mod_eq_of_lt (by omega), Nat.mod_eq_of_lt (by omega)]
  show n >>> 1 = n / 2
  exact Nat.shiftRight_eq_div_pow n 1
theorem j_iushr1 {K : KT} {y : YT} {d : Nat} {h : MH} {pc : Nat} {ls : List (Option Value)} {st : List Value} {Q : OT → MH → Prop} {x : Int} (hdg : decode y.2.1 pc = .ok (.iushr, 1)) (hx : 0 ≤ x ∧ x ≤ 2147483647) (k : MW K y d h (pc + 1) ls (vi (x / 2) :: st) Q) : MW K y d h pc ls (vi 1 :: vi x :: st) Q := m_iushr hdg (vi_ushr1 hx) k
theorem vi_shlb {x : Int} (hx : 0 ≤ x ∧ x ≤ 1000000000) : Int32.ofInt x <<< (Int32.ofInt 1 &&& 31) = Int32.ofInt (2 * x) := by
  obtain ⟨n, rfl⟩ := Int.eq_ofNat_of_zero_le hx.1
  apply Int32.toBitVec_inj.mp
  rw [Int32.toBitVec_shiftLeft]
  show BitVec.ofInt 32 (n : Int) <<< (1 : BitVec 32) = BitVec.ofInt 32 (2 * (n : Int))
  apply BitVec.eq_of_toNat_eq
  rw [show (2 * (n : Int)) = ((2 * n : Nat) : Int) from rfl]
  rw [BitVec.ofInt_natCast, BitVec.ofInt_natCast]
  show (BitVec.ofNat 32 n <<< (1 : BitVec 32).toNat).toNat = _
  rw [BitVec.toNat_shiftLeft, BitVec.toNat_ofNat, BitVec.toNat_ofNat, Nat.mod_eq_of_lt (by omega : n < 2 ^ 32)]
  show n <<< 1 % 2 ^ 32 = _
  rw [Nat.shiftLeft_eq]
  congr 1
  show n * 2 = 2 * n
  omega
theorem j_ishlb {K : KT} {y : YT} {d : Nat} {h : MH} {pc : Nat} {ls : List (Option Value)} {st : List Value} {Q : OT → MH → Prop} {x : Int} (hdg : decode y.2.1 pc = .ok (.ishl, 1)) (hx : 0 ≤ x ∧ x ≤ 1000000000) (k : MW K y d h (pc + 1) ls (vi (2 * x) :: st) Q) : MW K y d h pc ls (vi 1 :: vi x :: st) Q := m_ishl hdg (by rw [vi_shlb hx]; exact k)
