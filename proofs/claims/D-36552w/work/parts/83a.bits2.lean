/-! bits counted: Long.bitCount, numberOfTrailingZeros, BitSet.cardinality, nextSetBit -/
def nn (x : Int64) : Nat := x.toBitVec.toNat
def ush (x : Int64) (k : Nat) : Int64 := (x.toUInt64 >>> UInt64.ofNat k).toInt64
def l2iT (x : Int64) : Int := x.toInt32.toInt
theorem nn_lt (x : Int64) : nn x < 2 ^ 64 := x.toBitVec.isLt
theorem nn_and (x y : Int64) : nn (x &&& y) = nn x &&& nn y := by
  unfold nn; rw [Int64.toBitVec_and, BitVec.toNat_and]
theorem nn_add (x y : Int64) (h : nn x + nn y < 2 ^ 64) : nn (x + y) = nn x + nn y := by
  unfold nn at *
  rw [Int64.toBitVec_add, BitVec.toNat_add, Nat.mod_eq_of_lt h]
theorem nn_sub (x y : Int64) (h : nn y ≤ nn x) : nn (x - y) = nn x - nn y := by
  have hx := nn_lt x
  have hy := nn_lt y
  unfold nn at *
  rw [Int64.toBitVec_sub, BitVec.toNat_sub]
  omega
theorem nn_ush (x : Int64) (k : Nat) (hk : k < 64) : nn (ush x k) = nn x / 2 ^ k := by
  show (x.toUInt64 >>> UInt64.ofNat k).toNat = x.toUInt64.toNat / 2 ^ k
  rw [UInt64.toNat_shiftRight, UInt64.toNat_ofNat', Nat.shiftRight_eq_div_pow]
  congr 2
  omega
section BIT
variable {K : KT} {y : YT} {d : Nat} {h : MH} {pc : Nat} {ls : List (Option Value)} {st : List Value} {Q : OT → MH → Prop}
theorem j_iandX {x z : Int} (r : Int) (hdg : decode y.2.1 pc = .ok (.iand, 1)) (hr : Int32.ofInt x &&& Int32.ofInt z = Int32.ofInt r) (k : MW K y d h (pc + 1) ls (vi r :: st) Q) : MW K y d h pc ls (vi z :: vi x :: st) Q := m_iand hdg (by rw [hr]; exact k)
theorem j_ixorX {x z : Int} (r : Int) (hdg : decode y.2.1 pc = .ok (.ixor, 1)) (hr : Int32.ofInt x ^^^ Int32.ofInt z = Int32.ofInt r) (k : MW K y d h (pc + 1) ls (vi r :: st) Q) : MW K y d h pc ls (vi z :: vi x :: st) Q := m_ixor hdg (by rw [hr]; exact k)
theorem m_lushrK {x : Int64} {c : Int} (k : Nat) (hdg : decode y.2.1 pc = .ok (.lushr, 1)) (hc : (Int32.ofInt c).toInt64.toUInt64 &&& Int64.toUInt64 63 = UInt64.ofNat k) (kk : MW K y d h (pc + 1) ls (.long (ush x k) :: st) Q) : MW K y d h pc ls (vi c :: .long x :: st) Q := m_lushr hdg (by rw [hc]; rfl) kk
theorem m_l2iT {x : Int64} (hdg : decode y.2.1 pc = .ok (.l2i, 1)) (kk : MW K y d h (pc + 1) ls (vi (l2iT x) :: st) Q) : MW K y d h pc ls (.long x :: st) Q := m_l2i (v := Int32.ofInt (l2iT x)) hdg (by unfold l2iT; rw [Int32.ofInt_toInt]) kk
theorem vi_ushrK {x : Int} (k : Nat) (hx : 0 ≤ x ∧ x ≤ 2147483647) {c : Int} (hc : ((Int32.ofInt c).toUInt32 &&& Int32.toUInt32 31) = UInt32.ofNat k) (hk : k < 32) : ((Int32.ofInt x).toUInt32 >>> ((Int32.ofInt c).toUInt32 &&& Int32.toUInt32 31)).toInt32 = Int32.ofInt (x / ((2 ^ k : Nat) : Int)) := by
  obtain ⟨n, rfl⟩ := Int.eq_ofNat_of_zero_le hx.1
  rw [hc]
  apply Int32.toBitVec_inj.mp
  apply BitVec.eq_of_toNat_eq
  show ((Int32.ofInt (n : Int)).toUInt32 >>> UInt32.ofNat k).toNat = _
  rw [UInt32.toNat_shiftRight, UInt32.toNat_ofNat', Nat.shiftRight_eq_div_pow]
  show (BitVec.ofInt 32 (n : Int)).toNat / 2 ^ (k % 2 ^ 32 % 32) = (BitVec.ofInt 32 ((n : Int) / ((2 ^ k : Nat) : Int))).toNat
  rw [show ((n : Int) / ((2 ^ k : Nat) : Int)) = ((n / 2 ^ k : Nat) : Int) from rfl, BitVec.ofInt_natCast, BitVec.ofInt_natCast, BitVec.toNat_ofNat, BitVec.toNat_ofNat, Nat.mod_eq_of_lt (by omega), Nat.mod_eq_of_lt (Nat.lt_of_le_of_lt (Nat.div_le_self _ _) (by omega)), show k % 2 ^ 32 % 32 = k by omega]
theorem j_iushrK {x c : Int} (k : Nat) (hdg : decode y.2.1 pc = .ok (.iushr, 1)) (hx : 0 ≤ x ∧ x ≤ 2147483647) (hc : ((Int32.ofInt c).toUInt32 &&& Int32.toUInt32 31) = UInt32.ofNat k) (hk : k < 32) (kk : MW K y d h (pc + 1) ls (vi (x / ((2 ^ k : Nat) : Int)) :: st) Q) : MW K y d h pc ls (vi c :: vi x :: st) Q := m_iushr hdg (vi_ushrK k hx hc hk) kk
end BIT
theorem and127 {y : Int64} : Int32.ofInt (l2iT y) &&& Int32.ofInt 127 = Int32.ofInt ((nn y % 128 : Nat) : Int) := by
  unfold l2iT
  rw [Int32.ofInt_toInt]
  apply Int32.toBitVec_inj.mp
  apply BitVec.eq_of_toNat_eq
  rw [Int32.toBitVec_and, BitVec.toNat_and, Int64.toBitVec_toInt32, BitVec.signExtend_eq_setWidth_of_le _ (by decide), BitVec.toNat_setWidth]
  show nn y % 2 ^ 32 &&& 127 = (BitVec.ofInt 32 ((nn y % 128 : Nat) : Int)).toNat
  rw [BitVec.ofInt_natCast, BitVec.toNat_ofNat, show (127 : Nat) = 2 ^ 7 - 1 from rfl, Nat.and_two_pow_sub_one_eq_mod]
  omega
/-! plain counting -/
def cntB (x : Nat) : Nat → Nat
  | 0 => 0
  | n + 1 => cntB x n + x / 2 ^ n % 2
theorem cntB_add (x m : Nat) : ∀ n : Nat, cntB x (m + n) = cntB x m + cntB (x / 2 ^ m) n
  | 0 => rfl
  | n + 1 => by
    show cntB x (m + n) + x / 2 ^ (m + n) % 2 = cntB x m + (cntB (x / 2 ^ m) n + x / 2 ^ m / 2 ^ n % 2)
    rw [cntB_add x m n, Nat.div_div_eq_div_mul, ← Nat.pow_add, Nat.add_assoc]
theorem and_lo {x m : Nat} (hx : x < 2 ^ 32) : x &&& m = x &&& (m % 2 ^ 32) := by
  have h := Nat.and_mod_two_pow (a := x) (b := m) (n := 32)
  rw [Nat.mod_eq_of_lt (Nat.lt_of_le_of_lt Nat.and_le_left hx), Nat.mod_eq_of_lt hx] at h
  exact h
theorem and_b (a c y m : Nat) (ha : a < 256) (hc : c < 256) : (a + 256 * y) &&& (c + 256 * m) = (a &&& c) + 256 * (y &&& m) := by
  have h1 := Nat.and_mod_two_pow (a := a + 256 * y) (b := c + 256 * m) (n := 8)
  have h2 := Nat.and_div_two_pow (a := a + 256 * y) (b := c + 256 * m) (n := 8)
  rw [show (2 : Nat) ^ 8 = 256 from rfl] at h1 h2
  rw [show (a + 256 * y) % 256 = a by omega, show (c + 256 * m) % 256 = c by omega] at h1
  rw [show (a + 256 * y) / 256 = y by omega, show (c + 256 * m) / 256 = m by omega] at h2
  rw [← h1, ← h2]
  omega
def x4 (a b c e : Nat) : Nat := a + 256 * (b + 256 * (c + 256 * e))
theorem and4 {a b c e p q r s : Nat} (h1 : a < 256) (h2 : b < 256) (h3 : c < 256) (k1 : p < 256) (k2 : q < 256) (k3 : r < 256) : x4 a b c e &&& x4 p q r s = x4 (a &&& p) (b &&& q) (c &&& r) (e &&& s) := by
  unfold x4
  rw [and_b _ _ _ _ h1 k1, and_b _ _ _ _ h2 k2, and_b _ _ _ _ h3 k3]
theorem x4_lt {a b c e : Nat} (h1 : a < 256) (h2 : b < 256) (h3 : c < 256) (h4 : e < 256) : x4 a b c e < 2 ^ 32 := by unfold x4; omega
def bk1 (a : Nat) : Nat := a - (a / 2 &&& 85)
def bk2 (a : Nat) : Nat := (a &&& 51) + (a / 4 &&& 51)
def bk3 (a : Nat) : Nat := (a + a / 16) &&& 15
def pc8 (a : Nat) : Nat := a % 2 + a / 2 % 2 + a / 4 % 2 + a / 8 % 2 + a / 16 % 2 + a / 32 % 2 + a / 64 % 2 + a / 128 % 2
theorem d1 : ∀ a : Nat, a < 256 → ∀ t : Nat, t < 2 → (a / 2 + 128 * t) &&& 85 = a / 2 &&& 85 := by decide +kernel
theorem d2 : ∀ a : Nat, a < 256 → ∀ t : Nat, t < 4 → (a / 4 + 64 * t) &&& 51 = a / 4 &&& 51 := by decide +kernel
theorem d3 : ∀ a : Nat, a < 69 → ∀ t : Nat, t < 5 → (a + a / 16 + 16 * t) &&& 15 = (a + a / 16) &&& 15 := by decide +kernel
theorem d4 : ∀ a : Nat, a < 256 → bk1 a < 256 ∧ bk2 (bk1 a) < 69 ∧ bk2 (bk1 a) % 16 < 5 ∧ bk3 (bk2 (bk1 a)) = pc8 a ∧ pc8 a < 9 := by decide +kernel
theorem s1_x4 {a b c e : Nat} (h1 : a < 256) (h2 : b < 256) (h3 : c < 256) (h4 : e < 256) : x4 a b c e - (x4 a b c e / 2 &&& 6148914691236517205) = x4 (bk1 a) (bk1 b) (bk1 c) (bk1 e) ∧ (x4 a b c e / 2 &&& 6148914691236517205) ≤ x4 a b c e := by
  have e1 : x4 a b c e / 2 = x4 (a / 2 + 128 * (b % 2)) (b / 2 + 128 * (c % 2)) (c / 2 + 128 * (e % 2)) (e / 2) := by unfold x4; omega
  rw [e1, and_lo (x4_lt (by omega) (by omega) (by omega) (by omega)), show (6148914691236517205 : Nat) % 2 ^ 32 = x4 85 85 85 85 from rfl, and4 (by omega) (by omega) (by omega) (by omega) (by omega) (by omega), d1 a h1 _ (by omega), d1 b h2 _ (by omega), d1 c h3 _ (by omega)]
  have p1 : a / 2 &&& 85 ≤ a := Nat.le_trans Nat.and_le_left (by omega)
  have p2 : b / 2 &&& 85 ≤ b := Nat.le_trans Nat.and_le_left (by omega)
  have p3 : c / 2 &&& 85 ≤ c := Nat.le_trans Nat.and_le_left (by omega)
  have p4 : e / 2 &&& 85 ≤ e := Nat.le_trans Nat.and_le_left (by omega)
  unfold bk1
  generalize a / 2 &&& 85 = u1 at *
  generalize b / 2 &&& 85 = u2 at *
  generalize c / 2 &&& 85 = u3 at *
  generalize e / 2 &&& 85 = u4 at *
  unfold x4
  omega
theorem s2_x4 {a b c e : Nat} (h1 : a < 256) (h2 : b < 256) (h3 : c < 256) (h4 : e < 256) : (x4 a b c e &&& 3689348814741910323) + (x4 a b c e / 4 &&& 3689348814741910323) = x4 (bk2 a) (bk2 b) (bk2 c) (bk2 e) := by
  have e1 : x4 a b c e / 4 = x4 (a / 4 + 64 * (b % 4)) (b / 4 + 64 * (c % 4)) (c / 4 + 64 * (e % 4)) (e / 4) := by unfold x4; omega
  have em : (3689348814741910323 : Nat) % 2 ^ 32 = x4 51 51 51 51 := rfl
  rw [and_lo (x4_lt h1 h2 h3 h4), em, and4 h1 h2 h3 (by omega) (by omega) (by omega), e1, and_lo (x4_lt (by omega) (by omega) (by omega) (by omega)), em, and4 (by omega) (by omega) (by omega) (by omega) (by omega) (by omega), d2 a h1 _ (by omega), d2 b h2 _ (by omega), d2 c h3 _ (by omega)]
  unfold bk2
  generalize a / 4 &&& 51 = u1 at *
  generalize b / 4 &&& 51 = u2 at *
  generalize c / 4 &&& 51 = u3 at *
  generalize e / 4 &&& 51 = u4 at *
  generalize a &&& 51 = w1 at *
  generalize b &&& 51 = w2 at *
  generalize c &&& 51 = w3 at *
  generalize e &&& 51 = w4 at *
  unfold x4
  omega
theorem s3_x4 {a b c e : Nat} (h1 : a < 69) (h2 : b < 69) (h3 : c < 69) (h4 : e < 69) (k2 : b % 16 < 5) (k3 : c % 16 < 5) (k4 : e % 16 < 5) : (x4 a b c e + x4 a b c e / 16) &&& 1085102592571150095 = x4 (bk3 a) (bk3 b) (bk3 c) (bk3 e) := by
  have e1 : x4 a b c e + x4 a b c e / 16 = x4 (a + a / 16 + 16 * (b % 16)) (b + b / 16 + 16 * (c % 16)) (c + c / 16 + 16 * (e % 16)) (e + e / 16) := by unfold x4; omega
  have em : (1085102592571150095 : Nat) % 2 ^ 32 = x4 15 15 15 15 := rfl
  rw [e1, and_lo (x4_lt (by omega) (by omega) (by omega) (by omega)), em, and4 (by omega) (by omega) (by omega) (by omega) (by omega) (by omega), d3 a h1 _ k2, d3 b h2 _ k3, d3 c h3 _ k4]
  rfl
theorem c8 {a y : Nat} (h : a < 256) : cntB (a + 256 * y) 8 = pc8 a := by
  show 0 + (a + 256 * y) / 2 ^ 0 % 2 + (a + 256 * y) / 2 ^ 1 % 2 + (a + 256 * y) / 2 ^ 2 % 2 + (a + 256 * y) / 2 ^ 3 % 2 + (a + 256 * y) / 2 ^ 4 % 2 + (a + 256 * y) / 2 ^ 5 % 2 + (a + 256 * y) / 2 ^ 6 % 2 + (a + 256 * y) / 2 ^ 7 % 2 = _
  have q0 : (a + 256 * y) / 2 ^ 0 % 2 = a % 2 := by omega
  have q1 : (a + 256 * y) / 2 ^ 1 % 2 = a / 2 % 2 := by omega
  have q2 : (a + 256 * y) / 2 ^ 2 % 2 = a / 4 % 2 := by omega
  have q3 : (a + 256 * y) / 2 ^ 3 % 2 = a / 8 % 2 := by omega
  have q4 : (a + 256 * y) / 2 ^ 4 % 2 = a / 16 % 2 := by omega
  have q5 : (a + 256 * y) / 2 ^ 5 % 2 = a / 32 % 2 := by omega
  have q6 : (a + 256 * y) / 2 ^ 6 % 2 = a / 64 % 2 := by omega
  have q7 : (a + 256 * y) / 2 ^ 7 % 2 = a / 128 % 2 := by omega
  rw [q0, q1, q2, q3, q4, q5, q6, q7, Nat.zero_add]
  rfl
theorem c32 {a b c e : Nat} (h1 : a < 256) (h2 : b < 256) (h3 : c < 256) (h4 : e < 256) : cntB (x4 a b c e) 32 = pc8 a + (pc8 b + (pc8 c + pc8 e)) := by
  rw [show 32 = 8 + (8 + (8 + 8)) from rfl, cntB_add, cntB_add, cntB_add]
  have e1 : x4 a b c e / 2 ^ 8 = b + 256 * (c + 256 * e) := by unfold x4; omega
  have e2 : (b + 256 * (c + 256 * e)) / 2 ^ 8 = c + 256 * e := by omega
  have e3 : (c + 256 * e) / 2 ^ 8 = e + 256 * 0 := by omega
  rw [e1, e2, e3, c8 h4, c8 h3, c8 h2]
  show cntB (a + 256 * (b + 256 * (c + 256 * e))) 8 + _ = _
  rw [c8 h1]
theorem fold4 {u1 u2 u3 u4 M3 M4 M5 M6 : Nat} (b1 : u1 ≤ 8) (b2 : u2 ≤ 8) (b3 : u3 ≤ 8) (b4 : u4 ≤ 8) (n3 : M3 = u1 + 256 * (u2 + 256 * (u3 + 256 * u4))) (n4 : M4 = M3 + M3 / 2 ^ 8) (n5 : M5 = M4 + M4 / 2 ^ 16) (n6 : M6 = M5 + M5 / 2 ^ 32) : M6 % 128 = u1 + u2 + u3 + u4 := by
  have e1 : M3 / 2 ^ 8 = u2 + 256 * u3 + 65536 * u4 := by omega
  rw [e1] at n4
  have e2 : M4 / 2 ^ 16 = (u3 + u4) + 256 * u4 := by omega
  rw [e2] at n5
  have e3 : M5 / 2 ^ 32 = 0 := by omega
  omega
theorem bit_all {x y1 y2 y3 y4 y5 y6 : Int64} (hx : nn x < 2 ^ 32) (h1 : x - (ush x 1 &&& 6148914691236517205) = y1) (h2 : (y1 &&& 3689348814741910323) + (ush y1 2 &&& 3689348814741910323) = y2) (h3 : (y2 + ush y2 4) &&& 1085102592571150095 = y3) (h4 : y3 + ush y3 8 = y4) (h5 : y4 + ush y4 16 = y5) (h6 : y5 + ush y5 32 = y6) : nn y6 % 128 = cntB (nn x) 32 := by
  obtain ⟨a, b, c, e, ea, b1, b2, b3, b4⟩ : ∃ a b c e, nn x = x4 a b c e ∧ a < 256 ∧ b < 256 ∧ c < 256 ∧ e < 256 := ⟨nn x % 256, nn x / 256 % 256, nn x / 65536 % 256, nn x / 16777216, by unfold x4; omega, by omega, by omega, by omega, by omega⟩
  have da := d4 a b1
  have db := d4 b b2
  have dc := d4 c b3
  have de := d4 e b4
  have n1 : nn y1 = x4 (bk1 a) (bk1 b) (bk1 c) (bk1 e) := by
    have s := s1_x4 b1 b2 b3 b4
    have q : nn (ush x 1 &&& 6148914691236517205) = (x4 a b c e / 2 &&& 6148914691236517205) := by
      rw [nn_and, nn_ush _ _ (by decide), ea]; rfl
    rw [← h1, nn_sub _ _ (by rw [q, ea]; exact s.2), q, ea]; exact s.1
  have n2 : nn y2 = x4 (bk2 (bk1 a)) (bk2 (bk1 b)) (bk2 (bk1 c)) (bk2 (bk1 e)) := by
    have s := s2_x4 da.1 db.1 dc.1 de.1
    have q1 : nn (y1 &&& 3689348814741910323) = (x4 (bk1 a) (bk1 b) (bk1 c) (bk1 e) &&& 3689348814741910323) := by rw [nn_and, n1]; rfl
    have q2 : nn (ush y1 2 &&& 3689348814741910323) = (x4 (bk1 a) (bk1 b) (bk1 c) (bk1 e) / 4 &&& 3689348814741910323) := by rw [nn_and, nn_ush _ _ (by decide), n1]; rfl
    have hb := x4_lt (a := bk2 (bk1 a)) (b := bk2 (bk1 b)) (c := bk2 (bk1 c)) (e := bk2 (bk1 e)) (by omega) (by omega) (by omega) (by omega)
    rw [← h2, nn_add _ _ (by rw [q1, q2, s]; omega), q1, q2, s]
  have hb2 := x4_lt (a := bk2 (bk1 a)) (b := bk2 (bk1 b)) (c := bk2 (bk1 c)) (e := bk2 (bk1 e)) (by omega) (by omega) (by omega) (by omega)
  have n3 : nn y3 = x4 (pc8 a) (pc8 b) (pc8 c) (pc8 e) := by
    have s := s3_x4 da.2.1 db.2.1 dc.2.1 de.2.1 db.2.2.1 dc.2.2.1 de.2.2.1
    have q : nn (ush y2 4) = x4 (bk2 (bk1 a)) (bk2 (bk1 b)) (bk2 (bk1 c)) (bk2 (bk1 e)) / 16 := by rw [nn_ush _ _ (by decide), n2]
    have q2 : nn (y2 + ush y2 4) = x4 (bk2 (bk1 a)) (bk2 (bk1 b)) (bk2 (bk1 c)) (bk2 (bk1 e)) + x4 (bk2 (bk1 a)) (bk2 (bk1 b)) (bk2 (bk1 c)) (bk2 (bk1 e)) / 16 := by rw [nn_add _ _ (by rw [q, n2]; omega), q, n2]
    rw [← h3, nn_and, q2, ← da.2.2.2.1, ← db.2.2.2.1, ← dc.2.2.2.1, ← de.2.2.2.1, ← s]; rfl
  have p1 := da.2.2.2.2
  have p2 := db.2.2.2.2
  have p3 := dc.2.2.2.2
  have p4 := de.2.2.2.2
  rw [ea, c32 b1 b2 b3 b4]
  generalize pc8 a = u1 at *
  generalize pc8 b = u2 at *
  generalize pc8 c = u3 at *
  generalize pc8 e = u4 at *
  have n4 : nn y4 = nn y3 + nn y3 / 2 ^ 8 := by
    have q := nn_ush y3 8 (by decide)
    rw [← h4, nn_add _ _ (by rw [q, n3]; unfold x4; omega), q]
  have n5 : nn y5 = nn y4 + nn y4 / 2 ^ 16 := by
    have q := nn_ush y4 16 (by decide)
    rw [← h5, nn_add _ _ (by rw [q, n4, n3]; unfold x4; omega), q]
  have n6 : nn y6 = nn y5 + nn y5 / 2 ^ 32 := by
    have q := nn_ush y5 32 (by decide)
    rw [← h6, nn_add _ _ (by rw [q, n5, n4, n3]; unfold x4; omega), q]
  unfold x4 at n3
  have n7 := fold4 (u1 := u1) (u2 := u2) (u3 := u3) (u4 := u4) (by omega) (by omega) (by omega) (by omega) n3 n4 n5 n6
  omega
theorem c_J26_bitCount (K : KT) (d : Nat) (h : MH) (x : Int64) (hx : nn x < 2 ^ 32) : Mt K yiJ26_bitCount d [.long x] h (Rz fun v h' => h = h' ∧ ((cntB (nn x) 32 : Nat) : Int) = v) := by
  refine mt_ofQ (by decide) (Nat.le_of_ble_eq_true rfl) (fun Q hQ => ?_)
  show MW K yiJ26_bitCount d h 0 [some (.long x), none] [] Q
  refine mw_wf (fun hwf => ?_)
  refine m_lload_n (y := yiJ26_bitCount) dJ26_bitCount_0 rfl ?_
  refine m_lload_n (y := yiJ26_bitCount) dJ26_bitCount_1 rfl ?_
  refine j_iconst (y := yiJ26_bitCount) dJ26_bitCount_2 ?_
  refine m_lushrK (y := yiJ26_bitCount) 1 dJ26_bitCount_3 (by decide) ?_
  refine m_ldc2 (y := yiJ26_bitCount) (v := 6148914691236517205) dJ26_bitCount_4 q1080 ?_
  refine m_land (y := yiJ26_bitCount) dJ26_bitCount_7 ?_
  refine m_lsub (y := yiJ26_bitCount) dJ26_bitCount_8 ?_
  generalize h1 : (x - ((ush x 1) &&& (6148914691236517205 : Int64))) = y1
  refine m_lstore_n (y := yiJ26_bitCount) dJ26_bitCount_9 (by decide) rfl ?_
  show MW K yiJ26_bitCount d h 10 [some (.long y1), none] [] Q
  refine m_lload_n (y := yiJ26_bitCount) dJ26_bitCount_10 rfl ?_
  refine m_ldc2 (y := yiJ26_bitCount) (v := 3689348814741910323) dJ26_bitCount_11 q1081 ?_
  refine m_land (y := yiJ26_bitCount) dJ26_bitCount_14 ?_
  refine m_lload_n (y := yiJ26_bitCount) dJ26_bitCount_15 rfl ?_
  refine j_iconst (y := yiJ26_bitCount) dJ26_bitCount_16 ?_
  refine m_lushrK (y := yiJ26_bitCount) 2 dJ26_bitCount_17 (by decide) ?_
  refine m_ldc2 (y := yiJ26_bitCount) (v := 3689348814741910323) dJ26_bitCount_18 q1081 ?_
  refine m_land (y := yiJ26_bitCount) dJ26_bitCount_21 ?_
  refine m_ladd (y := yiJ26_bitCount) dJ26_bitCount_22 ?_
  generalize h2 : ((y1 &&& (3689348814741910323 : Int64)) + ((ush y1 2) &&& (3689348814741910323 : Int64))) = y2
  refine m_lstore_n (y := yiJ26_bitCount) dJ26_bitCount_23 (by decide) rfl ?_
  show MW K yiJ26_bitCount d h 24 [some (.long y2), none] [] Q
  refine m_lload_n (y := yiJ26_bitCount) dJ26_bitCount_24 rfl ?_
  refine m_lload_n (y := yiJ26_bitCount) dJ26_bitCount_25 rfl ?_
  refine j_iconst (y := yiJ26_bitCount) dJ26_bitCount_26 ?_
  refine m_lushrK (y := yiJ26_bitCount) 4 dJ26_bitCount_27 (by decide) ?_
  refine m_ladd (y := yiJ26_bitCount) dJ26_bitCount_28 ?_
  refine m_ldc2 (y := yiJ26_bitCount) (v := 1085102592571150095) dJ26_bitCount_29 q1082 ?_
  refine m_land (y := yiJ26_bitCount) dJ26_bitCount_32 ?_
  generalize h3 : ((y2 + (ush y2 4)) &&& (1085102592571150095 : Int64)) = y3
  refine m_lstore_n (y := yiJ26_bitCount) dJ26_bitCount_33 (by decide) rfl ?_
  show MW K yiJ26_bitCount d h 34 [some (.long y3), none] [] Q
  refine m_lload_n (y := yiJ26_bitCount) dJ26_bitCount_34 rfl ?_
  refine m_lload_n (y := yiJ26_bitCount) dJ26_bitCount_35 rfl ?_
  refine j_bipush (y := yiJ26_bitCount) dJ26_bitCount_36 (by decide) ?_
  refine m_lushrK (y := yiJ26_bitCount) 8 dJ26_bitCount_38 (by decide) ?_
  refine m_ladd (y := yiJ26_bitCount) dJ26_bitCount_39 ?_
  generalize h4 : (y3 + (ush y3 8)) = y4
  refine m_lstore_n (y := yiJ26_bitCount) dJ26_bitCount_40 (by decide) rfl ?_
  show MW K yiJ26_bitCount d h 41 [some (.long y4), none] [] Q
  refine m_lload_n (y := yiJ26_bitCount) dJ26_bitCount_41 rfl ?_
  refine m_lload_n (y := yiJ26_bitCount) dJ26_bitCount_42 rfl ?_
  refine j_bipush (y := yiJ26_bitCount) dJ26_bitCount_43 (by decide) ?_
  refine m_lushrK (y := yiJ26_bitCount) 16 dJ26_bitCount_45 (by decide) ?_
  refine m_ladd (y := yiJ26_bitCount) dJ26_bitCount_46 ?_
  generalize h5 : (y4 + (ush y4 16)) = y5
  refine m_lstore_n (y := yiJ26_bitCount) dJ26_bitCount_47 (by decide) rfl ?_
  show MW K yiJ26_bitCount d h 48 [some (.long y5), none] [] Q
  refine m_lload_n (y := yiJ26_bitCount) dJ26_bitCount_48 rfl ?_
  refine m_lload_n (y := yiJ26_bitCount) dJ26_bitCount_49 rfl ?_
  refine j_bipush (y := yiJ26_bitCount) dJ26_bitCount_50 (by decide) ?_
  refine m_lushrK (y := yiJ26_bitCount) 32 dJ26_bitCount_52 (by decide) ?_
  refine m_ladd (y := yiJ26_bitCount) dJ26_bitCount_53 ?_
  generalize h6 : (y5 + (ush y5 32)) = y6
  refine m_lstore_n (y := yiJ26_bitCount) dJ26_bitCount_54 (by decide) rfl ?_
  show MW K yiJ26_bitCount d h 55 [some (.long y6), none] [] Q
  refine m_lload_n (y := yiJ26_bitCount) dJ26_bitCount_55 rfl ?_
  refine m_l2iT (y := yiJ26_bitCount) dJ26_bitCount_56 ?_
  refine j_bipush (y := yiJ26_bitCount) dJ26_bitCount_57 (by decide) ?_
  refine j_iandX (y := yiJ26_bitCount) ((nn y6 % 128 : Nat) : Int) dJ26_bitCount_59 (and127) ?_
  subst hQ; exact j_iret (y := yiJ26_bitCount) dJ26_bitCount_60 rfl (⟨rfl, by rw [bit_all hx h1 h2 h3 h4 h5 h6]⟩)
theorem bt_nn {x : Int64} {k : Int} (hk : 0 ≤ k) : bt x k ↔ nn x / 2 ^ k.toNat % 2 = 1 := by
  unfold bt nn
  rw [show x.toBitVec.getLsbD k.toNat = x.toBitVec.toNat.testBit k.toNat from rfl, Nat.testBit_eq_decide_div_mod_eq]
  exact decide_eq_true_iff
theorem nn_28 {x : Int64} (h : ∀ k : Int, 28 ≤ k → k < 64 → ¬ bt x k) : nn x < 2 ^ 28 := by
  refine Nat.lt_pow_two_of_testBit _ (fun i hi => ?_)
  by_cases e : i < 64
  · have := h (i : Int) (by omega) (by omega)
    unfold bt at this
    rw [Int.toNat_natCast] at this
    show x.toBitVec.getLsbD i = false
    cases e9 : x.toBitVec.getLsbD i
    · rfl
    · exact absurd e9 this
  · exact Nat.testBit_lt_two_pow (Nat.lt_of_lt_of_le (nn_lt x) (Nat.pow_le_pow_right (by decide) (by omega)))
theorem cnt_cB {f : Int → Int64} : ∀ n : Nat, n ≤ 64 → cB (inB f) n = ((cntB (nn (f 0)) n : Nat) : Int)
  | 0, _ => rfl
  | n + 1, hn => by
    have ih := cnt_cB (f := f) n (by omega)
    have e := bt_nn (x := f 0) (k := (n : Int)) (by omega)
    rw [Int.toNat_natCast] at e
    have e2 : inB f (n : Int) ↔ bt (f 0) (n : Int) := by
      unfold inB
      rw [show (n : Int) / 64 = 0 by omega, show (n : Int) % 64 = n by omega]
    by_cases q : inB f (n : Int)
    · have := cB_y (p := inB f) (b := (n : Int)) (by omega) q
      rw [show ((n : Int) + 1).toNat = n + 1 by omega, Int.toNat_natCast, ih] at this
      have r := e.mp (e2.mp q)
      show cB (inB f) (n + 1) = ((cntB (nn (f 0)) n + nn (f 0) / 2 ^ n % 2 : Nat) : Int)
      rw [this, r]; omega
    · have := cB_n (p := inB f) (b := (n : Int)) (by omega) q
      rw [show ((n : Int) + 1).toNat = n + 1 by omega, Int.toNat_natCast, ih] at this
      have r : nn (f 0) / 2 ^ n % 2 = 0 := by
        have : ¬ nn (f 0) / 2 ^ n % 2 = 1 := fun h9 => q (e2.mpr (e.mpr h9))
        omega
      show cB (inB f) (n + 1) = ((cntB (nn (f 0)) n + nn (f 0) / 2 ^ n % 2 : Nat) : Int)
      rw [this, r]; omega
theorem cntB_z {x m : Nat} (hx : x < 2 ^ m) (n : Nat) : cntB x (m + n) = cntB x m := by
  rw [cntB_add, Nat.div_eq_of_lt hx]
  have : ∀ k, cntB 0 k = 0 := fun k => by
    induction k with
    | zero => rfl
    | succ k ih =>
      show cntB 0 k + 0 / 2 ^ k % 2 = 0
      rw [ih, Nat.zero_div]
  rw [this, Nat.add_zero]
theorem fz_28 {f : Int → Int64} (hz : ∀ i, 28 ≤ i → ¬ inB f i) {j : Int} (hj : 1 ≤ j) : f j = 0 := bt_ext (fun k k0 k1 => by
  have := hz (64 * j + k) (by omega)
  unfold inB at this
  rw [show (64 * j + k) / 64 = j by omega, show (64 * j + k) % 64 = k by omega] at this
  exact ⟨fun h9 => absurd h9 this, fun h9 => absurd h9 (bt_0 k)⟩)
theorem f0_28 {f : Int → Int64} (hz : ∀ i, 28 ≤ i → ¬ inB f i) : nn (f 0) < 2 ^ 28 := nn_28 (fun k k0 k1 => by
  have := hz k k0
  unfold inB at this
  rw [show k / 64 = 0 by omega, show k % 64 = k by omega] at this
  exact this)
theorem c_J18_cardinality (K : KT) (d : Nat) (h : MH) (a w : Nat) (n : Int) (len : Nat) (f : Int → Int64) (hd : 1 ≤ d) (hA : BsA K h a w n len f) (hz : ∀ i, 28 ≤ i → ¬ inB f i) : Mt K yiJ18_cardinality d [.ref a] h (Rz fun v h' => h = h' ∧ cB (inB f) 28 = v) := by
  obtain ⟨ha, hw, hne, hn, hf⟩ := hA
  have hc : cB (inB f) 28 = ((cntB (nn (f 0)) 32 : Nat) : Int) := by rw [cnt_cB 28 (by decide), show 32 = 28 + 4 from rfl, cntB_z (f0_28 hz)]
  have hb := cB_b (inB f) 28
  have hnz : cntB (nn 0) 32 = 0 := by decide +kernel
  refine mt_ofQ (by decide) (Nat.le_of_ble_eq_true rfl) (fun Q hQ => ?_)
  show MW K yiJ18_cardinality d h 0 [some (.ref a), none, none] [] Q
  refine mw_wf (fun hwf => ?_)
  have l_ha := hwf _ _ ha
  have l_hw := hwf _ _ hw
  refine j_iconst (y := yiJ18_cardinality) dJ18_cardinality_0 ?_
  refine j_istore_n (y := yiJ18_cardinality) [some (.ref a), some (vi 0), none] dJ18_cardinality_1 (by decide) rfl rfl ?_
  refine j_iconst (y := yiJ18_cardinality) dJ18_cardinality_2 ?_
  refine j_istore_n (y := yiJ18_cardinality) [some (.ref a), some (vi 0), some (vi 0)] dJ18_cardinality_3 (by decide) rfl rfl ?_
  have L4 : ∀ (N : Nat) (s u : Int), (20 - u).toNat = N → (0 ≤ u ∧ u ≤ n) → (s = if u = 0 then 0 else cB (inB f) 28) → MW K yiJ18_cardinality d h 4 [some (.ref a), some (vi s), some (vi u)] [] Q := by
    intro N
    induction N using Nat.strongRecOn with
    | _ N ih4 =>
    intro s u hN4 hu hs
    have hsb : 0 ≤ s ∧ s ≤ 28 := by { rw [hs]; split <;> omega }
    refine j_iload_n (y := yiJ18_cardinality) dJ18_cardinality_4 rfl ?_
    refine m_aload_n (y := yiJ18_cardinality) dJ18_cardinality_5 rfl ?_
    refine m_getfS (y := yiJ18_cardinality) kc_16 1 (by decide) dJ18_cardinality_6 q943 ha rfl ?_
    refine j_icmp_ge (y := yiJ18_cardinality) 30 dJ18_cardinality_9 (by decide) ⟨⟨by omega, by omega⟩, ⟨by omega, by omega⟩⟩ (fun c9 => ?_) (fun c9 => ?_)
    · refine j_iload_n (y := yiJ18_cardinality) dJ18_cardinality_30 rfl ?_
      subst hQ; exact j_iret (y := yiJ18_cardinality) dJ18_cardinality_31 rfl (⟨rfl, (by { rw [hs]; by_cases e9 : u = 0; { rw [if_pos e9, hc, hf 0 (by omega), hnz]; rfl }; { rw [if_neg e9] } })⟩)
    · refine j_iload_n (y := yiJ18_cardinality) dJ18_cardinality_12 rfl ?_
      refine m_aload_n (y := yiJ18_cardinality) dJ18_cardinality_13 rfl ?_
      refine m_getfS (y := yiJ18_cardinality) kc_16 0 (by decide) dJ18_cardinality_14 q942 ha rfl ?_
      refine j_iload_n (y := yiJ18_cardinality) dJ18_cardinality_17 rfl ?_
      refine h_lald (y := yiJ18_cardinality) dJ18_cardinality_18 hw ⟨by omega, by omega⟩ (by omega) ?_
      have hfu : nn (f u) < 2 ^ 32 := by { by_cases e9 : u = 0; { rw [e9]; have := f0_28 hz; omega }; { rw [fz_28 hz (by omega)]; decide } }
      refine m_invS (y := yiJ18_cardinality) [(.long (f u))] dJ18_cardinality_19 q1077 q1078 q152 q1079 (c_J26_bitCount K 0 h (f u) hfu) pdJ26_bitCount ⟨Nat.le_of_ble_eq_true rfl, by decide, by omega⟩ (kk_z fun r19 h19 q19 => ?_) kx_z
      obtain ⟨rfl, rfl⟩ := q19
      refine mw_top (x' := ((cntB (nn (f u)) 32 : Nat) : Int)) rfl ?_
      refine j_iadd (y := yiJ18_cardinality) dJ18_cardinality_22 ?_
      refine j_istore_n (y := yiJ18_cardinality) [some (.ref a), some (vi (s + ((cntB (nn (f u)) 32 : Nat) : Int))), some (vi u)] dJ18_cardinality_23 (by decide) rfl rfl ?_
      refine j_iinc (y := yiJ18_cardinality) [some (.ref a), some (vi (s + ((cntB (nn (f u)) 32 : Nat) : Int))), some (vi (u + 1))] dJ18_cardinality_24 rfl (by decide) rfl rfl ?_
      refine m_goto (y := yiJ18_cardinality) 4 dJ18_cardinality_27 (by decide) ?_
      exact ih4 _ (by omega) _ _ rfl (by omega) (by { rw [if_neg (by omega), hc]; by_cases e9 : u = 0; { rw [hs, if_pos e9, e9]; omega }; { rw [hs, if_neg e9, fz_28 hz (show 1 ≤ u by omega), hnz, hc]; omega } })
  exact L4 _ 0 0 rfl (by omega) (by rw [if_pos rfl])
/-! the lowest bit -/
theorem tw_ex : ∀ X : Nat, 0 < X → ∃ t q, X = 2 ^ t * (2 * q + 1) := fun X => by
  induction X using Nat.strongRecOn with
  | _ X ih =>
    intro h
    by_cases e : X % 2 = 1
    · exact ⟨0, X / 2, by omega⟩
    · obtain ⟨t, q, e2⟩ := ih (X / 2) (by omega) (by omega)
      refine ⟨t + 1, q, ?_⟩
      rw [Nat.pow_succ, Nat.mul_comm (2 ^ t) 2, Nat.mul_assoc, ← e2]; omega
theorem tw_bit {t q : Nat} (i : Nat) : (2 ^ t * (2 * q + 1)).testBit i = if i < t then false else (2 * q + 1).testBit (i - t) := by
  have := Nat.testBit_two_pow_mul_add (2 * q + 1) (b := 0) (i := t) (Nat.two_pow_pos t) i
  rw [Nat.add_zero] at this
  rw [this]
  split
  · exact Nat.zero_testBit i
  · rfl
theorem tw_bit1 {t q : Nat} (i : Nat) : (2 ^ t * (2 * q + 1) - 1).testBit i = if i < t then true else (2 * q).testBit (i - t) := by
  have hp := Nat.two_pow_pos t
  have := Nat.testBit_two_pow_mul_add (2 * q) (b := 2 ^ t - 1) (i := t) (by omega) i
  rw [show 2 ^ t * (2 * q + 1) - 1 = 2 ^ t * (2 * q) + (2 ^ t - 1) by rw [Nat.mul_add, Nat.mul_one]; omega, this]
  split
  · next h9 => rw [Nat.testBit_two_pow_sub_one]; exact decide_eq_true h9
  · rfl
theorem tw_lo {t q : Nat} (i : Nat) : (!(2 ^ t * (2 * q + 1)).testBit i && (2 ^ t * (2 * q + 1) - 1).testBit i) = (2 ^ t - 1).testBit i := by
  rw [tw_bit, tw_bit1, Nat.testBit_two_pow_sub_one]
  by_cases e : i < t
  · rw [if_pos e, if_pos e, decide_eq_true e]; rfl
  · rw [if_neg e, if_neg e, decide_eq_false e]
    cases hj : i - t with
    | zero => rw [Nat.testBit_zero, show (2 * q + 1) % 2 = 1 by omega]; rfl
    | succ j =>
      rw [Nat.testBit_succ, Nat.testBit_succ, show (2 * q + 1) / 2 = q by omega, show 2 * q / 2 = q by omega]
      cases q.testBit j <;> rfl
theorem ntz_and {X t q : Nat} (hX : X = 2 ^ t * (2 * q + 1)) (h0 : 0 < X) : (Int32.ofInt (X : Int) ^^^ Int32.ofInt (-1)) &&& Int32.ofInt ((X : Int) - 1) = Int32.ofInt ((2 ^ t - 1 : Nat) : Int) := by
  apply Int32.toBitVec_inj.mp
  rw [Int32.toBitVec_and, Int32.toBitVec_xor]
  show (BitVec.ofInt 32 (X : Int) ^^^ BitVec.allOnes 32) &&& BitVec.ofInt 32 ((X : Int) - 1) = BitVec.ofInt 32 ((2 ^ t - 1 : Nat) : Int)
  rw [show ((X : Int) - 1) = ((X - 1 : Nat) : Int) by omega, BitVec.ofInt_natCast, BitVec.ofInt_natCast, BitVec.ofInt_natCast]
  apply BitVec.eq_of_getLsbD_eq
  intro i hi
  have := tw_lo (t := t) (q := q) i
  rw [BitVec.getLsbD_and, BitVec.getLsbD_xor, BitVec.getLsbD_ofNat, BitVec.getLsbD_ofNat, BitVec.getLsbD_ofNat, BitVec.getLsbD_allOnes, decide_eq_true hi, ← this, ← hX]
  cases X.testBit i <;> cases (X - 1).testBit i <;> rfl
def ntA (m : Int) : Int := if 65536 < m then m / 65536 else m
def ntB (m : Int) : Int := if 256 < m then m / 256 else m
def ntC (m : Int) : Int := if 16 < m then m / 16 else m
def ntD (m : Int) : Int := if 4 < m then m / 4 else m
def ntF (m : Int) : Int := 1 + (if 65536 < m then 16 else 0) + (if 256 < ntA m then 8 else 0) + (if 16 < ntB (ntA m) then 4 else 0) + (if 4 < ntC (ntB (ntA m)) then 2 else 0) + ntD (ntC (ntB (ntA m))) / 2
theorem ntF_t : ∀ t : Nat, t < 28 → 0 < t → ntF ((2 ^ t - 1 : Nat) : Int) = t := by decide +kernel
theorem c_J25_ntz (K : KT) (d : Nat) (h : MH) (X t q : Nat) (hX : X = 2 ^ t * (2 * q + 1)) (h0 : 0 < X) (ht : t < 28) (hl : X < 2 ^ 28) : Mt K yiJ25_numberOfTrailingZeros d [vi (X : Int)] h (Rz fun v h' => h = h' ∧ (t : Int) = v) := by
  have hand := ntz_and hX h0
  have hm2 : 0 ≤ ((2 ^ t - 1 : Nat) : Int) ∧ ((2 ^ t - 1 : Nat) : Int) < 268435456 := by
    have := Nat.pow_le_pow_right (n := 2) (by decide) (show t ≤ 27 by omega)
    have := Nat.two_pow_pos t
    omega
  have hF : 0 < t → ntF ((2 ^ t - 1 : Nat) : Int) = t := ntF_t t ht
  have hz : ((2 ^ t - 1 : Nat) : Int) ≤ 0 → t = 0 := fun h9 => by
    cases t with
    | zero => rfl
    | succ t => have := Nat.two_pow_pos t; rw [Nat.pow_succ] at h9; omega
  have hz2 : 0 < ((2 ^ t - 1 : Nat) : Int) → 0 < t := fun h9 => by
    cases t with
    | zero => exact absurd h9 (by decide)
    | succ t => exact Nat.succ_pos t
  generalize ((2 ^ t - 1 : Nat) : Int) = m at *
  clear hX
  refine mt_ofQ (by decide) (Nat.le_of_ble_eq_true rfl) (fun Q hQ => ?_)
  show MW K yiJ25_numberOfTrailingZeros d h 0 [some (vi (X : Int)), none] [] Q
  refine mw_wf (fun hwf => ?_)
  refine j_iload_n (y := yiJ25_numberOfTrailingZeros) dJ25_numberOfTrailingZeros_0 rfl ?_
  refine j_iconst (y := yiJ25_numberOfTrailingZeros) dJ25_numberOfTrailingZeros_1 ?_
  refine j_ixorX (y := yiJ25_numberOfTrailingZeros) ((Int32.ofInt (X : Int) ^^^ Int32.ofInt (-1)).toInt) dJ25_numberOfTrailingZeros_2 ((Int32.ofInt_toInt _).symm) ?_
  refine j_iload_n (y := yiJ25_numberOfTrailingZeros) dJ25_numberOfTrailingZeros_3 rfl ?_
  refine j_iconst (y := yiJ25_numberOfTrailingZeros) dJ25_numberOfTrailingZeros_4 ?_
  refine j_isub (y := yiJ25_numberOfTrailingZeros) dJ25_numberOfTrailingZeros_5 ?_
  refine j_iandX (y := yiJ25_numberOfTrailingZeros) m dJ25_numberOfTrailingZeros_6 ((by rw [Int32.ofInt_toInt]; exact hand)) ?_
  refine j_istore_n (y := yiJ25_numberOfTrailingZeros) [some (vi m), none] dJ25_numberOfTrailingZeros_7 (by decide) rfl rfl ?_
  refine j_iload_n (y := yiJ25_numberOfTrailingZeros) dJ25_numberOfTrailingZeros_8 rfl ?_
  refine j_if_gt (y := yiJ25_numberOfTrailingZeros) 17 dJ25_numberOfTrailingZeros_9 (by decide) ⟨by omega, by omega⟩ (fun c9 => ?_) (fun c9 => ?_)
  · have J34 : ∀ (n1 m1 : Int), (n1 = 1 + (if 65536 < m then 16 else 0)) → (m1 = ntA m ∧ 0 ≤ m1 ∧ m1 < 268435456) → MW K yiJ25_numberOfTrailingZeros d h 34 [some (vi m1), some (vi n1)] [] Q := by
      intro n1 m1 hn hm
      refine j_iload_n (y := yiJ25_numberOfTrailingZeros) dJ25_numberOfTrailingZeros_34 rfl ?_
      have J49 : ∀ (n2 m2 : Int), (n2 = n1 + (if 256 < m1 then 8 else 0)) → (m2 = ntB m1 ∧ 0 ≤ m2 ∧ m2 < 268435456) → MW K yiJ25_numberOfTrailingZeros d h 49 [some (vi m2), some (vi n2)] [] Q := by
        intro n2 m2 hn2 hm2'
        refine j_iload_n (y := yiJ25_numberOfTrailingZeros) dJ25_numberOfTrailingZeros_49 rfl ?_
        have J62 : ∀ (n3 m3 : Int), (n3 = n2 + (if 16 < m2 then 4 else 0)) → (m3 = ntC m2 ∧ 0 ≤ m3 ∧ m3 < 268435456) → MW K yiJ25_numberOfTrailingZeros d h 62 [some (vi m3), some (vi n3)] [] Q := by
          intro n3 m3 hn3 hm3
          refine j_iload_n (y := yiJ25_numberOfTrailingZeros) dJ25_numberOfTrailingZeros_62 rfl ?_
          have J74 : ∀ (n4 m4 : Int), (n4 = n3 + (if 4 < m3 then 2 else 0)) → (m4 = ntD m3 ∧ 0 ≤ m4 ∧ m4 < 268435456) → MW K yiJ25_numberOfTrailingZeros d h 74 [some (vi m4), some (vi n4)] [] Q := by
            intro n4 m4 hn4 hm4
            refine j_iload_n (y := yiJ25_numberOfTrailingZeros) dJ25_numberOfTrailingZeros_74 rfl ?_
            refine j_iload_n (y := yiJ25_numberOfTrailingZeros) dJ25_numberOfTrailingZeros_75 rfl ?_
            refine j_iconst (y := yiJ25_numberOfTrailingZeros) dJ25_numberOfTrailingZeros_76 ?_
            refine j_iushr1 (y := yiJ25_numberOfTrailingZeros) dJ25_numberOfTrailingZeros_77 ⟨by omega, by omega⟩ ?_
            refine j_iadd (y := yiJ25_numberOfTrailingZeros) dJ25_numberOfTrailingZeros_78 ?_
            subst hQ; exact j_iret (y := yiJ25_numberOfTrailingZeros) dJ25_numberOfTrailingZeros_79 rfl (⟨rfl, (by { have e9 := hF (hz2 (by omega)); unfold ntF at e9; rw [← hm.1, ← hm2'.1, ← hm3.1, ← hm4.1, ← hn] at e9; omega })⟩)
          refine j_iconst (y := yiJ25_numberOfTrailingZeros) dJ25_numberOfTrailingZeros_63 ?_
          refine j_icmp_le (y := yiJ25_numberOfTrailingZeros) 74 dJ25_numberOfTrailingZeros_64 (by decide) ⟨⟨by omega, by omega⟩, ⟨by omega, by omega⟩⟩ (fun c64 => ?_) (fun c64 => ?_)
          · exact J74 _ _ (by split <;> omega) (by unfold ntD; split <;> omega)
          · refine j_iinc (y := yiJ25_numberOfTrailingZeros) [some (vi m3), some (vi (n3 + 2))] dJ25_numberOfTrailingZeros_67 rfl (by decide) rfl rfl ?_
            refine j_iload_n (y := yiJ25_numberOfTrailingZeros) dJ25_numberOfTrailingZeros_70 rfl ?_
            refine j_iconst (y := yiJ25_numberOfTrailingZeros) dJ25_numberOfTrailingZeros_71 ?_
            refine j_iushrK (y := yiJ25_numberOfTrailingZeros) 2 dJ25_numberOfTrailingZeros_72 ⟨by omega, by omega⟩ (by decide) (by decide) ?_
            show MW K yiJ25_numberOfTrailingZeros d h 73 [some (vi m3), some (vi (n3 + 2))] [(vi (m3 / 4))] Q
            refine j_istore_n (y := yiJ25_numberOfTrailingZeros) [some (vi (m3 / 4)), some (vi (n3 + 2))] dJ25_numberOfTrailingZeros_73 (by decide) rfl rfl ?_
            exact J74 _ _ (by split <;> omega) (by unfold ntD; split <;> omega)
        refine j_bipush (y := yiJ25_numberOfTrailingZeros) dJ25_numberOfTrailingZeros_50 (by decide) ?_
        refine j_icmp_le (y := yiJ25_numberOfTrailingZeros) 62 dJ25_numberOfTrailingZeros_52 (by decide) ⟨⟨by omega, by omega⟩, ⟨by omega, by omega⟩⟩ (fun c52 => ?_) (fun c52 => ?_)
        · exact J62 _ _ (by split <;> omega) (by unfold ntC; split <;> omega)
        · refine j_iinc (y := yiJ25_numberOfTrailingZeros) [some (vi m2), some (vi (n2 + 4))] dJ25_numberOfTrailingZeros_55 rfl (by decide) rfl rfl ?_
          refine j_iload_n (y := yiJ25_numberOfTrailingZeros) dJ25_numberOfTrailingZeros_58 rfl ?_
          refine j_iconst (y := yiJ25_numberOfTrailingZeros) dJ25_numberOfTrailingZeros_59 ?_
          refine j_iushrK (y := yiJ25_numberOfTrailingZeros) 4 dJ25_numberOfTrailingZeros_60 ⟨by omega, by omega⟩ (by decide) (by decide) ?_
          show MW K yiJ25_numberOfTrailingZeros d h 61 [some (vi m2), some (vi (n2 + 4))] [(vi (m2 / 16))] Q
          refine j_istore_n (y := yiJ25_numberOfTrailingZeros) [some (vi (m2 / 16)), some (vi (n2 + 4))] dJ25_numberOfTrailingZeros_61 (by decide) rfl rfl ?_
          exact J62 _ _ (by split <;> omega) (by unfold ntC; split <;> omega)
      refine j_sipush (y := yiJ25_numberOfTrailingZeros) dJ25_numberOfTrailingZeros_35 (by decide) ?_
      refine j_icmp_le (y := yiJ25_numberOfTrailingZeros) 49 dJ25_numberOfTrailingZeros_38 (by decide) ⟨⟨by omega, by omega⟩, ⟨by omega, by omega⟩⟩ (fun c38 => ?_) (fun c38 => ?_)
      · exact J49 _ _ (by split <;> omega) (by unfold ntB; split <;> omega)
      · refine j_iinc (y := yiJ25_numberOfTrailingZeros) [some (vi m1), some (vi (n1 + 8))] dJ25_numberOfTrailingZeros_41 rfl (by decide) rfl rfl ?_
        refine j_iload_n (y := yiJ25_numberOfTrailingZeros) dJ25_numberOfTrailingZeros_44 rfl ?_
        refine j_bipush (y := yiJ25_numberOfTrailingZeros) dJ25_numberOfTrailingZeros_45 (by decide) ?_
        refine j_iushrK (y := yiJ25_numberOfTrailingZeros) 8 dJ25_numberOfTrailingZeros_47 ⟨by omega, by omega⟩ (by decide) (by decide) ?_
        show MW K yiJ25_numberOfTrailingZeros d h 48 [some (vi m1), some (vi (n1 + 8))] [(vi (m1 / 256))] Q
        refine j_istore_n (y := yiJ25_numberOfTrailingZeros) [some (vi (m1 / 256)), some (vi (n1 + 8))] dJ25_numberOfTrailingZeros_48 (by decide) rfl rfl ?_
        exact J49 _ _ (by split <;> omega) (by unfold ntB; split <;> omega)
    refine j_iconst (y := yiJ25_numberOfTrailingZeros) dJ25_numberOfTrailingZeros_17 ?_
    refine j_istore_n (y := yiJ25_numberOfTrailingZeros) [some (vi m), some (vi 1)] dJ25_numberOfTrailingZeros_18 (by decide) rfl rfl ?_
    refine j_iload_n (y := yiJ25_numberOfTrailingZeros) dJ25_numberOfTrailingZeros_19 rfl ?_
    refine j_ldcw (y := yiJ25_numberOfTrailingZeros) (65536) dJ25_numberOfTrailingZeros_20 q1124 (by decide) ?_
    refine j_icmp_le (y := yiJ25_numberOfTrailingZeros) 34 dJ25_numberOfTrailingZeros_23 (by decide) ⟨⟨by omega, by omega⟩, ⟨by omega, by omega⟩⟩ (fun c23 => ?_) (fun c23 => ?_)
    · exact J34 _ _ (by split <;> omega) (by unfold ntA; split <;> omega)
    · refine j_iinc (y := yiJ25_numberOfTrailingZeros) [some (vi m), some (vi (1 + 16))] dJ25_numberOfTrailingZeros_26 rfl (by decide) rfl rfl ?_
      refine j_iload_n (y := yiJ25_numberOfTrailingZeros) dJ25_numberOfTrailingZeros_29 rfl ?_
      refine j_bipush (y := yiJ25_numberOfTrailingZeros) dJ25_numberOfTrailingZeros_30 (by decide) ?_
      refine j_iushrK (y := yiJ25_numberOfTrailingZeros) 16 dJ25_numberOfTrailingZeros_32 ⟨by omega, by omega⟩ (by decide) (by decide) ?_
      show MW K yiJ25_numberOfTrailingZeros d h 33 [some (vi m), some (vi (1 + 16))] [(vi (m / 65536))] Q
      refine j_istore_n (y := yiJ25_numberOfTrailingZeros) [some (vi (m / 65536)), some (vi (1 + 16))] dJ25_numberOfTrailingZeros_33 (by decide) rfl rfl ?_
      exact J34 _ _ (by split <;> omega) (by unfold ntA; split <;> omega)
  · refine j_iload_n (y := yiJ25_numberOfTrailingZeros) dJ25_numberOfTrailingZeros_12 rfl ?_
    refine j_bipush (y := yiJ25_numberOfTrailingZeros) dJ25_numberOfTrailingZeros_13 (by decide) ?_
    refine j_iandX (y := yiJ25_numberOfTrailingZeros) 0 dJ25_numberOfTrailingZeros_15 ((by rw [show m = 0 by omega]; rfl)) ?_
    subst hQ; exact j_iret (y := yiJ25_numberOfTrailingZeros) dJ25_numberOfTrailingZeros_16 rfl (⟨rfl, by have := hz (by omega); omega⟩)
theorem l2iT_eq {x : Int64} {X : Nat} (h : nn x = X) (hX : X < 2 ^ 28) : l2iT x = X := by
  unfold l2iT
  rw [Int64.toInt_toInt32]
  have e : x.toInt = (X : Int) := by
    show x.toBitVec.toInt = X
    unfold nn at h
    rw [BitVec.toInt_eq_toNat_of_lt (by omega), h]
  rw [e, Int.bmod_def]
  split <;> omega
theorem c_J26_ntz (K : KT) (d : Nat) (h : MH) (x : Int64) (X t q : Nat) (hd : 1 ≤ d) (hx : nn x = X) (hX : X = 2 ^ t * (2 * q + 1)) (h0 : 0 < X) (ht : t < 28) (hl : X < 2 ^ 28) : Mt K yiJ26_numberOfTrailingZeros d [.long x] h (Rz fun v h' => h = h' ∧ (t : Int) = v) := by
  refine mt_ofQ (by decide) (Nat.le_of_ble_eq_true rfl) (fun Q hQ => ?_)
  show MW K yiJ26_numberOfTrailingZeros d h 0 [some (.long x), none, none] [] Q
  refine mw_wf (fun hwf => ?_)
  refine m_lload_n (y := yiJ26_numberOfTrailingZeros) dJ26_numberOfTrailingZeros_0 rfl ?_
  refine m_l2iT (y := yiJ26_numberOfTrailingZeros) dJ26_numberOfTrailingZeros_1 ?_
  refine mw_top (x' := (↑X)) (l2iT_eq hx hl) ?_
  refine j_istore_n (y := yiJ26_numberOfTrailingZeros) [some (.long x), none, some (vi (↑X))] dJ26_numberOfTrailingZeros_2 (by decide) rfl rfl ?_
  refine j_iload_n (y := yiJ26_numberOfTrailingZeros) dJ26_numberOfTrailingZeros_3 rfl ?_
  refine j_if_ne (y := yiJ26_numberOfTrailingZeros) 21 dJ26_numberOfTrailingZeros_4 (by decide) ⟨by omega, by omega⟩ (fun c4 => ?_) (fun c4 => False.elim (by omega))
  refine j_iload_n (y := yiJ26_numberOfTrailingZeros) dJ26_numberOfTrailingZeros_21 rfl ?_
  refine m_invS (y := yiJ26_numberOfTrailingZeros) [(vi (↑X))] dJ26_numberOfTrailingZeros_22 q1121 q1122 q151 q1123 (c_J25_ntz K 0 h X t q hX h0 ht hl) pdJ25_numberOfTrailingZeros ⟨Nat.le_of_ble_eq_true rfl, by decide, by omega⟩ (kk_z fun r22 h22 q22 => ?_) kx_z
  obtain ⟨rfl, rfl⟩ := q22
  refine mw_top (x' := (t : Int)) rfl ?_
  subst hQ; exact j_iret (y := yiJ26_numberOfTrailingZeros) dJ26_numberOfTrailingZeros_25 rfl (⟨rfl, rfl⟩)
theorem shm_lt : ∀ i : Nat, i < 28 → (shm (i : Int)).toBitVec = BitVec.allOnes 64 <<< i := by decide +kernel
theorem bt_shm {i k : Int} (hi : 0 ≤ i ∧ i < 28) (hk : 0 ≤ k ∧ k < 64) : bt (shm i) k ↔ i ≤ k := by
  obtain ⟨j, rfl⟩ := Int.eq_ofNat_of_zero_le hi.1
  obtain ⟨q, rfl⟩ := Int.eq_ofNat_of_zero_le hk.1
  unfold bt
  rw [shm_lt j (by omega), BitVec.getLsbD_shiftLeft, Int.toNat_natCast, BitVec.getLsbD_allOnes]
  simp only [Bool.and_eq_true, decide_eq_true_eq, Bool.not_eq_true', decide_eq_false_iff_not]
  omega
theorem nsb0 {x : Int64} {i : Int} (hi : 0 ≤ i ∧ i < 28) (hz : x &&& shm i = 0) : ∀ j, i ≤ j → j < 64 → ¬ bt x j := fun j j0 j1 hb => by
  have : bt (x &&& shm i) j := (bt_and _ _ _).mpr ⟨hb, (bt_shm hi ⟨by omega, j1⟩).mpr j0⟩
  rw [hz] at this
  exact bt_0 _ this
theorem nsb {x : Int64} {i : Int} (hi : 0 ≤ i ∧ i < 28) (hf : ∀ k, 28 ≤ k → k < 64 → ¬ bt x k) (hz : x &&& shm i ≠ 0) : ∃ X t q : Nat, nn (x &&& shm i) = X ∧ X = 2 ^ t * (2 * q + 1) ∧ 0 < X ∧ t < 28 ∧ X < 2 ^ 28 ∧ i ≤ t ∧ bt x t ∧ ∀ j, i ≤ j → j < t → ¬ bt x j := by
  have hl : nn (x &&& shm i) < 2 ^ 28 := nn_28 (fun k a b hb => hf k a b ((bt_and _ _ _).mp hb).1)
  have h0 : 0 < nn (x &&& shm i) := Nat.pos_of_ne_zero (fun h9 => hz (by
    apply Int64.toBitVec_inj.mp
    apply BitVec.eq_of_toNat_eq
    exact h9))
  obtain ⟨t, q, e⟩ := tw_ex _ h0
  have hbit : ∀ k : Nat, bt (x &&& shm i) (k : Int) ↔ (2 ^ t * (2 * q + 1)).testBit k = true := fun k => by
    rw [← e]; unfold bt; rw [Int.toNat_natCast]; exact Iff.rfl
  have ht : t < 28 := by
    apply Classical.byContradiction
    intro h9
    have h8 := Nat.pow_le_pow_right (n := 2) (by decide) (show 28 ≤ t by omega)
    have h7 : 2 ^ t * 1 ≤ 2 ^ t * (2 * q + 1) := Nat.mul_le_mul_left _ (by omega)
    omega
  have b1 : bt (x &&& shm i) (t : Int) := (hbit t).mpr (by rw [tw_bit, if_neg (Nat.lt_irrefl t), Nat.sub_self, Nat.testBit_zero, show (2 * q + 1) % 2 = 1 by omega]; rfl)
  have b2 := (bt_and _ _ _).mp b1
  have b3 := (bt_shm hi ⟨by omega, by omega⟩).mp b2.2
  refine ⟨_, t, q, rfl, e, h0, ht, hl, b3, b2.1, fun j j0 j1 hb => ?_⟩
  have h9 := (hbit j.toNat).mp (by rw [show ((j.toNat : Nat) : Int) = j by omega]; exact (bt_and _ _ _).mpr ⟨hb, (bt_shm hi ⟨by omega, by omega⟩).mpr j0⟩)
  rw [tw_bit, if_pos (by omega)] at h9
  exact absurd h9 (by decide)
theorem c_J18_nextSetBit (K : KT) (d : Nat) (h : MH) (a w : Nat) (n i : Int) (len : Nat) (f : Int → Int64) (hd : 3 ≤ d) (hB : kV K 8 = vi 1) (hA : BsA K h a w n len f) (hi : 0 ≤ i ∧ i < 28) (hz : ∀ i, 28 ≤ i → ¬ inB f i) : Mt K yiJ18_nextSetBit d [.ref a, vi i] h (Rz fun v h' => h = h' ∧ ((v = -1 ∧ ∀ j, i ≤ j → j < 28 → ¬ inB f j) ∨ ((i ≤ v ∧ v < 28) ∧ inB f v ∧ ∀ j, i ≤ j → j < v → ¬ inB f j))) := by
  have hA' := hA
  obtain ⟨ha, hw, hne, hn, hf⟩ := hA
  have hin : ∀ j, 0 ≤ j → j < 64 → (inB f j ↔ bt (f 0) j) := fun j j0 j1 => by
    unfold inB
    rw [show j / 64 = 0 by omega, show j % 64 = j by omega]
  have hf0 : ∀ k, 28 ≤ k → k < 64 → ¬ bt (f 0) k := fun k k0 k1 hb => hz k k0 ((hin k (by omega) k1).mpr hb)
  refine mt_ofQ (by decide) (Nat.le_of_ble_eq_true rfl) (fun Q hQ => ?_)
  show MW K yiJ18_nextSetBit d h 0 [some (.ref a), some (vi i), none, none, none] [] Q
  refine mw_wf (fun hwf => ?_)
  have l_ha := hwf _ _ ha
  have l_hw := hwf _ _ hw
  refine j_iload_n (y := yiJ18_nextSetBit) dJ18_nextSetBit_0 rfl ?_
  refine j_if_ge (y := yiJ18_nextSetBit) 31 dJ18_nextSetBit_1 (by decide) ⟨by omega, by omega⟩ (fun c1 => ?_) (fun c1 => False.elim (by omega))
  refine m_aload_n (y := yiJ18_nextSetBit) dJ18_nextSetBit_31 rfl ?_
  refine m_invV (y := yiJ18_nextSetBit) (rB := (RJ18, TJ18, 3)) [] dJ18_nextSetBit_32 ha rfl q831 q833 qs1 q143 q835 rfl (c_J18_checkInvariants K 2 h a w n len f hB hA') pdJ18_checkInvariants ⟨Nat.le_of_ble_eq_true rfl, by decide, by omega⟩ (kk_v fun h32 q32 => ?_) kx_v
  obtain rfl := q32
  refine j_iload_n (y := yiJ18_nextSetBit) dJ18_nextSetBit_35 rfl ?_
  refine m_invS (y := yiJ18_nextSetBit) [(vi i)] dJ18_nextSetBit_36 q838 q839 q143 q840 (c_J18_wordIndex K 2 h i (by omega)) pdJ18_wordIndex ⟨Nat.le_of_ble_eq_true rfl, by decide, by omega⟩ (kk_z fun r36 h36 q36 => ?_) kx_z
  obtain ⟨rfl, rfl⟩ := q36
  refine mw_top (x' := 0) (by omega) ?_
  refine j_istore_n (y := yiJ18_nextSetBit) [some (.ref a), some (vi i), some (vi 0), none, none] dJ18_nextSetBit_39 (by decide) rfl rfl ?_
  refine j_iload_n (y := yiJ18_nextSetBit) dJ18_nextSetBit_40 rfl ?_
  refine m_aload_n (y := yiJ18_nextSetBit) dJ18_nextSetBit_41 rfl ?_
  refine m_getfS (y := yiJ18_nextSetBit) kc_16 1 (by decide) dJ18_nextSetBit_42 q943 ha rfl ?_
  refine j_icmp_lt (y := yiJ18_nextSetBit) 50 dJ18_nextSetBit_45 (by decide) ⟨⟨by omega, by omega⟩, ⟨by omega, by omega⟩⟩ (fun c45 => ?_) (fun c45 => ?_)
  · refine m_aload_n (y := yiJ18_nextSetBit) dJ18_nextSetBit_50 rfl ?_
    refine m_getfS (y := yiJ18_nextSetBit) kc_16 0 (by decide) dJ18_nextSetBit_51 q942 ha rfl ?_
    refine j_iload_n (y := yiJ18_nextSetBit) dJ18_nextSetBit_54 rfl ?_
    refine h_lald (y := yiJ18_nextSetBit) dJ18_nextSetBit_55 hw ⟨by omega, by omega⟩ (by omega) ?_
    refine m_ldc2 (y := yiJ18_nextSetBit) (v := -1) dJ18_nextSetBit_56 q1117 ?_
    refine j_iload_n (y := yiJ18_nextSetBit) dJ18_nextSetBit_59 rfl ?_
    refine m_lshl (y := yiJ18_nextSetBit) (v := shm i) dJ18_nextSetBit_60 rfl ?_
    refine m_land (y := yiJ18_nextSetBit) dJ18_nextSetBit_61 ?_
    refine m_lstore_n (y := yiJ18_nextSetBit) dJ18_nextSetBit_62 (by decide) rfl ?_
    show MW K yiJ18_nextSetBit d h 63 [some (.ref a), some (vi i), some (vi 0), some (.long ((f 0) &&& (shm i))), none] [] Q
    have L63 : ∀ (N : Nat) (u : Int) (wd : Int64), (20 - u).toNat = N → (0 ≤ u ∧ u < n) → ((u = 0 ∧ wd = f 0 &&& shm i) ∨ (1 ≤ u ∧ wd = 0 ∧ f 0 &&& shm i = 0)) → MW K yiJ18_nextSetBit d h 63 [some (.ref a), some (vi i), some (vi u), some (.long wd), none] [] Q := by
      intro N
      induction N using Nat.strongRecOn with
      | _ N ih63 =>
      intro u wd hN63 hu hwd
      refine m_lload_n (y := yiJ18_nextSetBit) dJ18_nextSetBit_63 rfl ?_
      refine m_lconst (y := yiJ18_nextSetBit) (v := 0) dJ18_nextSetBit_64 rfl ?_
      refine m_lcEq (y := yiJ18_nextSetBit) 79 dJ18_nextSetBit_65 dJ18_nextSetBit_66 (by decide) (fun c65 => ?_) (fun c65 => ?_)
      · refine j_iinc (y := yiJ18_nextSetBit) [some (.ref a), some (vi i), some (vi (u + 1)), some (.long wd), none] dJ18_nextSetBit_79 rfl (by decide) rfl rfl ?_
        refine j_iload_n (y := yiJ18_nextSetBit) dJ18_nextSetBit_82 rfl ?_
        refine m_aload_n (y := yiJ18_nextSetBit) dJ18_nextSetBit_83 rfl ?_
        refine m_getfS (y := yiJ18_nextSetBit) kc_16 1 (by decide) dJ18_nextSetBit_84 q943 ha rfl ?_
        refine j_icmp_ne (y := yiJ18_nextSetBit) 92 dJ18_nextSetBit_87 (by decide) ⟨⟨by omega, by omega⟩, ⟨by omega, by omega⟩⟩ (fun c87 => ?_) (fun c87 => ?_)
        · refine m_aload_n (y := yiJ18_nextSetBit) dJ18_nextSetBit_92 rfl ?_
          refine m_getfS (y := yiJ18_nextSetBit) kc_16 0 (by decide) dJ18_nextSetBit_93 q942 ha rfl ?_
          refine j_iload_n (y := yiJ18_nextSetBit) dJ18_nextSetBit_96 rfl ?_
          refine h_lald (y := yiJ18_nextSetBit) dJ18_nextSetBit_97 hw ⟨by omega, by omega⟩ (by omega) ?_
          refine m_lstore_n (y := yiJ18_nextSetBit) dJ18_nextSetBit_98 (by decide) rfl ?_
          show MW K yiJ18_nextSetBit d h 99 [some (.ref a), some (vi i), some (vi (u + 1)), some (.long (f (u + 1))), none] [] Q
          refine m_goto (y := yiJ18_nextSetBit) 63 dJ18_nextSetBit_99 (by decide) ?_
          exact ih63 _ (by omega) _ _ rfl (by omega) (Or.inr ⟨by omega, fz_28 hz (by omega), by { rcases hwd with ⟨_, h9⟩ | ⟨_, _, h9⟩; { rw [← h9]; exact c65 }; { exact h9 } }⟩)
        · refine j_iconst (y := yiJ18_nextSetBit) dJ18_nextSetBit_90 ?_
          subst hQ; exact j_iret (y := yiJ18_nextSetBit) dJ18_nextSetBit_91 rfl (⟨rfl, Or.inl ⟨rfl, fun j j0 j1 hb => nsb0 hi (by { rcases hwd with ⟨_, h9⟩ | ⟨_, _, h9⟩; { rw [← h9]; exact c65 }; { exact h9 } }) j j0 (by omega) ((hin j (by omega) (by omega)).mp hb)⟩⟩)
      · have hw0 : u = 0 ∧ wd = f 0 &&& shm i := by { rcases hwd with h9 | ⟨_, h9, _⟩; { exact h9 }; { exact absurd h9 c65 } }
        obtain ⟨X, t, q, x1, x2, x3, x4', x5, x6, x7, x8⟩ := nsb hi hf0 (by rw [← hw0.2]; exact c65)
        refine j_iload_n (y := yiJ18_nextSetBit) dJ18_nextSetBit_69 rfl ?_
        refine j_bipush (y := yiJ18_nextSetBit) dJ18_nextSetBit_70 (by decide) ?_
        refine j_imul (y := yiJ18_nextSetBit) dJ18_nextSetBit_72 ?_
        refine m_lload_n (y := yiJ18_nextSetBit) dJ18_nextSetBit_73 rfl ?_
        refine m_invS (y := yiJ18_nextSetBit) [(.long wd)] dJ18_nextSetBit_74 q1118 q1119 q152 q1120 (c_J26_ntz K 2 h wd X t q (by omega) (by rw [hw0.2]; exact x1) x2 x3 x4' x5) pdJ26_numberOfTrailingZeros ⟨Nat.le_of_ble_eq_true rfl, by decide, by omega⟩ (kk_z fun r74 h74 q74 => ?_) kx_z
        obtain ⟨rfl, rfl⟩ := q74
        refine mw_top (x' := (t : Int)) rfl ?_
        refine j_iadd (y := yiJ18_nextSetBit) dJ18_nextSetBit_77 ?_
        subst hQ; exact j_iret (y := yiJ18_nextSetBit) dJ18_nextSetBit_78 rfl (⟨rfl, Or.inr ⟨⟨by omega, by omega⟩, (hin _ (by omega) (by omega)).mpr (by { rw [hw0.1, show (0 : Int) * 64 + (t : Int) = t by omega]; exact x7 }), fun j j0 j1 hb => x8 j j0 (by omega) ((hin j (by omega) (by omega)).mp hb)⟩⟩)
    exact L63 _ _ _ rfl (by omega) (Or.inl ⟨rfl, rfl⟩)
  · refine j_iconst (y := yiJ18_nextSetBit) dJ18_nextSetBit_48 ?_
    subst hQ; exact j_iret (y := yiJ18_nextSetBit) dJ18_nextSetBit_49 rfl (⟨rfl, Or.inl ⟨rfl, fun j j0 j1 hb => by { have h9 := (hin j (by omega) (by omega)).mp hb; rw [hf 0 (by omega)] at h9; exact bt_0 _ h9 }⟩⟩)
/-! a set of one word: nothing grows -/
theorem c_J18_ensureCapacity_1 (K : KT) (d : Nat) (h : MH) (a w : Nat) (n r : Int) (len : Nat) (f : Int → Int64) (hA : BsA K h a w n len f) (hr : 0 ≤ r ∧ r ≤ (len : Int)) : Mt K yiJ18_ensureCapacity d [.ref a, vi r] h (Rv fun h' => h = h') := by
  obtain ⟨ha, hw, hne, hn, hf⟩ := hA
  refine mt_ofQ (by decide) (Nat.le_of_ble_eq_true rfl) (fun Q hQ => ?_)
  show MW K yiJ18_ensureCapacity d h 0 [some (.ref a), some (vi r), none] [] Q
  refine mw_wf (fun hwf => ?_)
  have l_ha := hwf _ _ ha
  have l_hw := hwf _ _ hw
  refine m_aload_n (y := yiJ18_ensureCapacity) dJ18_ensureCapacity_0 rfl ?_
  refine m_getfS (y := yiJ18_ensureCapacity) kc_16 0 (by decide) dJ18_ensureCapacity_1 q942 ha rfl ?_
  refine h_alen (y := yiJ18_ensureCapacity) 1 (by decide) dJ18_ensureCapacity_4 hw ?_
  refine j_iload_n (y := yiJ18_ensureCapacity) dJ18_ensureCapacity_5 rfl ?_
  refine j_icmp_ge (y := yiJ18_ensureCapacity) 38 dJ18_ensureCapacity_6 (by decide) ⟨⟨by omega, by omega⟩, ⟨by omega, by omega⟩⟩ (fun c6 => ?_) (fun c6 => False.elim (by omega))
  subst hQ; exact j_vret (y := yiJ18_ensureCapacity) dJ18_ensureCapacity_38 rfl rfl
theorem c_J18_expandTo_1 (K : KT) (d : Nat) (h : MH) (a w : Nat) (n i : Int) (len : Nat) (f : Int → Int64) (hd : 3 ≤ d) (hA : BsA K h a w n len f) (hi : i = 0) : Mt K yiJ18_expandTo d [.ref a, vi i] h (Rv fun h' => ∃ n', BsA K h' a w n' len f ∧ 0 < n' ∧ h'.1 = h.1 ∧ h'.2.1 = h.2.1 ∧ ∀ b, b ≠ a → h'.2.2 b = h.2.2 b) := by
  subst hi
  have hA' := hA
  obtain ⟨ha, hw, hne, hn, hf⟩ := hA
  refine mt_ofQ (by decide) (Nat.le_of_ble_eq_true rfl) (fun Q hQ => ?_)
  show MW K yiJ18_expandTo d h 0 [some (.ref a), some (vi 0), none] [] Q
  refine mw_wf (fun hwf => ?_)
  have l_ha := hwf _ _ ha
  have l_hw := hwf _ _ hw
  refine j_iload_n (y := yiJ18_expandTo) dJ18_expandTo_0 rfl ?_
  refine j_iconst (y := yiJ18_expandTo) dJ18_expandTo_1 ?_
  refine j_iadd (y := yiJ18_expandTo) dJ18_expandTo_2 ?_
  refine j_istore_n (y := yiJ18_expandTo) [some (.ref a), some (vi 0), some (vi (0 + 1))] dJ18_expandTo_3 (by decide) rfl rfl ?_
  refine m_aload_n (y := yiJ18_expandTo) dJ18_expandTo_4 rfl ?_
  refine m_getfS (y := yiJ18_expandTo) kc_16 1 (by decide) dJ18_expandTo_5 q943 ha rfl ?_
  refine j_iload_n (y := yiJ18_expandTo) dJ18_expandTo_8 rfl ?_
  refine j_icmp_ge (y := yiJ18_expandTo) 22 dJ18_expandTo_9 (by decide) ⟨⟨by omega, by omega⟩, ⟨by omega, by omega⟩⟩ (fun c9 => ?_) (fun c9 => ?_)
  · subst hQ; exact j_vret (y := yiJ18_expandTo) dJ18_expandTo_22 rfl (by first | exact ⟨0 + 1, ⟨ha, hw, hne, by omega, fun j hj => hf j (by omega)⟩, by omega, by omega, by omega, fun b hb => g1H.2.2.2 b hb⟩ | exact ⟨n, hA', by omega, rfl, rfl, fun b hb => rfl⟩)
  · refine m_aload_n (y := yiJ18_expandTo) dJ18_expandTo_12 rfl ?_
    refine j_iload_n (y := yiJ18_expandTo) dJ18_expandTo_13 rfl ?_
    refine m_invV (y := yiJ18_expandTo) (rB := (RJ18, TJ18, 3)) [(vi (0 + 1))] dJ18_expandTo_14 ha rfl q1060 q1062 qs10 q143 q1063 rfl (c_J18_ensureCapacity_1 K 2 h a w n (0 + 1) len f hA' ⟨by omega, by omega⟩) pdJ18_ensureCapacity ⟨Nat.le_of_ble_eq_true rfl, by decide, by omega⟩ (kk_v fun h14 q14 => ?_) kx_v
    obtain rfl := q14
    refine m_aload_n (y := yiJ18_expandTo) dJ18_expandTo_17 rfl ?_
    refine j_iload_n (y := yiJ18_expandTo) dJ18_expandTo_18 rfl ?_
    refine m_putfS (y := yiJ18_expandTo) kc_16 1 (by decide) dJ18_expandTo_19 q943 rfl ha rfl rfl (hp_put fun g1 g1H => ?_)
    have hw : g1.2.2 w = some (true, laE K len f) := (g1H.2.2.2 _ (by omega)).trans hw
    have ha : g1.2.2 a = some (true, .inr (16, [(.ref w), (vi (0 + 1)), (vi 0)])) := g1H.2.2.1
    have g11 := g1H.1
    have g12 := g1H.2.1
    subst hQ; exact j_vret (y := yiJ18_expandTo) dJ18_expandTo_22 rfl (by first | exact ⟨0 + 1, ⟨ha, hw, hne, by omega, fun j hj => hf j (by omega)⟩, by omega, by omega, by omega, fun b hb => g1H.2.2.2 b hb⟩ | exact ⟨n, hA', by omega, rfl, rfl, fun b hb => rfl⟩)
/-- what a change of a bit leaves -/
def Bs1 (K : KT) (h h' : MH) (a w len : Nat) (P : (Int → Int64) → Prop) : Prop := ∃ n' f', BsA K h' a w n' len f' ∧ P f' ∧ h'.1 = h.1 ∧ h'.2.1 = h.2.1 ∧ ∀ b, (b ≠ a ∧ b ≠ w) → h'.2.2 b = h.2.2 b
theorem c_J18_set_1 (K : KT) (d : Nat) (h : MH) (a w : Nat) (n i : Int) (len : Nat) (f : Int → Int64) (hd : 4 ≤ d) (hB : kV K 8 = vi 1) (hA : BsA K h a w n len f) (hi : 0 ≤ i ∧ i < 64) : Mt K yiJ18_set d [.ref a, vi i] h (Rv fun h' => Bs1 K h h' a w len (fun f' => ∀ j, 0 ≤ j → (inB f' j ↔ j = i ∨ inB f j))) := by
  have hA' := hA
  obtain ⟨ha, hw, hne, hn, hf⟩ := hA
  refine mt_ofQ (by decide) (Nat.le_of_ble_eq_true rfl) (fun Q hQ => ?_)
  show MW K yiJ18_set d h 0 [some (.ref a), some (vi i), none] [] Q
  refine mw_wf (fun hwf => ?_)
  have l_ha := hwf _ _ ha
  have l_hw := hwf _ _ hw
  refine j_iload_n (y := yiJ18_set) dJ18_set_0 rfl ?_
  refine j_if_ge (y := yiJ18_set) 31 dJ18_set_1 (by decide) ⟨by omega, by omega⟩ (fun c1 => ?_) (fun c1 => False.elim (by omega))
  refine j_iload_n (y := yiJ18_set) dJ18_set_31 rfl ?_
  refine m_invS (y := yiJ18_set) [(vi i)] dJ18_set_32 q838 q839 q143 q840 (c_J18_wordIndex K 3 h i (by omega)) pdJ18_wordIndex ⟨Nat.le_of_ble_eq_true rfl, by decide, by omega⟩ (kk_z fun r32 h32 q32 => ?_) kx_z
  obtain ⟨rfl, rfl⟩ := q32
  refine mw_top (x' := i / 64) rfl ?_
  refine j_istore_n (y := yiJ18_set) [some (.ref a), some (vi i), some (vi (i / 64))] dJ18_set_35 (by decide) rfl rfl ?_
  refine m_aload_n (y := yiJ18_set) dJ18_set_36 rfl ?_
  refine j_iload_n (y := yiJ18_set) dJ18_set_37 rfl ?_
  refine m_invV (y := yiJ18_set) (rB := (RJ18, TJ18, 3)) [(vi (i / 64))] dJ18_set_38 ha rfl q1056 q1058 qs9 q143 q1059 rfl (c_J18_expandTo_1 K 3 h a w n (i / 64) len f (by omega) hA' (by omega)) pdJ18_expandTo ⟨Nat.le_of_ble_eq_true rfl, by decide, by omega⟩ (kk_v fun h38 q38 => ?_) kx_v
  obtain ⟨n2, ⟨ha2, hw2, hne2, hn2, hf2⟩, p3, p4, p5, p7⟩ := q38
  refine mw_wf (fun hwf38 => ?_)
  have l_ha238 := hwf38 _ _ ha2
  have l_hw238 := hwf38 _ _ hw2
  refine m_aload_n (y := yiJ18_set) dJ18_set_41 rfl ?_
  refine m_getfS (y := yiJ18_set) kc_16 0 (by decide) dJ18_set_42 q942 ha2 rfl ?_
  refine j_iload_n (y := yiJ18_set) dJ18_set_45 rfl ?_
  refine m_dup2 (y := yiJ18_set) dJ18_set_46 rfl rfl ?_
  refine h_lald (y := yiJ18_set) dJ18_set_47 hw2 ⟨by omega, by omega⟩ (by omega) ?_
  refine m_lconst (y := yiJ18_set) (v := 1) dJ18_set_48 rfl ?_
  refine j_iload_n (y := yiJ18_set) dJ18_set_49 rfl ?_
  refine m_lshl (y := yiJ18_set) (v := sh1 i) dJ18_set_50 rfl ?_
  refine m_lor (y := yiJ18_set) dJ18_set_51 ?_
  refine h_last (y := yiJ18_set) dJ18_set_52 hw2 ⟨by omega, by omega⟩ (by omega) (hp_put fun g1 g1H => ?_)
  have ha2 : g1.2.2 a = some (true, .inr (16, [(.ref w), (vi n2), (vi 0)])) := (g1H.2.2.2 _ (by omega)).trans ha2
  have hw2 : g1.2.2 w = some (true, laE K len (upl f (i / 64) ((f (i / 64)) ||| (sh1 i)))) := g1H.2.2.1
  have g11 := g1H.1
  have g12 := g1H.2.1
  have hA3 : BsA K g1 a w n2 len (upl f (i / 64) (f (i / 64) ||| sh1 i)) := ⟨ha2, hw2, hne2, hn2, fun j hj => by { unfold upl; rw [if_neg (by omega)]; exact hf2 j hj }⟩
  refine m_aload_n (y := yiJ18_set) dJ18_set_53 rfl ?_
  refine m_invV (y := yiJ18_set) (rB := (RJ18, TJ18, 3)) [] dJ18_set_54 ha2 rfl q831 q833 qs1 q143 q835 rfl (c_J18_checkInvariants K 3 g1 a w n2 len _ hB hA3) pdJ18_checkInvariants ⟨Nat.le_of_ble_eq_true rfl, by decide, by omega⟩ (kk_v fun h54 q54 => ?_) kx_v
  obtain rfl := q54
  subst hQ; exact j_vret (y := yiJ18_set) dJ18_set_57 rfl (⟨n2, _, hA3, fun j hj => inB_or ⟨by omega, by omega⟩ hj, by omega, by omega, fun b hb => (g1H.2.2.2 b (by omega)).trans (p7 b hb.1)⟩)
theorem c_J18_flip_1 (K : KT) (d : Nat) (h : MH) (a w : Nat) (n i : Int) (len : Nat) (f : Int → Int64) (hd : 4 ≤ d) (hB : kV K 8 = vi 1) (hA : BsA K h a w n len f) (hi : 0 ≤ i ∧ i < 64) : Mt K yiJ18_flip d [.ref a, vi i] h (Rv fun h' => Bs1 K h h' a w len (fun f' => ∀ j, 0 ≤ j → (inB f' j ↔ (if j = i then ¬ inB f j else inB f j)))) := by
  have hA' := hA
  obtain ⟨ha, hw, hne, hn, hf⟩ := hA
  refine mt_ofQ (by decide) (Nat.le_of_ble_eq_true rfl) (fun Q hQ => ?_)
  show MW K yiJ18_flip d h 0 [some (.ref a), some (vi i), none] [] Q
  refine mw_wf (fun hwf => ?_)
  have l_ha := hwf _ _ ha
  have l_hw := hwf _ _ hw
  refine j_iload_n (y := yiJ18_flip) dJ18_flip_0 rfl ?_
  refine j_if_ge (y := yiJ18_flip) 31 dJ18_flip_1 (by decide) ⟨by omega, by omega⟩ (fun c1 => ?_) (fun c1 => False.elim (by omega))
  refine j_iload_n (y := yiJ18_flip) dJ18_flip_31 rfl ?_
  refine m_invS (y := yiJ18_flip) [(vi i)] dJ18_flip_32 q838 q839 q143 q840 (c_J18_wordIndex K 3 h i (by omega)) pdJ18_wordIndex ⟨Nat.le_of_ble_eq_true rfl, by decide, by omega⟩ (kk_z fun r32 h32 q32 => ?_) kx_z
  obtain ⟨rfl, rfl⟩ := q32
  refine mw_top (x' := i / 64) rfl ?_
  refine j_istore_n (y := yiJ18_flip) [some (.ref a), some (vi i), some (vi (i / 64))] dJ18_flip_35 (by decide) rfl rfl ?_
  refine m_aload_n (y := yiJ18_flip) dJ18_flip_36 rfl ?_
  refine j_iload_n (y := yiJ18_flip) dJ18_flip_37 rfl ?_
  refine m_invV (y := yiJ18_flip) (rB := (RJ18, TJ18, 3)) [(vi (i / 64))] dJ18_flip_38 ha rfl q1056 q1058 qs9 q143 q1059 rfl (c_J18_expandTo_1 K 3 h a w n (i / 64) len f (by omega) hA' (by omega)) pdJ18_expandTo ⟨Nat.le_of_ble_eq_true rfl, by decide, by omega⟩ (kk_v fun h38 q38 => ?_) kx_v
  obtain ⟨n2, ⟨ha2, hw2, hne2, hn2, hf2⟩, p3, p4, p5, p7⟩ := q38
  refine mw_wf (fun hwf38 => ?_)
  have l_ha238 := hwf38 _ _ ha2
  have l_hw238 := hwf38 _ _ hw2
  refine m_aload_n (y := yiJ18_flip) dJ18_flip_41 rfl ?_
  refine m_getfS (y := yiJ18_flip) kc_16 0 (by decide) dJ18_flip_42 q942 ha2 rfl ?_
  refine j_iload_n (y := yiJ18_flip) dJ18_flip_45 rfl ?_
  refine m_dup2 (y := yiJ18_flip) dJ18_flip_46 rfl rfl ?_
  refine h_lald (y := yiJ18_flip) dJ18_flip_47 hw2 ⟨by omega, by omega⟩ (by omega) ?_
  refine m_lconst (y := yiJ18_flip) (v := 1) dJ18_flip_48 rfl ?_
  refine j_iload_n (y := yiJ18_flip) dJ18_flip_49 rfl ?_
  refine m_lshl (y := yiJ18_flip) (v := sh1 i) dJ18_flip_50 rfl ?_
  refine m_lxor (y := yiJ18_flip) dJ18_flip_51 ?_
  refine h_last (y := yiJ18_flip) dJ18_flip_52 hw2 ⟨by omega, by omega⟩ (by omega) (hp_put fun g1 g1H => ?_)
  have ha2 : g1.2.2 a = some (true, .inr (16, [(.ref w), (vi n2), (vi 0)])) := (g1H.2.2.2 _ (by omega)).trans ha2
  have hw2 : g1.2.2 w = some (true, laE K len (upl f (i / 64) ((f (i / 64)) ^^^ (sh1 i)))) := g1H.2.2.1
  have g11 := g1H.1
  have g12 := g1H.2.1
  have hA3 : BsA K g1 a w n2 len (upl f (i / 64) (f (i / 64) ^^^ sh1 i)) := ⟨ha2, hw2, hne2, hn2, fun j hj => by { unfold upl; rw [if_neg (by omega)]; exact hf2 j hj }⟩
  refine m_aload_n (y := yiJ18_flip) dJ18_flip_53 rfl ?_
  refine m_invV (y := yiJ18_flip) (rB := (RJ18, TJ18, 3)) [] dJ18_flip_54 ha2 rfl q1094 q1096 qs11 q143 q1097 rfl (c_J18_recalculateWordsInUse K 3 g1 a w n2 len _ hA3) pdJ18_recalculateWordsInUse ⟨Nat.le_of_ble_eq_true rfl, by decide, by omega⟩ (kk_v fun h54 q54 => ?_) kx_v
  obtain ⟨n4, ⟨ha4, hw4, hne4, hn4, hf4⟩, s1, s2, s3, s4⟩ := q54
  have hw2 : h54.2.2 w = some (true, laE K len (upl f (i / 64) ((f (i / 64)) ^^^ (sh1 i)))) := (s4 _ (by omega)).trans hw2
  refine mw_wf (fun hwf54 => ?_)
  have l_ha454 := hwf54 _ _ ha4
  refine m_aload_n (y := yiJ18_flip) dJ18_flip_57 rfl ?_
  refine m_invV (y := yiJ18_flip) (rB := (RJ18, TJ18, 3)) [] dJ18_flip_58 ha4 rfl q831 q833 qs1 q143 q835 rfl (c_J18_checkInvariants K 3 h54 a w n4 len _ hB ⟨ha4, hw4, hne4, hn4, hf4⟩) pdJ18_checkInvariants ⟨Nat.le_of_ble_eq_true rfl, by decide, by omega⟩ (kk_v fun h58 q58 => ?_) kx_v
  obtain rfl := q58
  subst hQ; exact j_vret (y := yiJ18_flip) dJ18_flip_61 rfl (⟨n4, _, ⟨ha4, hw4, hne4, hn4, hf4⟩, fun j hj => inB_xor ⟨by omega, by omega⟩ hj, by omega, by omega, fun b hb => (s4 b hb.1).trans ((g1H.2.2.2 b (by omega)).trans (p7 b hb.1))⟩)
