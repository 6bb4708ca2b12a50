/-! bytes and signs -/
def catL : List Value → Prop
  | [] => True
  | v :: vs => v.category ≠ 2 ∧ catL vs
theorem va_rf_c {q : Option Nat} : (va_rf q).category ≠ 2 := by
  cases q <;> exact (show (1 : Nat) ≠ 2 by decide)
theorem mA_c : ∀ {args : List Value}, catL args → mA args = args.map some
  | [], _ => rfl
  | v :: vs, h => by
    unfold mA
    rw [if_neg h.1, mA_c h.2]; rfl
theorem lgsl_c : ∀ {args : List Value}, catL args → (lg_sl args).length = args.length
  | [], _ => rfl
  | v :: vs, h => by
    have ih := lgsl_c (args := vs) h.2
    unfold lg_sl at ih ⊢
    rw [List.flatMap_cons, if_neg h.1, List.length_append, ih, List.length_cons]
    show 1 + vs.length = vs.length + 1
    omega
theorem mt_ofQc {K : KT} {nm : MethodName} {cc : ByteArray} {L : Nat} {rt : Option FieldType} {d : Nat} {args : List Value} {h : MH} {Q0 : OT → MH → Prop} (hy : plainName nm.cls = true) (hn : args.length ≤ L) (hc : catL args) (hm : ∀ Q : OT → MH → Prop, Q0 = Q → MW K (nm, cc, L, rt, none) d h 0 (args.map some ++ List.replicate (L - args.length) none) [] Q) : Mt K (nm, cc, L, rt, none) d args h Q0 := by
  refine mt_ofQ hy (by rw [lgsl_c hc]; exact hn) (fun Q hQ => ?_)
  have e : mArgs args L = args.map some ++ List.replicate (L - args.length) none := by
    unfold mArgs
    rw [mA_c hc, List.take_append, List.take_of_length_le (by rw [List.length_map]; exact hn), List.length_map, List.take_replicate, Nat.min_eq_left (by omega)]
  rw [e]; exact hm Q hQ
theorem sby_b (x : Int) : -128 ≤ sb x ∧ sb x ≤ 127 := by unfold sb; split <;> omega
theorem sb_m {x : Int} : sb x % 256 = x % 256 := by unfold sb; split <;> omega
theorem sb_lo {x : Int} (h : 0 ≤ x ∧ x < 256) : sb x = if x < 128 then x else x - 256 := by unfold sb; split <;> split <;> omega
theorem sb_id {x : Int} (h : -128 ≤ x ∧ x ≤ 127) : sb x = x := by unfold sb; split <;> omega
theorem vi_i2b {x : Int} (hx : In x) : (Int32.ofInt x).toInt8.toInt32 = Int32.ofInt (sb x) := by
  have hb := sby_b x
  apply Int32.toInt_inj.mp
  rw [Int8.toInt_toInt32, Int32.toInt_toInt8, hx.ti, (show In (sb x) from ⟨by omega, by omega⟩).ti, Int.bmod_def]
  unfold sb
  split <;> split <;> omega
theorem vi_i2c {x : Int} (hx : 0 ≤ x ∧ x ≤ 65535) : ((Int32.ofInt x).toUInt32 % 65536).toInt32 = Int32.ofInt x := by
  obtain ⟨n, rfl⟩ := Int.eq_ofNat_of_zero_le hx.1
  apply Int32.toBitVec_inj.mp
  apply BitVec.eq_of_toNat_eq
  show ((Int32.ofInt (n : Int)).toUInt32 % 65536).toNat = (BitVec.ofInt 32 (n : Int)).toNat
  rw [UInt32.toNat_mod]
  show (BitVec.ofInt 32 (n : Int)).toNat % 65536 = _
  rw [BitVec.ofInt_natCast, BitVec.toNat_ofNat]
  omega
theorem vi_shlK {x c : Int} (k : Nat) (hc : ((Int32.ofInt c &&& 31).toBitVec.smod 32) = BitVec.ofNat 32 k) (hk : k < 32) (hx : 0 ≤ x ∧ x ≤ 1000000000) : Int32.ofInt x <<< (Int32.ofInt c &&& 31) = Int32.ofInt (x * ((2 ^ k : Nat) : Int)) := by
  obtain ⟨n, rfl⟩ := Int.eq_ofNat_of_zero_le hx.1
  apply Int32.toBitVec_inj.mp
  rw [Int32.toBitVec_shiftLeft, hc]
  show BitVec.ofInt 32 (n : Int) <<< (BitVec.ofNat 32 k) = BitVec.ofInt 32 ((n : Int) * ((2 ^ k : Nat) : Int))
  apply BitVec.eq_of_toNat_eq
  rw [show ((n : Int) * ((2 ^ k : Nat) : Int)) = ((n * 2 ^ k : Nat) : Int) from rfl]
  rw [BitVec.ofInt_natCast, BitVec.ofInt_natCast]
  show (BitVec.ofNat 32 n <<< (BitVec.ofNat 32 k).toNat).toNat = _
  rw [BitVec.toNat_shiftLeft, BitVec.toNat_ofNat, BitVec.toNat_ofNat, BitVec.toNat_ofNat, Nat.mod_eq_of_lt (by omega : n < 2 ^ 32), Nat.mod_eq_of_lt (by omega : k < 2 ^ 32), Nat.shiftLeft_eq]
theorem and255 : ∀ k : Fin 256, Int32.ofInt ((k.val : Int) - 128) &&& Int32.ofInt 255 = Int32.ofInt (((k.val : Int) - 128) % 256) := by decide +kernel
theorem vi_and255 {x : Int} (h : -128 ≤ x ∧ x ≤ 127) : Int32.ofInt x &&& Int32.ofInt 255 = Int32.ofInt (x % 256) := by
  have := and255 ⟨(x + 128).toNat, by omega⟩
  rw [show (((⟨(x + 128).toNat, by omega⟩ : Fin 256).val : Int) - 128) = x by show (((x + 128).toNat : Nat) : Int) - 128 = x; omega] at this
  exact this
theorem vi_or8 {x z : Int} (hx : 0 ≤ x ∧ x < 256) (hz : 0 ≤ z ∧ z < 256) : Int32.ofInt x ||| Int32.ofInt (z * 256) = Int32.ofInt (x + z * 256) := by
  obtain ⟨n, rfl⟩ := Int.eq_ofNat_of_zero_le hx.1
  obtain ⟨m, rfl⟩ := Int.eq_ofNat_of_zero_le hz.1
  apply Int32.toBitVec_inj.mp
  rw [Int32.toBitVec_or]
  show BitVec.ofInt 32 (n : Int) ||| BitVec.ofInt 32 ((m : Int) * 256) = BitVec.ofInt 32 ((n : Int) + (m : Int) * 256)
  apply BitVec.eq_of_toNat_eq
  rw [show ((m : Int) * 256) = ((m * 256 : Nat) : Int) from rfl, show ((n : Int) + ((m * 256 : Nat) : Int)) = ((n + m * 256 : Nat) : Int) from rfl, BitVec.ofInt_natCast, BitVec.ofInt_natCast, BitVec.ofInt_natCast, BitVec.toNat_or, BitVec.toNat_ofNat, BitVec.toNat_ofNat, BitVec.toNat_ofNat, Nat.mod_eq_of_lt (by omega), Nat.mod_eq_of_lt (by omega), Nat.mod_eq_of_lt (by omega)]
  have := Nat.two_pow_add_eq_or_of_lt (i := 8) (b := n) (by omega : n < 2 ^ 8) m
  rw [show 2 ^ 8 * m = m * 256 by omega] at this
  rw [Nat.or_comm, ← this, Nat.add_comm]
section BYT
variable {K : KT} {y : YT} {d : Nat} {h : MH} {pc : Nat} {ls : List (Option Value)} {st : List Value} {Q : OT → MH → Prop}
theorem j_cret {x : Int} {P : Int → MH → Prop} (hdg : decode y.2.1 pc = .ok (.ireturn, 1)) (hr : y.2.2.2.1 = some .char) (hx : 0 ≤ x ∧ x ≤ 65535) (hq : P x h) : MW K y d h pc ls [vi x] (Rz P) := m_zret hdg hr (by have q := pk_nc (Int32.ofInt x); rw [vi_i2c hx] at q; exact q) ⟨x, rfl, hq⟩
theorem j_i2b {x : Int} (hdg : decode y.2.1 pc = .ok (.i2b, 1)) (hx : In x) (k : MW K y d h (pc + 1) ls (vi (sb x) :: st) Q) : MW K y d h pc ls (vi x :: st) Q := m_i2b hdg (vi_i2b hx) k
theorem j_i2c {x : Int} (hdg : decode y.2.1 pc = .ok (.i2c, 1)) (hx : 0 ≤ x ∧ x ≤ 65535) (k : MW K y d h (pc + 1) ls (vi x :: st) Q) : MW K y d h pc ls (vi x :: st) Q := m_i2c hdg (vi_i2c hx) k
theorem j_ishlK {x c : Int} (k : Nat) (hdg : decode y.2.1 pc = .ok (.ishl, 1)) (hc : ((Int32.ofInt c &&& 31).toBitVec.smod 32) = BitVec.ofNat 32 k) (hk : k < 32) (hx : 0 ≤ x ∧ x ≤ 1000000000) (kk : MW K y d h (pc + 1) ls (vi (x * ((2 ^ k : Nat) : Int)) :: st) Q) : MW K y d h pc ls (vi c :: vi x :: st) Q := m_ishl hdg (by rw [vi_shlK k hc hk hx]; exact kk)
theorem j_iorX {x z : Int} (r : Int) (hdg : decode y.2.1 pc = .ok (.ior, 1)) (hr : Int32.ofInt x ||| Int32.ofInt z = Int32.ofInt r) (k : MW K y d h (pc + 1) ls (vi r :: st) Q) : MW K y d h pc ls (vi z :: vi x :: st) Q := m_ior hdg (by rw [hr]; exact k)
theorem j_bastB {a n : Nat} {f : Int → Int} {i x : Int} (hdg : decode y.2.1 pc = .ok (.bastore, 1)) (ha : h.2.2 a = some (true, ba K n f)) (hn : n ≤ 2147483647) (hi : 0 ≤ i ∧ i < n) (hx : -128 ≤ x ∧ x ≤ 127) (kk : MW K y d (hput h a (true, ba K n (upz f i x))) (pc + 1) ls st Q) : MW K y d h pc ls (vi x :: vi i :: .ref a :: st) Q := m_bast hdg ha (vin hi hn) (by
  have e : vp_nar .byte (Int32.ofInt x) = Int32.ofInt x := by
    show (Int32.ofInt x).toInt8.toInt32 = _
    rw [vi_i2b ⟨by omega, by omega⟩, sb_id hx]
  rw [e, zfn_upd hi hn]; exact kk)
end BYT
/-! checks of places -/
theorem c_J22_checkIndexV (K : KT) (d : Nat) (h : MH) (i n : Int) (v : Value) (hv2 : v.category ≠ 2) (hi : 0 ≤ i ∧ i < n) (hn : In n) : Mt K yiJ22_checkIndex d [vi i, vi n, v] h (Rz fun r h' => h = h' ∧ i = r) := by
  have := hn.1; have := hn.2
  refine mt_ofQc (by decide) (Nat.le_of_ble_eq_true rfl) ⟨(show (1 : Nat) ≠ 2 by decide), (show (1 : Nat) ≠ 2 by decide), (by assumption), trivial⟩ (fun Q hQ => ?_)
  show MW K yiJ22_checkIndex d h 0 [some (vi i), some (vi n), some v] [] Q
  refine mw_wf (fun hwf => ?_)
  refine j_iload_n (y := yiJ22_checkIndex) dJ22_checkIndex_0 rfl ?_
  refine j_if_lt (y := yiJ22_checkIndex) 9 dJ22_checkIndex_1 (by decide) ⟨by omega, by omega⟩ (fun c1 => False.elim (by omega)) (fun c1 => ?_)
  refine j_iload_n (y := yiJ22_checkIndex) dJ22_checkIndex_4 rfl ?_
  refine j_iload_n (y := yiJ22_checkIndex) dJ22_checkIndex_5 rfl ?_
  refine j_icmp_lt (y := yiJ22_checkIndex) 16 dJ22_checkIndex_6 (by decide) ⟨⟨by omega, by omega⟩, ⟨by omega, by omega⟩⟩ (fun c6 => ?_) (fun c6 => False.elim (by omega))
  refine j_iload_n (y := yiJ22_checkIndex) dJ22_checkIndex_16 rfl ?_
  subst hQ; exact j_iret (y := yiJ22_checkIndex) dJ22_checkIndex_17 rfl (⟨rfl, rfl⟩)
theorem c_J22_checkFromToIndex (K : KT) (d : Nat) (h : MH) (i j n : Int) (v : Value) (hv2 : v.category ≠ 2) (hi : 0 ≤ i ∧ i ≤ j ∧ j ≤ n) (hn : In n) : Mt K yiJ22_checkFromToIndex d [vi i, vi j, vi n, v] h (Rz fun r h' => h = h' ∧ i = r) := by
  have := hn.1; have := hn.2
  refine mt_ofQc (by decide) (Nat.le_of_ble_eq_true rfl) ⟨(show (1 : Nat) ≠ 2 by decide), (show (1 : Nat) ≠ 2 by decide), (show (1 : Nat) ≠ 2 by decide), (by assumption), trivial⟩ (fun Q hQ => ?_)
  show MW K yiJ22_checkFromToIndex d h 0 [some (vi i), some (vi j), some (vi n), some v] [] Q
  refine mw_wf (fun hwf => ?_)
  refine j_iload_n (y := yiJ22_checkFromToIndex) dJ22_checkFromToIndex_0 rfl ?_
  refine j_if_lt (y := yiJ22_checkFromToIndex) 14 dJ22_checkFromToIndex_1 (by decide) ⟨by omega, by omega⟩ (fun c1 => False.elim (by omega)) (fun c1 => ?_)
  refine j_iload_n (y := yiJ22_checkFromToIndex) dJ22_checkFromToIndex_4 rfl ?_
  refine j_iload_n (y := yiJ22_checkFromToIndex) dJ22_checkFromToIndex_5 rfl ?_
  refine j_icmp_gt (y := yiJ22_checkFromToIndex) 14 dJ22_checkFromToIndex_6 (by decide) ⟨⟨by omega, by omega⟩, ⟨by omega, by omega⟩⟩ (fun c6 => False.elim (by omega)) (fun c6 => ?_)
  refine j_iload_n (y := yiJ22_checkFromToIndex) dJ22_checkFromToIndex_9 rfl ?_
  refine j_iload_n (y := yiJ22_checkFromToIndex) dJ22_checkFromToIndex_10 rfl ?_
  refine j_icmp_le (y := yiJ22_checkFromToIndex) 22 dJ22_checkFromToIndex_11 (by decide) ⟨⟨by omega, by omega⟩, ⟨by omega, by omega⟩⟩ (fun c11 => ?_) (fun c11 => False.elim (by omega))
  refine j_iload_n (y := yiJ22_checkFromToIndex) dJ22_checkFromToIndex_22 rfl ?_
  subst hQ; exact j_iret (y := yiJ22_checkFromToIndex) dJ22_checkFromToIndex_23 rfl (⟨rfl, rfl⟩)
theorem or_nn {x z : Int} (hx : 0 ≤ x ∧ x ≤ 2147483647) (hz : 0 ≤ z ∧ z ≤ 2147483647) : ∃ r : Int, (0 ≤ r ∧ r ≤ 2147483647) ∧ Int32.ofInt x ||| Int32.ofInt z = Int32.ofInt r := by
  obtain ⟨n, rfl⟩ := Int.eq_ofNat_of_zero_le hx.1
  obtain ⟨m, rfl⟩ := Int.eq_ofNat_of_zero_le hz.1
  have hl : n ||| m < 2 ^ 31 := Nat.or_lt_two_pow (by omega) (by omega)
  refine ⟨((n ||| m : Nat) : Int), ⟨by omega, by omega⟩, ?_⟩
  apply Int32.toBitVec_inj.mp
  rw [Int32.toBitVec_or]
  show BitVec.ofInt 32 (n : Int) ||| BitVec.ofInt 32 (m : Int) = BitVec.ofInt 32 ((n ||| m : Nat) : Int)
  apply BitVec.eq_of_toNat_eq
  rw [BitVec.ofInt_natCast, BitVec.ofInt_natCast, BitVec.ofInt_natCast, BitVec.toNat_or, BitVec.toNat_ofNat, BitVec.toNat_ofNat, BitVec.toNat_ofNat, Nat.mod_eq_of_lt (by omega), Nat.mod_eq_of_lt (by omega), Nat.mod_eq_of_lt (by omega)]
theorem c_J22_checkFromIndexSize (K : KT) (d : Nat) (h : MH) (i s n : Int) (v : Value) (hv2 : v.category ≠ 2) (hi : 0 ≤ i ∧ 0 ≤ s ∧ i + s ≤ n) (hn : In n) : Mt K yiJ22_checkFromIndexSize d [vi i, vi s, vi n, v] h (Rz fun r h' => h = h' ∧ i = r) := by
  have := hn.1; have := hn.2
  obtain ⟨r1, hr1, e1⟩ := or_nn (x := n) (z := i) ⟨by omega, by omega⟩ ⟨by omega, by omega⟩
  obtain ⟨r2, hr2, e2⟩ := or_nn (x := r1) (z := s) hr1 ⟨by omega, by omega⟩
  refine mt_ofQc (by decide) (Nat.le_of_ble_eq_true rfl) ⟨(show (1 : Nat) ≠ 2 by decide), (show (1 : Nat) ≠ 2 by decide), (show (1 : Nat) ≠ 2 by decide), (by assumption), trivial⟩ (fun Q hQ => ?_)
  show MW K yiJ22_checkFromIndexSize d h 0 [some (vi i), some (vi s), some (vi n), some v] [] Q
  refine mw_wf (fun hwf => ?_)
  refine j_iload_n (y := yiJ22_checkFromIndexSize) dJ22_checkFromIndexSize_0 rfl ?_
  refine j_iload_n (y := yiJ22_checkFromIndexSize) dJ22_checkFromIndexSize_1 rfl ?_
  refine j_iorX (y := yiJ22_checkFromIndexSize) r1 dJ22_checkFromIndexSize_2 (e1) ?_
  refine j_iload_n (y := yiJ22_checkFromIndexSize) dJ22_checkFromIndexSize_3 rfl ?_
  refine j_iorX (y := yiJ22_checkFromIndexSize) r2 dJ22_checkFromIndexSize_4 (e2) ?_
  refine j_if_lt (y := yiJ22_checkFromIndexSize) 15 dJ22_checkFromIndexSize_5 (by decide) ⟨by omega, by omega⟩ (fun c5 => False.elim (by omega)) (fun c5 => ?_)
  refine j_iload_n (y := yiJ22_checkFromIndexSize) dJ22_checkFromIndexSize_8 rfl ?_
  refine j_iload_n (y := yiJ22_checkFromIndexSize) dJ22_checkFromIndexSize_9 rfl ?_
  refine j_iload_n (y := yiJ22_checkFromIndexSize) dJ22_checkFromIndexSize_10 rfl ?_
  refine j_isub (y := yiJ22_checkFromIndexSize) dJ22_checkFromIndexSize_11 ?_
  refine j_icmp_le (y := yiJ22_checkFromIndexSize) 23 dJ22_checkFromIndexSize_12 (by decide) ⟨⟨by omega, by omega⟩, ⟨by omega, by omega⟩⟩ (fun c12 => ?_) (fun c12 => False.elim (by omega))
  refine j_iload_n (y := yiJ22_checkFromIndexSize) dJ22_checkFromIndexSize_23 rfl ?_
  subst hQ; exact j_iret (y := yiJ22_checkFromIndexSize) dJ22_checkFromIndexSize_24 rfl (⟨rfl, rfl⟩)
theorem c_J7_checkIndex (K : KT) (d : Nat) (h : MH) (i n : Int) (hd : 1 ≤ d) (hV2 : (kV K 2).category ≠ 2) (hi : 0 ≤ i ∧ i < n) (hn : In n) : Mt K yiJ7_checkIndex d [vi i, vi n] h (Rv fun h' => h = h') := by
  refine mt_ofQ (by decide) (Nat.le_of_ble_eq_true rfl) (fun Q hQ => ?_)
  show MW K yiJ7_checkIndex d h 0 [some (vi i), some (vi n)] [] Q
  refine mw_wf (fun hwf => ?_)
  refine j_iload_n (y := yiJ7_checkIndex) dJ7_checkIndex_0 rfl ?_
  refine j_iload_n (y := yiJ7_checkIndex) dJ7_checkIndex_1 rfl ?_
  refine m_gets (y := yiJ7_checkIndex) (ref := "") 2 rfl dJ7_checkIndex_2 q426 rfl ?_
  refine m_invS (y := yiJ7_checkIndex) [(vi i), (vi n), kV K 2] dJ7_checkIndex_5 q1278 q1043 q148 q1044 (c_J22_checkIndexV K 0 h i n (kV K 2) hV2 hi hn) pdJ22_checkIndex ⟨Nat.le_of_ble_eq_true rfl, by decide, by omega⟩ (kk_z fun r5 h5 q5 => ?_) kx_z
  obtain ⟨rfl, rfl⟩ := q5
  refine mw_top (x' := i) rfl ?_
  refine m_pop (y := yiJ7_checkIndex) dJ7_checkIndex_8 rfl ?_
  subst hQ; exact j_vret (y := yiJ7_checkIndex) dJ7_checkIndex_9 rfl rfl
theorem c_J7_checkBoundsBeginEnd (K : KT) (d : Nat) (h : MH) (i j n : Int) (hd : 1 ≤ d) (hV2 : (kV K 2).category ≠ 2) (hi : 0 ≤ i ∧ i ≤ j ∧ j ≤ n) (hn : In n) : Mt K yiJ7_checkBoundsBeginEnd d [vi i, vi j, vi n] h (Rv fun h' => h = h') := by
  refine mt_ofQ (by decide) (Nat.le_of_ble_eq_true rfl) (fun Q hQ => ?_)
  show MW K yiJ7_checkBoundsBeginEnd d h 0 [some (vi i), some (vi j), some (vi n)] [] Q
  refine mw_wf (fun hwf => ?_)
  refine j_iload_n (y := yiJ7_checkBoundsBeginEnd) dJ7_checkBoundsBeginEnd_0 rfl ?_
  refine j_iload_n (y := yiJ7_checkBoundsBeginEnd) dJ7_checkBoundsBeginEnd_1 rfl ?_
  refine j_iload_n (y := yiJ7_checkBoundsBeginEnd) dJ7_checkBoundsBeginEnd_2 rfl ?_
  refine m_gets (y := yiJ7_checkBoundsBeginEnd) (ref := "") 2 rfl dJ7_checkBoundsBeginEnd_3 q426 rfl ?_
  refine m_invS (y := yiJ7_checkBoundsBeginEnd) [(vi i), (vi j), (vi n), kV K 2] dJ7_checkBoundsBeginEnd_6 q428 q429 q148 q430 (c_J22_checkFromToIndex K 0 h i j n (kV K 2) hV2 hi hn) pdJ22_checkFromToIndex ⟨Nat.le_of_ble_eq_true rfl, by decide, by omega⟩ (kk_z fun r6 h6 q6 => ?_) kx_z
  obtain ⟨rfl, rfl⟩ := q6
  refine mw_top (x' := i) rfl ?_
  refine m_pop (y := yiJ7_checkBoundsBeginEnd) dJ7_checkBoundsBeginEnd_9 rfl ?_
  subst hQ; exact j_vret (y := yiJ7_checkBoundsBeginEnd) dJ7_checkBoundsBeginEnd_10 rfl rfl
theorem c_J7_checkBoundsOffCount (K : KT) (d : Nat) (h : MH) (i s n : Int) (hd : 1 ≤ d) (hV2 : (kV K 2).category ≠ 2) (hi : 0 ≤ i ∧ 0 ≤ s ∧ i + s ≤ n) (hn : In n) : Mt K yiJ7_checkBoundsOffCount d [vi i, vi s, vi n] h (Rz fun r h' => h = h' ∧ i = r) := by
  refine mt_ofQ (by decide) (Nat.le_of_ble_eq_true rfl) (fun Q hQ => ?_)
  show MW K yiJ7_checkBoundsOffCount d h 0 [some (vi i), some (vi s), some (vi n)] [] Q
  refine mw_wf (fun hwf => ?_)
  refine j_iload_n (y := yiJ7_checkBoundsOffCount) dJ7_checkBoundsOffCount_0 rfl ?_
  refine j_iload_n (y := yiJ7_checkBoundsOffCount) dJ7_checkBoundsOffCount_1 rfl ?_
  refine j_iload_n (y := yiJ7_checkBoundsOffCount) dJ7_checkBoundsOffCount_2 rfl ?_
  refine m_gets (y := yiJ7_checkBoundsOffCount) (ref := "") 2 rfl dJ7_checkBoundsOffCount_3 q426 rfl ?_
  refine m_invS (y := yiJ7_checkBoundsOffCount) [(vi i), (vi s), (vi n), kV K 2] dJ7_checkBoundsOffCount_6 q474 q475 q148 q476 (c_J22_checkFromIndexSize K 0 h i s n (kV K 2) hV2 hi hn) pdJ22_checkFromIndexSize ⟨Nat.le_of_ble_eq_true rfl, by decide, by omega⟩ (kk_z fun r6 h6 q6 => ?_) kx_z
  obtain ⟨rfl, rfl⟩ := q6
  refine mw_top (x' := i) rfl ?_
  subst hQ; exact j_iret (y := yiJ7_checkBoundsOffCount) dJ7_checkBoundsOffCount_9 rfl (⟨rfl, rfl⟩)
section UTF
variable {K : KT} {d : Nat} {h : MH} {e cap : Nat} {w : Bool} {f : Int → Int}
theorem c_J8_length (he : h.2.2 e = some (w, ba K cap f)) (hc : cap ≤ 100000) : Mt K yiJ8_length d [.ref e] h (Rz fun r h' => h = h' ∧ (cap : Int) / 2 = r) := by
  refine mt_ofQ (by decide) (Nat.le_of_ble_eq_true rfl) (fun Q hQ => ?_)
  show MW K yiJ8_length d h 0 [some (.ref e)] [] Q
  refine mw_wf (fun hwf => ?_)
  have l_he := hwf _ _ he
  refine m_aload_n (y := yiJ8_length) dJ8_length_0 rfl ?_
  refine h_alen (y := yiJ8_length) 2 (by decide) dJ8_length_1 he ?_
  refine j_iconst (y := yiJ8_length) dJ8_length_2 ?_
  refine j_ishr (y := yiJ8_length) dJ8_length_3 ⟨by omega, by omega⟩ ⟨by decide, by decide⟩ ?_
  show MW K yiJ8_length d h 4 [some (.ref e)] [(vi (((cap : Nat) : Int) / 2))] Q
  subst hQ; exact j_iret (y := yiJ8_length) dJ8_length_4 rfl (⟨rfl, rfl⟩)
theorem c_J8_checkIndex (i : Int) (hd : 2 ≤ d) (hV2 : (kV K 2).category ≠ 2) (he : h.2.2 e = some (w, ba K cap f)) (hc : cap ≤ 100000) (hi : 0 ≤ i ∧ 2 * i + 1 < (cap : Int)) : Mt K yiJ8_checkIndex d [vi i, .ref e] h (Rv fun h' => h = h') := by
  refine mt_ofQ (by decide) (Nat.le_of_ble_eq_true rfl) (fun Q hQ => ?_)
  show MW K yiJ8_checkIndex d h 0 [some (vi i), some (.ref e)] [] Q
  refine mw_wf (fun hwf => ?_)
  have l_he := hwf _ _ he
  refine j_iload_n (y := yiJ8_checkIndex) dJ8_checkIndex_0 rfl ?_
  refine m_aload_n (y := yiJ8_checkIndex) dJ8_checkIndex_1 rfl ?_
  refine m_invS (y := yiJ8_checkIndex) [(.ref e)] dJ8_checkIndex_2 q420 q421 q132 q422 (c_J8_length (d := 0) he hc) pdJ8_length ⟨Nat.le_of_ble_eq_true rfl, by decide, by omega⟩ (kk_z fun r2 h2 q2 => ?_) kx_z
  obtain ⟨rfl, rfl⟩ := q2
  refine mw_top (x' := (cap : Int) / 2) rfl ?_
  refine m_invS (y := yiJ8_checkIndex) [(vi i), (vi ((cap : Int) / 2))] dJ8_checkIndex_5 q1275 q1276 q131 q1277 (c_J7_checkIndex K 1 h i ((cap : Int) / 2) (by omega) hV2 ⟨by omega, by omega⟩ ⟨by omega, by omega⟩) pdJ7_checkIndex ⟨Nat.le_of_ble_eq_true rfl, by decide, by omega⟩ (kk_v fun h5 q5 => ?_) kx_v
  obtain rfl := q5
  subst hQ; exact j_vret (y := yiJ8_checkIndex) dJ8_checkIndex_8 rfl rfl
theorem c_J8_checkBoundsOffCount (i s : Int) (hd : 2 ≤ d) (hV2 : (kV K 2).category ≠ 2) (he : h.2.2 e = some (w, ba K cap f)) (hc : cap ≤ 100000) (hi : 0 ≤ i ∧ 0 ≤ s ∧ 2 * (i + s) ≤ (cap : Int)) : Mt K yiJ8_checkBoundsOffCount d [vi i, vi s, .ref e] h (Rv fun h' => h = h') := by
  refine mt_ofQ (by decide) (Nat.le_of_ble_eq_true rfl) (fun Q hQ => ?_)
  show MW K yiJ8_checkBoundsOffCount d h 0 [some (vi i), some (vi s), some (.ref e)] [] Q
  refine mw_wf (fun hwf => ?_)
  have l_he := hwf _ _ he
  refine j_iload_n (y := yiJ8_checkBoundsOffCount) dJ8_checkBoundsOffCount_0 rfl ?_
  refine j_iload_n (y := yiJ8_checkBoundsOffCount) dJ8_checkBoundsOffCount_1 rfl ?_
  refine m_aload_n (y := yiJ8_checkBoundsOffCount) dJ8_checkBoundsOffCount_2 rfl ?_
  refine m_invS (y := yiJ8_checkBoundsOffCount) [(.ref e)] dJ8_checkBoundsOffCount_3 q420 q421 q132 q422 (c_J8_length (d := 0) he hc) pdJ8_length ⟨Nat.le_of_ble_eq_true rfl, by decide, by omega⟩ (kk_z fun r3 h3 q3 => ?_) kx_z
  obtain ⟨rfl, rfl⟩ := q3
  refine mw_top (x' := (cap : Int) / 2) rfl ?_
  refine m_invS (y := yiJ8_checkBoundsOffCount) [(vi i), (vi s), (vi ((cap : Int) / 2))] dJ8_checkBoundsOffCount_6 q471 q472 q131 q473 (c_J7_checkBoundsOffCount K 1 h i s ((cap : Int) / 2) (by omega) hV2 ⟨by omega, by omega, by omega⟩ ⟨by omega, by omega⟩) pdJ7_checkBoundsOffCount ⟨Nat.le_of_ble_eq_true rfl, by decide, by omega⟩ (kk_z fun r6 h6 q6 => ?_) kx_z
  obtain ⟨rfl, rfl⟩ := q6
  refine mw_top (x' := i) rfl ?_
  refine m_pop (y := yiJ8_checkBoundsOffCount) dJ8_checkBoundsOffCount_9 rfl ?_
  subst hQ; exact j_vret (y := yiJ8_checkBoundsOffCount) dJ8_checkBoundsOffCount_10 rfl rfl
theorem c_J8_checkBoundsBeginEnd (i j : Int) (hd : 2 ≤ d) (hV2 : (kV K 2).category ≠ 2) (he : h.2.2 e = some (w, ba K cap f)) (hc : cap ≤ 100000) (hi : 0 ≤ i ∧ i ≤ j ∧ 2 * j ≤ (cap : Int)) : Mt K yiJ8_checkBoundsBeginEnd d [vi i, vi j, .ref e] h (Rv fun h' => h = h') := by
  refine mt_ofQ (by decide) (Nat.le_of_ble_eq_true rfl) (fun Q hQ => ?_)
  show MW K yiJ8_checkBoundsBeginEnd d h 0 [some (vi i), some (vi j), some (.ref e)] [] Q
  refine mw_wf (fun hwf => ?_)
  have l_he := hwf _ _ he
  refine j_iload_n (y := yiJ8_checkBoundsBeginEnd) dJ8_checkBoundsBeginEnd_0 rfl ?_
  refine j_iload_n (y := yiJ8_checkBoundsBeginEnd) dJ8_checkBoundsBeginEnd_1 rfl ?_
  refine m_aload_n (y := yiJ8_checkBoundsBeginEnd) dJ8_checkBoundsBeginEnd_2 rfl ?_
  refine m_invS (y := yiJ8_checkBoundsBeginEnd) [(.ref e)] dJ8_checkBoundsBeginEnd_3 q420 q421 q132 q422 (c_J8_length (d := 0) he hc) pdJ8_length ⟨Nat.le_of_ble_eq_true rfl, by decide, by omega⟩ (kk_z fun r3 h3 q3 => ?_) kx_z
  obtain ⟨rfl, rfl⟩ := q3
  refine mw_top (x' := (cap : Int) / 2) rfl ?_
  refine m_invS (y := yiJ8_checkBoundsBeginEnd) [(vi i), (vi j), (vi ((cap : Int) / 2))] dJ8_checkBoundsBeginEnd_6 q423 q424 q131 q425 (c_J7_checkBoundsBeginEnd K 1 h i j ((cap : Int) / 2) (by omega) hV2 ⟨by omega, by omega, by omega⟩ ⟨by omega, by omega⟩) pdJ7_checkBoundsBeginEnd ⟨Nat.le_of_ble_eq_true rfl, by decide, by omega⟩ (kk_v fun h6 q6 => ?_) kx_v
  obtain rfl := q6
  subst hQ; exact j_vret (y := yiJ8_checkBoundsBeginEnd) dJ8_checkBoundsBeginEnd_9 rfl rfl
/-- the constants of the JDK's texts -/
def KTx (K : KT) : Prop := kV K 1 = vi 1 ∧ kV K 3 = vi 1 ∧ kV K 4 = vi 0 ∧ kV K 5 = vi 8 ∧ (kV K 2).category ≠ 2
theorem KOk.tx {K : KT} {e0 cc : Nat} (h : KOk K e0 cc) (hV2 : (kV K 2).category ≠ 2) : KTx K := ⟨h.2.1, h.2.2.1, h.2.2.2.1, h.2.2.2.2.1, hV2⟩
theorem c_J8_putChar (i c : Int) (hK : KTx K) (he : h.2.2 e = some (true, ba K cap f)) (hc : cap ≤ 100000) (hi : 0 ≤ i ∧ 2 * i + 1 < (cap : Int)) (hch : 0 ≤ c ∧ c ≤ 65535) : Mt K yiJ8_putChar d [.ref e, vi i, vi c] h (Rv fun h' => Hp h h' e (true, ba K cap (upz (upz f (2 * i) (sb c)) (2 * i + 1) (sb (c / 256)))) 0 0) := by
  obtain ⟨k1, k3, k4, k5, kv2⟩ := hK
  have b1 := sby_b c
  have b2 := sby_b (c / 256)
  refine mt_ofQ (by decide) (Nat.le_of_ble_eq_true rfl) (fun Q hQ => ?_)
  show MW K yiJ8_putChar d h 0 [some (.ref e), some (vi i), some (vi c)] [] Q
  refine mw_wf (fun hwf => ?_)
  have l_he := hwf _ _ he
  refine m_gets (y := yiJ8_putChar) (ref := "") 3 rfl dJ8_putChar_0 q434 k3 ?_
  refine j_if_ne (y := yiJ8_putChar) 28 dJ8_putChar_3 (by decide) ⟨by decide, by decide⟩ (fun _ => ?_) (fun c => absurd c (by decide))
  refine j_iload_n (y := yiJ8_putChar) dJ8_putChar_28 rfl ?_
  refine j_iconst (y := yiJ8_putChar) dJ8_putChar_29 ?_
  refine j_ishlK (y := yiJ8_putChar) 1 dJ8_putChar_30 (by decide) (by decide) ⟨by omega, by omega⟩ ?_
  show MW K yiJ8_putChar d h 31 [some (.ref e), some (vi i), some (vi c)] [(vi (i * 2))] Q
  refine mw_top (x' := 2 * i) ((by omega)) ?_
  refine j_istore_n (y := yiJ8_putChar) [some (.ref e), some (vi (2 * i)), some (vi c)] dJ8_putChar_31 (by decide) rfl rfl ?_
  refine m_aload_n (y := yiJ8_putChar) dJ8_putChar_32 rfl ?_
  refine j_iload_n (y := yiJ8_putChar) dJ8_putChar_33 rfl ?_
  refine j_iinc (y := yiJ8_putChar) [some (.ref e), some (vi ((2 * i) + 1)), some (vi c)] dJ8_putChar_34 rfl (by decide) rfl rfl ?_
  refine j_iload_n (y := yiJ8_putChar) dJ8_putChar_37 rfl ?_
  refine m_gets (y := yiJ8_putChar) (ref := "") 4 rfl dJ8_putChar_38 q436 k4 ?_
  refine j_ishr (y := yiJ8_putChar) dJ8_putChar_41 ⟨by omega, by omega⟩ ⟨by decide, by decide⟩ ?_
  show MW K yiJ8_putChar d h 42 [some (.ref e), some (vi ((2 * i) + 1)), some (vi c)] [(vi (c / 1)), (vi (2 * i)), (.ref e)] Q
  refine j_i2b (y := yiJ8_putChar) dJ8_putChar_42 ⟨by omega, by omega⟩ ?_
  refine mw_top (x' := sb c) ((by rw [Int.ediv_one])) ?_
  refine j_bastB (y := yiJ8_putChar) dJ8_putChar_43 he (by omega) ⟨by omega, by omega⟩ ⟨by omega, by omega⟩ (hp_put fun g1 g1H => ?_)
  have he : g1.2.2 e = some (true, ba K cap (upz f (2 * i) (sb c))) := g1H.2.2.1
  have g11 := g1H.1
  have g12 := g1H.2.1
  refine m_aload_n (y := yiJ8_putChar) dJ8_putChar_44 rfl ?_
  refine j_iload_n (y := yiJ8_putChar) dJ8_putChar_45 rfl ?_
  refine j_iload_n (y := yiJ8_putChar) dJ8_putChar_46 rfl ?_
  refine m_gets (y := yiJ8_putChar) (ref := "") 5 rfl dJ8_putChar_47 q438 k5 ?_
  refine j_ishr (y := yiJ8_putChar) dJ8_putChar_50 ⟨by omega, by omega⟩ ⟨by decide, by decide⟩ ?_
  show MW K yiJ8_putChar d g1 51 [some (.ref e), some (vi ((2 * i) + 1)), some (vi c)] [(vi (c / 256)), (vi ((2 * i) + 1)), (.ref e)] Q
  refine j_i2b (y := yiJ8_putChar) dJ8_putChar_51 ⟨by omega, by omega⟩ ?_
  refine j_bastB (y := yiJ8_putChar) dJ8_putChar_52 he (by omega) ⟨by omega, by omega⟩ ⟨by omega, by omega⟩ (hp_put fun g2 g2H => ?_)
  have he : g2.2.2 e = some (true, ba K cap (upz (upz f (2 * i) (sb c)) ((2 * i) + 1) (sb (c / 256)))) := g2H.2.2.1
  have g21 := g2H.1
  have g22 := g2H.2.1
  subst hQ; exact j_vret (y := yiJ8_putChar) dJ8_putChar_53 rfl (⟨by omega, by omega, he, fun b hb => (g2H.2.2.2 b hb).trans (g1H.2.2.2 b hb)⟩)
theorem c_J8_getChar (i u v : Int) (hK : KTx K) (he : h.2.2 e = some (w, ba K cap f)) (hc : cap ≤ 100000) (hi : 0 ≤ i ∧ 2 * i + 1 < (cap : Int)) (h1 : f (2 * i) = sb u) (h2 : f (2 * i + 1) = sb v) (hu : 0 ≤ u ∧ u < 256) (hv : 0 ≤ v ∧ v < 256) : Mt K yiJ8_getChar d [.ref e, vi i] h (Rz fun r h' => h = h' ∧ u + v * 256 = r) := by
  obtain ⟨k1, k3, k4, k5, kv2⟩ := hK
  have b1 := sby_b u
  have b2 := sby_b v
  refine mt_ofQ (by decide) (Nat.le_of_ble_eq_true rfl) (fun Q hQ => ?_)
  show MW K yiJ8_getChar d h 0 [some (.ref e), some (vi i)] [] Q
  refine mw_wf (fun hwf => ?_)
  have l_he := hwf _ _ he
  refine m_gets (y := yiJ8_getChar) (ref := "") 3 rfl dJ8_getChar_0 q434 k3 ?_
  refine j_if_ne (y := yiJ8_getChar) 28 dJ8_getChar_3 (by decide) ⟨by decide, by decide⟩ (fun _ => ?_) (fun c => absurd c (by decide))
  refine j_iload_n (y := yiJ8_getChar) dJ8_getChar_28 rfl ?_
  refine j_iconst (y := yiJ8_getChar) dJ8_getChar_29 ?_
  refine j_ishlK (y := yiJ8_getChar) 1 dJ8_getChar_30 (by decide) (by decide) ⟨by omega, by omega⟩ ?_
  show MW K yiJ8_getChar d h 31 [some (.ref e), some (vi i)] [(vi (i * 2))] Q
  refine mw_top (x' := 2 * i) ((by omega)) ?_
  refine j_istore_n (y := yiJ8_getChar) [some (.ref e), some (vi (2 * i))] dJ8_getChar_31 (by decide) rfl rfl ?_
  refine m_aload_n (y := yiJ8_getChar) dJ8_getChar_32 rfl ?_
  refine j_iload_n (y := yiJ8_getChar) dJ8_getChar_33 rfl ?_
  refine j_iinc (y := yiJ8_getChar) [some (.ref e), some (vi ((2 * i) + 1))] dJ8_getChar_34 rfl (by decide) rfl rfl ?_
  refine j_bald (y := yiJ8_getChar) dJ8_getChar_37 he (by omega) ⟨by omega, by omega⟩ ?_
  refine mw_top (x' := sb u) (h1) ?_
  refine j_sipush (y := yiJ8_getChar) dJ8_getChar_38 (by decide) ?_
  refine j_iandX (y := yiJ8_getChar) u dJ8_getChar_41 ((by rw [vi_and255 b1, sb_m]; congr 1; omega)) ?_
  refine m_gets (y := yiJ8_getChar) (ref := "") 4 rfl dJ8_getChar_42 q436 k4 ?_
  refine j_ishlK (y := yiJ8_getChar) 0 dJ8_getChar_45 (by decide) (by decide) ⟨by omega, by omega⟩ ?_
  show MW K yiJ8_getChar d h 46 [some (.ref e), some (vi ((2 * i) + 1))] [(vi (u * 1))] Q
  refine m_aload_n (y := yiJ8_getChar) dJ8_getChar_46 rfl ?_
  refine j_iload_n (y := yiJ8_getChar) dJ8_getChar_47 rfl ?_
  refine j_bald (y := yiJ8_getChar) dJ8_getChar_48 he (by omega) ⟨by omega, by omega⟩ ?_
  refine mw_top (x' := sb v) (h2) ?_
  refine j_sipush (y := yiJ8_getChar) dJ8_getChar_49 (by decide) ?_
  refine j_iandX (y := yiJ8_getChar) v dJ8_getChar_52 ((by rw [vi_and255 b2, sb_m]; congr 1; omega)) ?_
  refine m_gets (y := yiJ8_getChar) (ref := "") 5 rfl dJ8_getChar_53 q438 k5 ?_
  refine j_ishlK (y := yiJ8_getChar) 8 dJ8_getChar_56 (by decide) (by decide) ⟨by omega, by omega⟩ ?_
  show MW K yiJ8_getChar d h 57 [some (.ref e), some (vi ((2 * i) + 1))] [(vi (v * 256)), (vi (u * 1))] Q
  refine j_iorX (y := yiJ8_getChar) (u + v * 256) dJ8_getChar_57 ((by rw [Int.mul_one]; exact vi_or8 hu hv)) ?_
  refine j_i2c (y := yiJ8_getChar) dJ8_getChar_58 ⟨by omega, by omega⟩ ?_
  subst hQ; exact j_cret (y := yiJ8_getChar) dJ8_getChar_59 rfl (by omega) (⟨rfl, rfl⟩)
end UTF
