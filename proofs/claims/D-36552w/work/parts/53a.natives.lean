/-! Math.max, Math.min, System.arraycopy over MW -/
section NT
variable {K : KT} {y : YT} {d : Nat} {h : MH} {pc : Nat} {ls : List (Option Value)} {st : List Value} {Q : OT → MH → Prop}
theorem m_mmax {index : Nat} {x z : Int} (hdg : decode y.2.1 pc = .ok (.invokestatic index, 3)) (hl1 : Cond.methodLink y.1.cls index Lib.Math.max.name ∈ lw_all) (hl2 : Cond.static Lib.Math.max.name ∈ lw_all) (hl3 : Cond.initialized "java/lang/Math" ∈ lw_all) (hl4 : Cond.code Lib.Math.max.name Lib.Math.max.code 2 (some .int) ∈ lw_all) (hx : In x ∧ In z) (hr : (st.map fun v => v.category).sum ≤ 8 ∧ 1 ≤ d) (kk : MW K y d h (pc + 3) ls (vi (if x < z then z else x) :: st) Q) : MW K y d h pc ls (vi z :: vi x :: st) Q := by
  intro p e R s m args below meth c H locs cells slots la C hR hf hc hs h1 h2 hl
  obtain ⟨r1, r2, r3, r4⟩ := C.rc
  refine va_mmax C.1 C.2.1 (C.2.2.1.trans hl.1.symm) C.2.2.2.1 (C.al hl1 args) (C.al hl2 args) (C.al hl3 args) (C.al hl4 args) (by omega) (by omega) h1 h2 hdg ?_
  have e2 : (if Int32.ofInt x < Int32.ofInt z then Int32.ofInt z else Int32.ofInt x) = Int32.ofInt (if x < z then z else x) := by
    by_cases g : x < z
    · rw [if_pos g, if_pos ((In.lt hx.1 hx.2).mpr g)]
    · rw [if_neg g, if_neg (fun q => g ((In.lt hx.1 hx.2).mp q))]
  rw [e2]
  exact kk p e R s m args below meth c H locs cells slots la C hR hf hc hs h1 h2 hl
theorem m_mmin {index : Nat} {x z : Int} (hdg : decode y.2.1 pc = .ok (.invokestatic index, 3)) (hl1 : Cond.methodLink y.1.cls index Lib.Math.min.name ∈ lw_all) (hl2 : Cond.static Lib.Math.min.name ∈ lw_all) (hl3 : Cond.initialized "java/lang/Math" ∈ lw_all) (hl4 : Cond.code Lib.Math.min.name Lib.Math.min.code 2 (some .int) ∈ lw_all) (hx : In x ∧ In z) (hr : (st.map fun v => v.category).sum ≤ 8 ∧ 1 ≤ d) (kk : MW K y d h (pc + 3) ls (vi (if z < x then z else x) :: st) Q) : MW K y d h pc ls (vi z :: vi x :: st) Q := by
  intro p e R s m args below meth c H locs cells slots la C hR hf hc hs h1 h2 hl
  obtain ⟨r1, r2, r3, r4⟩ := C.rc
  refine va_mmin C.1 C.2.1 (C.2.2.1.trans hl.1.symm) C.2.2.2.1 (C.al hl1 args) (C.al hl2 args) (C.al hl3 args) (C.al hl4 args) (by omega) (by omega) h1 h2 hdg ?_
  have e2 : (if Int32.ofInt z < Int32.ofInt x then Int32.ofInt z else Int32.ofInt x) = Int32.ofInt (if z < x then z else x) := by
    by_cases g : z < x
    · rw [if_pos g, if_pos ((In.lt hx.2 hx.1).mpr g)]
    · rw [if_neg g, if_neg (fun q => g ((In.lt hx.2 hx.1).mp q))]
  first
  | (rw [e2]; exact kk p e R s m args below meth c H locs cells slots la C hR hf hc hs h1 h2 hl)
  | exact kk p e R s m args below meth c H locs cells slots la C hR hf hc hs h1 h2 hl
theorem i32n {z : Int32} (hz : ¬ z < 0) : z.toInt = (z.toNatClampNeg : Int) := by
  have hz0 : (0 : Int) ≤ z.toInt := by
    have := Int32.not_lt.mp hz
    simpa using Int32.le_iff_toInt_le.mp this
  show z.toInt = ((z.toInt.toNat : Nat) : Int)
  omega
theorem sp_slots (at_ : Nat) : ∀ (vs : List (Value × Nat)) (c c' : Cell), c.slots = c'.slots → (c.storePairs at_ vs).slots = (c'.storePairs at_ vs).slots ∧ (c.storePairs at_ vs).cls = c.cls ∧ (c.storePairs at_ vs).vm = c.vm
  | [], c, c', h => ⟨h, rfl, rfl⟩
  | q :: r, c, c', h => by
    have := sp_slots at_ r (c.setSlot (at_ + q.2) q.1) (c'.setSlot (at_ + q.2) q.1) (by simp only [Cell.setSlot]; rw [h])
    exact ⟨this.1, this.2.1.trans rfl, this.2.2.trans rfl⟩
theorem st_eq {c c' : Cell} (h : c.slots = c'.slots) (a n : Nat) : c.stretch a n = c'.stretch a n := by unfold Cell.stretch; rw [h]
theorem m_copyi (t : Nat) (ht : t < 5) (hprim : refKind (kTy t) = false) {index a0 a n0 n1 : Nat} {w : Bool} {f g : Nat → Int32} {sp dp n : Int32} (hdg : decode y.2.1 pc = .ok (.invokestatic index, 3)) (hl1 : Cond.methodLink y.1.cls index arraycopyName ∈ lw_all) (hl2 : Cond.native arraycopyName ∈ lw_all) (hl3 : Cond.static arraycopyName ∈ lw_all) (hl4 : Cond.initialized "java/lang/System" ∈ lw_all) (ha0 : h.2.2 a0 = some (w, .inl (kA K t, n0, .inl f))) (ha : h.2.2 a = some (true, .inl (kA K t, n1, .inl g))) (h1 : ¬ sp < 0) (h2 : ¬ dp < 0) (h3 : ¬ n < 0) (h4 : sp.toNatClampNeg + n.toNatClampNeg ≤ n0) (h5 : dp.toNatClampNeg + n.toNatClampNeg ≤ n1) (hfit : ∀ i, i < n.toNatClampNeg → fits (kTy t) (.int (f (sp.toNatClampNeg + i))) = true) (hr : (st.map fun v => v.category).sum ≤ 8 ∧ 1 ≤ d) (kk : MW K y d (hput h a (true, .inl (kA K t, n1, .inl (va_cpy f g sp.toNatClampNeg dp.toNatClampNeg n.toNatClampNeg)))) (pc + 3) ls st Q) : MW K y d h pc ls (.int n :: .int dp :: .ref a :: .int sp :: .ref a0 :: st) Q := by
  intro p e R s m args below meth c9 H locs cells slots la C9 hR hf hc9 hs hz1 hz2 hl
  obtain ⟨r1, r2, r3, r4⟩ := C9.rc
  intro T hT X
  obtain ⟨cs, s1, s2, s3, s4, s5, s6⟩ := hR.2.2.2.2 a0 _ ha0
  obtain ⟨cd, d1, d2, d3, d4, d5, d6⟩ := hR.2.2.2.2 a _ ha
  dsimp only at s5 s6 d5 d6
  rw [vp_cell_i] at s6 d6
  obtain ⟨-, k0, hk0, cm0, hkk0⟩ := C9.arr t (by omega) n0 (fun j => .int (f j))
  have hnf : (nativeFrameWords "java/lang/System" "arraycopy" 5 + 11) ≤ 50 := by decide +kernel
  obtain ⟨vm', X', step⟩ := X.arraycopy C9.1 C9.2.2.2.1 (C9.al hl1 args) (C9.al hl2 args) (C9.al hl3 args) (C9.al hl4 args) (src := a0) (dst := a) (cs := cs) (cd := cd) (srcPos := sp) (destPos := dp) (n := n) (by rw [hT]; exact s1) (by rw [hT]; exact d1)
    (fun q hq => by rw [hq] at s2; cases s2) (fun q hq => by rw [hq] at d2; cases d2) s3 d3 (by rw [s5]; exact hk0) (by rw [d5]; exact hk0) hkk0 hkk0 (by simp [hprim]) h1 h2 h3
    (by rw [i32n h1, i32n h3, s6, arrV_size]; omega)
    (by rw [i32n h2, i32n h3, d6, arrV_size]; omega)
    (fun vm₁ _ i hi => by
      have e : cs.slots.getD (sp.toNatClampNeg + i) .null = .int (f (sp.toNatClampNeg + i)) := by
        rw [s6, Array.getD_eq_getD_getElem?, arrV_read _ _ (by omega)]
        rfl
      rw [e]
      exact ⟨hfit i hi, trivial⟩)
    (g := F0 m pc la (.int n :: .int dp :: .ref a :: .int sp :: .ref a0 :: st)) rfl (by show la.size = _; rw [hl.1, C9.2.2.1]) (rest := st) rfl (by rw [C9.2.1]; exact hdg) (by omega) (by show 2 * 0 + _ + _ ≤ _; omega)
  have hsl := sp_slots dp.toNatClampNeg ((cs.stretch sp.toNatClampNeg n.toNatClampNeg).zipIdx) cd (arrV (kA K t) n1 (fun j => .int (g j))) d6
  have e1 : (copied cs cd sp dp n).slots = (arrV (kA K t) n1 (fun j => .int (va_cpy f g sp.toNatClampNeg dp.toNatClampNeg n.toNatClampNeg j))).slots := by
    show (cd.storePairs _ _).slots = _
    rw [hsl.1, st_eq s6]
    exact congrArg Cell.slots (va_copied (fun z => .int z) (kA K t) (kA K t) f g h4)
  have hlt : a < H.size := (Array.getElem?_eq_some_iff.mp d1).1
  have hheap : ((T.setVm vm').setCell a (copied cs cd sp dp n)).heap = H.setIfInBounds a (copied cs cd sp dp n) := by rw [← hT]; rfl
  have oq : ∀ q : Nat, q ≠ a → (H.setIfInBounds a (copied cs cd sp dp n))[q]? = H[q]? := fun q hq => by simp [Array.getElem?_setIfInBounds, Ne.symm hq]
  have oa : (H.setIfInBounds a (copied cs cd sp dp n))[a]? = some (copied cs cd sp dp n) := by simp [Array.getElem?_setIfInBounds, hlt]
  have hR' : Rep K (hput h a (true, .inl (kA K t, n1, .inl (va_cpy f g sp.toNatClampNeg dp.toNatClampNeg n.toNatClampNeg)))) (H.setIfInBounds a (copied cs cd sp dp n)) := by
    refine hR.put (d4 rfl).1 (by simp) oq ?_ ⟨_, oa, by show (copied cs cd sp dp n).vm.isStatics = false; rw [show (copied cs cd sp dp n).vm = cd.vm from hsl.2.2]; exact d2, by rw [show (copied cs cd sp dp n).vm = cd.vm from hsl.2.2]; exact d3, fun q => ⟨(d4 rfl).1, by rw [show (copied cs cd sp dp n).vm = cd.vm from hsl.2.2]; exact (d4 rfl).2⟩, by show (copied cs cd sp dp n).cls = _; rw [show (copied cs cd sp dp n).cls = cd.cls from hsl.2.1]; exact d5, by rw [vp_cell_i]; exact e1⟩
    rw [oa, d1]
    simp only [Option.map_some]
    rw [e1, d6, arrV_size, arrV_size]
  obtain ⟨t9, a1, b1⟩ := kk p e R s m args below meth c9 _ _ cells slots la C9 hR' (fun z hz => by
    rcases List.mem_append.mp hz with hz | hz
    · exact hf z hz
    · obtain ⟨q, -, hq⟩ := List.mem_map.mp hz
      rw [← hq]; exact (d4 rfl).1) (by simp; exact hc9) (by rw [hR'.2.1, hs, hR.2.1]; rfl) hz1 hz2 hl _ hheap X'
  exact ⟨t9, step t9 a1, b1⟩
theorem m_copyl {index a0 a n0 n1 : Nat} {w : Bool} {f g : Nat → Int64} {sp dp n : Int32} (hdg : decode y.2.1 pc = .ok (.invokestatic index, 3)) (hl1 : Cond.methodLink y.1.cls index arraycopyName ∈ lw_all) (hl2 : Cond.native arraycopyName ∈ lw_all) (hl3 : Cond.static arraycopyName ∈ lw_all) (hl4 : Cond.initialized "java/lang/System" ∈ lw_all) (ha0 : h.2.2 a0 = some (w, .inl (kA K 1, n0, .inr (.inl f)))) (ha : h.2.2 a = some (true, .inl (kA K 1, n1, .inr (.inl g)))) (h1 : ¬ sp < 0) (h2 : ¬ dp < 0) (h3 : ¬ n < 0) (h4 : sp.toNatClampNeg + n.toNatClampNeg ≤ n0) (h5 : dp.toNatClampNeg + n.toNatClampNeg ≤ n1) (hr : (st.map fun v => v.category).sum ≤ 8 ∧ 1 ≤ d) (kk : MW K y d (hput h a (true, .inl (kA K 1, n1, .inr (.inl (va_cpy f g sp.toNatClampNeg dp.toNatClampNeg n.toNatClampNeg))))) (pc + 3) ls st Q) : MW K y d h pc ls (.int n :: .int dp :: .ref a :: .int sp :: .ref a0 :: st) Q := by
  intro p e R s m args below meth c9 H locs cells slots la C9 hR hf hc9 hs hz1 hz2 hl
  obtain ⟨r1, r2, r3, r4⟩ := C9.rc
  intro T hT X
  obtain ⟨cs, s1, s2, s3, s4, s5, s6⟩ := hR.2.2.2.2 a0 _ ha0
  obtain ⟨cd, d1, d2, d3, d4, d5, d6⟩ := hR.2.2.2.2 a _ ha
  dsimp only at s5 s6 d5 d6
  rw [vp_cell_l] at s6 d6
  obtain ⟨-, k0, hk0, cm0, hkk0⟩ := C9.arr 1 (by omega) n0 (fun j => .long (f j))
  have hnf : (nativeFrameWords "java/lang/System" "arraycopy" 5 + 11) ≤ 50 := by decide +kernel
  obtain ⟨vm', X', step⟩ := X.arraycopy C9.1 C9.2.2.2.1 (C9.al hl1 args) (C9.al hl2 args) (C9.al hl3 args) (C9.al hl4 args) (src := a0) (dst := a) (cs := cs) (cd := cd) (srcPos := sp) (destPos := dp) (n := n) (by rw [hT]; exact s1) (by rw [hT]; exact d1)
    (fun q hq => by rw [hq] at s2; cases s2) (fun q hq => by rw [hq] at d2; cases d2) s3 d3 (by rw [s5]; exact hk0) (by rw [d5]; exact hk0) hkk0 hkk0 rfl h1 h2 h3
    (by rw [i32n h1, i32n h3, s6, arrV_size]; omega)
    (by rw [i32n h2, i32n h3, d6, arrV_size]; omega)
    (fun vm₁ _ i hi => by
      have e : cs.slots.getD (sp.toNatClampNeg + i) .null = .long (f (sp.toNatClampNeg + i)) := by
        rw [s6, Array.getD_eq_getD_getElem?, arrV_read _ _ (by omega)]
        rfl
      rw [e]
      exact ⟨rfl, trivial⟩)
    (g := F0 m pc la (.int n :: .int dp :: .ref a :: .int sp :: .ref a0 :: st)) rfl (by show la.size = _; rw [hl.1, C9.2.2.1]) (rest := st) rfl (by rw [C9.2.1]; exact hdg) (by omega) (by show 2 * 0 + _ + _ ≤ _; omega)
  have hsl := sp_slots dp.toNatClampNeg ((cs.stretch sp.toNatClampNeg n.toNatClampNeg).zipIdx) cd (arrV (kA K 1) n1 (fun j => .long (g j))) d6
  have e1 : (copied cs cd sp dp n).slots = (arrV (kA K 1) n1 (fun j => .long (va_cpy f g sp.toNatClampNeg dp.toNatClampNeg n.toNatClampNeg j))).slots := by
    show (cd.storePairs _ _).slots = _
    rw [hsl.1, st_eq s6]
    exact congrArg Cell.slots (va_copied (fun z => .long z) (kA K 1) (kA K 1) f g h4)
  have hlt : a < H.size := (Array.getElem?_eq_some_iff.mp d1).1
  have hheap : ((T.setVm vm').setCell a (copied cs cd sp dp n)).heap = H.setIfInBounds a (copied cs cd sp dp n) := by rw [← hT]; rfl
  have oq : ∀ q : Nat, q ≠ a → (H.setIfInBounds a (copied cs cd sp dp n))[q]? = H[q]? := fun q hq => by simp [Array.getElem?_setIfInBounds, Ne.symm hq]
  have oa : (H.setIfInBounds a (copied cs cd sp dp n))[a]? = some (copied cs cd sp dp n) := by simp [Array.getElem?_setIfInBounds, hlt]
  have hR' : Rep K (hput h a (true, .inl (kA K 1, n1, .inr (.inl (va_cpy f g sp.toNatClampNeg dp.toNatClampNeg n.toNatClampNeg))))) (H.setIfInBounds a (copied cs cd sp dp n)) := by
    refine hR.put (d4 rfl).1 (by simp) oq ?_ ⟨_, oa, by show (copied cs cd sp dp n).vm.isStatics = false; rw [show (copied cs cd sp dp n).vm = cd.vm from hsl.2.2]; exact d2, by rw [show (copied cs cd sp dp n).vm = cd.vm from hsl.2.2]; exact d3, fun q => ⟨(d4 rfl).1, by rw [show (copied cs cd sp dp n).vm = cd.vm from hsl.2.2]; exact (d4 rfl).2⟩, by show (copied cs cd sp dp n).cls = _; rw [show (copied cs cd sp dp n).cls = cd.cls from hsl.2.1]; exact d5, by rw [vp_cell_l]; exact e1⟩
    rw [oa, d1]
    simp only [Option.map_some]
    rw [e1, d6, arrV_size, arrV_size]
  obtain ⟨t9, a1, b1⟩ := kk p e R s m args below meth c9 _ _ cells slots la C9 hR' (fun z hz => by
    rcases List.mem_append.mp hz with hz | hz
    · exact hf z hz
    · obtain ⟨q, -, hq⟩ := List.mem_map.mp hz
      rw [← hq]; exact (d4 rfl).1) (by simp; exact hc9) (by rw [hR'.2.1, hs, hR.2.1]; rfl) hz1 hz2 hl _ hheap X'
  exact ⟨t9, step t9 a1, b1⟩
theorem m_copyq {index a0 a n0 n1 : Nat} {w : Bool} {f g : Nat → Option Nat} {sp dp n : Int32} (hdg : decode y.2.1 pc = .ok (.invokestatic index, 3)) (hl1 : Cond.methodLink y.1.cls index arraycopyName ∈ lw_all) (hl2 : Cond.native arraycopyName ∈ lw_all) (hl3 : Cond.static arraycopyName ∈ lw_all) (hl4 : Cond.initialized "java/lang/System" ∈ lw_all) (ha0 : h.2.2 a0 = some (w, .inl (kA K 5, n0, .inr (.inr (.inr (.inr f)))))) (ha : h.2.2 a = some (true, .inl (kA K 5, n1, .inr (.inr (.inr (.inr g)))))) (h1 : ¬ sp < 0) (h2 : ¬ dp < 0) (h3 : ¬ n < 0) (h4 : sp.toNatClampNeg + n.toNatClampNeg ≤ n0) (h5 : dp.toNatClampNeg + n.toNatClampNeg ≤ n1) (hel : ∀ i, i < n.toNatClampNeg → ∀ v, f (sp.toNatClampNeg + i) = some v → IsO h v) (hr : (st.map fun v => v.category).sum ≤ 8 ∧ 1 ≤ d) (kk : MW K y d (hput h a (true, .inl (kA K 5, n1, .inr (.inr (.inr (.inr (va_cpy f g sp.toNatClampNeg dp.toNatClampNeg n.toNatClampNeg))))))) (pc + 3) ls st Q) : MW K y d h pc ls (.int n :: .int dp :: .ref a :: .int sp :: .ref a0 :: st) Q := by
  intro p e R s m args below meth c9 H locs cells slots la C9 hR hf hc9 hs hz1 hz2 hl
  obtain ⟨r1, r2, r3, r4⟩ := C9.rc
  intro T hT X
  obtain ⟨cs, s1, s2, s3, s4, s5, s6⟩ := hR.2.2.2.2 a0 _ ha0
  obtain ⟨cd, d1, d2, d3, d4, d5, d6⟩ := hR.2.2.2.2 a _ ha
  dsimp only at s5 s6 d5 d6
  rw [vp_cell_q] at s6 d6
  obtain ⟨-, k0, hk0, cm0, hkk0⟩ := C9.arr 5 (by omega) n0 (fun j => va_rf (f j))
  have hnf : (nativeFrameWords "java/lang/System" "arraycopy" 5 + 11) ≤ 50 := by decide +kernel
  obtain ⟨vm', X', step⟩ := X.arraycopy C9.1 C9.2.2.2.1 (C9.al hl1 args) (C9.al hl2 args) (C9.al hl3 args) (C9.al hl4 args) (src := a0) (dst := a) (cs := cs) (cd := cd) (srcPos := sp) (destPos := dp) (n := n) (by rw [hT]; exact s1) (by rw [hT]; exact d1)
    (fun q hq => by rw [hq] at s2; cases s2) (fun q hq => by rw [hq] at d2; cases d2) s3 d3 (by rw [s5]; exact hk0) (by rw [d5]; exact hk0) hkk0 hkk0 rfl h1 h2 h3
    (by rw [i32n h1, i32n h3, s6, arrV_size]; omega)
    (by rw [i32n h2, i32n h3, d6, arrV_size]; omega)
    (fun vm₁ hal i hi => by
      have e : cs.slots.getD (sp.toNatClampNeg + i) .null = va_rf (f (sp.toNatClampNeg + i)) := by
        rw [s6, Array.getD_eq_getD_getElem?, arrV_read _ _ (by omega)]
        rfl
      rw [e]
      cases hy : f (sp.toNatClampNeg + i) with
      | none => exact ⟨rfl, trivial⟩
      | some v =>
        obtain ⟨w9, ci, fs, r9, hv1, hv2, hv3⟩ := hel i hi v hy
        obtain ⟨cellV, v1, v2, v3, v4, r', v5, v6, -⟩ := hR.2.2.2.2 v _ hv1
        cases hv2.symm.trans v5
        obtain ⟨-, hfc, kC9, hkC, -⟩ := C9.gl.1.1 ci _ hv2
        obtain ⟨kA9, comp, k1, k2, k3, -⟩ := C9.ra 5 (by omega)
        cases hk0.symm.trans k1
        cases hkk0.symm.trans k2
        obtain ⟨kE, hkE, -⟩ := Vm.findClass_spec k3
        obtain ⟨c0, t1, f1, f2, f3⟩ := Cond.castable_spec (C9.tb hv3 rfl rfl args)
        cases hfc.symm.trans f1
        cases k3.symm.trans f2
        obtain ⟨kC', hkC', -⟩ := hal.2.2 _ _ hkC
        obtain ⟨kE', hkE', -⟩ := hal.2.2 _ _ hkE
        refine ⟨rfl, cellV, (show T.heap[v]? = some cellV by rw [hT]; exact v1), (fun q h => by rw [h] at v2; cases v2), ⟨kC', by rw [v6]; exact hkC'⟩, ⟨kE', hkE'⟩, ?_⟩
        show vm₁.assignable _ _ = true
        rw [hal.assignable, v6]
        exact f3)
    (g := F0 m pc la (.int n :: .int dp :: .ref a :: .int sp :: .ref a0 :: st)) rfl (by show la.size = _; rw [hl.1, C9.2.2.1]) (rest := st) rfl (by rw [C9.2.1]; exact hdg) (by omega) (by show 2 * 0 + _ + _ ≤ _; omega)
  have hsl := sp_slots dp.toNatClampNeg ((cs.stretch sp.toNatClampNeg n.toNatClampNeg).zipIdx) cd (arrV (kA K 5) n1 (fun j => va_rf (g j))) d6
  have e1 : (copied cs cd sp dp n).slots = (arrV (kA K 5) n1 (fun j => va_rf (va_cpy f g sp.toNatClampNeg dp.toNatClampNeg n.toNatClampNeg j))).slots := by
    show (cd.storePairs _ _).slots = _
    rw [hsl.1, st_eq s6]
    exact congrArg Cell.slots (va_copied (fun z => va_rf z) (kA K 5) (kA K 5) f g h4)
  have hlt : a < H.size := (Array.getElem?_eq_some_iff.mp d1).1
  have hheap : ((T.setVm vm').setCell a (copied cs cd sp dp n)).heap = H.setIfInBounds a (copied cs cd sp dp n) := by rw [← hT]; rfl
  have oq : ∀ q : Nat, q ≠ a → (H.setIfInBounds a (copied cs cd sp dp n))[q]? = H[q]? := fun q hq => by simp [Array.getElem?_setIfInBounds, Ne.symm hq]
  have oa : (H.setIfInBounds a (copied cs cd sp dp n))[a]? = some (copied cs cd sp dp n) := by simp [Array.getElem?_setIfInBounds, hlt]
  have hR' : Rep K (hput h a (true, .inl (kA K 5, n1, .inr (.inr (.inr (.inr (va_cpy f g sp.toNatClampNeg dp.toNatClampNeg n.toNatClampNeg))))))) (H.setIfInBounds a (copied cs cd sp dp n)) := by
    refine hR.put (d4 rfl).1 (by simp) oq ?_ ⟨_, oa, by show (copied cs cd sp dp n).vm.isStatics = false; rw [show (copied cs cd sp dp n).vm = cd.vm from hsl.2.2]; exact d2, by rw [show (copied cs cd sp dp n).vm = cd.vm from hsl.2.2]; exact d3, fun q => ⟨(d4 rfl).1, by rw [show (copied cs cd sp dp n).vm = cd.vm from hsl.2.2]; exact (d4 rfl).2⟩, by show (copied cs cd sp dp n).cls = _; rw [show (copied cs cd sp dp n).cls = cd.cls from hsl.2.1]; exact d5, by rw [vp_cell_q]; exact e1⟩
    rw [oa, d1]
    simp only [Option.map_some]
    rw [e1, d6, arrV_size, arrV_size]
  obtain ⟨t9, a1, b1⟩ := kk p e R s m args below meth c9 _ _ cells slots la C9 hR' (fun z hz => by
    rcases List.mem_append.mp hz with hz | hz
    · exact hf z hz
    · obtain ⟨q, -, hq⟩ := List.mem_map.mp hz
      rw [← hq]; exact (d4 rfl).1) (by simp; exact hc9) (by rw [hR'.2.1, hs, hR.2.1]; rfl) hz1 hz2 hl _ hheap X'
  exact ⟨t9, step t9 a1, b1⟩
theorem m_getC5 {index a n : Nat} {w : Bool} {f : Nat → Option Nat} (hdg : decode y.2.1 pc = .ok (.invokevirtual index, 3)) (hl1 : Cond.methodLink y.1.cls index ⟨"java/lang/Object", "getClass", "()Ljava/lang/Class;"⟩ ∈ lw_all) (ha : h.2.2 a = some (w, .inl (kA K 5, n, .inr (.inr (.inr (.inr f)))))) (hr : (st.map fun v => v.category).sum ≤ 8 ∧ 1 ≤ d) (kk : MW K y d h (pc + 3) ls (.ref (kN K 2) :: st) Q) : MW K y d h pc ls (.ref a :: st) Q := by
  intro p e R s m args below meth c H locs cells slots la C hR hf hc hs h1 h2 hl
  obtain ⟨r1, r2, r3, r4⟩ := C.rc
  obtain ⟨cell, q1, q2, q3, q4, g1, g2⟩ := hR.2.2.2.2 a _ ha
  dsimp only at g1
  obtain ⟨kA9, comp, k1, k2, k3, k4⟩ := C.ra 5 (by omega)
  exact va_getC (C := "[Ljava/lang/Object;") C.1 C.2.1 (C.2.2.1.trans hl.1.symm) C.2.2.2.1 (C.al hl1 args) (C.tb q3713 rfl rfl args) (C.al q3712 args) (C.al q974 args) (C.al q1015 args) C.gl.2.2.2.2.2.2.2.2.2.1 ⟨cell, q1, q2, by rw [g1]; exact k4⟩ (by omega) (by omega) hdg (kk p e R s m args below meth c H locs cells slots la C hR hf hc hs h1 h2 hl)
theorem m_ldcO {index : Nat} (hdg : decode y.2.1 pc = .ok (.ldc index, 2)) (hl1 : Cond.classLink y.1.cls index "[Ljava/lang/Object;" ∈ lw_all) (kk : MW K y d h (pc + 2) ls (.ref (kN K 2) :: st) Q) : MW K y d h pc ls st Q := by
  intro p e R s m args below meth c H locs cells slots la C hR hf hc hs h1 h2 hl
  exact va_ldcM C.1 C.2.1 C.2.2.2.1 (C.al hl1 args) C.gl.2.2.2.2.2.2.2.2.2.1 hdg (kk p e R s m args below meth c H locs cells slots la C hR hf hc hs h1 h2 hl)
end NT
