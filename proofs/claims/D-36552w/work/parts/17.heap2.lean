/-! The heap's rules over MW: fields, objects, arrays, statics -/
theorem isArr {U : State} {cA : ClassId} {ty : FieldType} {cell : Cell} (h : ArrOfT U cA ty) (hv : cell.vm.isStatics = false) (hc : cell.cls = cA) : U.isArrayOf cell ty := by
  obtain ⟨-, k, h2, h3⟩ := h 0 (fun _ => .null)
  exact ⟨fun k e => (by rw [e] at hv; cases hv), k, (by rw [hc]; exact h2), h3⟩
theorem MWc.gl {K : KT} {y : YT} {d : Nat} {p : Program} {R : Room} {s : State} {m : MethodId} {meth : Method} {c : Code} (C : MWc K y d p R s m meth c) : Glob K s := C.2.2.2.2.2.2.2.2.1
theorem MWc.rc {K : KT} {y : YT} {d : Nat} {p : Program} {R : Room} {s : State} {m : MethodId} {meth : Method} {c : Code} (C : MWc K y d p R s m meth c) : d ≤ R.frames ∧ 64 * d ≤ R.locals ∧ R.cells = kC K - s.heap.size ∧ R.slots = kS K - uz s.heap (kB K).size := C.2.2.2.2.2.2.2.2.2
theorem MWc.arr {K : KT} {y : YT} {d : Nat} {p : Program} {R : Room} {s : State} {m : MethodId} {meth : Method} {c : Code} (C : MWc K y d p R s m meth c) (i : Nat) (hi : i < 8) : ArrOfT s (kA K i) (kTy i) := C.gl.2.2.2.2.2.2.2.2.2.2.2.1 i hi
theorem MWc.ra {K : KT} {y : YT} {d : Nat} {p : Program} {R : Room} {s : State} {m : MethodId} {meth : Method} {c : Code} (C : MWc K y d p R s m meth c) (i : Nat) (hi : i < 7) : va_RA s (kA K i) (kTy i) := C.gl.2.2.2.2.2.2.2.2.2.2.2.2.1 i hi
section HR2
variable {K : KT} {y : YT} {d : Nat} {h : MH} {pc : Nat} {ls : List (Option Value)} {st : List Value} {Q : OT → MH → Prop}
theorem m_getf {ci : Nat} {C : String} {T : u_T} {N : Nat} {ty : Nat → FieldType} (hc : ClsOK ci C T N ty) (k : Nat) (hk : k < N) {index : Nat} {ref : String} (hdg : decode y.2.1 pc = .ok (.getfield index, 3)) (hw : Cond.fieldLink y.1.cls index ref (T k).2.1 (T k).2.2.1 ∈ lw_all) (hsame : ref = (T k).1 ∨ Cond.sameField ref (T k).1 (T k).2.1 (T k).2.2.1 ∈ lw_all) {a : Nat} {w : Bool} {fs : List Value} (ha : h.2.2 a = some (w, .inr (ci, fs))) {v : Value} (hv : fs[k]? = some v) (kk : MW K y d h (pc + 3) ls (v :: st) Q) : MW K y d h pc ls (.ref a :: st) Q := by
  intro p e R s m args below meth c9 H locs cells slots la C9 hR hf hc9 hs h1 h2 hl
  obtain ⟨cell, q1, q2, q3, q4, r, g1, g2, g3, g4⟩ := hR.2.2.2.2 a _ ha
  have hr : r = (C, T, N) := Option.some.inj (g1.symm.trans hc.1)
  subst hr
  obtain ⟨hS, hfc, kC9, hkC, hkind⟩ := C9.gl.1.1 ci _ hc.1
  obtain ⟨cf, kf, fi, f, hi, hsl⟩ := hS k hk
  have hts : ∀ w ∈ lw_all, w.before args s = true := fun w hw => C9.al hw args
  have hsm : s.fieldFound? ref (T k).2.1 (T k).2.2.1 = some (cf, kf, fi, f) := by
    rcases hsame with rfl | hs
    · exact hi
    · exact u_same (C9.al hs args) _ hi
  refine W.getf C9.1 C9.2.1 C9.2.2.2.1 (C9.al hw args) hsm (u_facts hfc hkC (u_lays hts hc.2.1 hk) hi).1 q1 q3 (v := v) ?_ rfl rfl hdg (kk p e R s m args below meth c9 H locs cells slots la C9 hR hf hc9 hs h1 h2 hl)
  rw [hsl, g4 k hk]
  simp [vp_V, hv]
theorem m_getfN {ci : Nat} {C : String} {T : u_T} {N : Nat} {ty : Nat → FieldType} (hc : ClsOK ci C T N ty) (k : Nat) (hk : k < N) {index : Nat} {host : String} (hdg : decode y.2.1 pc = .ok (.getfield index, 3)) (hw : Cond.fieldLinkNest y.1.cls index (T k).1 (T k).2.1 (T k).2.2.1 host ∈ lw_tbl) {a : Nat} {w : Bool} {fs : List Value} (ha : h.2.2 a = some (w, .inr (ci, fs))) {v : Value} (hv : fs[k]? = some v) (kk : MW K y d h (pc + 3) ls (v :: st) Q) : MW K y d h pc ls (.ref a :: st) Q := by
  intro p e R s m args below meth c9 H locs cells slots la C9 hR hf hc9 hs h1 h2 hl
  obtain ⟨cell, q1, q2, q3, q4, r, g1, g2, g3, g4⟩ := hR.2.2.2.2 a _ ha
  have hr : r = (C, T, N) := Option.some.inj (g1.symm.trans hc.1)
  subst hr
  obtain ⟨hS, hfc, kC9, hkC, hkind⟩ := C9.gl.1.1 ci _ hc.1
  obtain ⟨cf, kf, fi, f, hi, hsl⟩ := hS k hk
  have hts : ∀ w ∈ lw_all, w.before args s = true := fun w hw => C9.al hw args
  refine va_Wgetf C9.1 C9.2.1 C9.2.2.2.1 (C9.tb hw rfl rfl args) hi (u_facts hfc hkC (u_lays hts hc.2.1 hk) hi).1 q1 q3 (v := v) ?_ rfl rfl hdg (kk p e R s m args below meth c9 H locs cells slots la C9 hR hf hc9 hs h1 h2 hl)
  rw [hsl, g4 k hk]
  simp [vp_V, hv]
theorem m_putf {ci : Nat} {C : String} {T : u_T} {N : Nat} {ty : Nat → FieldType} (hc : ClsOK ci C T N ty) (k : Nat) (hk : k < N) {index : Nat} {ref : String} (hdg : decode y.2.1 pc = .ok (.putfield index, 3)) (hw : Cond.fieldLink y.1.cls index ref (T k).2.1 (T k).2.2.1 ∈ lw_all) (hsame : ref = (T k).1 ∨ Cond.sameField ref (T k).1 (T k).2.1 (T k).2.2.1 ∈ lw_all) (hfin : (T k).2.2.2 = false) {a : Nat} {fs : List Value} {v : Value} (ha : h.2.2 a = some (true, .inr (ci, fs))) (hn : narrow (ty k) v = v) (hfit : fits (ty k) v = true) (kk : MW K y d (hput h a (true, .inr (ci, fs.set k v))) (pc + 3) ls st Q) : MW K y d h pc ls (v :: .ref a :: st) Q := by
  intro p e R s m args below meth c9 H locs cells slots la C9 hR hf hc9 hs h1 h2 hl
  obtain ⟨cell, q1, q2, q3, q4, r, g1, g2, g3, g4⟩ := hR.2.2.2.2 a _ ha
  have hr : r = (C, T, N) := Option.some.inj (g1.symm.trans hc.1)
  subst hr
  obtain ⟨hS, hfc, kC9, hkC, hkind⟩ := C9.gl.1.1 ci _ hc.1
  obtain ⟨cf, kf, fi, f, hi, hsl⟩ := hS k hk
  have hts : ∀ w ∈ lw_all, w.before args s = true := fun w hw => C9.al hw args
  have hsm : s.fieldFound? ref (T k).2.1 (T k).2.2.1 = some (cf, kf, fi, f) := by
    rcases hsame with rfl | hs
    · exact hi
    · exact u_same (C9.al hs args) _ hi
  have hlay := hts _ (hc.2.1 _ (u_in_lay hk))
  unfold u_lay at hlay
  rw [if_neg (by rw [hfin]; decide)] at hlay
  have hst := (u_facts hfc hkC (u_lays hts hc.2.1 hk) hi).1
  have h6 := u_store hfc hkC hkind hlay hi (hc.2.2.1 k hk) hn hfit
  refine W.putK C9.1 C9.2.1 (f := f) ⟨C9.2.2.2.1, C9.al hw args, ⟨_, _, _, hsm⟩, hst⟩ (by rw [g2]; exact h6) q1 (q4 rfl).2 (by rw [hsl]; exact k2_hasslot (g4 k hk)) rfl rfl hdg fun H' e1 e2 e3 => ?_
  rw [hsl] at e1 ⊢
  have hap := va_apart (own := y.1.cls) hts hc.2.1 ty hc.2.2.1 hc.2.2.2 C9.gl.1 hc.1
  have hlen : k < fs.length := by rw [g3]; exact hk
  have hR' : Rep K (hput h a (true, .inr (ci, fs.set k v))) H' := by
    refine hR.put (q4 rfl).1 e2 e3 ?_ ⟨_, e1, q2, q3, q4, (C, T, N), hc.1, g2, by rw [List.length_set]; exact g3, fun j hj => ?_⟩
    · rw [e1, q1]; simp [Cell.setSlot]
    · rw [← vp_updV_set hlen v j]; exact t_set g4 hap hk v j hj
  exact kk p e R s m args below meth c9 H' _ cells slots la C9 hR' (fun z hz => by
    rcases List.mem_append.mp hz with hz | hz
    · exact hf z hz
    · rw [List.mem_singleton] at hz; rw [hz]; exact (q4 rfl).1) (by rw [e2]; exact hc9) (by rw [hR'.2.1, hs, hR.2.1]; rfl) h1 h2 hl
theorem m_putfN {ci : Nat} {C : String} {T : u_T} {N : Nat} {ty : Nat → FieldType} (hc : ClsOK ci C T N ty) (k : Nat) (hk : k < N) {index : Nat} {host : String} (hdg : decode y.2.1 pc = .ok (.putfield index, 3)) (hw : Cond.fieldLinkNest y.1.cls index (T k).1 (T k).2.1 (T k).2.2.1 host ∈ lw_tbl) (hfin : (T k).2.2.2 = false) {a : Nat} {fs : List Value} {v : Value} (ha : h.2.2 a = some (true, .inr (ci, fs))) (hn : narrow (ty k) v = v) (hfit : fits (ty k) v = true) (kk : MW K y d (hput h a (true, .inr (ci, fs.set k v))) (pc + 3) ls st Q) : MW K y d h pc ls (v :: .ref a :: st) Q := by
  intro p e R s m args below meth c9 H locs cells slots la C9 hR hf hc9 hs h1 h2 hl
  obtain ⟨cell, q1, q2, q3, q4, r, g1, g2, g3, g4⟩ := hR.2.2.2.2 a _ ha
  have hr : r = (C, T, N) := Option.some.inj (g1.symm.trans hc.1)
  subst hr
  obtain ⟨hS, hfc, kC9, hkC, hkind⟩ := C9.gl.1.1 ci _ hc.1
  obtain ⟨cf, kf, fi, f, hi, hsl⟩ := hS k hk
  have hts : ∀ w ∈ lw_all, w.before args s = true := fun w hw => C9.al hw args
  have hlay := hts _ (hc.2.1 _ (u_in_lay hk))
  unfold u_lay at hlay
  rw [if_neg (by rw [hfin]; decide)] at hlay
  have hst := (u_facts hfc hkC (u_lays hts hc.2.1 hk) hi).1
  have h6 := u_store hfc hkC hkind hlay hi (hc.2.2.1 k hk) hn hfit
  refine va_WputK C9.1 C9.2.1 (f := f) C9.2.2.2.1 (C9.tb hw rfl rfl args) hi hst (by rw [g2]; exact h6) q1 (q4 rfl).2 (by rw [hsl]; exact k2_hasslot (g4 k hk)) rfl rfl hdg fun H' e1 e2 e3 => ?_
  rw [hsl] at e1 ⊢
  have hap := va_apart (own := y.1.cls) hts hc.2.1 ty hc.2.2.1 hc.2.2.2 C9.gl.1 hc.1
  have hlen : k < fs.length := by rw [g3]; exact hk
  have hR' : Rep K (hput h a (true, .inr (ci, fs.set k v))) H' := by
    refine hR.put (q4 rfl).1 e2 e3 ?_ ⟨_, e1, q2, q3, q4, (C, T, N), hc.1, g2, by rw [List.length_set]; exact g3, fun j hj => ?_⟩
    · rw [e1, q1]; simp [Cell.setSlot]
    · rw [← vp_updV_set hlen v j]; exact t_set g4 hap hk v j hj
  exact kk p e R s m args below meth c9 H' _ cells slots la C9 hR' (fun z hz => by
    rcases List.mem_append.mp hz with hz | hz
    · exact hf z hz
    · rw [List.mem_singleton] at hz; rw [hz]; exact (q4 rfl).1) (by rw [e2]; exact hc9) (by rw [hR'.2.1, hs, hR.2.1]; rfl) h1 h2 hl
theorem m_putfF {ci : Nat} {C : String} {T : u_T} {N : Nat} {ty : Nat → FieldType} (hc : ClsOK ci C T N ty) (k : Nat) (hk : k < N) {index : Nat} (hdg : decode y.2.1 pc = .ok (.putfield index, 3)) (hw : Cond.fieldLink y.1.cls index (T k).1 (T k).2.1 (T k).2.2.1 ∈ lw_all) (hfin : (T k).2.2.2 = true) (hin2 : y.1.name = "<init>") (hdecl : (T k).1 = y.1.cls) {a : Nat} {fs : List Value} {v : Value} (ha : h.2.2 a = some (true, .inr (ci, fs))) (hn : narrow (ty k) v = v) (hfit : fits (ty k) v = true) (kk : MW K y d (hput h a (true, .inr (ci, fs.set k v))) (pc + 3) ls st Q) : MW K y d h pc ls (v :: .ref a :: st) Q := by
  intro p e R s m args below meth c9 H locs cells slots la C9 hR hf hc9 hs h1 h2 hl
  obtain ⟨cell, q1, q2, q3, q4, r, g1, g2, g3, g4⟩ := hR.2.2.2.2 a _ ha
  have hr : r = (C, T, N) := Option.some.inj (g1.symm.trans hc.1)
  subst hr
  obtain ⟨hS, hfc, kC9, hkC, hkind⟩ := C9.gl.1.1 ci _ hc.1
  obtain ⟨cf, kf, fi, f, hi, hsl⟩ := hS k hk
  have hts : ∀ w ∈ lw_all, w.before args s = true := fun w hw => C9.al hw args
  have hlay := hts _ (hc.2.1 _ (u_in_lay hk))
  unfold u_lay at hlay
  rw [if_pos hfin] at hlay
  have hst := (u_facts hfc hkC (u_lays hts hc.2.1 hk) hi).1
  have hcf : m.cls = cf := by
    obtain ⟨_, _, c', _, _, _, -, -, hf', -, -, -, hown2, -⟩ := Cond.laysFinal_spec hlay
    have e1 : c' = cf := by have := hi.symm.trans hf'; simp at this; exact this.1.symm
    rw [hdecl] at hown2
    rw [← e1]; exact Option.some.inj (C9.2.2.2.1.symm.trans hown2)
  have h6 := u_fits hfc hkC hkind (Or.inr hlay) hi (hc.2.2.1 k hk) hn hfit
  refine W.putFinK C9.1 C9.2.1 C9.2.2.2.1 (C9.al hw args) hi hst hcf (C9.2.2.2.2.2.2.1.trans hin2) (by rw [g2]; exact h6) q1 (q4 rfl).2 (by rw [hsl]; exact k2_hasslot (g4 k hk)) rfl rfl hdg fun H' e1 e2 e3 => ?_
  rw [hsl] at e1 ⊢
  have hap := va_apart (own := y.1.cls) hts hc.2.1 ty hc.2.2.1 hc.2.2.2 C9.gl.1 hc.1
  have hlen : k < fs.length := by rw [g3]; exact hk
  have hR' : Rep K (hput h a (true, .inr (ci, fs.set k v))) H' := by
    refine hR.put (q4 rfl).1 e2 e3 ?_ ⟨_, e1, q2, q3, q4, (C, T, N), hc.1, g2, by rw [List.length_set]; exact g3, fun j hj => ?_⟩
    · rw [e1, q1]; simp [Cell.setSlot]
    · rw [← vp_updV_set hlen v j]; exact t_set g4 hap hk v j hj
  exact kk p e R s m args below meth c9 H' _ cells slots la C9 hR' (fun z hz => by
    rcases List.mem_append.mp hz with hz | hz
    · exact hf z hz
    · rw [List.mem_singleton] at hz; rw [hz]; exact (q4 rfl).1) (by rw [e2]; exact hc9) (by rw [hR'.2.1, hs, hR.2.1]; rfl) h1 h2 hl
theorem m_new {ci : Nat} {C : String} {T : u_T} {N : Nat} {ty : Nat → FieldType} (hc : ClsOK ci C T N ty) {index : Nat} (n : Nat) (hdg : decode y.2.1 pc = .ok (.new index, 3)) (hw : Cond.classLink y.1.cls index C ∈ lw_all) (hin : Cond.instantiable C n ∈ lw_all) (hini : Cond.initialized C ∈ lw_all) (fs : List Value) (hfs : (List.range N).map (fun j => defaultValue (ty j)) = fs) (hz : h.1 + 1 ≤ kC K ∧ h.2.1 + n ≤ kS K) (kk : MW K y d (hnew h (true, .inr (ci, fs)) n) (pc + 3) ls (.ref h.1 :: st) Q) : MW K y d h pc ls st Q := by
  intro p e R s m args below meth c9 H locs cells slots la C9 hR hf hc9 hs h1 h2 hl
  have hts : ∀ w ∈ lw_all, w.before args s = true := fun w hw => C9.al hw args
  have hKn := C9.gl.1.1 ci _ hc.1
  have hz1 := hR.1
  have hz2 := hR.2.1
  obtain ⟨r1, r2, r3, r4⟩ := C9.rc
  refine W.newcK C9.1 C9.2.1 C9.2.2.2.1 (C9.al hw args) (C9.al hin args) (C9.al hini args) rfl hdg (by omega) (by omega) hKn.2.1 rfl fun H' kC9 hkC e1 z1 o1 => ?_
  obtain ⟨c8, k8, s1, s2, -, -, -, s6⟩ := Cond.instantiable_spec (C9.al hin args)
  cases hKn.2.1.symm.trans s1
  cases hkC.symm.trans s2
  have hb : t_OB H.size ((kD K).1 ci) N ((kD K).2 ci) H' (fun k => defaultValue (ty k)) := u_born ty hts hc.2.1 hKn hkC e1 hc.2.2.1
  obtain ⟨cell, b1, b2, b3, b4⟩ := hb
  cases e1.symm.trans b1
  have hR' : Rep K (hnew h (true, .inr (ci, fs)) n) H' := hR.new e1 z1 o1 (by simp [blank, s6]) ⟨_, e1, rfl, (fun q => by cases q), fun _ => ⟨hR.2.2.1, rfl⟩, (C, T, N), hc.1, b2, by rw [← hfs]; simp, fun k hk => by
    rw [b4 k hk, ← hfs]
    simp [vp_V, hk]⟩
  have := kk p e R s m args below meth c9 H' locs (cells + 1) (slots + n) la C9 hR' hf (by rw [z1]; omega) (by rw [hR'.2.1]; show _ = h.2.1 + n; omega) (by omega) (by omega) hl
  rw [← hz1] at this
  exact this
theorem m_newa (t : Nat) (ht : t < 5) {atype : ArrayType} (hdg : decode y.2.1 pc = .ok (.newarray atype, 2)) (hty : newarray.typeOf atype = kTy t) (hw : Cond.arrayClass (kTy t) ∈ lw_all) {n : Int32} (N : Nat) (a0 : vp_A) (ha : ∀ cA : ClassId, vp_cell cA a0 = arrV cA N (fun _ => defaultValue (kTy t))) (hn : ¬ n < 0) (hN : n.toNatClampNeg = N) (hb : N ≤ 60000000) (hz : h.1 + 1 ≤ kC K ∧ h.2.1 + N ≤ kS K) (kk : MW K y d (hnew h (true, .inl (kA K t, a0)) N) (pc + 2) ls (.ref h.1 :: st) Q) : MW K y d h pc ls (.int n :: st) Q := by
  intro p e R s m args below meth c9 H locs cells slots la C9 hR hf hc9 hs h1 h2 hl
  have hz1 := hR.1
  have hz2 := hR.2.1
  obtain ⟨r1, r2, r3, r4⟩ := C9.rc
  have hcb : componentBytes (newarray.typeOf atype) ≤ 8 := by cases atype <;> decide
  have hmul : N * componentBytes (newarray.typeOf atype) ≤ N * 8 := Nat.mul_le_mul_left _ hcb
  refine va_newaK C9.1 C9.2.1 (by rw [hty]; exact C9.al hw args) rfl hdg rfl hn hN (by omega) (by omega) (by omega) rfl fun H' cA e1 z1 o1 hAr hNm => ?_
  have hcA : cA = kA K t := by
    have hra := C9.ra t (by omega)
    rw [hty] at hNm
    have hra2 : s.vm.findClass ("[" ++ (kTy t).toString) = some (kA K t) := by
      match t, ht, hra with
      | 0, _, h => exact h
      | 1, _, h => exact h
      | 2, _, h => exact h
      | 3, _, h => exact h
      | 4, _, h => exact h
    exact Option.some.inj (hNm.symm.trans hra2)
  subst hcA
  have hR' : Rep K (hnew h (true, .inl (kA K t, a0)) N) H' := hR.new e1 z1 o1 (by rw [arrV_size]) ⟨_, e1, rfl, (fun q => by cases q), fun _ => ⟨hR.2.2.1, rfl⟩, rfl, by rw [ha, hty]⟩
  have := kk p e R s m args below meth c9 H' locs (cells + 1) (slots + N) la C9 hR' hf (by rw [z1]; omega) (by rw [hR'.2.1]; show _ = h.2.1 + N; omega) (by omega) (by omega) hl
  rw [← hz1] at this
  exact this
theorem m_anewO {index : Nat} (hdg : decode y.2.1 pc = .ok (.anewarray index, 3)) (hw : Cond.classLink y.1.cls index "java/lang/Object" ∈ lw_all) {n : Int32} (N : Nat) (hn : ¬ n < 0) (hN : n.toNatClampNeg = N) (hb : N ≤ 60000000) (hz : h.1 + 1 ≤ kC K ∧ h.2.1 + N ≤ kS K) (kk : MW K y d (hnew h (true, .inl (kA K 5, N, .inr (.inr (.inr (.inr (fun _ => none)))))) N) (pc + 3) ls (.ref h.1 :: st) Q) : MW K y d h pc ls (.int n :: st) Q := by
  intro p e R s m args below meth c9 H locs cells slots la C9 hR hf hc9 hs h1 h2 hl
  have hz1 := hR.1
  have hz2 := hR.2.1
  subst hN
  obtain ⟨r1, r2, r3, r4⟩ := C9.rc
  refine W.anew C9.1 C9.2.1 C9.2.2.2.1 (C9.al hw args) (va_AO.use (A := args) C9.gl.2.2.2.2.2.2.2.2.2.2.2.2.2.1) rfl hdg rfl hn (by omega) (by omega) (by omega) fun cA kA9 comp w1 w2 w3 w4 => ?_
  have hcA : cA = kA K 5 := by
    obtain ⟨_, _, _, _, _, h4⟩ := C9.ra 5 (by omega)
    exact Option.some.inj (w1.symm.trans h4)
  subst hcA
  have e1 : (H.push { cls := kA K 5, slots := Array.replicate n.toNatClampNeg .null, vm := .none })[H.size]? = some { cls := kA K 5, slots := Array.replicate n.toNatClampNeg .null, vm := .none } := by simp
  have z1 : (H.push { cls := kA K 5, slots := Array.replicate n.toNatClampNeg .null, vm := .none }).size = H.size + 1 := by simp
  have o1 : ∀ q, q < H.size → (H.push { cls := kA K 5, slots := Array.replicate n.toNatClampNeg .null, vm := .none })[q]? = H[q]? := fun q hq => by rw [Array.getElem?_push, if_neg (Nat.ne_of_lt hq)]
  generalize H.push { cls := kA K 5, slots := Array.replicate n.toNatClampNeg .null, vm := .none } = H' at e1 z1 o1 ⊢
  have hR' : Rep K (hnew h (true, .inl (kA K 5, n.toNatClampNeg, .inr (.inr (.inr (.inr (fun _ => none)))))) n.toNatClampNeg) H' := hR.new e1 z1 o1 (by simp) ⟨_, e1, rfl, (fun q => by cases q), fun _ => ⟨hR.2.2.1, rfl⟩, rfl, by
    rw [vp_cell_q]
    show Array.replicate _ _ = Array.ofFn _
    apply Array.ext
    · simp
    · intro i h1 h2; simp [va_rf]⟩
  have := kk p e R s m args below meth c9 H' locs (cells + 1) (slots + n.toNatClampNeg) la C9 hR' hf (by rw [z1]; omega) (by rw [hR'.2.1]; show _ = h.2.1 + n.toNatClampNeg; omega) (by omega) (by omega) hl
  rw [← hz1] at this
  exact this
theorem m_iald {a n : Nat} {w : Bool} {f : Nat → Int32} {i : Int32} (hdg : decode y.2.1 pc = .ok (.iaload, 1)) (ha : h.2.2 a = some (w, .inl (kA K 0, n, .inl f))) (hi : vp_in i n) (kk : MW K y d h (pc + 1) ls (.int (f i.toNatClampNeg) :: st) Q) : MW K y d h pc ls (.int i :: .ref a :: st) Q := by
  intro p e R s m args below meth c9 H locs cells slots la C9 hR hf hc9 hs h1 h2 hl
  obtain ⟨cell, q1, q2, q3, q4, g1, g2⟩ := hR.2.2.2.2 a _ ha
  dsimp only at g1 g2
  have hlt : i.toNatClampNeg < n := Nat.not_le.mp fun q => hi (Or.inr q)
  rw [vp_cell_i] at g2
  exact W.iald (v := .int (f i.toNatClampNeg)) C9.1 C9.2.1 q1 (isArr (C9.arr 0 (by omega)) q2 g1) q3 (by rw [g2, arrV_size]; exact hi) (by rw [g2, arrV_read _ _ hlt]) rfl rfl hdg (kk p e R s m args below meth c9 H locs cells slots la C9 hR hf hc9 hs h1 h2 hl)
theorem m_iast {a n : Nat} {f : Nat → Int32} {i : Int32} {x : Int32} (hdg : decode y.2.1 pc = .ok (.iastore, 1)) (ha : h.2.2 a = some (true, .inl (kA K 0, n, .inl f))) (hi : vp_in i n) (kk : MW K y d (hput h a (true, .inl (kA K 0, n, .inl (upd f i.toNatClampNeg x)))) (pc + 1) ls st Q) : MW K y d h pc ls (.int x :: .int i :: .ref a :: st) Q := by
  intro p e R s m args below meth c9 H locs cells slots la C9 hR hf hc9 hs h1 h2 hl
  obtain ⟨cell, q1, q2, q3, q4, g1, g2⟩ := hR.2.2.2.2 a _ ha
  dsimp only at g1 g2
  have hlt : i.toNatClampNeg < n := Nat.not_le.mp fun q => hi (Or.inr q)
  rw [vp_cell_i] at g2
  refine W.iast C9.1 C9.2.1 q1 (isArr (C9.arr 0 (by omega)) q2 g1) q3 (by rw [g2, arrV_size]; exact hi) rfl rfl hdg fun H' e1 e2 e3 => ?_
  have hR' : Rep K (hput h a (true, .inl (kA K 0, n, .inl (upd f i.toNatClampNeg x)))) H' := by
    refine hR.put (q4 rfl).1 e2 e3 ?_ ⟨_, e1, q2, q3, q4, g1, ?_⟩
    · rw [e1, q1]; simp [Cell.setSlot]
    · have hcell : cell.slots = (arrV (kA K 0) n (fun j => .int (f j))).slots := g2
      show cell.slots.setIfInBounds _ _ = _
      rw [hcell]
      have hst := congrArg Cell.slots (arrV_store (kA K 0) n i.toNatClampNeg (fun j => .int (f j)) (.int x))
      refine hst.trans ?_
      show (arrV _ _ _).slots = (arrV _ _ _).slots
      congr 2
      funext q
      by_cases hq : q = i.toNatClampNeg
      · subst hq
        simp [updV, upd]
      · simp [updV, upd, hq]
  exact kk p e R s m args below meth c9 H' _ cells slots la C9 hR' (fun z hz => by
    rcases List.mem_append.mp hz with hz | hz
    · exact hf z hz
    · rw [List.mem_singleton] at hz; rw [hz]; exact (q4 rfl).1) (by rw [e2]; exact hc9) (by rw [hR'.2.1, hs, hR.2.1]; rfl) h1 h2 hl
theorem m_lald {a n : Nat} {w : Bool} {f : Nat → Int64} {i : Int32} (hdg : decode y.2.1 pc = .ok (.laload, 1)) (ha : h.2.2 a = some (w, .inl (kA K 1, n, .inr (.inl f)))) (hi : vp_in i n) (kk : MW K y d h (pc + 1) ls (.long (f i.toNatClampNeg) :: st) Q) : MW K y d h pc ls (.int i :: .ref a :: st) Q := by
  intro p e R s m args below meth c9 H locs cells slots la C9 hR hf hc9 hs h1 h2 hl
  obtain ⟨cell, q1, q2, q3, q4, g1, g2⟩ := hR.2.2.2.2 a _ ha
  dsimp only at g1 g2
  have hlt : i.toNatClampNeg < n := Nat.not_le.mp fun q => hi (Or.inr q)
  rw [vp_cell_l] at g2
  exact W.lald (v := .long (f i.toNatClampNeg)) C9.1 C9.2.1 q1 (isArr (C9.arr 1 (by omega)) q2 g1) q3 (by rw [g2, arrV_size]; exact hi) (by rw [g2, arrV_read _ _ hlt]) rfl rfl hdg (kk p e R s m args below meth c9 H locs cells slots la C9 hR hf hc9 hs h1 h2 hl)
theorem m_last {a n : Nat} {f : Nat → Int64} {i : Int32} {x : Int64} (hdg : decode y.2.1 pc = .ok (.lastore, 1)) (ha : h.2.2 a = some (true, .inl (kA K 1, n, .inr (.inl f)))) (hi : vp_in i n) (kk : MW K y d (hput h a (true, .inl (kA K 1, n, .inr (.inl (vp_updL f i.toNatClampNeg x))))) (pc + 1) ls st Q) : MW K y d h pc ls (.long x :: .int i :: .ref a :: st) Q := by
  intro p e R s m args below meth c9 H locs cells slots la C9 hR hf hc9 hs h1 h2 hl
  obtain ⟨cell, q1, q2, q3, q4, g1, g2⟩ := hR.2.2.2.2 a _ ha
  dsimp only at g1 g2
  have hlt : i.toNatClampNeg < n := Nat.not_le.mp fun q => hi (Or.inr q)
  rw [vp_cell_l] at g2
  refine W.last C9.1 C9.2.1 q1 (isArr (C9.arr 1 (by omega)) q2 g1) q3 (by rw [g2, arrV_size]; exact hi) rfl rfl hdg fun H' e1 e2 e3 => ?_
  have hR' : Rep K (hput h a (true, .inl (kA K 1, n, .inr (.inl (vp_updL f i.toNatClampNeg x))))) H' := by
    refine hR.put (q4 rfl).1 e2 e3 ?_ ⟨_, e1, q2, q3, q4, g1, ?_⟩
    · rw [e1, q1]; simp [Cell.setSlot]
    · have hcell : cell.slots = (arrV (kA K 1) n (fun j => .long (f j))).slots := g2
      show cell.slots.setIfInBounds _ _ = _
      rw [hcell]
      have hst := congrArg Cell.slots (arrV_store (kA K 1) n i.toNatClampNeg (fun j => .long (f j)) (.long x))
      refine hst.trans ?_
      show (arrV _ _ _).slots = (arrV _ _ _).slots
      congr 2
      funext q
      by_cases hq : q = i.toNatClampNeg
      · subst hq
        simp [updV, vp_updL]
      · simp [updV, vp_updL, hq]
  exact kk p e R s m args below meth c9 H' _ cells slots la C9 hR' (fun z hz => by
    rcases List.mem_append.mp hz with hz | hz
    · exact hf z hz
    · rw [List.mem_singleton] at hz; rw [hz]; exact (q4 rfl).1) (by rw [e2]; exact hc9) (by rw [hR'.2.1, hs, hR.2.1]; rfl) h1 h2 hl
theorem m_bald {a n : Nat} {w : Bool} {f : Nat → Int32} {i : Int32} (hdg : decode y.2.1 pc = .ok (.baload, 1)) (ha : h.2.2 a = some (w, .inl (kA K 2, n, .inl f))) (hi : vp_in i n) (kk : MW K y d h (pc + 1) ls (.int (f i.toNatClampNeg) :: st) Q) : MW K y d h pc ls (.int i :: .ref a :: st) Q := by
  intro p e R s m args below meth c9 H locs cells slots la C9 hR hf hc9 hs h1 h2 hl
  obtain ⟨cell, q1, q2, q3, q4, g1, g2⟩ := hR.2.2.2.2 a _ ha
  dsimp only at g1 g2
  have hlt : i.toNatClampNeg < n := Nat.not_le.mp fun q => hi (Or.inr q)
  rw [vp_cell_i] at g2
  exact W.bald (v := .int (f i.toNatClampNeg)) C9.1 C9.2.1 q1 (isArr (C9.arr 2 (by omega)) q2 g1) q3 (by rw [g2, arrV_size]; exact hi) (by rw [g2, arrV_read _ _ hlt]) rfl rfl hdg (kk p e R s m args below meth c9 H locs cells slots la C9 hR hf hc9 hs h1 h2 hl)
theorem m_bast {a n : Nat} {f : Nat → Int32} {i : Int32} {x : Int32} (hdg : decode y.2.1 pc = .ok (.bastore, 1)) (ha : h.2.2 a = some (true, .inl (kA K 2, n, .inl f))) (hi : vp_in i n) (kk : MW K y d (hput h a (true, .inl (kA K 2, n, .inl (upd f i.toNatClampNeg (vp_nar .byte x))))) (pc + 1) ls st Q) : MW K y d h pc ls (.int x :: .int i :: .ref a :: st) Q := by
  intro p e R s m args below meth c9 H locs cells slots la C9 hR hf hc9 hs h1 h2 hl
  obtain ⟨cell, q1, q2, q3, q4, g1, g2⟩ := hR.2.2.2.2 a _ ha
  dsimp only at g1 g2
  have hlt : i.toNatClampNeg < n := Nat.not_le.mp fun q => hi (Or.inr q)
  rw [vp_cell_i] at g2
  refine W.bast C9.1 C9.2.1 q1 (isArr (C9.arr 2 (by omega)) q2 g1) q3 (by rw [g2, arrV_size]; exact hi) rfl rfl hdg fun H' e1 e2 e3 => ?_
  have hR' : Rep K (hput h a (true, .inl (kA K 2, n, .inl (upd f i.toNatClampNeg (vp_nar .byte x))))) H' := by
    refine hR.put (q4 rfl).1 e2 e3 ?_ ⟨_, e1, q2, q3, q4, g1, ?_⟩
    · rw [e1, q1]; simp [Cell.setSlot]
    · have hcell : cell.slots = (arrV (kA K 2) n (fun j => .int (f j))).slots := g2
      show cell.slots.setIfInBounds _ _ = _
      rw [hcell]
      have hst := congrArg Cell.slots (arrV_store (kA K 2) n i.toNatClampNeg (fun j => .int (f j)) (narrow .byte (.int x)))
      refine hst.trans ?_
      show (arrV _ _ _).slots = (arrV _ _ _).slots
      congr 2
      funext q
      by_cases hq : q = i.toNatClampNeg
      · subst hq
        simp [updV, upd, vp_nar, narrow]
      · simp [updV, upd, vp_nar, narrow, hq]
  exact kk p e R s m args below meth c9 H' _ cells slots la C9 hR' (fun z hz => by
    rcases List.mem_append.mp hz with hz | hz
    · exact hf z hz
    · rw [List.mem_singleton] at hz; rw [hz]; exact (q4 rfl).1) (by rw [e2]; exact hc9) (by rw [hR'.2.1, hs, hR.2.1]; rfl) h1 h2 hl
theorem m_zald {a n : Nat} {w : Bool} {f : Nat → Int32} {i : Int32} (hdg : decode y.2.1 pc = .ok (.baload, 1)) (ha : h.2.2 a = some (w, .inl (kA K 3, n, .inl f))) (hi : vp_in i n) (kk : MW K y d h (pc + 1) ls (.int (f i.toNatClampNeg) :: st) Q) : MW K y d h pc ls (.int i :: .ref a :: st) Q := by
  intro p e R s m args below meth c9 H locs cells slots la C9 hR hf hc9 hs h1 h2 hl
  obtain ⟨cell, q1, q2, q3, q4, g1, g2⟩ := hR.2.2.2.2 a _ ha
  dsimp only at g1 g2
  have hlt : i.toNatClampNeg < n := Nat.not_le.mp fun q => hi (Or.inr q)
  rw [vp_cell_i] at g2
  exact W.zald (v := .int (f i.toNatClampNeg)) C9.1 C9.2.1 q1 (isArr (C9.arr 3 (by omega)) q2 g1) q3 (by rw [g2, arrV_size]; exact hi) (by rw [g2, arrV_read _ _ hlt]) rfl rfl hdg (kk p e R s m args below meth c9 H locs cells slots la C9 hR hf hc9 hs h1 h2 hl)
theorem m_zast {a n : Nat} {f : Nat → Int32} {i : Int32} {x : Int32} (hdg : decode y.2.1 pc = .ok (.bastore, 1)) (ha : h.2.2 a = some (true, .inl (kA K 3, n, .inl f))) (hi : vp_in i n) (kk : MW K y d (hput h a (true, .inl (kA K 3, n, .inl (upd f i.toNatClampNeg (vp_nar .boolean x))))) (pc + 1) ls st Q) : MW K y d h pc ls (.int x :: .int i :: .ref a :: st) Q := by
  intro p e R s m args below meth c9 H locs cells slots la C9 hR hf hc9 hs h1 h2 hl
  obtain ⟨cell, q1, q2, q3, q4, g1, g2⟩ := hR.2.2.2.2 a _ ha
  dsimp only at g1 g2
  have hlt : i.toNatClampNeg < n := Nat.not_le.mp fun q => hi (Or.inr q)
  rw [vp_cell_i] at g2
  refine W.zast C9.1 C9.2.1 q1 (isArr (C9.arr 3 (by omega)) q2 g1) q3 (by rw [g2, arrV_size]; exact hi) rfl rfl hdg fun H' e1 e2 e3 => ?_
  have hR' : Rep K (hput h a (true, .inl (kA K 3, n, .inl (upd f i.toNatClampNeg (vp_nar .boolean x))))) H' := by
    refine hR.put (q4 rfl).1 e2 e3 ?_ ⟨_, e1, q2, q3, q4, g1, ?_⟩
    · rw [e1, q1]; simp [Cell.setSlot]
    · have hcell : cell.slots = (arrV (kA K 3) n (fun j => .int (f j))).slots := g2
      show cell.slots.setIfInBounds _ _ = _
      rw [hcell]
      have hst := congrArg Cell.slots (arrV_store (kA K 3) n i.toNatClampNeg (fun j => .int (f j)) (narrow .boolean (.int x)))
      refine hst.trans ?_
      show (arrV _ _ _).slots = (arrV _ _ _).slots
      congr 2
      funext q
      by_cases hq : q = i.toNatClampNeg
      · subst hq
        simp [updV, upd, vp_nar, narrow]
      · simp [updV, upd, vp_nar, narrow, hq]
  exact kk p e R s m args below meth c9 H' _ cells slots la C9 hR' (fun z hz => by
    rcases List.mem_append.mp hz with hz | hz
    · exact hf z hz
    · rw [List.mem_singleton] at hz; rw [hz]; exact (q4 rfl).1) (by rw [e2]; exact hc9) (by rw [hR'.2.1, hs, hR.2.1]; rfl) h1 h2 hl
theorem m_dald {a n : Nat} {w : Bool} {f : Nat → UInt64} {i : Int32} (hdg : decode y.2.1 pc = .ok (.daload, 1)) (ha : h.2.2 a = some (w, .inl (kA K 4, n, .inr (.inr (.inr (.inl f)))))) (hi : vp_in i n) (kk : MW K y d h (pc + 1) ls (.double (f i.toNatClampNeg) :: st) Q) : MW K y d h pc ls (.int i :: .ref a :: st) Q := by
  intro p e R s m args below meth c9 H locs cells slots la C9 hR hf hc9 hs h1 h2 hl
  obtain ⟨cell, q1, q2, q3, q4, g1, g2⟩ := hR.2.2.2.2 a _ ha
  dsimp only at g1 g2
  have hlt : i.toNatClampNeg < n := Nat.not_le.mp fun q => hi (Or.inr q)
  rw [vp_cell_d] at g2
  exact W.dald (v := .double (f i.toNatClampNeg)) C9.1 C9.2.1 q1 (isArr (C9.arr 4 (by omega)) q2 g1) q3 (by rw [g2, arrV_size]; exact hi) (by rw [g2, arrV_read _ _ hlt]) rfl rfl hdg (kk p e R s m args below meth c9 H locs cells slots la C9 hR hf hc9 hs h1 h2 hl)
theorem m_dast {a n : Nat} {f : Nat → UInt64} {i : Int32} {x : UInt64} (hdg : decode y.2.1 pc = .ok (.dastore, 1)) (ha : h.2.2 a = some (true, .inl (kA K 4, n, .inr (.inr (.inr (.inl f)))))) (hi : vp_in i n) (kk : MW K y d (hput h a (true, .inl (kA K 4, n, .inr (.inr (.inr (.inl (vf_upd f i.toNatClampNeg x))))))) (pc + 1) ls st Q) : MW K y d h pc ls (.double x :: .int i :: .ref a :: st) Q := by
  intro p e R s m args below meth c9 H locs cells slots la C9 hR hf hc9 hs h1 h2 hl
  obtain ⟨cell, q1, q2, q3, q4, g1, g2⟩ := hR.2.2.2.2 a _ ha
  dsimp only at g1 g2
  have hlt : i.toNatClampNeg < n := Nat.not_le.mp fun q => hi (Or.inr q)
  rw [vp_cell_d] at g2
  refine W.dast C9.1 C9.2.1 q1 (isArr (C9.arr 4 (by omega)) q2 g1) q3 (by rw [g2, arrV_size]; exact hi) rfl rfl hdg fun H' e1 e2 e3 => ?_
  have hR' : Rep K (hput h a (true, .inl (kA K 4, n, .inr (.inr (.inr (.inl (vf_upd f i.toNatClampNeg x))))))) H' := by
    refine hR.put (q4 rfl).1 e2 e3 ?_ ⟨_, e1, q2, q3, q4, g1, ?_⟩
    · rw [e1, q1]; simp [Cell.setSlot]
    · have hcell : cell.slots = (arrV (kA K 4) n (fun j => .double (f j))).slots := g2
      show cell.slots.setIfInBounds _ _ = _
      rw [hcell]
      have hst := congrArg Cell.slots (arrV_store (kA K 4) n i.toNatClampNeg (fun j => .double (f j)) (.double x))
      refine hst.trans ?_
      show (arrV _ _ _).slots = (arrV _ _ _).slots
      congr 2
      funext q
      by_cases hq : q = i.toNatClampNeg
      · subst hq
        simp [updV, vf_upd]
      · simp [updV, vf_upd, hq]
  exact kk p e R s m args below meth c9 H' _ cells slots la C9 hR' (fun z hz => by
    rcases List.mem_append.mp hz with hz | hz
    · exact hf z hz
    · rw [List.mem_singleton] at hz; rw [hz]; exact (q4 rfl).1) (by rw [e2]; exact hc9) (by rw [hR'.2.1, hs, hR.2.1]; rfl) h1 h2 hl
theorem m_aald (t : Nat) (ht : t < 8) (htr : (kTy t).isReference = true) {a n : Nat} {w : Bool} {f : Nat → Option Nat} {i : Int32} (hdg : decode y.2.1 pc = .ok (.aaload, 1)) (ha : h.2.2 a = some (w, .inl (kA K t, n, .inr (.inr (.inr (.inr f)))))) (hi : vp_in i n) (kk : MW K y d h (pc + 1) ls (va_rf (f i.toNatClampNeg) :: st) Q) : MW K y d h pc ls (.int i :: .ref a :: st) Q := by
  intro p e R s m args below meth c9 H locs cells slots la C9 hR hf hc9 hs h1 h2 hl
  obtain ⟨cell, q1, q2, q3, q4, g1, g2⟩ := hR.2.2.2.2 a _ ha
  dsimp only at g1 g2
  have hlt : i.toNatClampNeg < n := Nat.not_le.mp fun q => hi (Or.inr q)
  rw [vp_cell_q] at g2
  exact W.aald (v := va_rf (f i.toNatClampNeg)) C9.1 C9.2.1 q1 (isArr (C9.arr t ht) q2 g1) htr q3 (by rw [g2, arrV_size]; exact hi) (by rw [g2, arrV_read _ _ hlt]) rfl rfl hdg (kk p e R s m args below meth c9 H locs cells slots la C9 hR hf hc9 hs h1 h2 hl)
theorem m_alen (t : Nat) (ht : t < 8) {a : Nat} {w : Bool} {x : vp_A} {v : Int32} (hdg : decode y.2.1 pc = .ok (.arraylength, 1)) (ha : h.2.2 a = some (w, .inl (kA K t, x))) (hv : Int32.ofNat x.1 = v) (kk : MW K y d h (pc + 1) ls (.int v :: st) Q) : MW K y d h pc ls (.ref a :: st) Q := by
  intro p e R s m args below meth c9 H locs cells slots la C9 hR hf hc9 hs h1 h2 hl
  obtain ⟨cell, q1, q2, q3, q4, g1, g2⟩ := hR.2.2.2.2 a _ ha
  dsimp only at g1 g2
  subst hv
  have hsz : cell.slots.size = x.1 := by
    rw [g2]
    obtain ⟨n, f | f | f | f | f⟩ := x
    · rw [vp_cell_i, arrV_size]
    · rw [vp_cell_l, arrV_size]
    · rw [vp_cell_f, arrV_size]
    · rw [vp_cell_d, arrV_size]
    · rw [vp_cell_q, arrV_size]
  exact W.alen (n := Int32.ofNat x.1) C9.1 C9.2.1 q1 (isArr (C9.arr t ht) q2 g1) (by rw [hsz]) rfl rfl hdg (kk p e R s m args below meth c9 H locs cells slots la C9 hR hf hc9 hs h1 h2 hl)
/-- an object of one of our classes -/
def IsO (h : MH) (v : Nat) : Prop := ∃ (w : Bool) (ci : Nat) (fs : List Value) (r : vw_C), h.2.2 v = some (w, .inr (ci, fs)) ∧ mcl[ci]? = some r ∧ Cond.castable r.1 "java/lang/Object" ∈ lw_tbl
theorem m_aast {a n v : Nat} {f : Nat → Option Nat} {i : Int32} (hdg : decode y.2.1 pc = .ok (.aastore, 1)) (ha : h.2.2 a = some (true, .inl (kA K 5, n, .inr (.inr (.inr (.inr f)))))) (hv : IsO h v) (hi : vp_in i n) (kk : MW K y d (hput h a (true, .inl (kA K 5, n, .inr (.inr (.inr (.inr (va_up f i.toNatClampNeg (some v)))))))) (pc + 1) ls st Q) : MW K y d h pc ls (.ref v :: .int i :: .ref a :: st) Q := by
  intro p e R s m args below meth c9 H locs cells slots la C9 hR hf hc9 hs h1 h2 hl
  obtain ⟨cell, q1, q2, q3, q4, g1, g2⟩ := hR.2.2.2.2 a _ ha
  dsimp only at g1 g2
  have hlt : i.toNatClampNeg < n := Nat.not_le.mp fun q => hi (Or.inr q)
  have h0 : ¬ i < 0 := fun q => hi (Or.inl q)
  rw [vp_cell_q] at g2
  obtain ⟨w, ci, fs, r, hv1, hv2, hv3⟩ := hv
  obtain ⟨cellV, v1, v2, v3, v4, r', v5, v6, -⟩ := hR.2.2.2.2 v _ hv1
  cases hv2.symm.trans v5
  obtain ⟨-, hfc, kC9, hkC, -⟩ := C9.gl.1.1 ci _ hv2
  obtain ⟨kA9, comp, k1, k2, k3, -⟩ := C9.ra 5 (by omega)
  obtain ⟨kE, hkE, -⟩ := Vm.findClass_spec k3
  obtain ⟨c0, t1, f1, f2, f3⟩ := Cond.castable_spec (C9.tb hv3 rfl rfl args)
  cases hfc.symm.trans f1
  cases k3.symm.trans f2
  refine W.aast C9.1 C9.2.1 q1 (fun q h => by rw [h] at q2; cases q2) q3 (by rw [g1]; exact k1) k2 rfl hkE ⟨h0, by rw [g2, arrV_size]; exact hlt⟩ v1 (fun q h => by rw [h] at v2; cases v2) (by rw [v6]; exact hkC) (by rw [v6]; exact f3) rfl rfl hdg fun H' e1 e2 e3 => ?_
  have hR' : Rep K (hput h a (true, .inl (kA K 5, n, .inr (.inr (.inr (.inr (va_up f i.toNatClampNeg (some v)))))))) H' := by
    refine hR.put (q4 rfl).1 e2 e3 ?_ ⟨_, e1, q2, q3, q4, g1, ?_⟩
    · rw [e1, q1]; simp [Cell.setSlot]
    · show cell.slots.setIfInBounds _ _ = _
      rw [g2]
      have hst := congrArg Cell.slots (arrV_store (kA K 5) n i.toNatClampNeg (fun j => va_rf (f j)) (.ref v))
      refine hst.trans ?_
      show (arrV _ _ _).slots = (arrV _ _ _).slots
      congr 2
      funext q
      by_cases hq : q = i.toNatClampNeg
      · subst hq
        simp [updV, va_up, va_rf]
      · simp [updV, va_up, hq]
  exact kk p e R s m args below meth c9 H' _ cells slots la C9 hR' (fun z hz => by
    rcases List.mem_append.mp hz with hz | hz
    · exact hf z hz
    · rw [List.mem_singleton] at hz; rw [hz]; exact (q4 rfl).1) (by rw [e2]; exact hc9) (by rw [hR'.2.1, hs, hR.2.1]; rfl) h1 h2 hl
theorem m_aastN {a n : Nat} {f : Nat → Option Nat} {i : Int32} (hdg : decode y.2.1 pc = .ok (.aastore, 1)) (ha : h.2.2 a = some (true, .inl (kA K 5, n, .inr (.inr (.inr (.inr f)))))) (hi : vp_in i n) (kk : MW K y d (hput h a (true, .inl (kA K 5, n, .inr (.inr (.inr (.inr (va_up f i.toNatClampNeg none))))))) (pc + 1) ls st Q) : MW K y d h pc ls (.null :: .int i :: .ref a :: st) Q := by
  intro p e R s m args below meth c9 H locs cells slots la C9 hR hf hc9 hs h1 h2 hl
  obtain ⟨cell, q1, q2, q3, q4, g1, g2⟩ := hR.2.2.2.2 a _ ha
  dsimp only at g1 g2
  rw [vp_cell_q] at g2
  refine va_WaastN (C := "java/lang/Object") C9.1 C9.2.1 q1 (isArr (C9.arr 5 (by omega)) q2 g1) q3 (by rw [g2, arrV_size]; exact hi) rfl rfl hdg fun H' e1 e2 e3 => ?_
  have hR' : Rep K (hput h a (true, .inl (kA K 5, n, .inr (.inr (.inr (.inr (va_up f i.toNatClampNeg none))))))) H' := by
    refine hR.put (q4 rfl).1 e2 e3 ?_ ⟨_, e1, q2, q3, q4, g1, ?_⟩
    · rw [e1, q1]; simp [Cell.setSlot]
    · show cell.slots.setIfInBounds _ _ = _
      rw [g2]
      have hst := congrArg Cell.slots (arrV_store (kA K 5) n i.toNatClampNeg (fun j => va_rf (f j)) .null)
      refine hst.trans ?_
      show (arrV _ _ _).slots = (arrV _ _ _).slots
      congr 2
      funext q
      by_cases hq : q = i.toNatClampNeg
      · subst hq
        simp [updV, va_up, va_rf]
      · simp [updV, va_up, hq]
  exact kk p e R s m args below meth c9 H' _ cells slots la C9 hR' (fun z hz => by
    rcases List.mem_append.mp hz with hz | hz
    · exact hf z hz
    · rw [List.mem_singleton] at hz; rw [hz]; exact (q4 rfl).1) (by rw [e2]; exact hc9) (by rw [hR'.2.1, hs, hR.2.1]; rfl) h1 h2 hl
/-- a static by its place in kStat -/
theorem m_gets (i : Nat) {C n ds ref : String} {index : Nat} (hi : kStat[i]? = some (C, n, ds)) (hdg : decode y.2.1 pc = .ok (.getstatic index, 3)) (hw : Cond.fieldLink y.1.cls index C n ds ∈ lw_all) {v : Value} (hv : kV K i = v) (kk : MW K y d h (pc + 3) ls (v :: st) Q) : MW K y d h pc ls st Q := by
  intro p e R s m args below meth c9 H locs cells slots la C9 hR hf hc9 hs h1 h2 hl
  subst hv
  obtain ⟨cf, kf, fi, f, a, cell, z1, z2, z3, z4, z5, z6, z7, z8⟩ := C9.gl.2.2.2.2.1 i _ hi
  have hlt : a < (kB K).size := Nat.not_le.mp z8
  refine W.gets C9.1 C9.2.1 C9.2.2.2.1 (C9.al hw args) z1 z2 z3 z4 ?_ (fun e => by rw [e] at z6; cases z6) z7 rfl hdg (kk p e R s m args below meth c9 H locs cells slots la C9 hR hf hc9 hs h1 h2 hl)
  rw [hR.2.2.2.1 a hlt, ← C9.gl.2.2.1 a hlt]
  exact z5
/-- a cast to a class that the object's class is -/
theorem m_cast {ci a : Nat} {w : Bool} {fs : List Value} {r : vw_C} {nm : String} {index : Nat} (hdg : decode y.2.1 pc = .ok (.checkcast index, 3)) (ha : h.2.2 a = some (w, .inr (ci, fs))) (hr : mcl[ci]? = some r) (hw : Cond.classLink y.1.cls index nm ∈ lw_all) (hca : nm = r.1 ∨ Cond.castable r.1 nm ∈ lw_tbl) (kk : MW K y d h (pc + 3) ls (.ref a :: st) Q) : MW K y d h pc ls (.ref a :: st) Q := by
  intro p e R s m args below meth c9 H locs cells slots la C9 hR hf hc9 hs h1 h2 hl
  obtain ⟨cell, q1, q2, q3, q4, r', g1, g2, -⟩ := hR.2.2.2.2 a _ ha
  cases hr.symm.trans g1
  obtain ⟨-, hfc⟩ := C9.gl.1.1 ci _ hr
  rcases hca with rfl | hca
  · exact va_castS C9.1 C9.2.1 C9.2.2.2.1 (C9.al hw args) hfc ⟨cell, q1, q2, by rw [g2]; exact hfc.1⟩ hdg (kk p e R s m args below meth c9 H locs cells slots la C9 hR hf hc9 hs h1 h2 hl)
  · exact va_castY C9.1 C9.2.1 C9.2.2.2.1 (C9.al hw args) (va_Nw.of rfl (C9.tb hca rfl rfl args)) ⟨cell, q1, q2, by rw [g2]; exact hfc.1⟩ hdg (kk p e R s m args below meth c9 H locs cells slots la C9 hR hf hc9 hs h1 h2 hl)
theorem m_castN {index : Nat} (hdg : decode y.2.1 pc = .ok (.checkcast index, 3)) (kk : MW K y d h (pc + 3) ls (.null :: st) Q) : MW K y d h pc ls (.null :: st) Q := by
  intro p e R s m args below meth c9 H locs cells slots la C9 hR hf hc9 hs h1 h2 hl
  exact lv_castN C9.1 C9.2.1 hdg (kk p e R s m args below meth c9 H locs cells slots la C9 hR hf hc9 hs h1 h2 hl)
end HR2
