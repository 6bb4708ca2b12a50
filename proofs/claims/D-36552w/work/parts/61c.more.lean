/-! instanceof; a static of a nest mate -/
theorem m_inst {K : KT} {y : YT} {d : Nat} {h : MH} {pc : Nat} {ls : List (Option Value)} {st : List Value} {Q : OT → MH → Prop} {ci a : Nat} {w : Bool} {fs : List Value} {r : vw_C} {nm : String} {index : Nat} (hdg : decode y.2.1 pc = .ok (.instanceof index, 3)) (ha : h.2.2 a = some (w, .inr (ci, fs))) (hr : mcl[ci]? = some r) (hw : Cond.classLink y.1.cls index nm ∈ lw_all) (hca : Cond.castable r.1 nm ∈ lw_tbl) (kk : MW K y d h (pc + 3) ls (vi 1 :: st) Q) : MW K y d h pc ls (.ref a :: st) Q := by
  intro p e R s m args below meth c9 H locs cells slots la C9 hR hf hc9 hs h1 h2 hl
  obtain ⟨cell, q1, q2, q3, q4, r', g1, g2, -⟩ := hR.2.2.2.2 a _ ha
  cases hr.symm.trans g1
  obtain ⟨-, hfc⟩ := C9.gl.1.1 ci _ hr
  exact va_instY C9.1 C9.2.1 C9.2.2.2.1 (C9.al hw args) (va_Nw.of rfl (C9.tb hca rfl rfl args)) ⟨cell, q1, q2, by rw [g2]; exact hfc.1⟩ hdg (kk p e R s m args below meth c9 H locs cells slots la C9 hR hf hc9 hs h1 h2 hl)
theorem m_getsN {K : KT} {y : YT} {d : Nat} {h : MH} {pc : Nat} {ls : List (Option Value)} {st : List Value} {Q : OT → MH → Prop} (i : Nat) {C n ds host : String} {index : Nat} (hi : kStat[i]? = some (C, n, ds)) (hdg : decode y.2.1 pc = .ok (.getstatic index, 3)) (hw : Cond.fieldLinkNest y.1.cls index C n ds host ∈ lw_tbl) {v : Value} (hv : kV K i = v) (kk : MW K y d h (pc + 3) ls (v :: st) Q) : MW K y d h pc ls st Q := by
  intro p e R s m args below meth c9 H locs cells slots la C9 hR hf hc9 hs h1 h2 hl
  subst hv
  obtain ⟨cf, kf, fi, f, a, cell, z1, z2, z3, z4, z5, z6, z7, z8⟩ := C9.gl.2.2.2.2.1 i _ hi
  have hlt : a < (kB K).size := Nat.not_le.mp z8
  refine va_WgetsN C9.1 C9.2.1 C9.2.2.2.1 (C9.tb hw rfl rfl args) z1 z2 z3 z4 ?_ (fun e => by rw [e] at z6; cases z6) z7 rfl hdg (kk p e R s m args below meth c9 H locs cells slots la C9 hR hf hc9 hs h1 h2 hl)
  rw [hR.2.2.2.1 a hlt, ← C9.gl.2.2.1 a hlt]
  exact z5
