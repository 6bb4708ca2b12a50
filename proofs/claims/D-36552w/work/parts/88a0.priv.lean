/-! a private method of the superclass, called on an object of a class below it -/
theorem sel_up {C : String} {y : MethodName} {s : State} {args : Array Value} {n : Nat} (hy : y.cls ≠ "java/lang/invoke/MethodHandle" ∧ y.cls ≠ "java/lang/invoke/VarHandle") (hins : (Cond.instantiable C n).before args s = true) (hpriv : (Cond.privateMethod y).before args s = true) (hinst : (Cond.instanceMethod y).before args s = true) (hsame : (Cond.sameMethod y.cls y.cls y.name y.desc).before args s = true) : (Cond.selects C y y).before args s = true := by
  obtain ⟨c, k, hc, hk, -, hniab, -, -⟩ := Cond.instantiable_spec hins
  obtain ⟨mk, methM, hnamed, hmethM, -, -⟩ := Cond.instanceMethod_spec hinst
  have hfound : s.methodFound? y.cls y.name y.desc = some mk := State.methodFound?_of_named hnamed hy
  obtain ⟨cn, ck, r1, hcn, hck, hni, hf, hn1⟩ := Cond.sameMethod_found hsame
  have hcls : mk.cls = cn := Option.some.inj ((findClass_of_methodNamed hnamed).symm.trans hcn)
  have hsel : selectMethod {} s.vm c mk = .method mk := selectMethod_private hmethM (Cond.privateMethod_at hpriv mk methM hnamed hmethM)
  simp only [Cond.before, Cond.holds, Cond.value, hc, hfound, hnamed, hsel, hcls, hck]
  simp; exact hni
theorem sel_same {C owner : String} {x y : MethodName} {s : State} {args : Array Value} (hyo : owner ≠ "java/lang/invoke/MethodHandle" ∧ owner ≠ "java/lang/invoke/VarHandle") (hsame : (Cond.sameMethod x.cls owner x.name x.desc).before args s = true) (hsel : (Cond.selects C ⟨owner, x.name, x.desc⟩ y).before args s = true) : (Cond.selects C x y).before args s = true := by
  obtain ⟨cn, ck, r1, hcn, hck, hni, hf, hn1⟩ := Cond.sameMethod_found hsame
  have hfo : s.methodFound? owner x.name x.desc = some r1 := State.methodFound?_of_named hn1 hyo
  have h2 := hsel
  simp only [Cond.before, Cond.holds, Cond.value, hfo, hf, hn1, hcn, hck] at h2 ⊢
  exact h2
section PRV
variable {K : KT} {y : YT} {d : Nat} {h : MH} {pc : Nat} {ls : List (Option Value)} {st : List Value} {Q : OT → MH → Prop}
theorem m_invP {nm : MethodName} {cc : ByteArray} {L : Nat} {rt : Option FieldType} {d' : Nat} {Q' : OT → MH → Prop} {index n : Nat} (As : List Value) (hdg : decode y.2.1 pc = .ok (.invokevirtual index, 3)) {ci b : Nat} {w : Bool} {fs : List Value} {rB : vw_C} (hb : h.2.2 b = some (w, .inr (ci, fs))) (hci : mcl[ci]? = some rB) (hl1 : Cond.methodLink y.1.cls index nm ∈ lw_all) (hl2 : Cond.sameMethod nm.cls nm.cls nm.name nm.desc ∈ lw_all) (hl3 : Cond.instantiable rB.1 n ∈ lw_all) (hl3p : Cond.privateMethod nm ∈ lw_tbl) (hgp : glW (Cond.privateMethod nm) = true ∧ (Cond.privateMethod nm).onTables = true) (hl4 : Cond.instanceMethod nm ∈ lw_all) (hl5 : Cond.initialized nm.cls ∈ lw_all) (hl9 : Cond.code nm cc L rt ∈ lw_all) (hM : Mt K (nm, cc, L, rt, none) d' (.ref b :: As) h Q') (hd : nm.cls ≠ "java/lang/invoke/MethodHandle" ∧ nm.cls ≠ "java/lang/invoke/VarHandle" ∧ (parseMethodDescriptor nm.desc).map (fun d => d.parameters.length) = some As.length) (hr : (st.map fun v => v.category).sum ≤ 8 ∧ L ≤ 45 ∧ d' + 1 ≤ d) (kk : ∀ v h', Q' (.inl v) h' → MW K y d h' (pc + 3) ls (v.toList ++ st) Q) (kx : ∀ E q h', Q' (.inr (E, q)) h' → MX K y d h' pc ls st E q Q) : MW K y d h pc ls (As.reverse ++ .ref b :: st) Q := by
  intro p e R s m args below meth c H locs cells slots la C hR hf hc hs h1 h2 hl
  have hz1 := hR.1
  have hz2 := hR.2.1
  obtain ⟨r1, r2, r3, r4⟩ := C.rc
  have hts : ∀ w ∈ lw_all, w.before args s = true := fun w hw => C.al hw args
  have hfix : CallFix p m c y.2.1 y.2.2.1 s args lw_all y.1.cls := ⟨C.1, C.2.1, C.2.2.1, C.2.2.2.1, hts⟩
  have hfit : cells + (kC K - h.1) ≤ R.cells ∧ slots + (kS K - h.2.1) ≤ R.slots := by
    constructor <;> omega
  have hpre : ∀ U : State, U.heap = H → s.WarmedH U.vm → mPc K (Value.ref b :: As) h (Value.ref b :: As).toArray U := fun U hU hW => ⟨rfl, by rw [hU]; exact hR, C.gl.move hW (by rw [hU]; exact hR.2.2.2.1) (by rw [hU]; exact hR.2.2.1)⟩
  obtain ⟨cellB, b1, b2, b3, b4, rB, b5, b6, -⟩ := hR.2.2.2.2 b _ hb
  cases hci.symm.trans b5
  have hat := (C.gl.1.1 ci _ hci).2
  have hrec : ∃ cellB : Cell, H[b]? = some cellB ∧ cellB.vm.isStatics = false ∧ s.vm.findClass rB.1 = some cellB.cls := ⟨cellB, b1, b2, by rw [b6]; exact hat.1⟩
  have hsel : (Cond.selects rB.1 nm nm).before args s = true := sel_up ⟨hd.1, hd.2.1⟩ (hts _ hl3) (C.tb hl3p hgp.1 hgp.2 args) (hts _ hl4) (hts _ hl2)
  have hcw : va_CU R s args y.1.cls rB.1 nm.cls index nm nm cc L rt (ws_ nm cc L rt) (mRm K d' h) (kC K - h.1) (kS K - h.2.1) As.length := ⟨⟨rfl, rfl, (by show d' + 1 ≤ _; omega), (by show 8 + (L + 11) + 64 * d' ≤ _; omega), pay_in hts (lw_meth hl9), List.mem_cons_self⟩, hts _ hl9, hts _ hl5, ⟨hd.1, hd.2.1⟩, fun sig h9 => (by have h2 := hd.2.2; rw [h9] at h2; exact (Option.some.inj h2).symm), hts _ hl1, hts _ hl2, va_Decl.of (hts _ hl4) (hts _ hl9), hsel, hts _ hl4⟩
  exact mw_run C hR hf hc hs h1 h2 hl (vx_runU (As := As) (rest := st) hfix hM hcw ⟨mPc.blind, hrec, hpre⟩ rfl rfl hl.1 rfl (lv_room hr.1) hdg hfit) kk kx
theorem m_invA {x nm : MethodName} {owner : String} {cc : ByteArray} {L : Nat} {rt : Option FieldType} {d' : Nat} {Q' : OT → MH → Prop} {index : Nat} (As : List Value) (hdg : decode y.2.1 pc = .ok (.invokevirtual index, 3)) {ci b : Nat} {w : Bool} {fs : List Value} {rB : vw_C} (hb : h.2.2 b = some (w, .inr (ci, fs))) (hci : mcl[ci]? = some rB) (hl1 : Cond.methodLink y.1.cls index x ∈ lw_all) (hl2 : Cond.sameMethod x.cls owner x.name x.desc ∈ lw_all) (hlD : Cond.declares ⟨owner, x.name, x.desc⟩ ∈ lw_tbl) (hl3 : Cond.selects rB.1 ⟨owner, x.name, x.desc⟩ nm ∈ lw_all) (hl4 : Cond.instanceMethod nm ∈ lw_all) (hl5 : Cond.initialized nm.cls ∈ lw_all) (hl9 : Cond.code nm cc L rt ∈ lw_all) (hd : owner ≠ "java/lang/invoke/MethodHandle" ∧ owner ≠ "java/lang/invoke/VarHandle" ∧ (parseMethodDescriptor x.desc).map (fun d => d.parameters.length) = some As.length) (hM : Mt K (nm, cc, L, rt, none) d' (.ref b :: As) h Q') (hr : (st.map fun v => v.category).sum ≤ 8 ∧ L ≤ 45 ∧ d' + 1 ≤ d) (kk : ∀ v h', Q' (.inl v) h' → MW K y d h' (pc + 3) ls (v.toList ++ st) Q) (kx : ∀ E q h', Q' (.inr (E, q)) h' → MX K y d h' pc ls st E q Q) : MW K y d h pc ls (As.reverse ++ .ref b :: st) Q := by
  intro p e R s m args below meth c H locs cells slots la C hR hf hc hs h1 h2 hl
  have hz1 := hR.1
  have hz2 := hR.2.1
  obtain ⟨r1, r2, r3, r4⟩ := C.rc
  have hts : ∀ w ∈ lw_all, w.before args s = true := fun w hw => C.al hw args
  have hfix : CallFix p m c y.2.1 y.2.2.1 s args lw_all y.1.cls := ⟨C.1, C.2.1, C.2.2.1, C.2.2.2.1, hts⟩
  have hfit : cells + (kC K - h.1) ≤ R.cells ∧ slots + (kS K - h.2.1) ≤ R.slots := by
    constructor <;> omega
  have hpre : ∀ U : State, U.heap = H → s.WarmedH U.vm → mPc K (Value.ref b :: As) h (Value.ref b :: As).toArray U := fun U hU hW => ⟨rfl, by rw [hU]; exact hR, C.gl.move hW (by rw [hU]; exact hR.2.2.2.1) (by rw [hU]; exact hR.2.2.1)⟩
  obtain ⟨cellB, b1, b2, b3, b4, rB, b5, b6, -⟩ := hR.2.2.2.2 b _ hb
  cases hci.symm.trans b5
  have hat := (C.gl.1.1 ci _ hci).2
  have hrec : ∃ cellB : Cell, H[b]? = some cellB ∧ cellB.vm.isStatics = false ∧ s.vm.findClass rB.1 = some cellB.cls := ⟨cellB, b1, b2, by rw [b6]; exact hat.1⟩
  have hdc : va_Decl s ⟨owner, x.name, x.desc⟩ := va_Decl.abs (va_Nw.of rfl (C.tb hlD rfl rfl args))
  have hsel : (Cond.selects rB.1 x nm).before args s = true := sel_same ⟨hd.1, hd.2.1⟩ (hts _ hl2) (hts _ hl3)
  have hcw : va_CU R s args y.1.cls rB.1 owner index x nm cc L rt (ws_ nm cc L rt) (mRm K d' h) (kC K - h.1) (kS K - h.2.1) As.length := ⟨⟨rfl, rfl, (by show d' + 1 ≤ _; omega), (by show 8 + (L + 11) + 64 * d' ≤ _; omega), pay_in hts (lw_meth hl9), List.mem_cons_self⟩, hts _ hl9, hts _ hl5, ⟨hd.1, hd.2.1⟩, fun sig h9 => (by have h2 := hd.2.2; rw [h9] at h2; exact (Option.some.inj h2).symm), hts _ hl1, hts _ hl2, hdc, hsel, hts _ hl4⟩
  exact mw_run C hR hf hc hs h1 h2 hl (vx_runU (As := As) (rest := st) hfix hM hcw ⟨mPc.blind, hrec, hpre⟩ rfl rfl hl.1 rfl (lv_room hr.1) hdg hfit) kk kx
end PRV
/-! clone of an array of bytes -/
section CLN
variable {K : KT} {y : YT} {d : Nat} {h : MH} {pc : Nat} {ls : List (Option Value)} {st : List Value} {Q : OT → MH → Prop}
theorem m_cloneB {index a n : Nat} {f : Nat → Int32} (hdg : decode y.2.1 pc = .ok (.invokevirtual index, 3)) (hlk : Cond.methodLink y.1.cls index ⟨"[B", "clone", "()Ljava/lang/Object;"⟩ ∈ lw_all) (ha : h.2.2 a = some (true, .inl (kA K 2, n, .inl f))) (hfit : ∀ i, i < n → fits .byte (.int (f i)) = true) (hz : h.1 + 1 ≤ kC K ∧ h.2.1 + n ≤ kS K) (hr : (st.map fun v => v.category).sum ≤ 8 ∧ 1 ≤ d) (kk : MW K y d (hnew h (true, .inl (kA K 2, n, .inl f)) n) (pc + 3) ls (.ref h.1 :: st) Q) : MW K y d h pc ls (.ref a :: st) Q := by
  intro p e R s m args below meth c9 H locs cells slots la C9 hR hf hc9 hs h1 h2 hl
  obtain ⟨r1, r2, r3, r4⟩ := C9.rc
  have hz1 := hR.1
  have hz2 := hR.2.1
  obtain ⟨cs, s1, s2, s3, s4, s5, s6⟩ := hR.2.2.2.2 a _ ha
  dsimp only at s5 s6
  rw [vp_cell_i] at s6
  have hvm0 : cs.vm = .none := (s4 rfl).2
  have hnm : s.vm.findClass "[B" = some (kA K 2) := C9.ra 2 (by omega)
  obtain ⟨c0, t0', f1, f2, f3⟩ := Cond.castable_spec (C9.tb q401 rfl rfl args)
  cases hnm.symm.trans f1
  have hsz : cs.slots.size = n := by rw [s6]; exact arrV_size _ _ _
  intro T hT X
  obtain ⟨-, kA', hkA, comp, hkind⟩ := State.isArrayOf_alike X.warmed.alike (C9.arr 2 (by omega) 0 (fun _ => .null))
  obtain ⟨-, kS', hkS, compS, hkindS⟩ := C9.arr 2 (by omega) 0 (fun _ => .null)
  obtain ⟨vm', X', step⟩ := X.cloneArray C9.1 C9.2.2.2.1 (C9.al hlk args) (C9.al q397 args) (C9.al q398 args) (C9.al q399 args) (C9.al q400 args) (a := a) (cell := cs) (by rw [hT]; exact s1) (fun k h => by rw [hvm0] at h; cases h) (by rw [hvm0]; exact fun h => by cases h) (by rw [s5]; exact hnm) f2 (by rw [s5]; exact f3)
    (fun i v hv => by
      have hi : i < n := by
        have := (Array.getElem?_eq_some_iff.mp hv).1
        omega
      rw [s6, arrV_read _ _ hi] at hv
      have hk' : T.vm.classes[kA K 2]? = some kA' := hkA
      rw [s5]
      cases hv
      simpa [State.fitsSlot, State.slotType?, hk', hkind, kTy] using hfit i hi)
    (g := F0 m pc la (.ref a :: st)) rfl (by show la.size = _; rw [hl.1, C9.2.2.1]) rfl (by rw [C9.2.1]; exact hdg) (by omega) (by show 2 * 0 + _ + 14 ≤ _; omega) (by omega) (by rw [hsz]; omega) (hloader := by rw [s5]; exact Vm.clonesLoader_of_array hkS hkindS)
  rw [hsz] at X'
  generalize hH1 : H.push ({ cls := cs.cls, slots := cs.slots } : Cell) = H1
  have z1 : H1.size = H.size + 1 := by rw [← hH1, Array.size_push]
  have e1 : H1[H.size]? = some ({ cls := cs.cls, slots := cs.slots } : Cell) := by rw [← hH1, Array.getElem?_push_size]
  have o1 : ∀ q : Nat, q < H.size → H1[q]? = H[q]? := fun q hq => by rw [← hH1, Array.getElem?_push, if_neg (Nat.ne_of_lt hq)]
  have hR' : Rep K (hnew h (true, .inl (kA K 2, n, .inl f)) n) H1 := hR.new e1 z1 o1 hsz ⟨_, e1, rfl, (fun q => by cases q), fun _ => ⟨hR.2.2.1, rfl⟩, s5, by rw [vp_cell_i]; exact s6⟩
  obtain ⟨t9, a1, b1⟩ := kk p e R s m args below meth c9 H1 locs (cells + 1) (slots + n) la C9 hR' hf (by rw [z1]; omega) (by rw [hR'.2.1]; show _ = h.2.1 + n; omega) (by omega) (by omega) hl ((T.setVm vm').pushCell ({ cls := cs.cls, slots := cs.slots } : Cell)) (by rw [← hH1, ← hT]; rfl) X'
  refine ⟨t9, step t9 ?_, b1⟩
  rw [hT, hz1]
  exact a1
theorem h_cloneB {index a n : Nat} {f : Int → Int} (hdg : decode y.2.1 pc = .ok (.invokevirtual index, 3)) (hlk : Cond.methodLink y.1.cls index ⟨"[B", "clone", "()Ljava/lang/Object;"⟩ ∈ lw_all) (ha : h.2.2 a = some (true, ba K n f)) (hb : ∀ i, 0 ≤ i → i < (n : Int) → -128 ≤ f i ∧ f i ≤ 127) (hz : h.1 + 1 ≤ kC K ∧ h.2.1 + n ≤ kS K) (hr : (st.map fun v => v.category).sum ≤ 8 ∧ 1 ≤ d) (kk : MW K y d (hnew h (true, ba K n f) n) (pc + 3) ls (.ref h.1 :: st) Q) : MW K y d h pc ls (.ref a :: st) Q := m_cloneB hdg hlk ha (fun i hi => by
  show fits .byte (.int (Int32.ofInt (f (i : Int)))) = true
  exact fitB (hb i (by omega) (by omega))) hz hr kk
theorem m_castAr {a n : Nat} {w : Bool} {f : Int → Int} {index : Nat} (hdg : decode y.2.1 pc = .ok (.checkcast index, 3)) (hw : Cond.classLink y.1.cls index "[B" ∈ lw_all) (ha : h.2.2 a = some (w, ba K n f)) (kk : MW K y d h (pc + 3) ls (.ref a :: st) Q) : MW K y d h pc ls (.ref a :: st) Q := by
  intro p e R s m args below meth c9 H locs cells slots la C9 hR hf hc9 hs h1 h2 hl
  obtain ⟨cs, s1, s2, s3, s4, s5, s6⟩ := hR.2.2.2.2 a _ ha
  dsimp only at s5 s6
  have hnm : s.vm.findClass "[B" = some (kA K 2) := C9.ra 2 (by omega)
  intro T hT X
  obtain ⟨vm', X', stp⟩ := X.checkcastYes C9.1 C9.2.2.2.1 (C9.al hw args) (by rw [hT]; exact s1) s2 hnm (by rw [s5]; exact va_asg _ _) (g := F0 m pc la (.ref a :: st)) rfl rfl (by rw [C9.2.1]; exact hdg)
  obtain ⟨t, a1, b1⟩ := kk p e R s m args below meth c9 H locs cells slots la C9 hR hf hc9 hs h1 h2 hl (T.setVm vm') hT X'
  exact ⟨t, stp t a1, b1⟩
end CLN
