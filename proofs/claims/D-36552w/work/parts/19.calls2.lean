/-! More calls: nest mates, inherited, super, interfaces; Object's constructor; throws; posts by kind of answer -/
section CR2
variable {K : KT} {y : YT} {d : Nat} {h : MH} {pc : Nat} {ls : List (Option Value)} {st : List Value} {Q : OT → MH → Prop}
/-- a private constructor of a nest mate -/
theorem m_invIN {nm : MethodName} {cc : ByteArray} {L : Nat} {rt : Option FieldType} {d' : Nat} {Q' : OT → MH → Prop} {index : Nat} {b : Nat} {host : String} (As : List Value) (hdg : decode y.2.1 pc = .ok (.invokespecial index, 3)) (hl1 : Cond.methodLinkNest y.1.cls index nm host ∈ lw_tbl) (hl2 : Cond.instanceMethod nm ∈ lw_all) (hl3 : Cond.initialized nm.cls ∈ lw_all) (hl4 : Cond.code nm cc L none ∈ lw_all) (hrt : rt = none) (hnm : nm.name = "<init>") (hM : Mt K (nm, cc, L, none, none) d' (.ref b :: As) h Q') (hd : nm.cls ≠ "java/lang/invoke/MethodHandle" ∧ nm.cls ≠ "java/lang/invoke/VarHandle" ∧ (parseMethodDescriptor nm.desc).map (fun d => d.parameters.length) = some As.length) (hr : (st.map fun v => v.category).sum ≤ 8 ∧ L ≤ 45 ∧ d' + 1 ≤ d) (kk : ∀ v h', Q' (.inl v) h' → MW K y d h' (pc + 3) ls (v.toList ++ st) Q) (kx : ∀ E q h', Q' (.inr (E, q)) h' → MX K y d h' pc ls st E q Q) : MW K y d h pc ls (As.reverse ++ .ref b :: st) Q := by
  intro p e R s m args below meth c H locs cells slots la C hR hf hc hs h1 h2 hl
  have hz1 := hR.1
  have hz2 := hR.2.1
  obtain ⟨r1, r2, r3, r4⟩ := C.rc
  have hts : ∀ w ∈ lw_all, w.before args s = true := fun w hw => C.al hw args
  have hfix : CallFix p m c y.2.1 y.2.2.1 s args lw_all y.1.cls := ⟨C.1, C.2.1, C.2.2.1, C.2.2.2.1, hts⟩
  have hfit : cells + (kC K - h.1) ≤ R.cells ∧ slots + (kS K - h.2.1) ≤ R.slots := by
    constructor <;> omega
  have hpre : ∀ U : State, U.heap = H → s.WarmedH U.vm → mPc K (Value.ref b :: As) h (Value.ref b :: As).toArray U := fun U hU hW => ⟨rfl, by rw [hU]; exact hR, C.gl.move hW (by rw [hU]; exact hR.2.2.2.1) (by rw [hU]; exact hR.2.2.1)⟩
  have hcw := va_cnB (rm := mRm K d' h) (R := R) (mc := kC K - h.1) (ms := kS K - h.2.1) (ret := none) As.length hts (lw_meth hl4) rfl rfl rfl (va_Nw.of rfl (C.tb hl1 rfl rfl args)) (hts _ hl3) hd ⟨(by show d' + 1 ≤ _; omega), (by show 8 + (L + 11) + 64 * d' ≤ _; omega)⟩
  exact mw_run C hR hf hc hs h1 h2 hl (vx_runIN (As := As) (rest := st) hfix hM ⟨hcw, hnm, hts _ hl2⟩ ⟨mPc.blind, hpre⟩ rfl rfl hl.1 rfl (lv_room hr.1) hdg hfit) kk kx
/-- a private method of a nest mate -/
theorem m_invVN {nm : MethodName} {cc : ByteArray} {L : Nat} {rt : Option FieldType} {d' : Nat} {Q' : OT → MH → Prop} {index : Nat} {host : String} (As : List Value) (hdg : decode y.2.1 pc = .ok (.invokevirtual index, 3)) {ci b : Nat} {w : Bool} {fs : List Value} {rB : vw_C} (hb : h.2.2 b = some (w, .inr (ci, fs))) (hci : mcl[ci]? = some rB) (hl1 : Cond.methodLinkNest y.1.cls index nm host ∈ lw_tbl) (hl2 : Cond.instanceMethod nm ∈ lw_all) (hl3 : Cond.selects rB.1 nm nm ∈ lw_all) (hl4 : Cond.initialized nm.cls ∈ lw_all) (hl5 : Cond.code nm cc L rt ∈ lw_all) (hM : Mt K (nm, cc, L, rt, none) d' (.ref b :: As) h Q') (hd : nm.cls ≠ "java/lang/invoke/MethodHandle" ∧ nm.cls ≠ "java/lang/invoke/VarHandle" ∧ (parseMethodDescriptor nm.desc).map (fun d => d.parameters.length) = some As.length) (hr : (st.map fun v => v.category).sum ≤ 8 ∧ L ≤ 45 ∧ d' + 1 ≤ d) (kk : ∀ v h', Q' (.inl v) h' → MW K y d h' (pc + 3) ls (v.toList ++ st) Q) (kx : ∀ E q h', Q' (.inr (E, q)) h' → MX K y d h' pc ls st E q Q) : MW K y d h pc ls (As.reverse ++ .ref b :: st) Q := by
  intro p e R s m args below meth c H locs cells slots la C hR hf hc hs h1 h2 hl
  have hz1 := hR.1
  have hz2 := hR.2.1
  obtain ⟨r1, r2, r3, r4⟩ := C.rc
  have hts : ∀ w ∈ lw_all, w.before args s = true := fun w hw => C.al hw args
  have hfix : CallFix p m c y.2.1 y.2.2.1 s args lw_all y.1.cls := ⟨C.1, C.2.1, C.2.2.1, C.2.2.2.1, hts⟩
  have hfit : cells + (kC K - h.1) ≤ R.cells ∧ slots + (kS K - h.2.1) ≤ R.slots := by
    constructor <;> omega
  have hpre : ∀ U : State, U.heap = H → s.WarmedH U.vm → mPc K (Value.ref b :: As) h (Value.ref b :: As).toArray U := fun U hU hW => ⟨rfl, by rw [hU]; exact hR, C.gl.move hW (by rw [hU]; exact hR.2.2.2.1) (by rw [hU]; exact hR.2.2.1)⟩
  obtain ⟨cellB, b1, b2, b3, b4, rB, b5, b6, -⟩ := hR.2.2.2.2 b _ hb
  cases hci.symm.trans b5
  have hat := (C.gl.1.1 ci _ hci).2
  have hrec : ∃ cellB : Cell, H[b]? = some cellB ∧ cellB.vm.isStatics = false ∧ s.vm.findClass rB.1 = some cellB.cls := ⟨cellB, b1, b2, by rw [b6]; exact hat.1⟩
  have hcw := va_cnB (rm := mRm K d' h) (R := R) (mc := kC K - h.1) (ms := kS K - h.2.1) (ret := rt) As.length hts (lw_meth hl5) rfl rfl rfl (va_Nw.of rfl (C.tb hl1 rfl rfl args)) (hts _ hl4) hd ⟨(by show d' + 1 ≤ _; omega), (by show 8 + (L + 11) + 64 * d' ≤ _; omega)⟩
  exact mw_run C hR hf hc hs h1 h2 hl (vx_runVN (C := rB.1) (As := As) (rest := st) hfix hM ⟨hcw, hts _ hl2, hts _ hl3⟩ ⟨mPc.blind, hrec, hpre⟩ rfl rfl hl.1 rfl (lv_room hr.1) hdg hfit) kk kx
/-- an inherited method, found by the name x in the class owner -/
theorem m_invU {nm : MethodName} {cc : ByteArray} {L : Nat} {rt : Option FieldType} {d' : Nat} {Q' : OT → MH → Prop} {index : Nat} {x : MethodName} {owner : String} (As : List Value) (hdg : decode y.2.1 pc = .ok (.invokevirtual index, 3)) {ci b : Nat} {w : Bool} {fs : List Value} {rB : vw_C} (hb : h.2.2 b = some (w, .inr (ci, fs))) (hci : mcl[ci]? = some rB) (hl1 : Cond.methodLink y.1.cls index x ∈ lw_all) (hl2 : Cond.sameMethod x.cls owner x.name x.desc ∈ lw_all) (hl3 : Cond.selects rB.1 x nm ∈ lw_all) (hl4 : Cond.instanceMethod nm ∈ lw_all) (hl5 : Cond.initialized nm.cls ∈ lw_all) (hl9 : Cond.code nm cc L rt ∈ lw_all) (hx : nm = ⟨owner, x.name, x.desc⟩) (hxd : (parseMethodDescriptor x.desc).map (fun d => d.parameters.length) = some As.length) (hM : Mt K (nm, cc, L, rt, none) d' (.ref b :: As) h Q') (hd : nm.cls ≠ "java/lang/invoke/MethodHandle" ∧ nm.cls ≠ "java/lang/invoke/VarHandle" ∧ (parseMethodDescriptor nm.desc).map (fun d => d.parameters.length) = some As.length) (hr : (st.map fun v => v.category).sum ≤ 8 ∧ L ≤ 45 ∧ d' + 1 ≤ d) (kk : ∀ v h', Q' (.inl v) h' → MW K y d h' (pc + 3) ls (v.toList ++ st) Q) (kx : ∀ E q h', Q' (.inr (E, q)) h' → MX K y d h' pc ls st E q Q) : MW K y d h pc ls (As.reverse ++ .ref b :: st) Q := by
  intro p e R s m args below meth c H locs cells slots la C hR hf hc hs h1 h2 hl
  have hz1 := hR.1
  have hz2 := hR.2.1
  obtain ⟨r1, r2, r3, r4⟩ := C.rc
  have hts : ∀ w ∈ lw_all, w.before args s = true := fun w hw => C.al hw args
  have hfix : CallFix p m c y.2.1 y.2.2.1 s args lw_all y.1.cls := ⟨C.1, C.2.1, C.2.2.1, C.2.2.2.1, hts⟩
  have hfit : cells + (kC K - h.1) ≤ R.cells ∧ slots + (kS K - h.2.1) ≤ R.slots := by
    constructor <;> omega
  have hpre : ∀ U : State, U.heap = H → s.WarmedH U.vm → mPc K (Value.ref b :: As) h (Value.ref b :: As).toArray U := fun U hU hW => ⟨rfl, by rw [hU]; exact hR, C.gl.move hW (by rw [hU]; exact hR.2.2.2.1) (by rw [hU]; exact hR.2.2.1)⟩
  obtain ⟨cellB, b1, b2, b3, b4, rB, b5, b6, -⟩ := hR.2.2.2.2 b _ hb
  cases hci.symm.trans b5
  have hat := (C.gl.1.1 ci _ hci).2
  have hrec : ∃ cellB : Cell, H[b]? = some cellB ∧ cellB.vm.isStatics = false ∧ s.vm.findClass rB.1 = some cellB.cls := ⟨cellB, b1, b2, by rw [b6]; exact hat.1⟩
  have hcw := va_cwU (rm := mRm K d' h) (R := R) (mc := kC K - h.1) (ms := kS K - h.2.1) (C := rB.1) (owner := owner) As.length hts (lw_app (fun w hw => by
    simp only [List.mem_cons, List.not_mem_nil, or_false] at hw
    rcases hw with rfl | rfl | rfl | rfl | rfl
    · exact hl1
    · exact hl2
    · exact hl3
    · exact hl4
    · exact hl5) (lw_meth hl9)) rfl rfl rfl hx ⟨by have := hd.1; rw [hx] at this; exact this, by have := hd.2.1; rw [hx] at this; exact this, hxd⟩ ⟨(by show d' + 1 ≤ _; omega), (by show 8 + (L + 11) + 64 * d' ≤ _; omega)⟩
  exact mw_run C hR hf hc hs h1 h2 hl (vx_runU (As := As) (rest := st) hfix hM hcw ⟨mPc.blind, hrec, hpre⟩ rfl rfl hl.1 rfl (lv_room hr.1) hdg hfit) kk kx
/-- a method of the superclass, by super -/
theorem m_invSU {nm : MethodName} {cc : ByteArray} {L : Nat} {rt : Option FieldType} {d' : Nat} {Q' : OT → MH → Prop} {index : Nat} (As : List Value) (hdg : decode y.2.1 pc = .ok (.invokespecial index, 3)) {ci b : Nat} {w : Bool} {fs : List Value} {rB : vw_C} (hb : h.2.2 b = some (w, .inr (ci, fs))) (hci : mcl[ci]? = some rB) (hl1 : Cond.methodLink y.1.cls index nm ∈ lw_all) (hl2 : Cond.sameMethod nm.cls nm.cls nm.name nm.desc ∈ lw_all) (hl3 : Cond.superclass y.1.cls nm.cls ∈ lw_all) (hl4 : Cond.instanceMethod nm ∈ lw_all) (hl5 : Cond.initialized nm.cls ∈ lw_all) (hl9 : Cond.code nm cc L rt ∈ lw_all) (hni : nm.name ≠ "<init>") (hM : Mt K (nm, cc, L, rt, none) d' (.ref b :: As) h Q') (hd : nm.cls ≠ "java/lang/invoke/MethodHandle" ∧ nm.cls ≠ "java/lang/invoke/VarHandle" ∧ (parseMethodDescriptor nm.desc).map (fun d => d.parameters.length) = some As.length) (hr : (st.map fun v => v.category).sum ≤ 8 ∧ L ≤ 45 ∧ d' + 1 ≤ d) (kk : ∀ v h', Q' (.inl v) h' → MW K y d h' (pc + 3) ls (v.toList ++ st) Q) (kx : ∀ E q h', Q' (.inr (E, q)) h' → MX K y d h' pc ls st E q Q) : MW K y d h pc ls (As.reverse ++ .ref b :: st) Q := by
  intro p e R s m args below meth c H locs cells slots la C hR hf hc hs h1 h2 hl
  have hz1 := hR.1
  have hz2 := hR.2.1
  obtain ⟨r1, r2, r3, r4⟩ := C.rc
  have hts : ∀ w ∈ lw_all, w.before args s = true := fun w hw => C.al hw args
  have hfix : CallFix p m c y.2.1 y.2.2.1 s args lw_all y.1.cls := ⟨C.1, C.2.1, C.2.2.1, C.2.2.2.1, hts⟩
  have hfit : cells + (kC K - h.1) ≤ R.cells ∧ slots + (kS K - h.2.1) ≤ R.slots := by
    constructor <;> omega
  have hpre : ∀ U : State, U.heap = H → s.WarmedH U.vm → mPc K (Value.ref b :: As) h (Value.ref b :: As).toArray U := fun U hU hW => ⟨rfl, by rw [hU]; exact hR, C.gl.move hW (by rw [hU]; exact hR.2.2.2.1) (by rw [hU]; exact hR.2.2.1)⟩
  obtain ⟨cellB, b1, b2, b3, b4, rB, b5, b6, -⟩ := hR.2.2.2.2 b _ hb
  cases hci.symm.trans b5
  have hat := (C.gl.1.1 ci _ hci).2
  have hrec : ∃ cellB : Cell, H[b]? = some cellB ∧ cellB.vm.isStatics = false ∧ s.vm.findClass rB.1 = some cellB.cls := ⟨cellB, b1, b2, by rw [b6]; exact hat.1⟩
  have hcw := va_cwSU (rm := mRm K d' h) (R := R) (mc := kC K - h.1) (ms := kS K - h.2.1) As.length hts (lw_app (fun w hw => by
    simp only [List.mem_cons, List.not_mem_nil, or_false] at hw
    rcases hw with rfl | rfl | rfl | rfl | rfl
    · exact hl1
    · exact hl2
    · exact hl3
    · exact hl4
    · exact hl5) (lw_meth hl9)) rfl rfl rfl ⟨hni, hd.2.2⟩ ⟨(by show d' + 1 ≤ _; omega), (by show 8 + (L + 11) + 64 * d' ≤ _; omega)⟩
  exact mw_run C hR hf hc hs h1 h2 hl (vx_runSU (As := As) (rest := st) hat hfix hM hcw ⟨mPc.blind, hrec, hpre⟩ rfl rfl hl.1 rfl (lv_room hr.1) hdg hfit) kk kx
/-- a call by an interface -/
theorem m_invF {nm : MethodName} {cc : ByteArray} {L : Nat} {rt : Option FieldType} {d' : Nat} {Q' : OT → MH → Prop} {index : Nat} {x : MethodName} {count : Nat} (As : List Value) (hdg : decode y.2.1 pc = .ok (.invokeinterface index count, 5)) {ci b : Nat} {w : Bool} {fs : List Value} {rB : vw_C} (hb : h.2.2 b = some (w, .inr (ci, fs))) (hci : mcl[ci]? = some rB) (hl1 : Cond.methodLink y.1.cls index x ∈ lw_all) (hl2 : Cond.declares x ∈ lw_tbl) (hl3 : (Cond.interfaceMethod x.cls x.cls x.name x.desc) ∈ lw_tbl) (hg3 : glW (Cond.interfaceMethod x.cls x.cls x.name x.desc) = true) (hl4 : Cond.selects rB.1 x nm ∈ lw_all) (hl5 : Cond.instanceMethod nm ∈ lw_all) (hl6 : Cond.publicMethod nm ∈ lw_tbl) (hl7 : Cond.unhidden rB.1 x.name x.desc ∈ lw_tbl) (hl8 : Cond.castable rB.1 x.cls ∈ lw_tbl) (hl10 : Cond.initialized nm.cls ∈ lw_all) (hl9 : Cond.code nm cc L rt ∈ lw_all) (hxm : x.cls ≠ "java/lang/invoke/MethodHandle" ∧ x.cls ≠ "java/lang/invoke/VarHandle") (hxd : (parseMethodDescriptor x.desc).map (fun d => d.parameters.length) = some As.length) (hM : Mt K (nm, cc, L, rt, none) d' (.ref b :: As) h Q') (hd : nm.cls ≠ "java/lang/invoke/MethodHandle" ∧ nm.cls ≠ "java/lang/invoke/VarHandle" ∧ (parseMethodDescriptor nm.desc).map (fun d => d.parameters.length) = some As.length) (hr : (st.map fun v => v.category).sum ≤ 8 ∧ L ≤ 45 ∧ d' + 1 ≤ d) (kk : ∀ v h', Q' (.inl v) h' → MW K y d h' (pc + 5) ls (v.toList ++ st) Q) (kx : ∀ E q h', Q' (.inr (E, q)) h' → MX K y d h' pc ls st E q Q) : MW K y d h pc ls (As.reverse ++ .ref b :: st) Q := by
  intro p e R s m args below meth c H locs cells slots la C hR hf hc hs h1 h2 hl
  have hz1 := hR.1
  have hz2 := hR.2.1
  obtain ⟨r1, r2, r3, r4⟩ := C.rc
  have hts : ∀ w ∈ lw_all, w.before args s = true := fun w hw => C.al hw args
  have hfix : CallFix p m c y.2.1 y.2.2.1 s args lw_all y.1.cls := ⟨C.1, C.2.1, C.2.2.1, C.2.2.2.1, hts⟩
  have hfit : cells + (kC K - h.1) ≤ R.cells ∧ slots + (kS K - h.2.1) ≤ R.slots := by
    constructor <;> omega
  have hpre : ∀ U : State, U.heap = H → s.WarmedH U.vm → mPc K (Value.ref b :: As) h (Value.ref b :: As).toArray U := fun U hU hW => ⟨rfl, by rw [hU]; exact hR, C.gl.move hW (by rw [hU]; exact hR.2.2.2.1) (by rw [hU]; exact hR.2.2.1)⟩
  obtain ⟨cellB, b1, b2, b3, b4, rB, b5, b6, -⟩ := hR.2.2.2.2 b _ hb
  cases hci.symm.trans b5
  have hat := (C.gl.1.1 ci _ hci).2
  have hrec : ∃ cellB : Cell, H[b]? = some cellB ∧ cellB.vm.isStatics = false ∧ s.vm.findClass rB.1 = some cellB.cls := ⟨cellB, b1, b2, by rw [b6]; exact hat.1⟩
  have hcw := (show va_CI R s args y.1.cls rB.1 index x nm cc L rt (ws_ nm cc L rt) (mRm K d' h) (kC K - h.1) (kS K - h.2.1) As.length from ⟨⟨rfl, rfl, (by show d' + 1 ≤ _; omega), (by show 8 + (L + 11) + 64 * d' ≤ _; omega), pay_in hts (lw_meth hl9), List.mem_cons_self⟩, hts _ hl1, C.tb hl2 rfl rfl args, C.tb hl3 hg3 rfl args, hts _ hl4, hts _ hl5, C.tb hl6 rfl rfl args, C.tb hl7 rfl rfl args, C.tb hl8 rfl rfl args, hts _ hl10, hts _ hl9, hxm, fun sig hsg => by rw [hsg] at hxd; exact (Option.some.inj hxd).symm⟩)
  exact mw_run5 C hR hf hc hs h1 h2 hl (vx_runF (As := As) (rest := st) hat hfix hM hcw ⟨mPc.blind, hrec, hpre⟩ rfl rfl hl.1 rfl (lv_room hr.1) hdg hfit) kk kx
theorem m_objInit {index a : Nat} (hdg : decode y.2.1 pc = .ok (.invokespecial index, 3)) (hl1 : Cond.methodLink y.1.cls index Lib.objectInit ∈ lw_all) (hl2 : Cond.instanceMethod Lib.objectInit ∈ lw_all) (hl3 : Cond.code Lib.objectInit ⟨#[0xb1]⟩ 1 none ∈ lw_all) (hr : (st.map fun v => v.category).sum ≤ 8 ∧ 1 ≤ d) (kk : MW K y d h (pc + 3) ls st Q) : MW K y d h pc ls (.ref a :: st) Q := by
  intro p e R s m args below meth c H locs cells slots la C hR hf hc hs h1 h2 hl
  obtain ⟨r1, r2, r3, r4⟩ := C.rc
  refine W.objInit C.1 C.2.1 C.2.2.2.1 (C.al hl1 args) (C.al hl2 args) (C.al hl3 args) rfl (hl.1.trans C.2.2.1.symm) rfl hdg (by omega) ?_ (kk p e R s m args below meth c H locs cells slots la C hR hf hc hs h1 h2 hl)
  have := hr.1
  show 2 * 0 + _ + 12 ≤ _
  omega
/-- 'throw new E()': new; dup; invokespecial; athrow -/
theorem m_throw0 {E : String} {names : List String} {ik ic : Nat} (d0 : decode y.2.1 pc = .ok (.new ik, 3)) (d3 : decode y.2.1 (pc + 3) = .ok (.dup, 1)) (d4 : decode y.2.1 (pc + 4) = .ok (.invokespecial ic, 3)) (d7 : decode y.2.1 (pc + 7) = .ok (.athrow, 1))
    (hcls : Bundle.fit E = true) (hnames : ∀ n ∈ names, Bundle.fit n = true) (hk : Cond.classLink y.1.cls ik E ∈ lw_all) (hini : Cond.initialized E ∈ lw_all) (hat : ∀ w ∈ vx_at0 y.1.cls ic E names, w ∈ lw_tbl ∧ glW w = true ∧ w.onTables = true)
    (hno : ∀ x ∈ tableOf (y.2.2.2.2.getD []), covers x (pc + 7) = false) (hr : (st.map fun v => v.category).sum ≤ 8 ∧ names.length + 4 ≤ d ∧ h.1 + 1 ≤ kC K ∧ h.2.1 + 6 ≤ kS K)
    (hq : ∀ n u, h.1 ≤ n → n ≤ h.1 + 1 → h.2.1 ≤ u → u ≤ h.2.1 + 6 → Q (.inr (E, h.1)) (n, u, h.2.2)) : MW K y d h pc ls st Q := by
  intro p e R s m args below meth c H locs cells slots la C hR hf hc hs h1 h2 hl
  have hz1 := hR.1
  have hz2 := hR.2.1
  obtain ⟨r1, r2, r3, r4⟩ := C.rc
  obtain ⟨g1, g2, g3, g4, b1, b2, b3, b4, b5, b6, b7, b8, b9, b10, b11, b12⟩ := C.gl
  have hS : va_S (mFr K) s.heap H locs := ⟨by omega, fun q _ hq => by
    have hlt : q < (kB K).size := Nat.not_le.mp hq
    rw [hR.2.2.2.1 q hlt, g3 q hlt], hf⟩
  refine vx_throw0 C.1 C.2.1 b12 C.2.2.2.1 hcls hnames (C.al hk args) (C.al hini args) (fun w hw => C.tb (hat w hw).1 (hat w hw).2.1 (hat w hw).2.2 args) (fun w hw => ?_) b2 b3 hS (hl.1.trans C.2.2.1.symm) d0 d3 d4 d7 (fun x hx => hno x (by rw [← C.2.2.2.2.2.2.2.1]; exact hx)) (by omega) (by have := hr.1; have := hr.2.1; omega) (by omega) (by omega) C.2.2.2.2.2.1 (fun t hal t1 t2 t3 t4 => ?_) hf (by omega) (by omega)
  · rcases List.mem_cons.mp hw with rfl | hw
    · rfl
    · rcases List.mem_cons.mp hw with rfl | hw
      · rfl
      · unfold vx_ot
        rw [(hat w hw).2.2]
        rfl
  · have hu : uz t.heap (kB K).size = uz H (kB K).size + uz t.heap H.size := uz_ext hR.2.2.1 t1 fun q hq => by rw [t4 q hq]
    have hu2 : uz t.heap H.size ≤ 6 := t3
    refine ⟨(t.heap.size, uz t.heap (kB K).size, h.2.2), ⟨rfl, rfl, Nat.le_trans hR.2.2.1 t1, fun a ha => ?_, fun a x hx => ?_⟩, ?_⟩
    · have := hR.2.2.1
      rw [t4 a (by omega)]; exact hR.2.2.2.1 a ha
    · have h9 := hR.2.2.2.2 a x hx
      exact h9.congr (t4 a h9.lt)
    · rw [hz1]
      exact hq _ _ (by omega) (by omega) (by omega) (by omega)
end CR2
/-! posts by the kind of answer -/
def b2i (b : Bool) : Int32 := if b = true then 1 else 0
def Ri (P : Int32 → MH → Prop) : OT → MH → Prop := fun o h' => ∃ r : Int32, o = .inl (some (.int r)) ∧ P r h'
def Rb (P : Bool → MH → Prop) : OT → MH → Prop := fun o h' => ∃ r : Bool, o = .inl (some (.int (b2i r))) ∧ P r h'
def Rl (P : Int64 → MH → Prop) : OT → MH → Prop := fun o h' => ∃ r : Int64, o = .inl (some (.long r)) ∧ P r h'
def Rv (P : MH → Prop) : OT → MH → Prop := fun o h' => o = .inl none ∧ P h'
def Rr (P : Nat → MH → Prop) : OT → MH → Prop := fun o h' => ∃ r : Nat, o = .inl (some (.ref r)) ∧ P r h'
def Rq (P : Option Nat → MH → Prop) : OT → MH → Prop := fun o h' => ∃ r : Option Nat, o = .inl (some (va_rf r)) ∧ P r h'
/-- or it throws -/
def Rx (P : OT → MH → Prop) (X : String → MH → Prop) : OT → MH → Prop := fun o h' => P o h' ∨ ∃ (E : String) (q : Nat), o = .inr (E, q) ∧ X E h'
section KK
variable {K : KT} {y : YT} {d : Nat} {h : MH} {pc pc' : Nat} {ls : List (Option Value)} {st : List Value} {Q : OT → MH → Prop}
theorem kk_i {P : Int32 → MH → Prop} (kk : ∀ (r : Int32) (h' : MH), P r h' → MW K y d h' pc' ls (.int r :: st) Q) : ∀ v h', Ri P (.inl v) h' → MW K y d h' pc' ls (v.toList ++ st) Q := by
  rintro v h' ⟨r, hv, hp⟩
  cases hv
  exact kk r h' hp
theorem kx_i {P : Int32 → MH → Prop} : ∀ E q h', Ri P (.inr (E, q)) h' → MX K y d h' pc ls st E q Q := by
  rintro E q h' ⟨r, hv, hp⟩
  cases hv
theorem kk_b {P : Bool → MH → Prop} (kk : ∀ (r : Bool) (h' : MH), P r h' → MW K y d h' pc' ls (.int (b2i r) :: st) Q) : ∀ v h', Rb P (.inl v) h' → MW K y d h' pc' ls (v.toList ++ st) Q := by
  rintro v h' ⟨r, hv, hp⟩
  cases hv
  exact kk r h' hp
theorem kx_b {P : Bool → MH → Prop} : ∀ E q h', Rb P (.inr (E, q)) h' → MX K y d h' pc ls st E q Q := by
  rintro E q h' ⟨r, hv, hp⟩
  cases hv
theorem kk_l {P : Int64 → MH → Prop} (kk : ∀ (r : Int64) (h' : MH), P r h' → MW K y d h' pc' ls (.long r :: st) Q) : ∀ v h', Rl P (.inl v) h' → MW K y d h' pc' ls (v.toList ++ st) Q := by
  rintro v h' ⟨r, hv, hp⟩
  cases hv
  exact kk r h' hp
theorem kx_l {P : Int64 → MH → Prop} : ∀ E q h', Rl P (.inr (E, q)) h' → MX K y d h' pc ls st E q Q := by
  rintro E q h' ⟨r, hv, hp⟩
  cases hv
theorem kk_r {P : Nat → MH → Prop} (kk : ∀ (r : Nat) (h' : MH), P r h' → MW K y d h' pc' ls (.ref r :: st) Q) : ∀ v h', Rr P (.inl v) h' → MW K y d h' pc' ls (v.toList ++ st) Q := by
  rintro v h' ⟨r, hv, hp⟩
  cases hv
  exact kk r h' hp
theorem kx_r {P : Nat → MH → Prop} : ∀ E q h', Rr P (.inr (E, q)) h' → MX K y d h' pc ls st E q Q := by
  rintro E q h' ⟨r, hv, hp⟩
  cases hv
theorem kk_q {P : Option Nat → MH → Prop} (kk : ∀ (r : Option Nat) (h' : MH), P r h' → MW K y d h' pc' ls (va_rf r :: st) Q) : ∀ v h', Rq P (.inl v) h' → MW K y d h' pc' ls (v.toList ++ st) Q := by
  rintro v h' ⟨r, hv, hp⟩
  cases hv
  exact kk r h' hp
theorem kx_q {P : Option Nat → MH → Prop} : ∀ E q h', Rq P (.inr (E, q)) h' → MX K y d h' pc ls st E q Q := by
  rintro E q h' ⟨r, hv, hp⟩
  cases hv
theorem kk_v {P : MH → Prop} (kk : ∀ (h' : MH), P h' → MW K y d h' pc' ls st Q) : ∀ v h', Rv P (.inl v) h' → MW K y d h' pc' ls (v.toList ++ st) Q := by
  rintro v h' ⟨hv, hp⟩
  cases hv
  exact kk h' hp
theorem kx_v {P : MH → Prop} : ∀ E q h', Rv P (.inr (E, q)) h' → MX K y d h' pc ls st E q Q := by
  rintro E q h' ⟨hv, hp⟩
  cases hv
theorem kk_x {P : OT → MH → Prop} {X : String → MH → Prop} (kk : ∀ v h', P (.inl v) h' → MW K y d h' pc' ls (v.toList ++ st) Q) : ∀ v h', Rx P X (.inl v) h' → MW K y d h' pc' ls (v.toList ++ st) Q := by
  rintro v h' (hp | ⟨E, q, hv, -⟩)
  · exact kk v h' hp
  · cases hv
theorem kx_x {P : OT → MH → Prop} {X : String → MH → Prop} (k1 : ∀ E q h', P (.inr (E, q)) h' → MX K y d h' pc ls st E q Q) (kx : ∀ E q h', X E h' → MX K y d h' pc ls st E q Q) : ∀ E q h', Rx P X (.inr (E, q)) h' → MX K y d h' pc ls st E q Q := by
  rintro E q h' (hp | ⟨E', q', hv, hx⟩)
  · exact k1 E q h' hp
  · cases hv
    exact kx E q h' hx
theorem mt_mono {args : List Value} {Q' : OT → MH → Prop} (hM : Mt K y d args h Q) (hq : ∀ o h', Q o h' → Q' o h') : Mt K y d args h Q' := by
  intro p e ha hc hk s m a below hf happ hP hT
  obtain ⟨k, o, h1, h2, h3, hQ⟩ := hM p e ha hc hk s m a below hf happ hP hT
  refine ⟨k, o, h1, h2, h3, ?_⟩
  rcases hQ with ⟨⟨v, h', e1, e2, e3⟩, e4⟩ | ⟨q, e1, E, ce, L, ⟨h', e2, e3⟩, e4⟩
  · exact Or.inl ⟨⟨v, h', e1, e2, hq _ _ e3⟩, e4⟩
  · exact Or.inr ⟨q, e1, E, ce, L, ⟨h', e2, hq _ _ e3⟩, e4⟩
end KK
