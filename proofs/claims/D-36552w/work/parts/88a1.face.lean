/-! a call by an interface that has the method from one above it (library: Stand.invokeinterfaceUp) -/
section FUP
variable {p : Program} {l : Launch} {e : Env} {R : Room} {s : State} {m : MethodId} {args : Array Value} {below : List Frame} {meth : Method} {c : Code} {H : Heap} {T : State} {locs : List Loc} {cells slots : Nat}
theorem vx_callIFU (X : Stand p l e R s m args below meth c T locs cells slots) (hexec : p.tables.exec = Jvm.exec) {own C J : String} {index count : Nat} {x y : MethodName} {bytes : ByteArray} {maxL : Nat} {ret : Option FieldType}
    (hown : s.vm.findClass own = some m.cls) (hlink : (Cond.methodLink own index x).before args s = true) (hface : (Cond.interfaceMethod x.cls J x.name x.desc).before args s = true) (hdecl : (Cond.declares ⟨J, x.name, x.desc⟩).before args s = true) (hpubO : (Cond.publicMethod ⟨J, x.name, x.desc⟩).before args s = true)
    (hsel : (Cond.selects C ⟨J, x.name, x.desc⟩ y).before args s = true) (hinst : (Cond.instanceMethod y).before args s = true) (hpub : (Cond.publicMethod y).before args s = true) (hunh : (Cond.unhidden C x.name x.desc).before args s = true)
    (hcast : (Cond.castable C x.cls).before args s = true) (hx : x.cls ≠ "java/lang/invoke/MethodHandle" ∧ x.cls ≠ "java/lang/invoke/VarHandle") (hJ : J ≠ "java/lang/invoke/MethodHandle" ∧ J ≠ "java/lang/invoke/VarHandle") (hxo : x.cls ≠ J)
    {W9 : Nat} {Pre : Pt → Array Value → Prop} {Post : Pt → Array Value → Option Value → Pt → Prop} {PostX : Pt → Array Value → Addr → Pt → Prop} (hK : vx_Back l R p e below s args y 5 W9 Pre Post PostX)
    {b : Addr} {cellB : Cell} {kB : Class} (hcell : T.heap[b]? = some cellB) (hobj : cellB.vm.isStatics = false) (hcls : s.vm.findClass C = some cellB.cls) (hkB : s.vm.classes[cellB.cls]? = some kB)
    {g : JFrame} (hg : g.method = m) (hsize : g.locals.size = c.maxLocals) {argsL rest : List Value} (hlen : ∀ sig, parseMethodDescriptor x.desc = some sig → argsL.length = sig.parameters.length)
    (hstack : g.stack = argsL.reverse ++ .ref b :: rest) (hW : 2 * g.monitorRoom + (rest.map fun v => v.category).sum ≤ W9) (hdg : decode c.code g.pc = .ok (.invokeinterface index count, 5))
    (hpre : ∀ vm₁, s.WarmedH vm₁ → Pre ⟨T.setVm vm₁, locs, cells, slots⟩ (Value.ref b :: argsL).toArray) :
    (∃ (v : Option Value) (vm₁ : Vm) (B : Pt), s.WarmedH vm₁ ∧ Stand p l e R s m args below meth c B.U B.locs B.cells B.slots ∧ Post ⟨T.setVm vm₁, locs, cells, slots⟩ (Value.ref b :: argsL).toArray v B ∧
      ∀ target, Steps p.tables e below (B.U.setTop { g with pc := g.pc + 5, stack := v.toList ++ rest }) target → Steps p.tables e below (T.setTop g) target) ∨
    (∃ (q : Addr) (vm₁ : Vm) (B : Pt), s.WarmedH vm₁ ∧ Stand p l e R s m args below meth c B.U B.locs B.cells B.slots ∧ PostX ⟨T.setVm vm₁, locs, cells, slots⟩ (Value.ref b :: argsL).toArray q B ∧
      Steps p.tables e below (T.setTop g) ((B.U.setTop { g with stack := rest }).pushFrame (.throwing q))) := by
  obtain ⟨r0, r, hn, hrm, hstR, hsigR⟩ := Cond.declares_spec hdecl
  obtain ⟨cL, kL, r1, hcL, hkL, hiL, hfoundL, hn1⟩ := Cond.interfaceMethod_spec hface
  cases hn.symm.trans hn1
  obtain ⟨hnameR, hdescR⟩ := name_of_methodNamed hn hrm
  obtain ⟨mk, methM, hnamed, hmethM, -, habM⟩ := Cond.instanceMethod_spec hinst
  obtain ⟨c2, r2, m2, q1, q2, q3, q4, -⟩ := Cond.selects_spec hsel
  cases hcls.symm.trans q1
  cases (State.methodFound?_of_named hn hJ).symm.trans q2
  cases hnamed.symm.trans q3
  have hselP : selectMethod e.platform s.vm cellB.cls r0 = .method mk := by rw [Launch.admits_selectMethod X.admits]; exact q4
  have hpubM : hasFlag methM.accessFlags Acc.public_ = true := Cond.publicMethod_spec hnamed hmethM hpub
  have hway : ((cellB.cls :: s.vm.superclasses cellB.cls).any fun k => (declaredIn s.vm r.name r.desc k).any fun (_, z) => z.isPrivate || z.isStatic) = false := by
    rw [hnameR, hdescR]; exact Cond.unhidden_spec hcls hunh
  obtain ⟨c3, t3, w1, w2, w3⟩ := Cond.castable_spec hcast
  cases hcls.symm.trans w1
  cases hcL.symm.trans w2
  obtain ⟨vm₁, X₁, hstep₁⟩ := X.invokeinterfaceUp hexec hown hlink hface hdecl hpubO hxo hx (a := b) (cell := cellB) (kcell := kB) hcL hcell
    (fun z h => by rw [h] at hobj; cases hobj) hkB w3 hn hrm hselP hmethM hway hpubM habM (g := g) hg (argsL := argsL) (rest := rest) (hlen _ hsigR) hstack hdg
  rcases hK m meth c ⟨T.setVm vm₁, locs, cells, slots⟩ { g with stack := rest } (.invokeinterface index count) mk (Value.ref b :: argsL).toArray X₁ hg hsize hdg hW (X₁.named hnamed) (hpre vm₁ X₁.warmed) with ⟨v, B, X', hpost, hsteps⟩ | ⟨q, B, X', hpost, hsteps⟩
  · exact Or.inl ⟨v, vm₁, B, X₁.warmed, X', hpost, fun target h => hstep₁ _ fun acts => by rw [doInvoke_state]; exact hsteps.trans h⟩
  · exact Or.inr ⟨q, vm₁, B, X₁.warmed, X', hpost, hstep₁ _ fun acts => by rw [doInvoke_state]; exact hsteps⟩
theorem vx_runFU {x y : MethodName} {bytes cc : ByteArray} {maxL nL mc ms n index count : Nat} {ret : Option FieldType} {ws : List Cond} {rm : Room} {Pc : Array Value → State → Prop} {Qc : Array Value → State → Outcome → State → Prop} {XC : String → Addr → State → State → Prop} {free : Addr → Prop} {Ts : List Cond} {own C J : String} {cC : ClassId} {b : Addr} {As rest : List Value} {g : JFrame}
    (hat : ClassAt s C cC) (S : CallFix p m c cc nL s args Ts own) (hM : vx_Met l y ws rm Pc Qc XC mc ms free)
    (back : rm.cells = mc ∧ rm.slots = ms ∧ rm.frames + 1 ≤ R.frames ∧ 8 + (maxL + 11) + rm.locals ≤ R.locals ∧ (∀ w ∈ ws, ∀ (a' : Array Value) (U : State), s.WarmedH U.vm → w.before a' U = true) ∧ Cond.code y bytes maxL ret ∈ ws)
    (hlink : (Cond.methodLink own index x).before args s = true) (hface : (Cond.interfaceMethod x.cls J x.name x.desc).before args s = true) (hdecl : (Cond.declares ⟨J, x.name, x.desc⟩).before args s = true) (hpubO : (Cond.publicMethod ⟨J, x.name, x.desc⟩).before args s = true)
    (hsel : (Cond.selects C ⟨J, x.name, x.desc⟩ y).before args s = true) (hinst : (Cond.instanceMethod y).before args s = true) (hpub : (Cond.publicMethod y).before args s = true) (hunh : (Cond.unhidden C x.name x.desc).before args s = true) (hcast : (Cond.castable C x.cls).before args s = true) (hini : (Cond.initialized y.cls).before args s = true)
    (hx : x.cls ≠ "java/lang/invoke/MethodHandle" ∧ x.cls ≠ "java/lang/invoke/VarHandle") (hJ : J ≠ "java/lang/invoke/MethodHandle" ∧ J ≠ "java/lang/invoke/VarHandle") (hxo : x.cls ≠ J) (len : ∀ sig, parseMethodDescriptor x.desc = some sig → n = sig.parameters.length) (hp : PreV s H C b Pc As)
    (hg : g.method = m) (hn : As.length = n) (hsize : g.locals.size = nL) (hstack : g.stack = As.reverse ++ .ref b :: rest) (hW : 2 * g.monitorRoom + (rest.map fun v => v.category).sum ≤ 8) (hdg : decode cc g.pc = .ok (.invokeinterface index count, 5)) (hf : cells + mc ≤ R.cells ∧ slots + ms ≤ R.slots) :
    vx_Run5 p l e R s m args below meth c H locs cells slots mc ms g rest (Qc (Value.ref b :: As).toArray) XC free := by
  obtain ⟨hrc, hrs, hfr, hlo, hws, hcw⟩ := back
  have hK : vx_Back l R p e below s args y 5 8 (PreOf R mc ms Pc) (PostOf Qc mc ms free) (vx_Post XC mc ms free) := vx_back (bytes := bytes) (maxL := maxL) (ret := ret) hM hp.1 hrc hrs hfr hlo hws hcw (fun a' U hW => word_at hW (Or.inl (by first | rfl | simp [Cond.onTables, Cond.keeps, Cond.steady])) hini)
  obtain ⟨hx9, hb, hml, ho, -⟩ := S
  obtain ⟨-, ⟨cellB, hcB, hoB, hclB⟩, hPc⟩ := hp
  obtain ⟨hfc, kB, hkB, -⟩ := hat
  cases hfc.symm.trans hclB
  intro T hT X
  rcases vx_callIFU X hx9 (C := C) (bytes := bytes) (maxL := maxL) (ret := ret) ho hlink hface hdecl hpubO hsel hinst hpub hunh hcast hx hJ hxo hK (by rw [hT]; exact hcB) hoB hclB hkB hg (hsize.trans hml.symm) (argsL := As) (rest := rest) (fun sig h => hn.trans (len sig h)) hstack hW (by rw [hb]; exact hdg)
    (fun vm₁ hW₁ => ⟨hf.1, hf.2, hPc (T.setVm vm₁) hT hW₁⟩) with ⟨v, vm₁, ⟨U', l2, c2, s2⟩, hW₁, X', ⟨g', mk, t, L, e1, e2, hq, h1, hL, h2, h3⟩, st⟩ | ⟨q, vm₁, ⟨U', l2, c2, s2⟩, hW₁, X', ⟨g', mk, t, L, E, ce, e1, e2, hq, hce, hcv, hcl, h1, hL, h2, h3⟩, st⟩
  · dsimp only [Pt.U, Pt.locs, Pt.cells, Pt.slots] at X' e1 e2 h1 h2 h3 st
    subst h1; subst h2; subst h3
    exact Or.inl ⟨v, (T.setVm vm₁).calling g' mk (Value.ref b :: As).toArray, t, U', L, hT, X', hL, e1, e2, hq, st⟩
  · dsimp only [Pt.U, Pt.locs, Pt.cells, Pt.slots] at X' e1 e2 h1 h2 h3 st hcl
    subst h1; subst h2; subst h3
    exact Or.inr ⟨q, (T.setVm vm₁).calling g' mk (Value.ref b :: As).toArray, t, U', L, E, ce, hT, X', hL, e1, e2, hq, hce, hcv, vx_cls hW₁ hcl, st⟩
end FUP
section MFU
variable {K : KT} {y : YT} {d : Nat} {h : MH} {pc : Nat} {ls : List (Option Value)} {st : List Value} {Q : OT → MH → Prop}
theorem m_invFU {nm : MethodName} {J : String} {cc : ByteArray} {L : Nat} {rt : Option FieldType} {d' : Nat} {Q' : OT → MH → Prop} {index : Nat} {x : MethodName} {count : Nat} (As : List Value) (hdg : decode y.2.1 pc = .ok (.invokeinterface index count, 5)) {ci b : Nat} {w : Bool} {fs : List Value} {rB : vw_C} (hb : h.2.2 b = some (w, .inr (ci, fs))) (hci : mcl[ci]? = some rB) (hl1 : Cond.methodLink y.1.cls index x ∈ lw_all) (hl2 : Cond.declares ⟨J, x.name, x.desc⟩ ∈ lw_tbl) (hl2p : Cond.publicMethod ⟨J, x.name, x.desc⟩ ∈ lw_tbl) (hl3 : (Cond.interfaceMethod x.cls J x.name x.desc) ∈ lw_tbl) (hg3 : glW (Cond.interfaceMethod x.cls J x.name x.desc) = true) (hl4 : Cond.selects rB.1 ⟨J, x.name, x.desc⟩ nm ∈ lw_all) (hl5 : Cond.instanceMethod nm ∈ lw_all) (hl6 : Cond.publicMethod nm ∈ lw_tbl) (hl7 : Cond.unhidden rB.1 x.name x.desc ∈ lw_tbl) (hl8 : Cond.castable rB.1 x.cls ∈ lw_tbl) (hl10 : Cond.initialized nm.cls ∈ lw_all) (hl9 : Cond.code nm cc L rt ∈ lw_all) (hxm : (x.cls ≠ "java/lang/invoke/MethodHandle" ∧ x.cls ≠ "java/lang/invoke/VarHandle") ∧ (J ≠ "java/lang/invoke/MethodHandle" ∧ J ≠ "java/lang/invoke/VarHandle") ∧ x.cls ≠ J) (hxd : (parseMethodDescriptor x.desc).map (fun d => d.parameters.length) = some As.length) (hM : Mt K (nm, cc, L, rt, none) d' (.ref b :: As) h Q') (hd : nm.cls ≠ "java/lang/invoke/MethodHandle" ∧ nm.cls ≠ "java/lang/invoke/VarHandle" ∧ (parseMethodDescriptor nm.desc).map (fun d => d.parameters.length) = some As.length) (hr : (st.map fun v => v.category).sum ≤ 8 ∧ L ≤ 45 ∧ d' + 1 ≤ d) (kk : ∀ v h', Q' (.inl v) h' → MW K y d h' (pc + 5) ls (v.toList ++ st) Q) (kx : ∀ E q h', Q' (.inr (E, q)) h' → MX K y d h' pc ls st E q Q) : MW K y d h pc ls (As.reverse ++ .ref b :: st) Q := by
  intro p e R s m args below meth c H locs cells slots la C hR hf hc hs h1 h2 hl
  have hz1 := hR.1
  have hz2 := hR.2.1
  obtain ⟨r1, r2, r3, r4⟩ := C.rc
  have hts : ∀ w ∈ lw_all, w.before args s = true := fun w hw => C.al hw args
  have hfix : CallFix p m c y.2.1 y.2.2.1 s args lw_all y.1.cls := ⟨C.1, C.2.1, C.2.2.1, C.2.2.2.1, hts⟩
  have hfit : cells + (kC K - h.1) ≤ R.cells ∧ slots + (kS K - h.2.1) ≤ R.slots := by
    constructor <;> omega
  have hpre : ∀ U : State, U.heap = H → s.WarmedH U.vm → mPc K (Value.ref b :: As) h (Value.ref b :: As).toArray U := fun U hU hW => ⟨rfl, by rw [hU]; exact hR, C.gl.move hW (by rw [hU]; exact hR.2.2.2.1) (by rw [hU]; exact hR.2.2.1)⟩
  obtain ⟨cellB, b1, b2, b3, b4, rB, b5, b6, -⟩ := hR.2.2.2.2 b _ hb
  cases hci.symm.trans b5
  have hat := (C.gl.1.1 ci _ hci).2
  have hrec : ∃ cellB : Cell, H[b]? = some cellB ∧ cellB.vm.isStatics = false ∧ s.vm.findClass rB.1 = some cellB.cls := ⟨cellB, b1, b2, by rw [b6]; exact hat.1⟩
  exact mw_run5 C hR hf hc hs h1 h2 hl (vx_runFU (As := As) (rest := st) (n := As.length) hat hfix hM ⟨rfl, rfl, (by show d' + 1 ≤ _; omega), (by show 8 + (L + 11) + 64 * d' ≤ _; omega), pay_in hts (lw_meth hl9), List.mem_cons_self⟩ (hts _ hl1) (C.tb hl3 hg3 rfl args) (C.tb hl2 rfl rfl args) (C.tb hl2p rfl rfl args) (hts _ hl4) (hts _ hl5) (C.tb hl6 rfl rfl args) (C.tb hl7 rfl rfl args) (C.tb hl8 rfl rfl args) (hts _ hl10) hxm.1 hxm.2.1 hxm.2.2 (fun sig hsg => by rw [hsg] at hxd; exact (Option.some.inj hxd).symm) ⟨mPc.blind, hrec, hpre⟩ rfl rfl hl.1 rfl (lv_room hr.1) hdg hfit) kk kx
end MFU
