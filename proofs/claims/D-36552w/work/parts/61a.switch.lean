/-! lookupswitch -/
theorem lv_lsw {p : Program} {l : Launch} {e : Env} {R : Room} {s : State} {m : MethodId} {args : Array Value} {below : List Frame} {meth : Method} {c : Code} {H : Heap} {locs : List Loc} {cells slots : Nat} {Q : State → Prop} {cc : ByteArray} {pc : Nat} {ls : Array Slot} {rest : List Value} (hexec : p.tables.exec = Jvm.exec) (hb : c.code = cc) {x : Int32} {dflt : Int} {pairs : Array (Int × Int)} {len : Nat} {tgt : Nat} (hdg : decode cc pc = .ok (.lookupswitch dflt pairs, len)) (hsrt : (pairs.toList.zip (pairs.toList.drop 1)).all (fun (a, next) => a.1 < next.1) = true) (ht : (pc : Int) + lookupswitch.offset pairs.toList dflt x.toInt = (tgt : Int)) (k : W p l e R s m args below meth c H locs cells slots Q (F0 m tgt ls rest)) : W p l e R s m args below meth c H locs cells slots Q (F0 m pc ls (.int x :: rest)) := by
  intro T hT X
  obtain ⟨t, a, b⟩ := k T hT X
  refine ⟨t, ?_, b⟩
  rcases hf : pairs.find? (·.1 == x.toInt) with _ | ⟨q, o⟩
  · have e1 : lookupswitch.offset pairs.toList dflt x.toInt = dflt := lookupswitch.offset_none (by rw [Array.find?_toList]; exact hf)
    rw [e1] at ht
    refine X.lookupswitchMiss hexec rfl rfl (by rw [hb]; exact hdg) hsrt hf (by show 0 ≤ (pc : Int) + dflt; omega) t ?_
    have e2 : ((pc : Int) + dflt).toNat = tgt := by omega
    show Steps _ _ _ (T.setTop { F0 m pc ls (.int x :: rest) with pc := ((pc : Int) + dflt).toNat, stack := rest }) t
    rw [e2]; exact a
  · have e1 : lookupswitch.offset pairs.toList dflt x.toInt = o := lookupswitch.offset_some (by rw [Array.find?_toList]; exact hf)
    rw [e1] at ht
    refine X.lookupswitchHit hexec rfl rfl (by rw [hb]; exact hdg) hsrt hf (by show 0 ≤ (pc : Int) + o; omega) t ?_
    have e2 : ((pc : Int) + o).toNat = tgt := by omega
    show Steps _ _ _ (T.setTop { F0 m pc ls (.int x :: rest) with pc := ((pc : Int) + o).toNat, stack := rest }) t
    rw [e2]; exact a
theorem m_lsw {K : KT} {y : YT} {d : Nat} {h : MH} {pc : Nat} {ls : List (Option Value)} {st : List Value} {Q : OT → MH → Prop} {x : Int32} {dflt : Int} {pairs : Array (Int × Int)} {len : Nat} {tgt : Nat} (hdg : decode y.2.1 pc = .ok (.lookupswitch dflt pairs, len)) (hsrt : (pairs.toList.zip (pairs.toList.drop 1)).all (fun (a, next) => a.1 < next.1) = true) (ht : (pc : Int) + lookupswitch.offset pairs.toList dflt x.toInt = (tgt : Int)) (k : MW K y d h tgt ls st Q) : MW K y d h pc ls (.int x :: st) Q := by
  intro p e R s m args below meth c H locs cells slots la C hR hf hc hs h1 h2 hl
  exact lv_lsw C.1 C.2.1 hdg hsrt ht (k p e R s m args below meth c H locs cells slots la C hR hf hc hs h1 h2 hl)
theorem j_lsw2 {K : KT} {y : YT} {d : Nat} {h : MH} {pc : Nat} {ls : List (Option Value)} {st : List Value} {Q : OT → MH → Prop} {x dflt a1 o1 a2 o2 : Int} {len : Nat} (t1 t2 t0 : Nat) (hdg : decode y.2.1 pc = .ok (.lookupswitch dflt #[(a1, o1), (a2, o2)], len)) (hs : a1 < a2) (e1 : (pc : Int) + o1 = (t1 : Int)) (e2 : (pc : Int) + o2 = (t2 : Int)) (e0 : (pc : Int) + dflt = (t0 : Int)) (hx : In x) (k1 : x = a1 → MW K y d h t1 ls st Q) (k2 : x = a2 → MW K y d h t2 ls st Q) (k0 : x ≠ a1 → x ≠ a2 → MW K y d h t0 ls st Q) : MW K y d h pc ls (vi x :: st) Q := by
  have hsrt : ((#[(a1, o1), (a2, o2)] : Array (Int × Int)).toList.zip ((#[(a1, o1), (a2, o2)] : Array (Int × Int)).toList.drop 1)).all (fun (a, next) => a.1 < next.1) = true := by simp [hs]
  by_cases c1 : x = a1
  · exact m_lsw hdg hsrt (by rw [hx.ti, show (#[(a1, o1), (a2, o2)] : Array (Int × Int)).toList = [(a1, o1), (a2, o2)] from rfl, lookupswitch.offset_cons, if_pos c1.symm]; exact e1) (k1 c1)
  · by_cases c2 : x = a2
    · exact m_lsw hdg hsrt (by rw [hx.ti, show (#[(a1, o1), (a2, o2)] : Array (Int × Int)).toList = [(a1, o1), (a2, o2)] from rfl, lookupswitch.offset_cons, if_neg (fun e => c1 e.symm), lookupswitch.offset_cons, if_pos c2.symm]; exact e2) (k2 c2)
    · exact m_lsw hdg hsrt (by rw [hx.ti, show (#[(a1, o1), (a2, o2)] : Array (Int × Int)).toList = [(a1, o1), (a2, o2)] from rfl, lookupswitch.offset_cons, if_neg (fun e => c1 e.symm), lookupswitch.offset_cons, if_neg (fun e => c2 e.symm), lookupswitch.offset_nil]; exact e0) (k0 c1 c2)
