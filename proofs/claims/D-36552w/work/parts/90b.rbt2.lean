/-! java.util.TreeMap: a leaf more, a node less (plain words) -/
def upo (f : Nat → Option Nat) (a : Nat) (v : Option Nat) : Nat → Option Nat := fun b => if b = a then v else f b
theorem upo_at {f : Nat → Option Nat} {a : Nat} {v : Option Nat} : upo f a v a = v := if_pos rfl
theorem upo_ne {f : Nat → Option Nat} {a b : Nat} {v : Option Nat} (h : b ≠ a) : upo f a v b = f b := if_neg h
section RBT
variable {L : List Nat} {key : Nat → Int} {lf rt pa : Nat → Option Nat} {lo hi : Nat → Int} {root : Option Nat} {LO HI : Int} {p r : Nat}
theorem TmI.addL {a x : Nat} {k : Int} (H : TmI L key lf rt pa lo hi root LO HI) (ha : a ∈ L) (hx : x ∉ L) (hl : lf a = none) (hk : lo a < k ∧ k < key a) : TmI (x :: L) (upI key x k) (upo (upo lf x none) a (some x)) (upo rt x none) (upo pa x (some a)) (upI lo x (lo a)) (upI hi x (key a)) root LO HI := by
  obtain ⟨⟨s1, s2, s3, s4, s5, s6, s7, s8, s9, s10, s11⟩, t1, t2, t3, t4⟩ := H
  have ba := s4 a ha
  have nx : ∀ b, b ∈ L → b ≠ x := fun b hb e => by subst e; exact hx hb
  have nax := nx a ha
  have nk : ∀ b, b ∈ L → key b ≠ k := fun b hb e => s9 a b ha hb (by omega) (by omega) hl
  have nk2 : ∀ b, b ∈ L → key b ≤ lo a ∨ key a ≤ key b := fun b hb => by
    by_cases e1 : lo a < key b
    · by_cases e2 : key b < key a
      · exact absurd hl (s9 a b ha hb e1 e2)
      · exact Or.inr (by omega)
    · exact Or.inl (by omega)
  have mem : ∀ b, b ∈ x :: L → b = x ∨ b ∈ L := fun b hb => List.mem_cons.mp hb
  have nh : ∀ b, b ∈ L → hi b ≠ key a := fun b hb e => by
    rcases t2 b hb with e1 | ⟨c, c1, c2, c3⟩
    · omega
    · have := s11 c a c1 ha (by omega)
      subst this
      have bb := s4 b hb
      exact s9 c b ha hb (by omega) (by omega) hl
  refine ⟨⟨List.nodup_cons.mpr ⟨hx, s1⟩, ⟨fun e => ?_, fun e => by cases e⟩, fun q e => ?_, fun b hb => ?_, fun b c hb e => ?_, fun b c hb e => ?_, fun b c hb e => ?_, fun b hb e => ?_, fun b c hb hc l1 l2 => ?_, fun b c hb hc l1 l2 => ?_, fun b c hb hc e => ?_⟩, ?_⟩
  · have := s2.mp e; rw [this] at ha; cases ha
  · have z := s3 q e
    have n := nx q z.1
    exact ⟨List.mem_cons_of_mem _ z.1, by rw [upo_ne n]; exact z.2.1, by rw [upI_ne n]; exact z.2.2.1, by rw [upI_ne n]; exact z.2.2.2⟩
  · rcases mem b hb with e | e
    · subst e; rw [upI_at, upI_at, upI_at]; omega
    · rw [upI_ne (nx b e), upI_ne (nx b e), upI_ne (nx b e)]; exact s4 b e
  · rcases mem b hb with e1 | e1
    · subst e1; rw [upo_ne nax.symm, upo_at] at e; cases e
    · by_cases e2 : b = a
      · subst e2; rw [upo_at] at e; cases e
        exact ⟨List.mem_cons_self, upo_at, by rw [upI_at, upI_ne nax], by rw [upI_at, upI_ne nax]⟩
      · rw [upo_ne e2, upo_ne (nx b e1)] at e
        have z := s5 b c e1 e
        have n := nx c z.1
        exact ⟨List.mem_cons_of_mem _ z.1, by rw [upo_ne n]; exact z.2.1, by rw [upI_ne n, upI_ne (nx b e1)]; exact z.2.2.1, by rw [upI_ne n, upI_ne (nx b e1)]; exact z.2.2.2⟩
  · rcases mem b hb with e1 | e1
    · subst e1; rw [upo_at] at e; cases e
    · rw [upo_ne (nx b e1)] at e
      have z := s6 b c e1 e
      have n := nx c z.1
      exact ⟨List.mem_cons_of_mem _ z.1, by rw [upo_ne n]; exact z.2.1, by rw [upI_ne n, upI_ne (nx b e1)]; exact z.2.2.1, by rw [upI_ne n, upI_ne (nx b e1)]; exact z.2.2.2⟩
  · rcases mem b hb with e1 | e1
    · subst e1; rw [upo_at] at e; cases e
      exact ⟨List.mem_cons_of_mem _ ha, Or.inl upo_at⟩
    · rw [upo_ne (nx b e1)] at e
      have z := s7 b c e1 e
      refine ⟨List.mem_cons_of_mem _ z.1, ?_⟩
      rcases z.2 with z2 | z2
      · exact Or.inl ((upo_ne (fun e9 => by subst e9; rw [hl] at z2; cases z2)).trans ((upo_ne (nx c z.1)).trans z2))
      · exact Or.inr ((upo_ne (nx c z.1)).trans z2)
  · rcases mem b hb with e1 | e1
    · subst e1; rw [upo_at] at e; cases e
    · rw [upo_ne (nx b e1)] at e; exact s8 b e1 e
  · rcases mem b hb with e1 | e1
    · subst e1
      rw [upI_at] at l1; rw [upI_at] at l2
      rcases mem c hc with e2 | e2
      · subst e2; rw [upI_at] at l2; omega
      · rw [upI_ne (nx c e2)] at l1; rw [upI_ne (nx c e2)] at l2
        have := nk2 c e2
        omega
    · by_cases e3 : b = a
      · subst e3; rw [upo_at]; intro h9; cases h9
      · rw [upo_ne e3, upo_ne (nx b e1)]
        rw [upI_ne (nx b e1)] at l1; rw [upI_ne (nx b e1)] at l2
        rcases mem c hc with e2 | e2
        · subst e2; rw [upI_at] at l1; rw [upI_at] at l2
          have nb := nk2 b e1
          have ne : key b ≠ key a := fun e9 => e3 (s11 b a e1 ha e9)
          exact s9 b a e1 ha (by have := s4 b e1; omega) (by omega)
        · rw [upI_ne (nx c e2)] at l1; rw [upI_ne (nx c e2)] at l2
          exact s9 b c e1 e2 l1 l2
  · rcases mem b hb with e1 | e1
    · subst e1
      rw [upI_at] at l1; rw [upI_at] at l2
      rcases mem c hc with e2 | e2
      · subst e2; rw [upI_at] at l1; omega
      · rw [upI_ne (nx c e2)] at l1; rw [upI_ne (nx c e2)] at l2
        have := nk2 c e2
        omega
    · rw [upo_ne (nx b e1)]
      rw [upI_ne (nx b e1)] at l1; rw [upI_ne (nx b e1)] at l2
      rcases mem c hc with e2 | e2
      · subst e2; rw [upI_at] at l1; rw [upI_at] at l2
        have nb := nk2 b e1
        have bb := s4 b e1
        by_cases e3 : key a < hi b
        · exact s10 b a e1 ha (by omega) e3
        · exfalso
          rcases t2 b e1 with e4 | ⟨d, d1, d2, d3⟩
          · omega
          · have nd := nk2 d d1
            exact nh b e1 (by omega)
      · rw [upI_ne (nx c e2)] at l1; rw [upI_ne (nx c e2)] at l2
        exact s10 b c e1 e2 l1 l2
  · rcases mem b hb with e1 | e1
    · rcases mem c hc with e2 | e2
      · rw [e1, e2]
      · subst e1; rw [upI_at, upI_ne (nx c e2)] at e; exact absurd e.symm (nk c e2)
    · rcases mem c hc with e2 | e2
      · subst e2; rw [upI_at, upI_ne (nx b e1)] at e; exact absurd e (nk b e1)
      · rw [upI_ne (nx b e1), upI_ne (nx c e2)] at e; exact s11 b c e1 e2 e
  · refine ⟨fun b hb => ?_, fun b hb => ?_, fun b c hb hc l1 l2 => ?_, fun b c hb hc l1 l2 => ?_⟩
    · rcases mem b hb with e1 | e1
      · subst e1
        rw [upI_at, upI_at]
        rcases t1 a ha with e | ⟨c, c1, c2, c3⟩
        · exact Or.inl e
        · exact Or.inr ⟨c, List.mem_cons_of_mem _ c1, by rw [upI_ne (nx c c1)]; exact c2, by rw [upI_ne (nx c c1)]; omega⟩
      · rw [upI_ne (nx b e1), upI_ne (nx b e1)]
        rcases t1 b e1 with e | ⟨c, c1, c2, c3⟩
        · exact Or.inl e
        · exact Or.inr ⟨c, List.mem_cons_of_mem _ c1, by rw [upI_ne (nx c c1)]; exact c2, by rw [upI_ne (nx c c1)]; exact c3⟩
    · rcases mem b hb with e1 | e1
      · subst e1
        rw [upI_at, upI_at]
        exact Or.inr ⟨a, List.mem_cons_of_mem _ ha, by rw [upI_ne nax], by rw [upI_ne nax]; exact Int.le_refl _⟩
      · rw [upI_ne (nx b e1), upI_ne (nx b e1)]
        rcases t2 b e1 with e | ⟨c, c1, c2, c3⟩
        · exact Or.inl e
        · exact Or.inr ⟨c, List.mem_cons_of_mem _ c1, by rw [upI_ne (nx c c1)]; exact c2, by rw [upI_ne (nx c c1)]; exact c3⟩
    · rcases mem b hb with e1 | e1
      · subst e1
        rw [upI_at] at l1; rw [upI_at] at l2
        rcases mem c hc with e2 | e2
        · subst e2; rw [upI_at] at l2; omega
        · rw [upI_ne (nx c e2)] at l1; rw [upI_ne (nx c e2)] at l2
          have := nk2 c e2
          omega
      · rw [upI_ne (nx b e1)] at l1; rw [upI_ne (nx b e1)] at l2
        rw [upI_ne (nx b e1), upI_ne (nx b e1)]
        rcases mem c hc with e2 | e2
        · subst e2; rw [upI_at] at l1; rw [upI_at] at l2; rw [upI_at, upI_at]
          have nb := nk2 b e1
          by_cases e3 : b = a
          · subst e3; omega
          · have ne : key b ≠ key a := fun e9 => e3 (s11 b a e1 ha e9)
            have z := t3 b a e1 ha (by omega) (by omega)
            omega
        · rw [upI_ne (nx c e2)] at l1; rw [upI_ne (nx c e2)] at l2
          rw [upI_ne (nx c e2), upI_ne (nx c e2)]
          exact t3 b c e1 e2 l1 l2
    · rcases mem b hb with e1 | e1
      · subst e1
        rw [upI_at] at l1; rw [upI_at] at l2
        rcases mem c hc with e2 | e2
        · subst e2; rw [upI_at] at l1; omega
        · rw [upI_ne (nx c e2)] at l1; rw [upI_ne (nx c e2)] at l2
          have := nk2 c e2
          omega
      · rw [upI_ne (nx b e1)] at l1; rw [upI_ne (nx b e1)] at l2
        rw [upI_ne (nx b e1), upI_ne (nx b e1)]
        rcases mem c hc with e2 | e2
        · subst e2; rw [upI_at] at l1; rw [upI_at] at l2; rw [upI_at, upI_at]
          have nb := nk2 b e1
          have e3 : key a < hi b := by
            by_cases e3 : key a < hi b
            · exact e3
            · exfalso
              rcases t2 b e1 with e4 | ⟨d, d1, d2, d3⟩
              · omega
              · have nd := nk2 d d1
                exact nh b e1 (by omega)
          have z := t4 b a e1 ha (by omega) e3
          omega
        · rw [upI_ne (nx c e2)] at l1; rw [upI_ne (nx c e2)] at l2
          rw [upI_ne (nx c e2), upI_ne (nx c e2)]
          exact t4 b c e1 e2 l1 l2
theorem upo_sw {f g : Nat → Option Nat} : True := trivial
theorem TmI.addR {a x : Nat} {k : Int} (H : TmI L key lf rt pa lo hi root LO HI) (ha : a ∈ L) (hx : x ∉ L) (hl : rt a = none) (hk : key a < k ∧ k < hi a) : TmI (x :: L) (upI key x k) (upo lf x none) (upo (upo rt x none) a (some x)) (upo pa x (some a)) (upI lo x (key a)) (upI hi x (hi a)) root LO HI := by
  have z := H.mir.addL (k := -k) ha hx hl ⟨by omega, by omega⟩
  refine TmI.unmir ?_
  rw [upI_neg, upI_neg, upI_neg]; exact z
/-- the first entry -/
theorem TmI.one {x : Nat} {k : Int} (hk : LO < k ∧ k < HI) : TmI [x] (upI key x k) (upo lf x none) (upo rt x none) (upo pa x none) (upI lo x LO) (upI hi x HI) (some x) LO HI := by
  have mem : ∀ b, b ∈ [x] → b = x := fun b hb => List.mem_singleton.mp hb
  refine ⟨⟨by simp, ⟨fun e => (nomatch e), fun e => (nomatch e)⟩, fun q e => ?_, fun b hb => ?_, fun b c hb e => ?_, fun b c hb e => ?_, fun b c hb e => ?_, fun b hb e => ?_, fun b c hb hc l1 l2 => ?_, fun b c hb hc l1 l2 => ?_, fun b c hb hc e => ?_⟩, fun b hb => ?_, fun b hb => ?_, fun b c hb hc l1 l2 => ?_, fun b c hb hc l1 l2 => ?_⟩
  · cases e; exact ⟨List.mem_cons_self, upo_at, upI_at, upI_at⟩
  · rw [mem b hb, upI_at, upI_at, upI_at]; omega
  · rw [mem b hb, upo_at] at e; cases e
  · rw [mem b hb, upo_at] at e; cases e
  · rw [mem b hb, upo_at] at e; cases e
  · rw [mem b hb]
  · rw [mem b hb, mem c hc] at l2; omega
  · rw [mem b hb, mem c hc] at l1; omega
  · rw [mem b hb, mem c hc]
  · rw [mem b hb]; exact Or.inl upI_at
  · rw [mem b hb]; exact Or.inl upI_at
  · rw [mem b hb, mem c hc] at l2; omega
  · rw [mem b hb, mem c hc] at l1; omega
/-! a node less that has no left one -/
def dlA (f : Nat → Option Nat) (s : Nat) (rep : Option Nat) : Nat → Option Nat := fun a => if f a = some s then rep else f a
def dlP (pa : Nat → Option Nat) (s : Nat) (rep : Option Nat) : Nat → Option Nat := fun b => if rep = some b then pa s else pa b
def dlR (root : Option Nat) (s : Nat) (rep : Option Nat) : Option Nat := if root = some s then rep else root
def dlI (f : Nat → Int) (v w : Int) : Nat → Int := fun a => if f a = v then w else f a
theorem dlA_y {f : Nat → Option Nat} {s a : Nat} {rep : Option Nat} (h : f a = some s) : dlA f s rep a = rep := if_pos h
theorem dlA_n {f : Nat → Option Nat} {s a : Nat} {rep : Option Nat} (h : f a ≠ some s) : dlA f s rep a = f a := if_neg h
theorem dlP_y {s a : Nat} {rep : Option Nat} (h : rep = some a) : dlP pa s rep a = pa s := if_pos h
theorem dlP_n {s a : Nat} {rep : Option Nat} (h : rep ≠ some a) : dlP pa s rep a = pa a := if_neg h
theorem dlI_y {f : Nat → Int} {v w : Int} {a : Nat} (h : f a = v) : dlI f v w a = w := if_pos h
theorem dlI_n {f : Nat → Int} {v w : Int} {a : Nat} (h : f a ≠ v) : dlI f v w a = f a := if_neg h
theorem TmI.del {s : Nat} (H : TmI L key lf rt pa lo hi root LO HI) (hs : s ∈ L) (hl : lf s = none) : TmI (L.erase s) key (dlA lf s (rt s)) (dlA rt s (rt s)) (dlP pa s (rt s)) (dlI lo (key s) (lo s)) hi (dlR root s (rt s)) LO HI := by
  obtain ⟨⟨s1, s2, s3, s4, s5, s6, s7, s8, s9, s10, s11⟩, t1, t2, t3, t4⟩ := H
  have bs := s4 s hs
  have mem : ∀ a, a ∈ L.erase s ↔ a ≠ s ∧ a ∈ L := fun a => s1.mem_erase_iff
  have kne : ∀ a, a ∈ L → a ≠ s → key a ≠ key s := fun a ha n e => n (s11 a s ha hs e)
  have gapL : ∀ b, b ∈ L → lo s < key b → key b < key s → False := fun b hb l1 l2 => s9 s b hs hb l1 l2 hl
  have nhi : ∀ a, a ∈ L → hi a ≠ key s := fun a ha e => by
    rcases t2 a ha with e1 | ⟨c, c1, c2, c3⟩
    · omega
    · have := s11 c s c1 hs (by omega)
      subst this
      have ba := s4 a ha
      exact gapL a ha (by omega) (by omega)
  have gapR : rt s = none → ∀ b, b ∈ L → key s < key b → key b < hi s → False := fun e b hb l1 l2 => s10 s b hs hb l1 l2 e
  have los : lo s ≠ key s := by omega
  have Lval : ∀ a, (lo a = key s ∧ dlI lo (key s) (lo s) a = lo s) ∨ (lo a ≠ key s ∧ dlI lo (key s) (lo s) a = lo a) := fun a => by
    by_cases e : lo a = key s
    · exact Or.inl ⟨e, dlI_y e⟩
    · exact Or.inr ⟨e, dlI_n e⟩
  have root3 : ∀ q, dlR root s (rt s) = some q → q ∈ L.erase s ∧ dlP pa s (rt s) q = none ∧ dlI lo (key s) (lo s) q = LO ∧ hi q = HI := fun q e => by
    unfold dlR at e
    split at e
    · next e9 =>
      have z := s3 s e9
      have y := s6 s q hs e
      have bq := s4 q y.1
      exact ⟨(mem q).mpr ⟨fun e8 => by subst e8; omega, y.1⟩, by rw [dlP_y e]; exact z.2.1, by rw [dlI_y y.2.2.1]; exact z.2.2.1, by omega⟩
    · next e9 =>
      have z := s3 q e
      refine ⟨(mem q).mpr ⟨fun e8 => by subst e8; exact e9 e, z.1⟩, ?_, ?_, z.2.2.2⟩
      · rw [dlP_n (fun e8 => by have y := s6 s q hs e8; rw [z.2.1] at y; cases y.2.1)]; exact z.2.1
      · rw [dlI_n (by omega)]; exact z.2.2.1
  refine ⟨⟨s1.erase s, ?_, root3, fun a ha => ?_, fun a b ha e => ?_, fun a b ha e => ?_, fun a b ha e => ?_, fun a ha e => ?_, fun a b ha hb l1 l2 => ?_, fun a b ha hb l1 l2 => ?_, fun a b ha hb e => s11 a b ((mem a).mp ha).2 ((mem b).mp hb).2 e⟩, fun a ha => ?_, fun a ha => ?_, fun a b ha hb l1 l2 => ?_, fun a b ha hb l1 l2 => ?_⟩
  · constructor
    · intro e
      unfold dlR at e
      split at e
      · next e9 =>
        have z := s3 s e9
        apply List.eq_nil_iff_forall_not_mem.mpr
        intro b hb
        have hb2 := (mem b).mp hb
        have bb := s4 b hb2.2
        have nb := kne b hb2.2 hb2.1
        by_cases e1 : key b < key s
        · exact gapL b hb2.2 (by omega) e1
        · exact gapR e b hb2.2 (by omega) (by omega)
      · have := s2.mp e; rw [this] at hs; cases hs
    · intro e
      cases hq : dlR root s (rt s) with
      | none => rfl
      | some q => have z := (root3 q hq).1; rw [e] at z; cases z
  · obtain ⟨n, ha⟩ := (mem a).mp ha
    have ba := s4 a ha
    rcases Lval a with ⟨e1, e2⟩ | ⟨e1, e2⟩ <;> rw [e2] <;> omega
  · obtain ⟨n, ha⟩ := (mem a).mp ha
    by_cases e1 : lf a = some s
    · rw [dlA_y e1] at e
      have z := s5 a s ha e1
      have y := s6 s b hs e
      have bb := s4 b y.1
      refine ⟨(mem b).mpr ⟨fun e8 => by subst e8; omega, y.1⟩, by rw [dlP_y e]; exact z.2.1, ?_, by omega⟩
      rw [dlI_y y.2.2.1, dlI_n (by omega)]; omega
    · rw [dlA_n e1] at e
      have z := s5 a b ha e
      refine ⟨(mem b).mpr ⟨fun e8 => by subst e8; exact e1 e, z.1⟩, ?_, ?_, z.2.2.2⟩
      · rw [dlP_n (fun e8 => by have y := s6 s b hs e8; exact n (Option.some.inj (z.2.1.symm.trans y.2.1)))]; exact z.2.1
      · have z3 := z.2.2.1
        unfold dlI; rw [z3]
  · obtain ⟨n, ha⟩ := (mem a).mp ha
    have ka := kne a ha n
    by_cases e1 : rt a = some s
    · rw [dlA_y e1] at e
      have z := s6 a s ha e1
      have y := s6 s b hs e
      have bb := s4 b y.1
      refine ⟨(mem b).mpr ⟨fun e8 => by subst e8; omega, y.1⟩, by rw [dlP_y e]; exact z.2.1, ?_, by omega⟩
      rw [dlI_y y.2.2.1]; omega
    · rw [dlA_n e1] at e
      have z := s6 a b ha e
      refine ⟨(mem b).mpr ⟨fun e8 => by subst e8; exact e1 e, z.1⟩, ?_, ?_, z.2.2.2⟩
      · rw [dlP_n (fun e8 => by have y := s6 s b hs e8; exact n (Option.some.inj (z.2.1.symm.trans y.2.1)))]; exact z.2.1
      · rw [dlI_n (by omega)]; exact z.2.2.1
  · obtain ⟨n, ha⟩ := (mem a).mp ha
    by_cases e1 : rt s = some a
    · rw [dlP_y e1] at e
      have z := s7 s b hs e
      refine ⟨(mem b).mpr ⟨fun e8 => by subst e8; rcases z.2 with z2 | z2; { rw [hl] at z2; cases z2 }; { have y := s6 b b hs z2; omega }, z.1⟩, ?_⟩
      rcases z.2 with z2 | z2
      · exact Or.inl ((dlA_y z2).trans e1)
      · exact Or.inr ((dlA_y z2).trans e1)
    · rw [dlP_n e1] at e
      have z := s7 a b ha e
      refine ⟨(mem b).mpr ⟨fun e8 => by subst e8; rcases z.2 with z2 | z2; { rw [hl] at z2; cases z2 }; { exact e1 z2 }, z.1⟩, ?_⟩
      rcases z.2 with z2 | z2
      · exact Or.inl ((dlA_n (fun e8 => n (Option.some.inj (z2.symm.trans e8)))).trans z2)
      · exact Or.inr ((dlA_n (fun e8 => n (Option.some.inj (z2.symm.trans e8)))).trans z2)
  · obtain ⟨n, ha⟩ := (mem a).mp ha
    by_cases e1 : rt s = some a
    · rw [dlP_y e1] at e
      unfold dlR; rw [if_pos (s8 s hs e)]; exact e1
    · rw [dlP_n e1] at e
      have z := s8 a ha e
      unfold dlR
      rw [if_neg (fun e8 => n (Option.some.inj (z.symm.trans e8)))]; exact z
  · obtain ⟨n, ha⟩ := (mem a).mp ha
    obtain ⟨nb, hb⟩ := (mem b).mp hb
    have kb := kne b hb nb
    have l3 : lo a < key b := by
      rcases Lval a with ⟨e1, e2⟩ | ⟨e1, e2⟩
      · rw [e2] at l1
        by_cases e3 : key b < key s
        · exact (gapL b hb l1 e3).elim
        · omega
      · rw [e2] at l1; exact l1
    have z := s9 a b ha hb l3 l2
    by_cases e1 : lf a = some s
    · rw [dlA_y e1]
      intro e8
      have y := s5 a s ha e1
      by_cases e3 : key b < key s
      · exact gapL b hb (by omega) e3
      · exact gapR e8 b hb (by omega) (by omega)
    · rw [dlA_n e1]; exact z
  · obtain ⟨n, ha⟩ := (mem a).mp ha
    obtain ⟨nb, hb⟩ := (mem b).mp hb
    have kb := kne b hb nb
    have z := s10 a b ha hb l1 l2
    by_cases e1 : rt a = some s
    · rw [dlA_y e1]
      intro e8
      have y := s6 a s ha e1
      by_cases e3 : key b < key s
      · exact gapL b hb (by omega) e3
      · exact gapR e8 b hb (by omega) (by omega)
    · rw [dlA_n e1]; exact z
  · obtain ⟨n, ha⟩ := (mem a).mp ha
    rcases Lval a with ⟨e1, e2⟩ | ⟨e1, e2⟩
    · rw [e2]
      rcases t1 a ha with e | ⟨c, c1, c2, c3⟩
      · omega
      · have := s11 c s c1 hs (by omega)
        subst this
        rcases t1 c hs with e | ⟨d, d1, d2, d3⟩
        · exact Or.inl e
        · exact Or.inr ⟨d, (mem d).mpr ⟨fun e8 => by subst e8; omega, d1⟩, d2, by omega⟩
    · rw [e2]
      rcases t1 a ha with e | ⟨c, c1, c2, c3⟩
      · exact Or.inl e
      · exact Or.inr ⟨c, (mem c).mpr ⟨fun e8 => by subst e8; exact e1 c2, c1⟩, c2, c3⟩
  · obtain ⟨n, ha⟩ := (mem a).mp ha
    have ba := s4 a ha
    rcases t2 a ha with e | ⟨c, c1, c2, c3⟩
    · exact Or.inl e
    · have ncs : c ≠ s := fun e8 => by rw [e8] at c2; exact nhi a ha c2
      refine Or.inr ⟨c, (mem c).mpr ⟨ncs, c1⟩, c2, ?_⟩
      have kc := kne c c1 ncs
      rcases Lval c with ⟨e1, e2⟩ | ⟨e1, e2⟩
      · rw [e2]
        rcases Lval a with ⟨f1, f2⟩ | ⟨f1, f2⟩ <;> rw [f2] <;> omega
      · rw [e2]
        rcases Lval a with ⟨f1, f2⟩ | ⟨f1, f2⟩
        · rw [f2]
          rcases t1 a ha with e | ⟨d, d1, d2, d3⟩
          · omega
          · have := s11 d s d1 hs (by omega)
            subst this
            by_cases e5 : key c < hi d
            · have z := t4 d c hs c1 (by omega) e5; omega
            · rcases t2 d hs with e | ⟨g, g1, g2, g3⟩
              · have bc := s4 c c1; omega
              · have := s11 g c g1 c1 (by omega)
                subst this; exact g3
        · rw [f2]; exact c3
  · obtain ⟨n, ha⟩ := (mem a).mp ha
    obtain ⟨nb, hb⟩ := (mem b).mp hb
    have kb := kne b hb nb
    have ka := kne a ha n
    have bb := s4 b hb
    rcases Lval a with ⟨e1, e2⟩ | ⟨e1, e2⟩
    · rw [e2] at l1 ⊢
      have e3 : key s < key b := by
        by_cases e3 : key b < key s
        · exact (gapL b hb l1 e3).elim
        · omega
      have z := t3 a b ha hb (by omega) l2
      rcases Lval b with ⟨f1, f2⟩ | ⟨f1, f2⟩ <;> rw [f2] <;> omega
    · rw [e2] at l1 ⊢
      have z := t3 a b ha hb l1 l2
      rcases Lval b with ⟨f1, f2⟩ | ⟨f1, f2⟩
      · rw [f2]
        have w := t3 a s ha hs (by omega) (by omega)
        omega
      · rw [f2]; exact z
  · obtain ⟨n, ha⟩ := (mem a).mp ha
    obtain ⟨nb, hb⟩ := (mem b).mp hb
    have ka := kne a ha n
    have bb := s4 b hb
    have z := t4 a b ha hb l1 l2
    rcases Lval b with ⟨f1, f2⟩ | ⟨f1, f2⟩
    · rw [f2]
      have w := t4 a s ha hs (by omega) (by omega)
      omega
    · rw [f2]; exact z
theorem dlI_neg {f : Nat → Int} {v w : Int} : (fun b => -(dlI f v w b)) = dlI (fun b => -f b) (-v) (-w) := by
  funext b
  unfold dlI
  by_cases e : f b = v
  · rw [if_pos e, if_pos (show -f b = -v by rw [e])]
  · rw [if_neg e, if_neg (show ¬ (-f b = -v) by omega)]
theorem TmI.delR {s : Nat} (H : TmI L key lf rt pa lo hi root LO HI) (hs : s ∈ L) (hl : rt s = none) : TmI (L.erase s) key (dlA lf s (lf s)) (dlA rt s (lf s)) (dlP pa s (lf s)) lo (dlI hi (key s) (hi s)) (dlR root s (lf s)) LO HI := by
  have z := H.mir.del hs hl
  refine TmI.unmir ?_
  rw [dlI_neg]; exact z
/-- another key in a place, no key between -/
theorem TmI.rekey {k : Int} (H : TmI L key lf rt pa lo hi root LO HI) (hp : p ∈ L) (hk : key p < k ∧ k < hi p) (hno : ∀ b, b ∈ L → b ≠ p → key b < key p ∨ k < key b) : TmI L (upI key p k) lf rt pa (dlI lo (key p) k) (dlI hi (key p) k) root LO HI := by
  obtain ⟨⟨s1, s2, s3, s4, s5, s6, s7, s8, s9, s10, s11⟩, t1, t2, t3, t4⟩ := H
  have bp := s4 p hp
  have kne : ∀ a, a ∈ L → a ≠ p → key a ≠ key p := fun a ha n e => n (s11 a p ha hp e)
  have K1 : ∀ a, a ∈ L → (a = p ∧ key a = key p ∧ upI key p k a = k) ∨ (a ≠ p ∧ upI key p k a = key a ∧ (key a < key p ∨ k < key a)) := fun a ha => by
    by_cases e : a = p
    · exact Or.inl ⟨e, by rw [e], by rw [e, upI_at]⟩
    · exact Or.inr ⟨e, upI_ne e, hno a ha e⟩
  have L1 : ∀ a, a ∈ L → (lo a = key p ∧ dlI lo (key p) k a = k) ∨ (lo a ≠ key p ∧ dlI lo (key p) k a = lo a ∧ (lo a < key p ∨ k < lo a)) := fun a ha => by
    by_cases e : lo a = key p
    · exact Or.inl ⟨e, dlI_y e⟩
    · refine Or.inr ⟨e, dlI_n e, ?_⟩
      rcases t1 a ha with h | ⟨c, c1, c2, -⟩
      · omega
      · rcases K1 c c1 with ⟨-, h, -⟩ | ⟨-, -, h⟩ <;> omega
  have H1 : ∀ a, a ∈ L → (hi a = key p ∧ dlI hi (key p) k a = k) ∨ (hi a ≠ key p ∧ dlI hi (key p) k a = hi a ∧ (hi a < key p ∨ k < hi a)) := fun a ha => by
    by_cases e : hi a = key p
    · exact Or.inl ⟨e, dlI_y e⟩
    · refine Or.inr ⟨e, dlI_n e, ?_⟩
      rcases t2 a ha with h | ⟨c, c1, c2, -⟩
      · omega
      · rcases K1 c c1 with ⟨-, h, -⟩ | ⟨-, -, h⟩ <;> omega
  refine ⟨⟨s1, s2, fun q e => ?_, fun a ha => ?_, fun a b ha e => ?_, fun a b ha e => ?_, s7, s8, fun a b ha hb l1 l2 => ?_, fun a b ha hb l1 l2 => ?_, fun a b ha hb e => ?_⟩, fun a ha => ?_, fun a ha => ?_, fun a b ha hb l1 l2 => ?_, fun a b ha hb l1 l2 => ?_⟩
  · have z := s3 q e
    exact ⟨z.1, z.2.1, by rw [dlI_n (by omega)]; exact z.2.2.1, by rw [dlI_n (by omega)]; exact z.2.2.2⟩
  · have ba := s4 a ha
    have u1 := K1 a ha
    have u2 := L1 a ha
    have u3 := H1 a ha
    omega
  · have z := s5 a b ha e
    have u1 := K1 a ha
    have u2 := L1 a ha
    have u3 := L1 b z.1
    have u4 := H1 b z.1
    refine ⟨z.1, z.2.1, ?_, ?_⟩
    · omega
    · have := kne a ha
      rcases u1 with ⟨h1, h2, h3⟩ | ⟨h1, h2, h3⟩ <;> omega
  · have z := s6 a b ha e
    have u1 := K1 a ha
    have u2 := H1 a ha
    have u3 := L1 b z.1
    have u4 := H1 b z.1
    refine ⟨z.1, z.2.1, ?_, ?_⟩
    · rcases u1 with ⟨h1, h2, h3⟩ | ⟨h1, h2, h3⟩ <;> omega
    · omega
  · have u1 := K1 a ha
    have u2 := K1 b hb
    have u3 := L1 a ha
    exact s9 a b ha hb (by omega) (by omega)
  · have u1 := K1 a ha
    have u2 := K1 b hb
    have u3 := H1 a ha
    exact s10 a b ha hb (by omega) (by omega)
  · have u1 := K1 a ha
    have u2 := K1 b hb
    exact s11 a b ha hb (by omega)
  · have u1 := L1 a ha
    have u2 := H1 a ha
    rcases t1 a ha with h | ⟨c, c1, c2, c3⟩
    · exact Or.inl (by omega)
    · have v1 := K1 c c1
      have v2 := H1 c c1
      exact Or.inr ⟨c, c1, by omega, by omega⟩
  · have u1 := L1 a ha
    have u2 := H1 a ha
    rcases t2 a ha with h | ⟨c, c1, c2, c3⟩
    · exact Or.inl (by omega)
    · have v1 := K1 c c1
      have v2 := L1 c c1
      exact Or.inr ⟨c, c1, by omega, by omega⟩
  · have u1 := K1 a ha
    have u2 := K1 b hb
    have u3 := L1 a ha
    have u4 := L1 b hb
    have u5 := H1 b hb
    have z := t3 a b ha hb (by omega) (by omega)
    omega
  · have u1 := K1 a ha
    have u2 := K1 b hb
    have u3 := H1 a ha
    have u4 := L1 b hb
    have u5 := H1 b hb
    have z := t4 a b ha hb (by omega) (by omega)
    omega
end RBT
