/-! java.util.TreeMap: turning a tree, a leaf more, a node less (plain words) -/
section RBT
variable {L : List Nat} {key : Nat → Int} {lf rt pa : Nat → Option Nat} {lo hi : Nat → Int} {root : Option Nat} {LO HI : Int} {p r : Nat}
def upA (lf : Nat → Option Nat) (p r : Nat) (pa : Nat → Option Nat) : Nat → Option Nat := fun a => if a = r then some p else if pa p = some a ∧ lf a = some p then some r else lf a
def upB (rt lf : Nat → Option Nat) (p r : Nat) (pa : Nat → Option Nat) : Nat → Option Nat := fun a => if a = p then lf r else if pa p = some a ∧ lf a ≠ some p then some r else rt a
def upP (pa lf : Nat → Option Nat) (p r : Nat) : Nat → Option Nat := fun a => if a = p then some r else if a = r then pa p else if lf r = some a then some p else pa a
def upI (f : Nat → Int) (a : Nat) (v : Int) : Nat → Int := fun b => if b = a then v else f b
def roR (root : Option Nat) (pa : Nat → Option Nat) (p r : Nat) : Option Nat := if pa p = none then some r else root
theorem upI_at {f : Nat → Int} {a : Nat} {v : Int} : upI f a v a = v := if_pos rfl
theorem upI_ne {f : Nat → Int} {a b : Nat} {v : Int} (h : b ≠ a) : upI f a v b = f b := if_neg h
theorem upA_r : upA lf p r pa r = some p := if_pos rfl
theorem upA_g {a : Nat} (h : a ≠ r) (h1 : pa p = some a) (h2 : lf a = some p) : upA lf p r pa a = some r := by unfold upA; rw [if_neg h, if_pos ⟨h1, h2⟩]
theorem upA_o {a : Nat} (h : a ≠ r) (h1 : ¬ (pa p = some a ∧ lf a = some p)) : upA lf p r pa a = lf a := by unfold upA; rw [if_neg h, if_neg h1]
theorem upB_p : upB rt lf p r pa p = lf r := if_pos rfl
theorem upB_g {a : Nat} (h : a ≠ p) (h1 : pa p = some a) (h2 : lf a ≠ some p) : upB rt lf p r pa a = some r := by unfold upB; rw [if_neg h, if_pos ⟨h1, h2⟩]
theorem upB_o {a : Nat} (h : a ≠ p) (h1 : ¬ (pa p = some a ∧ lf a ≠ some p)) : upB rt lf p r pa a = rt a := by unfold upB; rw [if_neg h, if_neg h1]
theorem upP_p : upP pa lf p r p = some r := if_pos rfl
theorem upP_r (h : r ≠ p) : upP pa lf p r r = pa p := by unfold upP; rw [if_neg h, if_pos rfl]
theorem upP_c {a : Nat} (h : a ≠ p) (h1 : a ≠ r) (h2 : lf r = some a) : upP pa lf p r a = some p := by unfold upP; rw [if_neg h, if_neg h1, if_pos h2]
theorem upP_o {a : Nat} (h : a ≠ p) (h1 : a ≠ r) (h2 : lf r ≠ some a) : upP pa lf p r a = pa a := by unfold upP; rw [if_neg h, if_neg h1, if_neg h2]
/-- what a turn to the left of p, whose right one is r, leaves -/
def RotQ (L : List Nat) (lf rt pa : Nat → Option Nat) (lo hi : Nat → Int) (lf' rt' pa' : Nat → Option Nat) (lo' hi' : Nat → Int) (p r : Nat) : Prop := lf' r = some p ∧ rt' r = rt r ∧ lf' p = lf p ∧ pa' p = some r ∧ pa' r = pa p ∧ (∀ a, a ∈ L → lf a = some p → lf' a = some r) ∧ (∀ a, a ∈ L → rt a = some p → rt' a = some r) ∧ (∀ a, a ≠ p → a ≠ r → lo' a = lo a ∧ hi' a = hi a) ∧ (∀ a, a ∈ L → a ≠ r → lf a ≠ some p → lf' a = lf a) ∧ (∀ a, a ∈ L → a ≠ p → rt a ≠ some p → rt' a = rt a)
theorem TmS.rot (H : TmS L key lf rt pa lo hi root LO HI) (hp : p ∈ L) (hr : rt p = some r) : TmS L key (upA lf p r pa) (upB rt lf p r pa) (upP pa lf p r) (upI lo r (lo p)) (upI hi p (key r)) (roR root pa p r) LO HI ∧ RotQ L lf rt pa lo hi (upA lf p r pa) (upB rt lf p r pa) (upP pa lf p r) (upI lo r (lo p)) (upI hi p (key r)) p r := by
  obtain ⟨s1, s2, s3, s4, s5, s6, s7, s8, s9, s10, s11⟩ := H
  obtain ⟨hrL, hrp, hrlo, hrhi⟩ := s6 p r hp hr
  have bp := s4 p hp
  have br := s4 r hrL
  have npr : p ≠ r := fun e => by subst e; omega
  have nrp : r ≠ p := fun e => npr e.symm
  have hg : ∀ g, pa p = some g → g ∈ L ∧ g ≠ p ∧ g ≠ r := fun g e => by
    obtain ⟨g1, g2⟩ := s7 p g hp e
    rcases g2 with g2 | g2
    · have z := s5 g p g1 g2
      exact ⟨g1, fun e9 => by subst e9; omega, fun e9 => by subst e9; omega⟩
    · have z := s6 g p g1 g2
      exact ⟨g1, fun e9 => by subst e9; omega, fun e9 => by subst e9; omega⟩
  have hc : ∀ c, lf r = some c → c ∈ L ∧ pa c = some r ∧ c ≠ p ∧ c ≠ r ∧ lo c = key p ∧ hi c = key r := fun c e => by
    obtain ⟨c1, c2, c3, c4⟩ := s5 r c hrL e
    have bc := s4 c c1
    exact ⟨c1, c2, fun e9 => by subst e9; omega, fun e9 => by subst e9; omega, by omega, c4⟩
  have lfp : ∀ a, a ∈ L → lf a = some p → pa p = some a := fun a ha e => (s5 a p ha e).2.1
  have rtp : ∀ a, a ∈ L → rt a = some p → pa p = some a ∧ lf a ≠ some p := fun a ha e => by
    have z := s6 a p ha e
    have ba := s4 a ha
    exact ⟨z.2.1, fun e9 => by have y := s5 a p ha e9; omega⟩
  have prt : ∀ a, a ∈ L → pa p = some a → lf a ≠ some p → rt a = some p := fun a ha e e1 => ((s7 p a hp e).2).resolve_left e1
  have lfr : ∀ a, a ∈ L → lf a ≠ some r := fun a ha e => by
    have z := s5 a r ha e
    have e1 : a = p := Option.some.inj (z.2.1.symm.trans hrp)
    subst e1; omega
  have rtr : ∀ a, a ∈ L → rt a = some r → a = p := fun a ha e => by
    have z := s6 a r ha e
    exact Option.some.inj (z.2.1.symm.trans hrp)
  refine ⟨⟨s1, ?_, ?_, ?_, ?_, ?_, ?_, ?_, ?_, ?_, s11⟩, upA_r, ?_, ?_, upP_p, upP_r nrp, ?_, ?_, ?_, ?_, ?_⟩
  · constructor
    · intro e
      unfold roR at e
      split at e
      · cases e
      · exact s2.mp e
    · intro e; rw [e] at hp; cases hp
  · intro q e
    unfold roR at e
    split at e
    · next e9 =>
      cases e
      have z := s3 p (s8 p hp e9)
      exact ⟨hrL, by rw [upP_r nrp]; exact e9, by rw [upI_at]; exact z.2.2.1, by rw [upI_ne nrp]; omega⟩
    · next e9 =>
      have z := s3 q e
      have n1 : q ≠ p := fun e8 => by subst e8; exact e9 z.2.1
      have n2 : q ≠ r := fun e8 => by subst e8; rw [z.2.1] at hrp; cases hrp
      exact ⟨z.1, by rw [upP_o n1 n2 (fun e8 => by have := (hc q e8).2.1; rw [z.2.1] at this; cases this)]; exact z.2.1, by rw [upI_ne n2]; exact z.2.2.1, by rw [upI_ne n1]; exact z.2.2.2⟩
  · intro a ha
    have ba := s4 a ha
    by_cases e1 : a = r
    · subst e1; rw [upI_at, upI_ne nrp]; omega
    · by_cases e2 : a = p
      · subst e2; rw [upI_at, upI_ne npr]; omega
      · rw [upI_ne e1, upI_ne e2]; exact ba
  · intro a b ha e
    by_cases e1 : a = r
    · subst e1; rw [upA_r] at e; cases e
      exact ⟨hp, upP_p, by rw [upI_at, upI_ne npr], by rw [upI_at]⟩
    · by_cases e2 : pa p = some a ∧ lf a = some p
      · rw [upA_g e1 e2.1 e2.2] at e; cases e
        have z := s5 a p ha e2.2
        exact ⟨hrL, by rw [upP_r nrp]; exact e2.1, by rw [upI_at, upI_ne e1]; exact z.2.2.1, by rw [upI_ne nrp]; omega⟩
      · rw [upA_o e1 e2] at e
        have z := s5 a b ha e
        have n1 : b ≠ p := fun e8 => by subst e8; exact e2 ⟨z.2.1, e⟩
        have n2 : b ≠ r := fun e8 => by subst e8; exact lfr a ha e
        exact ⟨z.1, by rw [upP_o n1 n2 (fun e8 => by have := (hc b e8).2.1; rw [z.2.1] at this; exact e1 (Option.some.inj this))]; exact z.2.1, by rw [upI_ne n2, upI_ne e1]; exact z.2.2.1, by rw [upI_ne n1]; exact z.2.2.2⟩
  · intro a b ha e
    by_cases e1 : a = p
    · subst e1; rw [upB_p] at e
      have z := hc b e
      exact ⟨z.1, upP_c z.2.2.1 z.2.2.2.1 e, by rw [upI_ne z.2.2.2.1]; exact z.2.2.2.2.1, by rw [upI_ne z.2.2.1, upI_at]; exact z.2.2.2.2.2⟩
    · by_cases e2 : pa p = some a ∧ lf a ≠ some p
      · rw [upB_g e1 e2.1 e2.2] at e; cases e
        have z := s6 a p ha (prt a ha e2.1 e2.2)
        exact ⟨hrL, by rw [upP_r nrp]; exact e2.1, by rw [upI_at]; exact z.2.2.1, by rw [upI_ne nrp, upI_ne e1]; omega⟩
      · rw [upB_o e1 e2] at e
        have z := s6 a b ha e
        have n1 : b ≠ p := fun e8 => by subst e8; exact e2 (rtp a ha e)
        have n2 : b ≠ r := fun e8 => by subst e8; exact e1 (rtr a ha e)
        exact ⟨z.1, by rw [upP_o n1 n2 (fun e8 => by have y := hc b e8; have x : a = r := Option.some.inj (z.2.1.symm.trans y.2.1); have w := s4 r hrL; subst x; omega)]; exact z.2.1, by rw [upI_ne n2]; exact z.2.2.1, by rw [upI_ne n1, upI_ne e1]; exact z.2.2.2⟩
  · intro a b ha e
    by_cases e1 : a = p
    · subst e1; rw [upP_p] at e; cases e
      exact ⟨hrL, Or.inl upA_r⟩
    · by_cases e2 : a = r
      · subst e2; rw [upP_r nrp] at e
        have z := hg b e
        refine ⟨z.1, ?_⟩
        by_cases e3 : lf b = some p
        · exact Or.inl (upA_g z.2.2 e e3)
        · exact Or.inr (upB_g z.2.1 e e3)
      · by_cases e3 : lf r = some a
        · rw [upP_c e1 e2 e3] at e; cases e
          exact ⟨hp, Or.inr (upB_p.trans e3)⟩
        · rw [upP_o e1 e2 e3] at e
          have z := s7 a b ha e
          refine ⟨z.1, ?_⟩
          rcases z.2 with z2 | z2
          · exact Or.inl ((upA_o (fun e8 => by subst e8; exact e3 z2) (fun e8 => by rw [z2] at e8; exact e1 (Option.some.inj e8.2))).trans z2)
          · refine Or.inr ((upB_o (fun e8 => by subst e8; rw [hr] at z2; exact e2 (Option.some.inj z2).symm) (fun e8 => ?_)).trans z2)
            have y := prt b z.1 e8.1 e8.2
            rw [z2] at y; exact e1 (Option.some.inj y)
  · intro a ha e
    by_cases e1 : a = p
    · subst e1; rw [upP_p] at e; cases e
    · by_cases e2 : a = r
      · subst e2; rw [upP_r nrp] at e
        unfold roR; rw [if_pos e]
      · by_cases e3 : lf r = some a
        · rw [upP_c e1 e2 e3] at e; cases e
        · rw [upP_o e1 e2 e3] at e
          have z := s8 a ha e
          unfold roR
          split
          · next e9 =>
            have y := s8 p hp e9
            rw [z] at y; exact absurd (Option.some.inj y) e1
          · exact z
  · intro a b ha hb l1 l2
    by_cases e1 : a = r
    · subst e1; rw [upA_r]; intro h9; cases h9
    · rw [upI_ne e1] at l1
      by_cases e2 : pa p = some a ∧ lf a = some p
      · rw [upA_g e1 e2.1 e2.2]; intro h9; cases h9
      · rw [upA_o e1 e2]; exact s9 a b ha hb l1 l2
  · intro a b ha hb l1 l2
    by_cases e1 : a = p
    · subst e1; rw [upB_p]; rw [upI_at] at l2
      exact s9 r b hrL hb (by omega) l2
    · rw [upI_ne e1] at l2
      by_cases e2 : pa p = some a ∧ lf a ≠ some p
      · rw [upB_g e1 e2.1 e2.2]; intro h9; cases h9
      · rw [upB_o e1 e2]; exact s10 a b ha hb l1 l2
  · refine upB_o nrp (fun e8 => ?_)
    have z := hg r e8.1
    exact z.2.2 rfl
  · refine upA_o npr (fun e8 => ?_)
    have z := hg p e8.1
    exact z.2.1 rfl
  · intro a ha e
    have e2 := lfp a ha e
    exact upA_g (hg a e2).2.2 e2 e
  · intro a ha e
    have e2 := rtp a ha e
    exact upB_g (hg a e2.1).2.1 e2.1 e2.2
  · exact fun a n1 n2 => ⟨upI_ne n2, upI_ne n1⟩
  · exact fun a ha n1 n2 => upA_o n1 (fun e8 => n2 e8.2)
  · exact fun a ha n1 n2 => upB_o n1 (fun e8 => n2 (prt a ha e8.1 e8.2))
theorem TmS.mir (H : TmS L key lf rt pa lo hi root LO HI) : TmS L (fun a => -key a) rt lf pa (fun a => -hi a) (fun a => -lo a) root (-HI) (-LO) := by
  obtain ⟨s1, s2, s3, s4, s5, s6, s7, s8, s9, s10, s11⟩ := H
  refine ⟨s1, s2, fun q e => ?_, fun a ha => ?_, fun a b ha e => ?_, fun a b ha e => ?_, fun a b ha e => ?_, s8, fun a b ha hb l1 l2 => ?_, fun a b ha hb l1 l2 => ?_, fun a b ha hb e => ?_⟩
  · have z := s3 q e; exact ⟨z.1, z.2.1, congrArg (fun v : Int => -v) z.2.2.2, congrArg (fun v : Int => -v) z.2.2.1⟩
  · have z := s4 a ha; dsimp only; omega
  · have z := s6 a b ha e; exact ⟨z.1, z.2.1, congrArg (fun v : Int => -v) z.2.2.2, congrArg (fun v : Int => -v) z.2.2.1⟩
  · have z := s5 a b ha e; exact ⟨z.1, z.2.1, congrArg (fun v : Int => -v) z.2.2.2, congrArg (fun v : Int => -v) z.2.2.1⟩
  · have z := s7 a b ha e; exact ⟨z.1, z.2.symm⟩
  · dsimp only at l1 l2; exact s10 a b ha hb (by omega) (by omega)
  · dsimp only at l1 l2; exact s9 a b ha hb (by omega) (by omega)
  · dsimp only at e; exact s11 a b ha hb (by omega)
theorem TmS.unmir (H : TmS L (fun a => -key a) rt lf pa (fun a => -hi a) (fun a => -lo a) root (-HI) (-LO)) : TmS L key lf rt pa lo hi root LO HI := by
  have z := H.mir
  simp only [Int.neg_neg] at z
  exact z
theorem upI_neg {f : Nat → Int} {a : Nat} {v : Int} : (fun b => -(upI f a v b)) = upI (fun b => -f b) a (-v) := by
  funext b
  unfold upI
  split <;> rfl
theorem TmS.rotR (H : TmS L key lf rt pa lo hi root LO HI) (hp : p ∈ L) (hr : lf p = some r) : TmS L key (upB lf rt p r pa) (upA rt p r pa) (upP pa rt p r) (upI lo p (key r)) (upI hi r (hi p)) (roR root pa p r) LO HI ∧ RotQ L rt lf pa lo hi (upA rt p r pa) (upB lf rt p r pa) (upP pa rt p r) (upI lo p (key r)) (upI hi r (hi p)) p r := by
  obtain ⟨z1, q1, q2, q3, q4, q5, q6, q7, q8, q9, q10⟩ := H.mir.rot hp hr
  refine ⟨TmS.unmir ?_, q1, q2, q3, q4, q5, q6, q7, fun a n1 n2 => ⟨upI_ne n1, upI_ne n2⟩, q9, q10⟩
  rw [upI_neg, upI_neg]; exact z1
theorem TmL.mir (H : TmL L key lo hi LO HI) : TmL L (fun a => -key a) (fun a => -hi a) (fun a => -lo a) (-HI) (-LO) := by
  obtain ⟨t1, t2, t3, t4⟩ := H
  refine ⟨fun a ha => ?_, fun a ha => ?_, fun a b ha hb l1 l2 => ?_, fun a b ha hb l1 l2 => ?_⟩
  · rcases t2 a ha with e | ⟨c, c1, c2, c3⟩
    · exact Or.inl (by dsimp only; rw [e])
    · exact Or.inr ⟨c, c1, by dsimp only; rw [c2], by dsimp only; omega⟩
  · rcases t1 a ha with e | ⟨c, c1, c2, c3⟩
    · exact Or.inl (by dsimp only; rw [e])
    · exact Or.inr ⟨c, c1, by dsimp only; rw [c2], by dsimp only; omega⟩
  · dsimp only at l1 l2 ⊢; have z := t4 a b ha hb (by omega) (by omega); omega
  · dsimp only at l1 l2 ⊢; have z := t3 a b ha hb (by omega) (by omega); omega
theorem TmL.unmir (H : TmL L (fun a => -key a) (fun a => -hi a) (fun a => -lo a) (-HI) (-LO)) : TmL L key lo hi LO HI := by
  have z := H.mir
  simp only [Int.neg_neg] at z
  exact z
theorem TmI.mir (H : TmI L key lf rt pa lo hi root LO HI) : TmI L (fun a => -key a) rt lf pa (fun a => -hi a) (fun a => -lo a) root (-HI) (-LO) := ⟨H.1.mir, H.2.mir⟩
theorem TmI.unmir (H : TmI L (fun a => -key a) rt lf pa (fun a => -hi a) (fun a => -lo a) root (-HI) (-LO)) : TmI L key lf rt pa lo hi root LO HI := ⟨H.1.unmir, H.2.unmir⟩
theorem TmI.rot (H : TmI L key lf rt pa lo hi root LO HI) (hp : p ∈ L) (hr : rt p = some r) : TmI L key (upA lf p r pa) (upB rt lf p r pa) (upP pa lf p r) (upI lo r (lo p)) (upI hi p (key r)) (roR root pa p r) LO HI := by
  refine ⟨(H.1.rot hp hr).1, ?_⟩
  obtain ⟨⟨s1, s2, s3, s4, s5, s6, s7, s8, s9, s10, s11⟩, t1, t2, t3, t4⟩ := H
  obtain ⟨hrL, hrp, hrlo, hrhi⟩ := s6 p r hp hr
  have bp := s4 p hp
  have br := s4 r hrL
  have npr : p ≠ r := fun e => by subst e; omega
  have nrp : r ≠ p := fun e => npr e.symm
  have kne : ∀ c, key c ≠ key p → c ≠ p := fun c e e9 => e (by rw [e9])
  have knr : ∀ c, key c ≠ key r → c ≠ r := fun c e e9 => e (by rw [e9])
  have kinp : ∀ c, c ∈ L → key c = key p → c = p := fun c hc e => s11 c p hc hp e
  refine ⟨fun a ha => ?_, fun a ha => ?_, fun a b ha hb l1 l2 => ?_, fun a b ha hb l1 l2 => ?_⟩
  · by_cases e1 : a = r
    · subst e1
      rw [upI_at, upI_ne nrp]
      rcases t1 p hp with e | ⟨c, c1, c2, c3⟩
      · exact Or.inl e
      · exact Or.inr ⟨c, c1, c2, by rw [upI_ne (kne c (by omega))]; omega⟩
    · rw [upI_ne e1]
      by_cases e2 : a = p
      · subst e2
        rw [upI_at]
        rcases t1 a ha with e | ⟨c, c1, c2, c3⟩
        · exact Or.inl e
        · exact Or.inr ⟨c, c1, c2, by rw [upI_ne (kne c (by omega))]; omega⟩
      · rw [upI_ne e2]
        rcases t1 a ha with e | ⟨c, c1, c2, c3⟩
        · exact Or.inl e
        · refine Or.inr ⟨c, c1, c2, ?_⟩
          by_cases e3 : c = p
          · subst e3
            rw [upI_at]
            have ba := s4 a ha
            by_cases e4 : key a < key r
            · have z := t3 r a hrL ha (by omega) e4
              exact z.2
            · have e5 : key a ≠ key r := fun e9 => e1 (s11 a r ha hrL e9)
              have z := t4 r a hrL ha (by omega) (by omega)
              omega
          · rw [upI_ne e3]; exact c3
  · by_cases e2 : a = p
    · subst e2
      rw [upI_at, upI_ne npr]
      exact Or.inr ⟨r, hrL, rfl, by rw [upI_at]; omega⟩
    · rw [upI_ne e2]
      by_cases e1 : a = r
      · subst e1
        rw [upI_at]
        rcases t2 p hp with e | ⟨c, c1, c2, c3⟩
        · exact Or.inl (by omega)
        · exact Or.inr ⟨c, c1, by omega, by rw [upI_ne (knr c (by omega))]; exact c3⟩
      · rw [upI_ne e1]
        rcases t2 a ha with e | ⟨c, c1, c2, c3⟩
        · exact Or.inl e
        · refine Or.inr ⟨c, c1, c2, ?_⟩
          by_cases e3 : c = r
          · subst e3; rw [upI_at]; omega
          · rw [upI_ne e3]; exact c3
  · by_cases e1 : a = r
    · subst e1
      rw [upI_at] at l1 ⊢
      by_cases e2 : b = p
      · subst e2; rw [upI_ne npr, upI_at]; omega
      · have nbr : b ≠ a := fun e9 => by subst e9; omega
        rw [upI_ne nbr, upI_ne e2]
        have nk : key b ≠ key p := fun e9 => e2 (kinp b hb e9)
        by_cases e3 : key b < key p
        · have z := t3 p b hp hb l1 e3; omega
        · have z := t3 a b ha hb (by omega) l2; omega
    · rw [upI_ne e1] at l1 ⊢
      by_cases e2 : b = p
      · subst e2
        rw [upI_ne npr, upI_at]
        have z := t3 a b ha hb l1 l2; omega
      · rw [upI_ne e2]
        by_cases e3 : b = r
        · subst e3
          rw [upI_at]
          have z := t3 a b ha hb l1 l2
          refine ⟨?_, z.2⟩
          by_cases e4 : lo a < key p
          · exact (t3 a p ha hp e4 (by omega)).1
          · exfalso
            have e5 : lo a = key p := by omega
            have ba := s4 a ha
            rcases t1 a ha with e | ⟨c, c1, c2, c3⟩
            · omega
            · have := kinp c c1 (by omega)
              subst this; omega
        · rw [upI_ne e3]; exact t3 a b ha hb l1 l2
  · by_cases e1 : a = p
    · subst e1
      rw [upI_at] at l2 ⊢
      have nbp : b ≠ a := fun e9 => by subst e9; omega
      have nbr : b ≠ r := fun e9 => by subst e9; omega
      rw [upI_ne nbr, upI_ne nbp]
      have z := t4 a b ha hb l1 (by omega)
      have w := t3 r b hrL hb (by omega) l2
      omega
    · rw [upI_ne e1] at l2 ⊢
      by_cases e2 : b = p
      · subst e2
        rw [upI_ne npr, upI_at]
        have z := t4 a b ha hb l1 l2; omega
      · rw [upI_ne e2]
        by_cases e3 : b = r
        · subst e3
          rw [upI_at]
          have z := t4 a b ha hb l1 l2
          refine ⟨?_, z.2⟩
          by_cases e9 : a = b
          · subst e9; omega
          · have nk : key a ≠ key p := fun e8 => e1 (kinp a ha e8)
            exact (t4 a p ha hp (by omega) (by omega)).1
        · rw [upI_ne e3]; exact t4 a b ha hb l1 l2
theorem TmI.rotR (H : TmI L key lf rt pa lo hi root LO HI) (hp : p ∈ L) (hr : lf p = some r) : TmI L key (upB lf rt p r pa) (upA rt p r pa) (upP pa rt p r) (upI lo p (key r)) (upI hi r (hi p)) (roR root pa p r) LO HI := by
  have z1 := H.mir.rot hp hr
  refine TmI.unmir ?_
  rw [upI_neg, upI_neg]; exact z1
end RBT
