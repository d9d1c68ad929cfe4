/-! ===== lines ===== -/
theorem MS.p {T T' : Int → Int} {n n' : Int} {st : rS} {S : zS} (h : MS T n st S) (e1 : T = T') (e2 : n = n') : MS T' n' st S := by subst e1 e2; exact h
def lampSt (T : Int → Int) (n : Int) (P : zS) (st : rS) : rS := numWS T n (numWS T n st 47 0 (P 17 4 - 1)) 38446238 0 99
def lampP (T : Int → Int) (n : Int) (P : zS) (st : rS) : zS := zup (zup (zup P 20 (2 * (16 + P 19 4)) (numWV T n st 47 0 (P 17 4 - 1))) 20 (2 * (16 + P 19 4) + 1) (numWV T n (numWS T n st 47 0 (P 17 4 - 1)) 38446238 0 99)) 19 4 (P 19 4 + 1)
def lock1 (T : Int → Int) (n : Int) (st : rS) : rS := numWS T n st 8863997 0 999
def lock2 (T : Int → Int) (n : Int) (st : rS) : rS := numWS T n (lock1 T n st) 74917 1 999
def lock3 (T : Int → Int) (n : Int) (st : rS) : rS := numS T n (lock2 T n st) 1 999
def lockSt (T : Int → Int) (n : Int) (st : rS) : rS := numS T n (lock3 T n st) 1 999
def lockP (T : Int → Int) (n : Int) (P : zS) (st : rS) : zS := zup (zup (zup (zup (zup P 22 (4 * (20 + P 21 4)) (numWV T n st 8863997 0 999)) 22 (4 * (20 + P 21 4) + 1) (numWV T n (lock1 T n st) 74917 1 999)) 22 (4 * (20 + P 21 4) + 2) (numV T n (lock2 T n st) 1 999)) 22 (4 * (20 + P 21 4) + 3) (numV T n (lock3 T n st) 1 999)) 21 4 (P 21 4 + 1)
/-- 1: one of the bikes below k stands on x -/
def stdN (P : zS) (x : Int) : Nat → Int
  | 0 => 0
  | k + 1 => if stdN P x k = 1 ∨ P 24 (5 * (40 + (k : Int)) + 2) = x then 1 else 0
theorem stdN_in (P : zS) (x : Int) (k : Nat) : 0 ≤ stdN P x k ∧ stdN P x k ≤ 1 := by
  cases k with
  | zero => exact ⟨Int.le_refl 0, by show (0 : Int) ≤ 1; omega⟩
  | succ k => rw [stdN]; split <;> omega
def bike1 (T : Int → Int) (n : Int) (st : rS) : rS := numWS T n st 12532058 0 9999
def bike2 (T : Int → Int) (n : Int) (st : rS) : rS := numWS T n (bike1 T n st) 10199809 0 9999
def bike3 (T : Int → Int) (n : Int) (st : rS) : rS := asksS T n (bike2 T n st) 47
abbrev bikeC (T : Int → Int) (n : Int) (P : zS) (st : rS) : Prop := (bike3 T n st).1 = 0 ∧ tkK T n (bike3 T n st).2 = 2 ∧ stdN P (tkV T n (bike3 T n st).2) (P 23 4).toNat = 1
def bike4 (T : Int → Int) (n : Int) (P : zS) (st : rS) : rS := if bikeC T n P st then failS (bike3 T n st) 2 else bike3 T n st
def bike5 (T : Int → Int) (n : Int) (P : zS) (st : rS) : rS := numS T n (bike4 T n P st) 0 (P 17 4 - 1)
def bike6 (T : Int → Int) (n : Int) (P : zS) (st : rS) : rS := takesS T n (bike5 T n P st) 247223
def bike7 (T : Int → Int) (n : Int) (P : zS) (st : rS) : rS := if isW T n (bike5 T n P st) 247223 then numS T n (bike6 T n P st) 0 (P 21 4 - 1) else bike6 T n P st
def bikeSt (T : Int → Int) (n : Int) (P : zS) (st : rS) : rS := takesS T n (bike7 T n P st) 187429684
def bikeL (T : Int → Int) (n : Int) (P : zS) (st : rS) : Int := if isW T n (bike5 T n P st) 247223 then numV T n (bike6 T n P st) 0 (P 21 4 - 1) else -1
def bikeM (T : Int → Int) (n : Int) (P : zS) (st : rS) : Int := if isW T n (bike7 T n P st) 187429684 then 1 else 0
def bikeP (T : Int → Int) (n : Int) (P : zS) (st : rS) : zS := zup (zup (zup (zup (zup (zup P 24 (5 * (40 + P 23 4)) (numWV T n st 12532058 0 9999)) 24 (5 * (40 + P 23 4) + 1) (numWV T n (bike1 T n st) 10199809 0 9999)) 24 (5 * (40 + P 23 4) + 2) (numV T n (bike4 T n P st) 0 (P 17 4 - 1))) 24 (5 * (40 + P 23 4) + 3) (bikeL T n P st)) 24 (5 * (40 + P 23 4) + 4) (bikeM T n P st)) 23 4 (P 23 4 + 1)
def thief1 (T : Int → Int) (n : Int) (st : rS) : rS := numWS T n st 405012 0 2
def thief2 (T : Int → Int) (n : Int) (st : rS) : rS := numWS T n (thief1 T n st) 1899199 0 100
def thief3 (T : Int → Int) (n : Int) (st : rS) : rS := numWS T n (thief2 T n st) 3288295 0 99
def thiefW (T : Int → Int) (n : Int) (st : rS) : Int := if isW T n (thief3 T n st) 43544 then 0 else if isW T n (thief3 T n st) 1132 then 1 else if isW T n (thief3 T n st) 212672 then 2 else -1
def thief4 (T : Int → Int) (n : Int) (st : rS) : rS := if thiefW T n st = -1 then failS (thief3 T n st) 1 else thief3 T n st
def thief5 (T : Int → Int) (n : Int) (st : rS) : rS := nextS T n (thief4 T n st)
def thiefSt (T : Int → Int) (n : Int) (P : zS) (st : rS) : rS := if thiefW T n st = 2 then numS T n (thief5 T n st) 0 (P 23 4 - 1) else thief5 T n st
def thiefL (T : Int → Int) (n : Int) (P : zS) (st : rS) : Int := if thiefW T n st = 2 then numV T n (thief5 T n st) 0 (P 23 4 - 1) else -1
def thiefP (T : Int → Int) (n : Int) (P : zS) (st : rS) : zS := zup (zup (zup (zup (zup (zup P 26 (5 * (24 + P 25 4)) (numWV T n st 405012 0 2)) 26 (5 * (24 + P 25 4) + 1) (numWV T n (thief1 T n st) 1899199 0 100)) 26 (5 * (24 + P 25 4) + 2) (numWV T n (thief2 T n st) 3288295 0 99)) 26 (5 * (24 + P 25 4) + 3) (thiefW T n st)) 26 (5 * (24 + P 25 4) + 4) (thiefL T n P st)) 25 4 (P 25 4 + 1)
/-- mark (0) or watch (1), once -/
def once1 (P : zS) (st : rS) (w : Int) : rS := if P 28 (8 + w) = 0 then st else failS st 2
def mark1 (T : Int → Int) (n : Int) (P : zS) (st : rS) : rS := numWS T n (nextS T n (once1 P st 0)) 8863997 0 999
def mark2 (T : Int → Int) (n : Int) (P : zS) (st : rS) : rS := numWS T n (mark1 T n P st) 6132983 0 100
def markSt (T : Int → Int) (n : Int) (P : zS) (st : rS) : rS := takesS T n (mark2 T n P st) 119656022
def markP (T : Int → Int) (n : Int) (P : zS) (st : rS) : zS := zup (zup (zup (zup P 28 8 1) 27 28 (numWV T n (nextS T n (once1 P st 0)) 8863997 0 999)) 27 29 (numWV T n (mark1 T n P st) 6132983 0 100)) 27 30 (if isW T n (mark2 T n P st) 119656022 then 1 else 0)
def watch1 (T : Int → Int) (n : Int) (P : zS) (st : rS) : rS := numWS T n (nextS T n (once1 P st 1)) 453632 0 999
def watchSt (T : Int → Int) (n : Int) (P : zS) (st : rS) : rS := numWS T n (watch1 T n P st) 22726 0 99
def watchP (T : Int → Int) (n : Int) (P : zS) (st : rS) : zS := zup (zup (zup (zup P 28 9 1) 27 32 (numWV T n (nextS T n (once1 P st 1)) 453632 0 999)) 27 33 (numWV T n (watch1 T n P st) 22726 0 99)) 27 31 1
def onceSt (T : Int → Int) (n : Int) (P : zS) (st : rS) (w : Int) : rS := if (once1 P st w).1 = 0 then (if w = 0 then markSt T n P st else watchSt T n P st) else once1 P st w
def onceP (T : Int → Int) (n : Int) (P : zS) (st : rS) (w : Int) : zS := if (once1 P st w).1 = 0 then (if w = 0 then markP T n P st else watchP T n P st) else P
abbrev fullF (P : zS) (s : Int) : Prop := (s = 0 ∧ P 19 4 = 4) ∨ (s = 1 ∧ P 21 4 = 5) ∨ (s = 2 ∧ P 23 4 = 10) ∨ ((s < 0 ∨ 2 < s) ∧ P 25 4 = 6)
def sortF (T : Int → Int) (n : Int) (st : rS) : Int := if isW T n st 237292 then 0 else if isW T n st 247223 then 1 else if isW T n st 46229 then 2 else if isW T n st 10792986 then 3 else -1
def line1 (T : Int → Int) (n : Int) (st : rS) : rS := if sortF T n st = -1 then failS st 1 else st
def line2 (T : Int → Int) (n : Int) (P : zS) (st : rS) : rS := if fullF P (sortF T n st) then failS (line1 T n st) 3 else line1 T n st
def line3 (T : Int → Int) (n : Int) (P : zS) (st : rS) : rS := nextS T n (line2 T n P st)
def restSt (T : Int → Int) (n : Int) (P : zS) (st : rS) : rS := if (line2 T n P st).1 = 0 then (if sortF T n st = 0 then lampSt T n P (line3 T n P st) else if sortF T n st = 1 then lockSt T n (line3 T n P st) else if sortF T n st = 2 then bikeSt T n P (line3 T n P st) else thiefSt T n P (line3 T n P st)) else line2 T n P st
def restP (T : Int → Int) (n : Int) (P : zS) (st : rS) : zS := if (line2 T n P st).1 = 0 then (if sortF T n st = 0 then lampP T n P (line3 T n P st) else if sortF T n st = 1 then lockP T n P (line3 T n P st) else if sortF T n st = 2 then bikeP T n P (line3 T n P st) else thiefP T n P (line3 T n P st)) else P
def whatF (T : Int → Int) (n : Int) (st : rS) : Int := if isW T n st 257105 then 0 else if isW T n st 12257495 then 1 else -1
def lineSt (T : Int → Int) (n : Int) (P : zS) (st : rS) : rS := if whatF T n st = -1 then restSt T n P st else onceSt T n P st (whatF T n st)
def lineP (T : Int → Int) (n : Int) (P : zS) (st : rS) : zS := if whatF T n st = -1 then restP T n P st else onceP T n P st (whatF T n st)
def rail1 (T : Int → Int) (n : Int) (st : rS) : rS := numWS T n (asksS T n st 355278) 235981828 1 20
def railSt (T : Int → Int) (n : Int) (st : rS) : rS := numWS T n (rail1 T n st) 205811839 1 60
def railP (T : Int → Int) (n : Int) (P : zS) (st : rS) : zS := zup (zup P 17 4 (numWV T n (asksS T n st 355278) 235981828 1 20)) 18 4 (numWV T n (rail1 T n st) 205811839 1 60)
def clr7 (P : zS) : zS := zup (zup (zup (zup (zup (zup (zup P 16 4 0) 17 4 0) 18 4 0) 19 4 0) 21 4 0) 23 4 0) 25 4 0
def clP (P : zS) : zS := putF (putF (putF (clr7 P) 27 28 (fun _ => 0) 7) 28 8 (fun _ => 0) 2) 29 68 (fun _ => 0) 17
def overP (P : zS) (st : rS) : zS := zup (zup (zup P 6 0 0) 14 0 st.1) 15 0 (if st.1 = 0 then -1 else st.2)
def step1 (T : Int → Int) (n : Int) (P : zS) (st : rS) : rS := if P 16 4 = 0 then railSt T n st else lineSt T n P st
def stepSt (T : Int → Int) (n : Int) (P : zS) (st : rS) : rS := endsS T n (step1 T n P st)
def step1P (T : Int → Int) (n : Int) (P : zS) (st : rS) : zS := if P 16 4 = 0 then railP T n P st else lineP T n P st
def stepP (T : Int → Int) (n : Int) (P : zS) (st : rS) : zS := zup (step1P T n P st) 16 4 (P 16 4 + 1)
def prsSt (T : Int → Int) (n : Int) : Nat → zS → rS → rS
  | 0, _, st => st
  | f + 1, P, st => if st.1 = 0 ∧ tkK T n st.2 ≠ 0 then prsSt T n f (stepP T n P st) (stepSt T n P st) else st
def prsP (T : Int → Int) (n : Int) : Nat → zS → rS → zS
  | 0, P, _ => P
  | f + 1, P, st => if st.1 = 0 ∧ tkK T n st.2 ≠ 0 then prsP T n f (stepP T n P st) (stepSt T n P st) else P
def endSt (P : zS) : rS := prsSt (P 5) (P 6 0) ((P 6 0).toNat + 1) (clP P) (0, sk (P 5) (P 6 0) 0)
def endP (P : zS) : zS := overP (prsP (P 5) (P 6 0) ((P 6 0).toNat + 1) (clP P) (0, sk (P 5) (P 6 0) 0)) (endSt P)
def pRail (P : zS) : zS := if (endSt P).1 = 0 then cpRail (endP P) 4 0 else endP P
def aRail (P : zS) : Int := if (endSt P).1 = 0 then (pRail P) 16 0 else -4
/-! what the reading keeps -/
def Up (n : Int) (st st' : rS) : Prop := SIn n st → SIn n st' ∧ (st'.1 = 0 → st.1 = 0 ∧ st.2 ≤ st'.2)
theorem Up.rf (n : Int) (st : rS) : Up n st st := fun h => ⟨h, fun h1 => ⟨h1, Int.le_refl _⟩⟩
theorem Up.tr {n : Int} {a b c : rS} (h1 : Up n a b) (h2 : Up n b c) : Up n a c := fun h => by
  obtain ⟨g1, g2⟩ := h1 h
  obtain ⟨g3, g4⟩ := h2 g1
  refine ⟨g3, fun h3 => ?_⟩
  obtain ⟨g5, g6⟩ := g4 h3
  obtain ⟨g7, g8⟩ := g2 g5
  exact ⟨g7, Int.le_trans g8 g6⟩
theorem Up.fail (n : Int) (st : rS) {k : Int} (hk : k ≠ 0) : Up n st (failS st k) := fun h => by
  unfold failS
  split
  · exact ⟨fun z => absurd z hk, fun z => absurd z hk⟩
  · exact ⟨h, fun z => ⟨z, Int.le_refl _⟩⟩
theorem Up.bad (n : Int) (st : rS) {k p : Int} (hk : k ≠ 0) : Up n st (k, p) := fun _ => ⟨fun z => absurd z hk, fun z => absurd z hk⟩
theorem Up.nx0 (T : Int → Int) (n : Int) (st : rS) (h0 : st.1 = 0) : Up n st (0, nx T n st.2) := fun h => by
  have h1 := h h0
  have h2 := nx_in (T := T) h1.2
  exact ⟨fun _ => ⟨by show 0 ≤ nx T n st.2; omega, h2.1.2⟩, fun _ => ⟨h0, h2.1.1⟩⟩
theorem Up.next (T : Int → Int) (n : Int) (st : rS) : Up n st (nextS T n st) := by
  unfold nextS
  split
  · next h0 => exact Up.nx0 T n st h0
  · exact Up.rf n st
theorem Up.takes (T : Int → Int) (n : Int) (st : rS) (w : Int) : Up n st (takesS T n st w) := by
  unfold takesS
  split
  · exact Up.next T n st
  · exact Up.rf n st
theorem Up.asks (T : Int → Int) (n : Int) (st : rS) (w : Int) : Up n st (asksS T n st w) := by
  unfold asksS
  split
  · exact Up.next T n st
  · exact Up.fail n st (by decide)
theorem Up.num (T : Int → Int) (n : Int) (st : rS) (lo hi : Int) : Up n st (numS T n st lo hi) := by
  unfold numS
  split
  · next h0 =>
    split
    · split
      · exact Up.nx0 T n st h0
      · exact Up.bad n st (by decide)
    · exact Up.bad n st (by decide)
  · exact Up.rf n st
theorem Up.numW (T : Int → Int) (n : Int) (st : rS) (w lo hi : Int) : Up n st (numWS T n st w lo hi) := (Up.asks T n st w).tr (Up.num T n _ lo hi)
theorem Up.lamp (T : Int → Int) (n : Int) (P : zS) (st : rS) : Up n st (lampSt T n P st) := (Up.numW T n st _ _ _).tr (Up.numW T n _ _ _ _)
theorem Up.lock (T : Int → Int) (n : Int) (st : rS) : Up n st (lockSt T n st) := (((Up.numW T n st _ _ _).tr (Up.numW T n _ _ _ _)).tr (Up.num T n _ _ _)).tr (Up.num T n _ _ _)
theorem Up.bike4 (T : Int → Int) (n : Int) (P : zS) (st : rS) : Up n st (bike4 T n P st) := by
  have h : Up n st (bike3 T n st) := ((Up.numW T n st _ _ _).tr (Up.numW T n _ _ _ _)).tr (Up.asks T n _ _)
  unfold Jvm.Pilot.CLockRailLaw_law_r7689_9c41cb.bike4
  split
  · exact h.tr (Up.fail n _ (by decide))
  · exact h
theorem Up.bike (T : Int → Int) (n : Int) (P : zS) (st : rS) : Up n st (bikeSt T n P st) := by
  have h : Up n st (bike6 T n P st) := ((Up.bike4 T n P st).tr (Up.num T n _ _ _)).tr (Up.takes T n _ _)
  have h7 : Up n st (bike7 T n P st) := by
    unfold bike7
    split
    · exact h.tr (Up.num T n _ _ _)
    · exact h
  exact h7.tr (Up.takes T n _ _)
theorem Up.thief (T : Int → Int) (n : Int) (P : zS) (st : rS) : Up n st (thiefSt T n P st) := by
  have h3 : Up n st (thief3 T n st) := ((Up.numW T n st _ _ _).tr (Up.numW T n _ _ _ _)).tr (Up.numW T n _ _ _ _)
  have h4 : Up n st (thief4 T n st) := by
    unfold thief4
    split
    · exact h3.tr (Up.fail n _ (by decide))
    · exact h3
  have h5 : Up n st (thief5 T n st) := h4.tr (Up.next T n _)
  unfold thiefSt
  split
  · exact h5.tr (Up.num T n _ _ _)
  · exact h5
theorem Up.once (T : Int → Int) (n : Int) (P : zS) (st : rS) (w : Int) : Up n st (onceSt T n P st w) := by
  have h1 : ∀ w, Up n st (once1 P st w) := fun w => by
    unfold once1
    split
    · exact Up.rf n st
    · exact Up.fail n st (by decide)
  unfold onceSt
  split
  · split
    · exact ((((h1 0).tr (Up.next T n _)).tr (Up.numW T n _ _ _ _)).tr (Up.numW T n _ _ _ _)).tr (Up.takes T n _ _)
    · exact (((h1 1).tr (Up.next T n _)).tr (Up.numW T n _ _ _ _)).tr (Up.numW T n _ _ _ _)
  · exact h1 w
theorem Up.line (T : Int → Int) (n : Int) (P : zS) (st : rS) : Up n st (lineSt T n P st) := by
  have h1 : Up n st (line1 T n st) := by
    unfold line1
    split
    · exact Up.fail n st (by decide)
    · exact Up.rf n st
  have h2 : Up n st (line2 T n P st) := by
    unfold line2
    split
    · exact h1.tr (Up.fail n _ (by decide))
    · exact h1
  have h3 : Up n st (line3 T n P st) := h2.tr (Up.next T n _)
  unfold lineSt
  split
  · unfold restSt
    split
    · split
      · exact h3.tr (Up.lamp T n P _)
      · split
        · exact h3.tr (Up.lock T n _)
        · split
          · exact h3.tr (Up.bike T n P _)
          · exact h3.tr (Up.thief T n P _)
    · exact h2
  · exact Up.once T n P st _
theorem Up.step1 (T : Int → Int) (n : Int) (P : zS) (st : rS) : Up n st (step1 T n P st) := by
  unfold Jvm.Pilot.CLockRailLaw_law_r7689_9c41cb.step1
  split
  · exact ((Up.asks T n st _).tr (Up.numW T n _ _ _ _)).tr (Up.numW T n _ _ _ _)
  · exact Up.line T n P st
/-- a line goes on -/
theorem step_up {T : Int → Int} {n : Int} {P : zS} {st : rS} (h : SIn n st) : SIn n (stepSt T n P st) ∧ ((stepSt T n P st).1 = 0 → st.2 < (stepSt T n P st).2) := by
  obtain ⟨h1, h2⟩ := Up.step1 T n P st h
  unfold stepSt endsS
  split
  · next q =>
    split
    · next q2 =>
      have h3 := h1 q
      have h4 := nx_in (T := T) h3.2
      have h5 : (step1 T n P st).2 < n := by
        have := (tkK_0 (T := T) (n := n) (p := (step1 T n P st).2)).mpr
        omega
      have h6 := h2 q
      exact ⟨fun _ => ⟨by show 0 ≤ nx T n _; omega, h4.1.2⟩, fun _ => by show st.2 < nx T n _; omega⟩
    · exact ⟨fun z => absurd z (show ¬ (1 : Int) = 0 by decide), fun z => absurd z (show ¬ (1 : Int) = 0 by decide)⟩
  · next q => exact ⟨fun z => absurd z q, fun z => absurd z q⟩
/-- the rail that is read, within bounds as far as the reading goes -/
def RdOk (P : zS) : Prop := (0 ≤ P 17 4 ∧ P 17 4 ≤ 20) ∧ (0 ≤ P 19 4 ∧ P 19 4 ≤ 4) ∧ (0 ≤ P 21 4 ∧ P 21 4 ≤ 5) ∧ (0 ≤ P 23 4 ∧ P 23 4 ≤ 10) ∧ (0 ≤ P 25 4 ∧ P 25 4 ≤ 6) ∧ (0 ≤ P 28 8 ∧ P 28 8 ≤ 1) ∧ (0 ≤ P 28 9 ∧ P 28 9 ≤ 1)
theorem numV_rng (T : Int → Int) (n : Int) (st : rS) (lo hi : Int) : lo ≤ numV T n st lo hi ∧ (lo ≤ hi → numV T n st lo hi ≤ hi) := by
  unfold numV
  split
  · next q => exact ⟨q.2.2.1, fun _ => q.2.2.2⟩
  · exact ⟨Int.le_refl _, fun h => h⟩
theorem stepP_ok {T : Int → Int} {n : Int} {P : zS} {st : rS} (h : RdOk P) : RdOk (stepP T n P st) ∧ (stepP T n P st) 5 = P 5 ∧ (stepP T n P st) 6 = P 6 ∧ (step1P T n P st) 16 = P 16 := by
  have h9 := numV_rng T n (asksS T n (asksS T n st 355278) 235981828) 1 20
  unfold RdOk at *
  unfold stepP step1P
  split
  · unfold railP numWV
    refine ⟨by simp [zup]; omega, by simp [zup_k], by simp [zup_k], by simp [zup_k]⟩
  · unfold lineP restP onceP
    split
    · split
      · next q2 =>
        have q3 : ¬ fullF P (sortF T n st) := fun z => by
          unfold line2 at q2
          rw [if_pos z] at q2
          unfold failS at q2
          split at q2
          · exact absurd q2 (show ¬ (3 : Int) = 0 by decide)
          · next q4 => exact q4 q2
        split
        · unfold lampP; refine ⟨by simp [zup]; omega, by simp [zup_k], by simp [zup_k], by simp [zup_k]⟩
        · split
          · unfold lockP; refine ⟨by simp [zup]; omega, by simp [zup_k], by simp [zup_k], by simp [zup_k]⟩
          · split
            · unfold bikeP; refine ⟨by simp [zup]; omega, by simp [zup_k], by simp [zup_k], by simp [zup_k]⟩
            · have q5 : sortF T n st < 0 ∨ 2 < sortF T n st := by
                have : sortF T n st = 0 ∨ sortF T n st = 1 ∨ sortF T n st = 2 ∨ sortF T n st = 3 ∨ sortF T n st = -1 := by
                  unfold sortF
                  split
                  · omega
                  · split
                    · omega
                    · split
                      · omega
                      · split <;> omega
                omega
              unfold thiefP; refine ⟨by simp [zup]; omega, by simp [zup_k], by simp [zup_k], by simp [zup_k]⟩
      · refine ⟨by simp [zup]; omega, by simp [zup_k], by simp [zup_k], by simp [zup_k]⟩
    · split
      · split
        · unfold markP; refine ⟨by simp [zup]; omega, by simp [zup_k], by simp [zup_k], by simp [zup_k]⟩
        · unfold watchP; refine ⟨by simp [zup]; omega, by simp [zup_k], by simp [zup_k], by simp [zup_k]⟩
      · refine ⟨by simp [zup]; omega, by simp [zup_k], by simp [zup_k], by simp [zup_k]⟩
theorem clP_ok (P : zS) : RdOk (clP P) ∧ (clP P) 5 = P 5 ∧ (clP P) 6 = P 6 ∧ (clP P) 16 4 = 0 := by
  have e5 : (clP P) 5 = P 5 := by funext j; unfold clP; simp only [putF_at]; simp [clr7, zup]
  have e6 : (clP P) 6 = P 6 := by funext j; unfold clP; simp only [putF_at]; simp [clr7, zup]
  refine ⟨?_, e5, e6, ?_⟩
  · unfold RdOk clP
    simp only [putF_at]
    simp [clr7, zup]
  · unfold clP
    simp only [putF_at]
    simp [clr7, zup]
