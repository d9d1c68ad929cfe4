/-! ===== covers, laws, another rail, years ===== -/
def covV (P : zS) (b pr py o : Int) : Int := 1000 * pr + paid (optP P b o) b + (100 - py) * loss (optP P b o) b / 100
def covAt (P : zS) (b pr py : Int) : Nat := amin (fun o => covV P b pr py o) ((nO P).toNat - 1)
abbrev isCov (P : zS) (b pr py : Int) : Prop := isBk P b ∧ (0 ≤ pr ∧ pr ≤ 9999) ∧ (0 ≤ py ∧ py ≤ 100)
def aCover (P : zS) (b pr py : Int) : Int := if isCov P b pr py then covV P b pr py (covAt P b pr py) else -2
def aCareless (P : zS) (b pr py : Int) : Int := if isCov P b pr py then (covAt P b pr py : Int) else -2
theorem covM_in {P : zS} (hW : WfR P 0) {b py o : Int} (hb : 0 ≤ b ∧ b < P 23 0) (hy : 0 ≤ py ∧ py ≤ 100) (ho : 0 ≤ o ∧ o < nO P) : 0 ≤ (100 - py) * loss (optP P b o) b ∧ (100 - py) * loss (optP P b o) b ≤ 59994000000 := by
  have h1 := loss_in (optP_wf hW hb ho) (b := b) (by rw [optP_k _ _ _ (by decide)]; exact hb)
  have h2 := zmul_in (B := 599940000) (A := 100) (by omega : 0 ≤ 100 - py ∧ _) h1
  omega
theorem covV_in {P : zS} (hW : WfR P 0) {b pr py o : Int} (hb : 0 ≤ b ∧ b < P 23 0) (hp : 0 ≤ pr ∧ pr ≤ 9999) (hy : 0 ≤ py ∧ py ≤ 100) (ho : 0 ≤ o ∧ o < nO P) : 0 ≤ covV P b pr py o ∧ covV P b pr py o ≤ 70000000000 := by
  have h1 := covM_in hW hb hy ho
  have h2 := paid_in (optP_wf hW hb ho) (b := b) (by rw [optP_k _ _ _ (by decide)]; exact hb)
  unfold covV
  omega
/-- locks raised to l, of the bikes below n -/
def lwP (P : zS) (l : Int) : Nat → zS
  | 0 => P
  | n + 1 => if P 24 (5 * (10 * 0 + (n : Int)) + 3) < l then zup (lwP P l n) 24 (5 * (10 * 0 + (n : Int)) + 3) l else lwP P l n
theorem lwP_k (P : zS) (l : Int) (n : Nat) {k : Nat} (hk : k ≠ 24) : lwP P l n k = P k := by
  induction n with
  | zero => rfl
  | succ n ih =>
    show (if _ then _ else _ : zS) k = _
    split
    · rw [zup_k _ _ _ hk]; exact ih
    · exact ih
theorem lwP_at (P : zS) (l : Int) : ∀ (n : Nat) (j : Int), lwP P l n 24 j = if j % 5 = 3 ∧ 0 ≤ j ∧ j < 5 * n ∧ P 24 j < l then l else P 24 j := by
  intro n
  induction n with
  | zero => intro j; rw [if_neg (by omega)]; rfl
  | succ n ih =>
    intro j
    show (if _ then _ else _ : zS) 24 j = _
    by_cases q : j = 5 * (10 * 0 + (n : Int)) + 3
    · subst q
      split
      · next z => rw [zup_s, if_pos ⟨by omega, by omega, by omega, z⟩]
      · next z => rw [ih, if_neg (fun y => z y.2.2.2), if_neg (fun y => z y.2.2.2)]
    · have e : (if P 24 (5 * (10 * 0 + (n : Int)) + 3) < l then zup (lwP P l n) 24 (5 * (10 * 0 + (n : Int)) + 3) l else lwP P l n) 24 j = lwP P l n 24 j := by
        split
        · rw [zup_n _ _ _ _ q]
        · rfl
      rw [e, ih j]
      by_cases z : j % 5 = 3 ∧ 0 ≤ j ∧ j < 5 * n ∧ P 24 j < l
      · rw [if_pos z, if_pos ⟨z.1, z.2.1, by omega, z.2.2.2⟩]
      · rw [if_neg z, if_neg (fun y => z ⟨y.1, y.2.1, by omega, y.2.2.2⟩)]
theorem lwP_ok {P : zS} (hW : WfR P 0) {l : Int} (hl : -1 ≤ l ∧ l < P 21 0) {n : Nat} (hn : (n : Int) ≤ P 23 0) : WfR (lwP P l n) 0 ∧ OptEq P (lwP P l n) := by
  refine ⟨hW.opt (fun k hk => lwP_k P l n hk) (fun b h1 h2 => ?_), fun k hk => lwP_k P l n hk, fun j hj => ?_⟩
  · have hb := hW.bike ⟨h1, h2⟩
    rw [lwP_at, lwP_at, lwP_at, lwP_at, lwP_at, if_neg (by omega), if_neg (by omega), if_neg (by omega), if_neg (by omega : ¬ ((5 * (10 * 0 + b) + 4) % 5 = 3 ∧ _))]
    refine ⟨rfl, rfl, rfl, ?_, hb.2.2.2.2⟩
    split
    · exact hl
    · exact hb.2.2.2.1
  · rw [lwP_at]
    split
    · next q =>
      have := (hj (j / 5) (by omega) (by omega)).1
      exfalso; omega
    · rfl
def lawV (P : zS) (l : Int) : Int := allOf (lwP P l (P 23 0).toNat) 2
def aLaw (P : zS) (l : Int) : Int := if isRl P ∧ (-1 ≤ l ∧ l ≤ P 21 0 - 1) then lawV P l else -2
def lawAt (P : zS) : Nat := amin (fun k => lawV P ((k : Int) - 1)) (P 21 0).toNat
def aLaws (P : zS) : Int := if isRl P then (lawAt P : Int) - 1 else -2
/-- the net of what a thief of here takes on rail r, all being there; 0: none -/
def nrN (P : zS) (t r b : Int) : Int := gain P r b - trouble P t r b
def nrT (P : zS) (t r b : Int) : Int := trouble P t r b
def nrB (P : zS) (t r : Int) (n : Nat) : Int := takesF (P 26 (5 * t + 3)) (P 26 (5 * t + 4)) (nrN P t r) (nrT P t r) 0 n
def netAt (P : zS) (t r : Int) : Int := if nrB P t r (P 23 r).toNat = -1 then 0 else nrN P t r (nrB P t r (P 23 r).toNat)
theorem takesF_w2 {w o : Int} (hw : w = 2) (net tr : Int → Int) (g : Int) (n : Nat) : takesF w o net tr g n = -1 ∨ takesF w o net tr g n = o := by
  induction n with
  | zero => exact Or.inl rfl
  | succ n ih =>
    rw [takesF_s, if_pos hw]
    split
    · exact ih
    · split
      · next q => exact Or.inr q
      · exact ih
theorem z0_bit (n : Nat) : ¬ ((0 : Int) / 2 ^ n % 2 = 1) := by rw [Int.zero_ediv]; decide
/-- what netOn holds behind k bikes: trouble, net -/
def nrI (P : zS) (t r : Int) (k : Nat) (tr nt : Int) : Prop := (nrB P t r k = -1 ∧ nt = 0 ∧ tr = 0) ∨ (0 ≤ nrB P t r k ∧ nt = nrN P t r (nrB P t r k) ∧ tr = nrT P t r (nrB P t r k) ∧ 0 < nt)
theorem nrI.skip {P : zS} {t r : Int} {k : Nat} {tr nt : Int} (h : nrI P t r k tr nt) (hs : nrN P t r k ≤ 0 ∨ (P 26 (5 * t + 3) = 2 ∧ ¬ (k : Int) = P 26 (5 * t + 4)) ∨ (¬ P 26 (5 * t + 3) = 2 ∧ ¬ nt = 0 ∧ ¬ (P 26 (5 * t + 3) = 0 ∧ nt < nrN P t r k) ∧ ¬ (¬ P 26 (5 * t + 3) = 0 ∧ nrT P t r k < tr))) : nrI P t r (k + 1) tr nt := by
  have e : nrB P t r (k + 1) = nrB P t r k := by
    unfold nrB
    rw [takesF_s]
    by_cases q : (0 : Int) / 2 ^ k % 2 = 1 ∨ nrN P t r k ≤ 0
    · rw [if_pos q]
    · rw [if_neg q]
      rcases hs with z | z | z
      · exact absurd (Or.inr z) q
      · rw [if_pos z.1, if_neg z.2]
      · rw [if_neg z.1, if_neg]
        rcases h with y | y
        · exact absurd y.2.1 z.2.1
        · have y2 := y.2.1
          have y3 := y.2.2.1
          unfold nrB at y y2 y3
          rw [← y2, ← y3]
          omega
  unfold nrI
  rw [e]
  exact h
theorem nrI.take {P : zS} {t r : Int} {k : Nat} {tr nt : Int} (h : nrI P t r k tr nt) (hn : 0 < nrN P t r k) (h2 : P 26 (5 * t + 3) = 2 → (k : Int) = P 26 (5 * t + 4)) (hs : ¬ P 26 (5 * t + 3) = 2 → (nt = 0 ∨ (P 26 (5 * t + 3) = 0 ∧ nt < nrN P t r k) ∨ (¬ P 26 (5 * t + 3) = 0 ∧ nrT P t r k < tr))) : nrI P t r (k + 1) (nrT P t r k) (nrN P t r k) := by
  have e : nrB P t r (k + 1) = k := by
    unfold nrB
    rw [takesF_s, if_neg (fun z => z.elim (z0_bit k) (by omega))]
    by_cases q : P 26 (5 * t + 3) = 2
    · rw [if_pos q, if_pos (h2 q)]
    · rw [if_neg q, if_pos]
      rcases h with y | y
      · exact Or.inl y.1
      · have y2 := y.2.1
        have y3 := y.2.2.1
        have y4 := y.2.2.2
        unfold nrB at y2 y3
        rw [← y2, ← y3]
        have := hs q
        omega
  unfold nrI
  rw [e]
  exact Or.inr ⟨by omega, rfl, rfl, hn⟩
theorem nrN_in {P : zS} {t r b : Int} (h : WfR P r) (h0 : WfR P 0) (ht : 0 ≤ t ∧ t < P 25 0) (hb : 0 ≤ b ∧ b < P 23 r) : -588461 ≤ nrN P t r b ∧ nrN P t r b ≤ 9999 := by
  have h1 := trouble_in h h0 ht hb
  have h2 := gain_in h hb
  unfold nrN
  omega
def aRather (P : zS) (t k : Int) : Int := if isTh P t ∧ (0 ≤ k ∧ k ≤ 2) ∧ ¬ P 30 k = 0 then (if netAt P t 0 = 0 ∧ netAt P t (1 + k) = 0 then -1 else if netAt P t 0 < netAt P t (1 + k) then 1 else 0) else -2
/-! years -/
def drawX (x : Int) : Int := (1103515245 * x + 12345) % 2147483648
def drawV (x : Int) : Int := x / 65536 % 100
theorem drawX_in {x : Int} (h : 0 ≤ x ∧ x ≤ 2147483647) : (0 ≤ 1103515245 * x + 12345 ∧ 1103515245 * x + 12345 ≤ 9223372036854775807) ∧ 0 ≤ drawX x ∧ drawX x ≤ 2147483647 := by unfold drawX; omega
/-- thief t comes, some being gone: those gone then, what is drawn then -/
def cmG (P : zS) (t : Int) (gn : Nat) : Nat := if takes P (-1) t gn = -1 then gn else gn ||| 2 ^ (takes P (-1) t gn).toNat
def cmD (P : zS) (t : Int) (gn : Nat) (D : Int → Int) : Int → Int := fun j => if takes P (-1) t gn = -1 then D j else D j + (if j = takes P (-1) t gn then 1 else 0) + (if j = 10 + t then 1 else 0)
theorem cmG_in {P : zS} (hW : WfR P 0) {t : Int} {gn : Nat} (h : gn < 1024) : cmG P t gn < 1024 := by
  have h1 := takes_in hW (-1) t gn
  have h2 : bt1 (-1) = 0 := rfl
  have h3 := hW.bikes
  unfold cmG
  split
  · exact h
  · exact Nat.or_lt_two_pow (n := 10) h (Nat.pow_lt_pow_right (by decide) (by omega))
theorem cmD_in {P : zS} (hW : WfR P 0) {t : Int} (ht : 0 ≤ t) {gn : Nat} {D : Int → Int} {M : Int} {j : Int} (h : 0 ≤ D j ∧ D j ≤ M) : 0 ≤ cmD P t gn D j ∧ cmD P t gn D j ≤ M + 1 := by
  have h1 := takes_in hW (-1) t gn
  have h2 : bt1 (-1) = 0 := rfl
  have h3 := hW.bikes
  unfold cmD
  split
  · omega
  · split <;> split <;> omega
/-- a night of draws, as far as thief t: (x, gone, drawn) -/
def ntF (P : zS) (st : Int × Nat × (Int → Int)) : Nat → Int × Nat × (Int → Int)
  | 0 => st
  | t + 1 => if drawV (drawX (ntF P st t).1) < comesOf P t then (drawX (ntF P st t).1, cmG P t (ntF P st t).2.1, cmD P t (ntF P st t).2.1 (ntF P st t).2.2) else (drawX (ntF P st t).1, (ntF P st t).2.1, (ntF P st t).2.2)
theorem ntF_s (P : zS) (st : Int × Nat × (Int → Int)) (t : Nat) : ntF P st (t + 1) = if drawV (drawX (ntF P st t).1) < comesOf P t then (drawX (ntF P st t).1, cmG P t (ntF P st t).2.1, cmD P t (ntF P st t).2.1 (ntF P st t).2.2) else (drawX (ntF P st t).1, (ntF P st t).2.1, (ntF P st t).2.2) := rfl
def yrF (P : zS) (seed : Int) : Nat → Int × (Int → Int)
  | 0 => (seed, fun _ => 0)
  | n + 1 => ((ntF P ((yrF P seed n).1, 0, (yrF P seed n).2) (P 25 0).toNat).1, (ntF P ((yrF P seed n).1, 0, (yrF P seed n).2) (P 25 0).toNat).2.2)
def yrD (P : zS) (seed : Int) : Int → Int := (yrF P seed (P 18 0).toNat).2
theorem ntF_in {P : zS} (hW : WfR P 0) {st : Int × Nat × (Int → Int)} {M : Int} (h0 : 0 ≤ st.1 ∧ st.1 ≤ 2147483647) (h1 : st.2.1 < 1024) (h2 : ∀ j, 0 ≤ j → j < 16 → 0 ≤ st.2.2 j ∧ st.2.2 j ≤ M) : ∀ t : Nat, (0 ≤ (ntF P st t).1 ∧ (ntF P st t).1 ≤ 2147483647) ∧ (ntF P st t).2.1 < 1024 ∧ ∀ j, 0 ≤ j → j < 16 → 0 ≤ (ntF P st t).2.2 j ∧ (ntF P st t).2.2 j ≤ M + t := by
  intro t
  induction t with
  | zero => exact ⟨h0, h1, fun j a b => by have := h2 j a b; show 0 ≤ st.2.2 j ∧ st.2.2 j ≤ M + 0; omega⟩
  | succ t ih =>
    obtain ⟨g0, g1, g2⟩ := ih
    have hx := (drawX_in g0).2
    rw [ntF_s]
    split
    · exact ⟨hx, cmG_in hW g1, fun j a b => by have := cmD_in hW (t := t) (by omega) (gn := (ntF P st t).2.1) (g2 j a b); show 0 ≤ cmD _ _ _ _ j ∧ cmD _ _ _ _ j ≤ _; omega⟩
    · exact ⟨hx, g1, fun j a b => by have := g2 j a b; show 0 ≤ (ntF P st t).2.2 j ∧ (ntF P st t).2.2 j ≤ _; omega⟩
theorem yrF_in {P : zS} (hW : WfR P 0) {seed : Int} (hs : 0 ≤ seed ∧ seed ≤ 2147483647) : ∀ n : Nat, (0 ≤ (yrF P seed n).1 ∧ (yrF P seed n).1 ≤ 2147483647) ∧ ∀ j, 0 ≤ j → j < 16 → 0 ≤ (yrF P seed n).2 j ∧ (yrF P seed n).2 j ≤ 6 * n := by
  intro n
  induction n with
  | zero => exact ⟨hs, fun j _ _ => by show (0 : Int) ≤ 0 ∧ (0 : Int) ≤ 6 * 0; decide⟩
  | succ n ih =>
    have h := ntF_in hW (st := ((yrF P seed n).1, 0, (yrF P seed n).2)) (M := 6 * n) ih.1 (show (0 : Nat) < 1024 by decide) ih.2 (P 25 0).toNat
    refine ⟨h.1, fun j a b => ?_⟩
    have h2 := h.2.2 j a b
    have h3 := hW.thieves
    show 0 ≤ (ntF P ((yrF P seed n).1, 0, (yrF P seed n).2) (P 25 0).toNat).2.2 j ∧ (ntF P ((yrF P seed n).1, 0, (yrF P seed n).2) (P 25 0).toNat).2.2 j ≤ _
    omega
theorem yrD_in {P : zS} (hW : WfR P 0) {seed : Int} (hs : 0 ≤ seed ∧ seed ≤ 2147483647) {j : Int} (hj : 0 ≤ j ∧ j < 16) : 0 ≤ yrD P seed j ∧ yrD P seed j ≤ 360 := by
  have h := (yrF_in hW hs (P 18 0).toNat).2 j hj.1 hj.2
  have := hW.nights
  unfold yrD
  omega
def allD (D : Int → Int) : Int := zsm (fun b => D b) 10
theorem allD_in {D : Int → Int} {M : Int} (h : ∀ j, 0 ≤ j → j < 16 → 0 ≤ D j ∧ D j ≤ M) : 0 ≤ allD D ∧ allD D ≤ 10 * M := zsm_in (fun k hk => h k (by omega) (by omega))
theorem allD_congr {D E : Int → Int} (h : ∀ j, 0 ≤ j → j < 16 → D j = E j) : allD D = allD E := zsm_congr (fun k hk => h k (by omega) (by omega))
/-- the year told: there is one, and what is drawn as far as place n -/
def tyTo (P : zS) (D : Int → Int) (n : Nat) : zS := fun k j => if k = 29 ∧ j = 0 then 1 else if k = 29 ∧ 1 ≤ j ∧ j < 1 + n then D (j - 1) else P k j
def tyP (P : zS) (D : Int → Int) : zS := tyTo P D 16
theorem tyTo_0 (P : zS) (D : Int → Int) : zup P 29 0 1 = tyTo P D 0 := by
  funext k j
  unfold zup tyTo
  by_cases q : k = 29 ∧ j = 0
  · rw [if_pos q, if_pos q]
  · rw [if_neg q, if_neg q, if_neg (by omega)]
theorem tyTo_s (P : zS) (D : Int → Int) (n : Nat) : zup (tyTo P D n) 29 (1 + (n : Int)) (D n) = tyTo P D (n + 1) := by
  funext k j
  unfold zup tyTo
  by_cases q : k = 29 ∧ j = 1 + (n : Int)
  · rw [if_pos q, if_neg (by omega), if_pos (by omega), q.2]; congr 1; omega
  · rw [if_neg q]
    by_cases q1 : k = 29 ∧ j = 0
    · rw [if_pos q1, if_pos q1]
    · rw [if_neg q1, if_neg q1]
      by_cases q2 : k = 29 ∧ 1 ≤ j ∧ j < 1 + (n : Int)
      · rw [if_pos q2, if_pos (by omega)]
      · rw [if_neg q2, if_neg (by omega)]
theorem tyP_congr {P : zS} {D E : Int → Int} (h : ∀ j, 0 ≤ j → j < 16 → D j = E j) : tyP P D = tyP P E := by
  funext k j
  unfold tyP tyTo
  by_cases q1 : k = 29 ∧ j = 0
  · rw [if_pos q1, if_pos q1]
  · rw [if_neg q1, if_neg q1]
    by_cases q2 : k = 29 ∧ 1 ≤ j ∧ j < 1 + ((16 : Nat) : Int)
    · rw [if_pos q2, if_pos q2]; exact h _ (by omega) (by omega)
    · rw [if_neg q2, if_neg q2]
abbrev isSeed (s : Int) : Prop := 0 ≤ s ∧ s ≤ 2000000000
def aRun (P : zS) (s : Int) : Int := if isSeed s ∧ isRl P then allD (yrD P s) else -2
def pRun (P : zS) (s : Int) : zS := if isSeed s ∧ isRl P then tyP P (yrD P s) else P
def aTaken (P : zS) (b : Int) : Int := if isBk P b then (if P 29 0 = 0 then -1 else P 29 (1 + b)) else -2
def aTook (P : zS) (t : Int) : Int := if isTh P t then (if P 29 0 = 0 then -1 else P 29 (11 + t)) else -2
def wrD (P : zS) (D : Int → Int) (n : Nat) : Int := zsm (fun b => D b * P 24 (5 * (10 * 0 + (b : Int)))) n
def ysF (P : zS) (seed w : Int) : Nat → Int
  | 0 => 0
  | n + 1 => if w = 0 then ysF P seed w n + allD (yrD P (seed + n)) else if w = 1 then (if ysF P seed w n < allD (yrD P (seed + n)) then allD (yrD P (seed + n)) else ysF P seed w n) else ysF P seed w n + wrD P (yrD P (seed + n)) (P 23 0).toNat
theorem ysF_s (P : zS) (seed w : Int) (n : Nat) : ysF P seed w (n + 1) = if w = 0 then ysF P seed w n + allD (yrD P (seed + n)) else if w = 1 then (if ysF P seed w n < allD (yrD P (seed + n)) then allD (yrD P (seed + n)) else ysF P seed w n) else ysF P seed w n + wrD P (yrD P (seed + n)) (P 23 0).toNat := rfl
def aYears (P : zS) (s n w : Int) : Int := if isSeed s ∧ (1 ≤ n ∧ n ≤ 100) ∧ (0 ≤ w ∧ w ≤ 2) ∧ isRl P then ysF P s w n.toNat else -2
theorem wrD_congr {P : zS} {D E : Int → Int} (h : ∀ j, 0 ≤ j → j < 16 → D j = E j) {n : Nat} (hn : n ≤ 10) : wrD P D n = wrD P E n := zsm_congr (fun k hk => by rw [h k (by omega) (by omega)])
theorem wrD_in {P : zS} (hW : WfR P 0) {D : Int → Int} (h : ∀ j, 0 ≤ j → j < 16 → 0 ≤ D j ∧ D j ≤ 360) {n : Nat} (hn : (n : Int) ≤ P 23 0) : 0 ≤ wrD P D n ∧ wrD P D n ≤ 35996400 := by
  have hb := hW.bikes
  have := zsm_in (f := fun b => D b * P 24 (5 * (10 * 0 + (b : Int)))) (n := n) (M := 3599640) (fun k hk => by
    have := zmul_in (h k (by omega) (by omega)) (hW.bike (b := k) ⟨by omega, by omega⟩).1
    omega)
  unfold wrD
  omega
theorem ysF_in {P : zS} (hW : WfR P 0) {seed : Int} (hs : 0 ≤ seed ∧ seed ≤ 2000000000) (w : Int) : ∀ n : Nat, n ≤ 100 → 0 ≤ ysF P seed w n ∧ ysF P seed w n ≤ 40000000 * n := by
  intro n
  induction n with
  | zero => intro _; exact ⟨Int.le_refl 0, Int.le_refl 0⟩
  | succ n ih =>
    intro hn
    have h1 := ih (by omega)
    have h2 : ∀ j, 0 ≤ j → j < 16 → 0 ≤ yrD P (seed + n) j ∧ yrD P (seed + n) j ≤ 360 := fun j a b => yrD_in hW (by omega) ⟨a, b⟩
    have h3 := allD_in h2
    have h4 := wrD_in hW h2 (n := (P 23 0).toNat) (by have := hW.bikes; omega)
    rw [ysF_s]
    split
    · omega
    · split
      · split <;> omega
      · omega
/-- years told: night k's cell c says who comes -/
def tdN (P : zS) (c : Int) (st : Nat × (Int → Int)) : Nat → Nat × (Int → Int)
  | 0 => st
  | t + 1 => if c / 2 ^ t % 2 = 1 then (cmG P t (tdN P c st t).1, cmD P t (tdN P c st t).1 (tdN P c st t).2) else tdN P c st t
theorem tdN_s (P : zS) (c : Int) (st : Nat × (Int → Int)) (t : Nat) : tdN P c st (t + 1) = if c / 2 ^ t % 2 = 1 then (cmG P t (tdN P c st t).1, cmD P t (tdN P c st t).1 (tdN P c st t).2) else tdN P c st t := rfl
def tdF (P : zS) (f : Nat → Int) : Nat → (Int → Int)
  | 0 => fun _ => 0
  | n + 1 => (tdN P (f n) (0, tdF P f n) (P 25 0).toNat).2
theorem tdN_in {P : zS} (hW : WfR P 0) {c : Int} {st : Nat × (Int → Int)} {M : Int} (h1 : st.1 < 1024) (h2 : ∀ j, 0 ≤ j → j < 16 → 0 ≤ st.2 j ∧ st.2 j ≤ M) : ∀ t : Nat, (tdN P c st t).1 < 1024 ∧ ∀ j, 0 ≤ j → j < 16 → 0 ≤ (tdN P c st t).2 j ∧ (tdN P c st t).2 j ≤ M + t := by
  intro t
  induction t with
  | zero => exact ⟨h1, fun j a b => by have := h2 j a b; show 0 ≤ st.2 j ∧ st.2 j ≤ M + 0; omega⟩
  | succ t ih =>
    obtain ⟨g1, g2⟩ := ih
    rw [tdN_s]
    split
    · exact ⟨cmG_in hW g1, fun j a b => by have := cmD_in hW (t := t) (by omega) (gn := (tdN P c st t).1) (g2 j a b); show 0 ≤ cmD _ _ _ _ j ∧ cmD _ _ _ _ j ≤ _; omega⟩
    · exact ⟨g1, fun j a b => by have := g2 j a b; omega⟩
theorem tdF_in {P : zS} (hW : WfR P 0) (f : Nat → Int) : ∀ n : Nat, ∀ j, 0 ≤ j → j < 16 → 0 ≤ tdF P f n j ∧ tdF P f n j ≤ 6 * n := by
  intro n
  induction n with
  | zero => intro j _ _; show (0 : Int) ≤ 0 ∧ (0 : Int) ≤ 6 * 0; decide
  | succ n ih =>
    intro j a b
    have h := (tdN_in hW (c := f n) (st := (0, tdF P f n)) (M := 6 * n) (show (0 : Nat) < 1024 by decide) ih (P 25 0).toNat).2 j a b
    have h3 := hW.thieves
    show 0 ≤ (tdN P (f n) (0, tdF P f n) (P 25 0).toNat).2 j ∧ (tdN P (f n) (0, tdF P f n) (P 25 0).toNat).2 j ≤ _
    omega
abbrev isSl (s : Int) : Prop := 0 ≤ s ∧ s ≤ 3
def cellF (P : zS) (s : Int) : Nat → Int := fun k => P 3 (60 * s + k)
def tkN (P : zS) (s : Int) : Nat → Nat → Int
  | 0, _ => 1
  | f + 1, k => if 0 ≤ cellF P s k ∧ cellF P s k ≤ ((2 ^ (P 25 0).toNat : Nat) : Int) - 1 then tkN P s f (k + 1) else 0
abbrev toldOk (P : zS) (s : Int) : Prop := P 2 s ≤ P 18 0 ∧ tkN P s (P 2 s).toNat 0 = 1
def aTold (P : zS) (s : Int) : Int := if isSl s ∧ isRl P then (if P 1 s = -1 then -6 else if toldOk P s then allD (tdF P (cellF P s) (P 2 s).toNat) else -2) else -2
def pTold (P : zS) (s : Int) : zS := if (isSl s ∧ isRl P) ∧ ¬ P 1 s = -1 ∧ toldOk P s then tyP P (tdF P (cellF P s) (P 2 s).toNat) else P
theorem lshr1 {z : Int} (h : I64 z) : ∀ k : Nat, k < 64 → lZ z >>> ((iZ (k : Int)).toInt64 &&& 63) = lZ (z / 2 ^ k) := by
  intro k hk
  have hd : (1 : Int) ≤ 2 ^ k := by
    have h0 := Nat.one_le_two_pow (n := k)
    have e : ((2 ^ k : Nat) : Int) = 2 ^ k := by simp
    omega
  have h1 : (-9223372036854775808 : Int) ≤ z / 2 ^ k := Int.le_ediv_of_mul_le (by omega) (by omega)
  have h2 : z / 2 ^ k ≤ 9223372036854775807 := Int.ediv_le_of_le_mul (by omega) (by omega)
  have h3 : ∀ k : Nat, k < 64 → (((iZ (k : Int)).toInt64 &&& 63).toBitVec.smod 64).toNat = k := by decide +kernel
  apply Int64.toInt_inj.mp
  rw [lZ_toInt ⟨h1, h2⟩, ← Int64.toInt_toBitVec, Int64.toBitVec_shiftRight, BitVec.toInt_sshiftRight', Int64.toInt_toBitVec, lZ_toInt h, h3 k hk, Int.shiftRight_eq_div_pow]
  simp
theorem lZ_and1 (z : Int) : lZ z &&& lZ 1 = lZ (z % 2) := by
  have e : (lZ z &&& lZ 1).toBitVec = (lZ (z % 2)).toBitVec := by
    rw [Int64.toBitVec_and]
    apply BitVec.eq_of_toNat_eq
    have h1 : (lZ z).toBitVec.toNat = (z % 18446744073709551616).toNat := by
      show (BitVec.ofInt 64 z).toNat = _
      rw [BitVec.toNat_ofInt]; rfl
    have h2 : (lZ (z % 2)).toBitVec.toNat = (z % 2 % 18446744073709551616).toNat := by
      show (BitVec.ofInt 64 (z % 2)).toNat = _
      rw [BitVec.toNat_ofInt]; rfl
    rw [BitVec.toNat_and, h1, h2, show (lZ 1).toBitVec.toNat = 1 from rfl, Nat.and_one_is_mod]
    omega
  exact Int64.toBitVec_inj.mp e
theorem lshl1 : ∀ k : Nat, k < 7 → lZ 1 <<< ((iZ (k : Int)).toInt64 &&& 63) = lZ ((2 ^ k : Nat) : Int) := by decide +kernel
theorem nrI.skip2 {P : zS} {t r : Int} {k : Nat} {tr nt : Int} (h : nrI P t r k tr nt) (h1 : 0 < nrN P t r k) (h2 : P 26 (5 * t + 3) = 2 → (k : Int) = P 26 (5 * t + 4)) (h3 : ¬ nt = 0) (h4 : ¬ P 26 (5 * t + 3) = 2 → ¬ (P 26 (5 * t + 3) = 0 ∧ nt < nrN P t r k) ∧ ¬ (¬ P 26 (5 * t + 3) = 0 ∧ nrT P t r k < tr)) : nrI P t r (k + 1) tr nt := by
  by_cases q : P 26 (5 * t + 3) = 2
  · -- a second bike of that number can't be
    rcases h with z | z
    · exact absurd z.2.1 h3
    · exfalso
      have h5 := takesF_w2 q (nrN P t r) (nrT P t r) 0 k (o := P 26 (5 * t + 4))
      have h6 := takesF_in (P 26 (5 * t + 3)) (P 26 (5 * t + 4)) (nrN P t r) (nrT P t r) 0 k
      have h7 := h2 q
      have h8 := z.1
      unfold nrB at h8
      omega
  · exact h.skip (Or.inr (Or.inr ⟨q, h3, (h4 q).1, (h4 q).2⟩))
theorem netAt_in {P : zS} {t r : Int} (h : WfR P r) (h0 : WfR P 0) (ht : 0 ≤ t ∧ t < P 25 0) : -588461 ≤ netAt P t r ∧ netAt P t r ≤ 9999 := by
  unfold netAt
  split
  · omega
  · next q =>
    have h1 := takesF_in (P 26 (5 * t + 3)) (P 26 (5 * t + 4)) (nrN P t r) (nrT P t r) 0 (P 23 r).toNat
    have hb := h.bikes
    refine nrN_in h h0 ht ?_
    unfold nrB at q ⊢
    omega
theorem cmD_upd {P S S1 S2 : zS} {t : Int} {gn : Nat} (hb : ¬ takes P (-1) t gn = -1) (hn : takes P (-1) t gn ≠ 10 + t) (e1 : S1 = zup S 49 (takes P (-1) t gn) (S 49 (takes P (-1) t gn) + 1)) (e2 : S2 = zup S1 49 (10 + t) (S1 49 (10 + t) + 1)) (j : Int) : S2 49 j = cmD P t gn (S 49) j := by
  rw [cmD, if_neg hb, e2]
  by_cases q : j = 10 + t
  · subst q
    rw [zup_s, e1, zup_n _ _ _ _ (Ne.symm hn), if_neg (Ne.symm hn), if_pos rfl]
    omega
  · rw [zup_n _ _ _ _ q, if_neg q, e1]
    by_cases q2 : j = takes P (-1) t gn
    · subst q2; rw [zup_s, if_pos rfl]; omega
    · rw [zup_n _ _ _ _ q2, if_neg q2]; omega
