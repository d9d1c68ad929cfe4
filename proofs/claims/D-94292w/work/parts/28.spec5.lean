/-! ===== options ===== -/
theorem per_w2 {P S S1 : zS} {k : Nat} {i x : Int} (hk : scr k = false) (h : per S = P) (e : S1 = zup S k i x) : per S1 = zup P k i x := by
  obtain ⟨P1, e1, h1⟩ := per_w hk h e
  rw [h1, e1]
theorem Fr.back {P S S1 : zS} {ks : List Nat} {q : Nat} (h : Fr (q :: ks) S S1) (hq : scr q = false) (h1 : per S = P) (h2 : per S1 = P) : Fr ks S S1 := by
  intro k hk
  by_cases z : k = q
  · subst z; funext j; rw [pe h1 hq, pe h2 hq]
  · exact h k (fun y => by rcases List.mem_cons.mp y with y | y; exact z y; exact hk y)
def nO (P : zS) : Int := 2 * (P 21 0 + 1)
theorem nO_in {P : zS} (hW : WfR P 0) : 2 ≤ nO P ∧ nO P ≤ 12 := by have := hW.locks; unfold nO; omega
def optOf (P : zS) (b : Int) : Int := 2 * (P 24 (5 * (10 * 0 + b) + 3) + 1) + P 24 (5 * (10 * 0 + b) + 4)
def optP (P : zS) (b o : Int) : zS := zup (zup P 24 (5 * (10 * 0 + b) + 3) (o / 2 - 1)) 24 (5 * (10 * 0 + b) + 4) (o % 2)
theorem optOf_in {P : zS} (hW : WfR P 0) {b : Int} (hb : 0 ≤ b ∧ b < P 23 0) : 0 ≤ optOf P b ∧ optOf P b < nO P := by
  have := hW.bike hb
  unfold optOf nO
  omega
theorem optP_k (P : zS) (b o : Int) {k : Nat} (hk : k ≠ 24) : optP P b o k = P k := by rw [optP, zup_k _ _ _ hk, zup_k _ _ _ hk]
theorem optP_3 (P : zS) (b o : Int) : optP P b o 24 (5 * (10 * 0 + b) + 3) = o / 2 - 1 := by rw [optP, zup_n _ _ _ _ (by omega), zup_s]
theorem optP_4 (P : zS) (b o : Int) : optP P b o 24 (5 * (10 * 0 + b) + 4) = o % 2 := by rw [optP, zup_s]
theorem optP_n (P : zS) (b o : Int) {j : Int} (h3 : j ≠ 5 * (10 * 0 + b) + 3) (h4 : j ≠ 5 * (10 * 0 + b) + 4) : optP P b o 24 j = P 24 j := by rw [optP, zup_n _ _ _ _ h4, zup_n _ _ _ _ h3]
/-- another rail 0 that differs in the bikes' options alone -/
theorem WfR.opt {P Q : zS} (h : WfR P 0) (hk : ∀ k, k ≠ 24 → Q k = P k) (hb : ∀ b : Int, 0 ≤ b → b < P 23 0 → Q 24 (5 * (10 * 0 + b)) = P 24 (5 * (10 * 0 + b)) ∧ Q 24 (5 * (10 * 0 + b) + 1) = P 24 (5 * (10 * 0 + b) + 1) ∧ Q 24 (5 * (10 * 0 + b) + 2) = P 24 (5 * (10 * 0 + b) + 2) ∧ (-1 ≤ Q 24 (5 * (10 * 0 + b) + 3) ∧ Q 24 (5 * (10 * 0 + b) + 3) < P 21 0) ∧ (0 ≤ Q 24 (5 * (10 * 0 + b) + 4) ∧ Q 24 (5 * (10 * 0 + b) + 4) ≤ 1)) : WfR Q 0 := by
  obtain ⟨h1, h2, h3, h4, h5, h6, h7, h8, h9, h10, h11, h12, h13⟩ := h
  unfold WfR
  rw [hk 17 (by decide), hk 18 (by decide), hk 19 (by decide), hk 20 (by decide), hk 21 (by decide), hk 22 (by decide), hk 23 (by decide), hk 25 (by decide), hk 26 (by decide), hk 27 (by decide), hk 31 (by decide), hk 32 (by decide)]
  refine ⟨h1, h2, h3, h4, h5, h6, h7, h8, fun b g1 g2 => ?_, h10, h11, fun b c g1 g2 g3 g4 g5 => ?_, h13⟩
  · obtain ⟨e1, e2, e3, e4, e5⟩ := hb b g1 g2
    rw [e1, e2, e3]
    exact ⟨(h9 b g1 g2).1, (h9 b g1 g2).2.1, (h9 b g1 g2).2.2.1, e4, e5⟩
  · rw [(hb b g1 g2).2.2.1, (hb c g3 g4).2.2.1]
    exact h12 b c g1 g2 g3 g4 g5
theorem optP_wf {P : zS} (hW : WfR P 0) {b o : Int} (hb : 0 ≤ b ∧ b < P 23 0) (ho : 0 ≤ o ∧ o < nO P) : WfR (optP P b o) 0 := by
  refine hW.opt (fun k hk => optP_k P b o hk) (fun c h1 h2 => ?_)
  rw [optP_n P b o (by omega) (by omega), optP_n P b o (by omega) (by omega), optP_n P b o (by omega) (by omega)]
  refine ⟨rfl, rfl, rfl, ?_⟩
  by_cases q : c = b
  · subst q
    rw [optP_3, optP_4]
    unfold nO at ho
    omega
  · rw [optP_n P b o (by omega) (by omega), optP_n P b o (by omega) (by omega)]
    exact (hW.bike ⟨h1, h2⟩).2.2.2
theorem optP_back {P : zS} (b o : Int) (hm : 0 ≤ P 24 (5 * (10 * 0 + b) + 4) ∧ P 24 (5 * (10 * 0 + b) + 4) ≤ 1) : optP (optP P b o) b (optOf P b) = P := by
  funext k j
  by_cases hk : k = 24
  · subst hk
    by_cases h3 : j = 5 * (10 * 0 + b) + 3
    · subst h3; rw [optP_3]; unfold optOf; omega
    · by_cases h4 : j = 5 * (10 * 0 + b) + 4
      · subst h4; rw [optP_4]; unfold optOf; omega
      · rw [optP_n _ _ _ h3 h4, optP_n _ _ _ h3 h4]
  · rw [optP_k _ _ _ hk, optP_k _ _ _ hk]
def would (P : zS) (b o : Int) : Int := cost (optP P b o) b
/-- the least of f 0 .. f n, the first of them -/
def amin (f : Nat → Int) : Nat → Nat
  | 0 => 0
  | n + 1 => if f (n + 1) < f (amin f n) then n + 1 else amin f n
theorem amin_le (f : Nat → Int) (n : Nat) : amin f n ≤ n := by
  induction n with
  | zero => exact Nat.le_refl 0
  | succ n ih =>
    show (if f (n + 1) < f (amin f n) then n + 1 else amin f n) ≤ n + 1
    split <;> omega
theorem amin_s (f : Nat → Int) (n : Nat) : amin f (n + 1) = if f (n + 1) < f (amin f n) then n + 1 else amin f n := rfl
def best (P : zS) (b : Int) : Nat := amin (fun o => would P b o) ((nO P).toNat - 1)
theorem best_in {P : zS} (hW : WfR P 0) (b : Int) : (best P b : Int) < nO P := by
  have := amin_le (fun o => would P b o) ((nO P).toNat - 1)
  have := nO_in hW
  unfold best
  omega
theorem would_in {P : zS} (hW : WfR P 0) {b o : Int} (hb : 0 ≤ b ∧ b < P 23 0) (ho : 0 ≤ o ∧ o < nO P) : 0 ≤ would P b o ∧ would P b o ≤ 661878000 := cost_in (optP_wf hW hb ho) (by rw [optP_k _ _ _ (by decide)]; exact hb)
abbrev isOp (P : zS) (o : Int) : Prop := 0 ≤ o ∧ o ≤ nO P - 1
def aOption (P : zS) (b o : Int) : Int := if isBk P b ∧ isOp P o then optOf P b else -2
def pOption (P : zS) (b o : Int) : zS := if isBk P b ∧ isOp P o then optP P b o else P
def aWould (P : zS) (b o : Int) : Int := if isBk P b ∧ isOp P o then would P b o else -2
def aBest (P : zS) (b : Int) : Int := if isBk P b then (best P b : Int) else -2
def restTo (P : zS) (n : Nat) : Int := zsm (fun b => if would P b (best P b) < cost P b then 1 else 0) n
def aRestless (P : zS) : Int := if isRl P then restTo P (P 23 0).toNat else -2
/-- a round as far as bike n: the rail, whether something changed -/
def rndP (P : zS) : Nat → zS
  | 0 => P
  | n + 1 => if would (rndP P n) n (best (rndP P n) n) < cost (rndP P n) n then optP (rndP P n) n (best (rndP P n) n) else rndP P n
def rndB (P : zS) : Nat → Int
  | 0 => 0
  | n + 1 => if would (rndP P n) n (best (rndP P n) n) < cost (rndP P n) n then 1 else rndB P n
theorem rndB_01 (P : zS) (n : Nat) : rndB P n = 0 ∨ rndB P n = 1 := by
  induction n with
  | zero => exact Or.inl rfl
  | succ n ih =>
    show (if _ then (1 : Int) else rndB P n) = 0 ∨ (if _ then (1 : Int) else rndB P n) = 1
    split
    · exact Or.inr rfl
    · exact ih
/-- a rail that differs from P in its bikes' options alone -/
def OptEq (P Q : zS) : Prop := (∀ k, k ≠ 24 → Q k = P k) ∧ ∀ j : Int, (∀ b : Int, 0 ≤ b → b < P 23 0 → j ≠ 5 * (10 * 0 + b) + 3 ∧ j ≠ 5 * (10 * 0 + b) + 4) → Q 24 j = P 24 j
theorem OptEq.rf (P : zS) : OptEq P P := ⟨fun _ _ => rfl, fun _ _ => rfl⟩
theorem OptEq.opt {P Q : zS} (h : OptEq P Q) {b : Int} (hb : 0 ≤ b ∧ b < P 23 0) (o : Int) : OptEq P (optP Q b o) :=
  ⟨fun k hk => by rw [optP_k _ _ _ hk]; exact h.1 k hk, fun j hj => by rw [optP_n _ _ _ (hj b hb.1 hb.2).1 (hj b hb.1 hb.2).2]; exact h.2 j hj⟩
theorem OptEq.tr {P Q R : zS} (h : OptEq P Q) (h2 : OptEq Q R) : OptEq P R :=
  ⟨fun k hk => (h2.1 k hk).trans (h.1 k hk), fun j hj => (h2.2 j (fun b h3 h4 => hj b h3 (by rw [← h.1 23 (by decide)]; exact h4))).trans (h.2 j hj)⟩
theorem rnd_ok {P : zS} (hW : WfR P 0) : ∀ n : Nat, (n : Int) ≤ P 23 0 → WfR (rndP P n) 0 ∧ OptEq P (rndP P n) := by
  intro n
  induction n with
  | zero => intro _; exact ⟨hW, OptEq.rf P⟩
  | succ n ih =>
    intro hn
    obtain ⟨h1, h2⟩ := ih (by omega)
    have h23 : (rndP P n) 23 0 = P 23 0 := by rw [h2.1 23 (by decide)]
    show WfR (if _ then _ else _) 0 ∧ OptEq P (if _ then _ else _)
    split
    · exact ⟨optP_wf h1 ⟨by omega, by omega⟩ ⟨by omega, best_in h1 n⟩, h2.opt ⟨by omega, by omega⟩ _⟩
    · exact ⟨h1, h2⟩
/-- up to n rounds, until nothing changes: how many, whether settled, the rail then -/
def rnd (P : zS) : zS := rndP P (P 23 0).toNat
def rndC (P : zS) : Int := rndB P (P 23 0).toNat
def stlN : Nat → zS → Nat
  | 0, _ => 0
  | n + 1, P => if rndC P = 0 then 1 else stlN n (rnd P) + 1
def stlF : Nat → zS → Int
  | 0, _ => 0
  | n + 1, P => if rndC P = 0 then 1 else stlF n (rnd P)
def stlP : Nat → zS → zS
  | 0, P => P
  | n + 1, P => if rndC P = 0 then rnd P else stlP n (rnd P)
theorem rnd_wf {P : zS} (hW : WfR P 0) : WfR (rnd P) 0 ∧ OptEq P (rnd P) := rnd_ok hW _ (by have := hW.bikes; omega)
theorem stl_ok : ∀ (n : Nat) {P : zS}, WfR P 0 → WfR (stlP n P) 0 ∧ OptEq P (stlP n P) := by
  intro n
  induction n with
  | zero => intro P hW; exact ⟨hW, OptEq.rf P⟩
  | succ n ih =>
    intro P hW
    obtain ⟨h1, h2⟩ := rnd_wf hW
    show WfR (if _ then _ else _) 0 ∧ OptEq P (if _ then _ else _)
    split
    · exact ⟨h1, h2⟩
    · exact ⟨(ih h1).1, h2.tr (ih h1).2⟩
theorem stlN_le : ∀ (n : Nat) (P : zS), stlN n P ≤ n := by
  intro n
  induction n with
  | zero => intro P; exact Nat.le_refl 0
  | succ n ih =>
    intro P
    show (if rndC P = 0 then 1 else stlN n (rnd P) + 1) ≤ n + 1
    have := ih (rnd P)
    split <;> omega
theorem stlF_01 : ∀ (n : Nat) (P : zS), stlF n P = 0 ∨ stlF n P = 1 := by
  intro n
  induction n with
  | zero => intro P; exact Or.inl rfl
  | succ n ih =>
    intro P
    show (if _ then (1 : Int) else _) = 0 ∨ (if _ then (1 : Int) else _) = 1
    split
    · exact Or.inr rfl
    · exact ih _
def aSettle (P : zS) (n : Int) : Int := if isRl P ∧ (0 ≤ n ∧ n ≤ 30) then (stlN n.toNat P : Int) else -2
def pSettle (P : zS) (n : Int) : zS := if isRl P ∧ (0 ≤ n ∧ n ≤ 30) then stlP n.toNat P else P
def aSettles (P : zS) : Int := if isRl P then (if stlF 30 P = 0 then -1 else (stlN 30 P : Int)) else -2
def aSettled (P : zS) : Int := if isRl P then (if stlF 30 P = 0 then -1 else allOf (stlP 30 P) 2) else -2
/-- options laid aside, and given back as far as bike n -/
def backP (P Q : zS) : Nat → zS
  | 0 => Q
  | n + 1 => optP (backP P Q n) n (optOf P n)
theorem backP_eq {P Q : zS} (h : OptEq P Q) (hm : ∀ b : Int, 0 ≤ b → b < P 23 0 → 0 ≤ P 24 (5 * (10 * 0 + b) + 4) ∧ P 24 (5 * (10 * 0 + b) + 4) ≤ 1) : ∀ n : Nat, (n : Int) ≤ P 23 0 → (∀ k, k ≠ 24 → backP P Q n k = P k) ∧ ∀ j : Int, (∀ b : Int, n ≤ b → b < P 23 0 → j ≠ 5 * (10 * 0 + b) + 3 ∧ j ≠ 5 * (10 * 0 + b) + 4) → backP P Q n 24 j = P 24 j := by
  intro n
  induction n with
  | zero => intro _; exact h
  | succ n ih =>
    intro hn
    obtain ⟨h1, h2⟩ := ih (by omega)
    refine ⟨fun k hk => ?_, fun j hj => ?_⟩
    · show optP (backP P Q n) n (optOf P n) k = _
      rw [optP_k _ _ _ hk]; exact h1 k hk
    · show optP (backP P Q n) n (optOf P n) 24 j = _
      have hmn := hm n (by omega) (by omega)
      by_cases h3 : j = 5 * (10 * 0 + (n : Int)) + 3
      · subst h3; rw [optP_3]; unfold optOf; omega
      · by_cases h4 : j = 5 * (10 * 0 + (n : Int)) + 4
        · subst h4; rw [optP_4]; unfold optOf; omega
        · rw [optP_n _ _ _ h3 h4]
          exact h2 j (fun b g1 g2 => by
            by_cases q : b = n
            · subst q; exact ⟨h3, h4⟩
            · exact hj b (by omega) g2)
theorem backP_all {P Q : zS} (hW : WfR P 0) (h : OptEq P Q) : backP P Q (P 23 0).toNat = P := by
  have hb := hW.bikes
  obtain ⟨h1, h2⟩ := backP_eq h (fun b g1 g2 => (hW.bike ⟨g1, g2⟩).2.2.2.2) (P 23 0).toNat (by omega)
  funext k j
  by_cases hk : k = 24
  · subst hk; exact h2 j (fun b g1 g2 => by omega)
  · rw [h1 k hk]
/-- the change by which all costs least: (least, bike, option), as far as bike b's option n -/
def chgS (P : zS) (b o : Int) (st : Int × Int × Int) : Int × Int × Int := if allOf (optP P b o) 2 < st.1 then (allOf (optP P b o) 2, b, o) else st
def chgO (P : zS) (b : Int) (st : Int × Int × Int) : Nat → Int × Int × Int
  | 0 => st
  | n + 1 => chgS P b n (chgO P b st n)
def chgB (P : zS) : Nat → Int × Int × Int
  | 0 => (allOf P 2, -1, 0)
  | n + 1 => chgO P n (chgB P n) (nO P).toNat
def chg (P : zS) : Int × Int × Int := chgB P (P 23 0).toNat
def chgP (P : zS) : zS := if (chg P).2.1 = -1 then P else optP P (chg P).2.1 (chg P).2.2
def chgC (P : zS) : Int := if (chg P).2.1 = -1 then 0 else 1
/-- what such a scan's state is: none, or a bike below n with an option -/
def chgOk (P : zS) (n : Int) (st : Int × Int × Int) : Prop := (0 ≤ st.1 ∧ st.1 ≤ 6618780000) ∧ -1 ≤ st.2.1 ∧ st.2.1 < n ∧ 0 ≤ st.2.2 ∧ st.2.2 < nO P
theorem chgS_ok {P : zS} (hW : WfR P 0) {b o n : Int} (hb : 0 ≤ b ∧ b < P 23 0) (ho : 0 ≤ o ∧ o < nO P) (hn : b < n) {st : Int × Int × Int} (h : chgOk P n st) : chgOk P n (chgS P b o st) := by
  unfold chgS
  split
  · exact ⟨allOf_in (optP_wf hW hb ho) 2, by show -1 ≤ b; omega, hn, ho.1, ho.2⟩
  · exact h
theorem chgOk.up {P : zS} {n m : Int} {st : Int × Int × Int} (h : chgOk P n st) (hm : n ≤ m) : chgOk P m st := ⟨h.1, h.2.1, by have := h.2.2.1; omega, h.2.2.2⟩
theorem chgO_ok {P : zS} (hW : WfR P 0) {b n : Int} (hb : 0 ≤ b ∧ b < P 23 0) (hn : b < n) {st : Int × Int × Int} (h : chgOk P n st) : ∀ i : Nat, (i : Int) ≤ nO P → chgOk P n (chgO P b st i) := by
  intro i
  induction i with
  | zero => intro _; exact h
  | succ i ih => intro hi; exact chgS_ok hW hb ⟨by omega, by omega⟩ hn (ih (by omega))
theorem chgB_ok {P : zS} (hW : WfR P 0) : ∀ n : Nat, (n : Int) ≤ P 23 0 → chgOk P n (chgB P n) := by
  intro n
  have ho := nO_in hW
  induction n with
  | zero => intro _; exact ⟨allOf_in hW 2, by show (-1 : Int) ≤ -1; omega, by show (-1 : Int) < 0; omega, by show (0 : Int) ≤ 0; omega, by show (0 : Int) < nO P; omega⟩
  | succ n ih => intro hn; exact chgO_ok hW ⟨by omega, by omega⟩ (by omega) ((ih (by omega)).up (by omega)) _ (by omega)
theorem chgP_ok {P : zS} (hW : WfR P 0) : WfR (chgP P) 0 ∧ OptEq P (chgP P) := by
  have hb := hW.bikes
  have h := chgB_ok hW (P 23 0).toNat (by omega)
  unfold chgP
  split
  · exact ⟨hW, OptEq.rf P⟩
  · have h2 : (chg P).2.1 ≠ -1 := by assumption
    have h3 := h.2.1
    have h4 := h.2.2.1
    have h5 : (chgB P (P 23 0).toNat).2.1 ≠ -1 := h2
    exact ⟨optP_wf hW ⟨by show 0 ≤ (chgB P (P 23 0).toNat).2.1; omega, by show (chgB P (P 23 0).toNat).2.1 < _; omega⟩ h.2.2.2, (OptEq.rf P).opt ⟨by show 0 ≤ (chgB P (P 23 0).toNat).2.1; omega, by show (chgB P (P 23 0).toNat).2.1 < _; omega⟩ _⟩
def betN : Nat → zS → Nat
  | 0, _ => 0
  | n + 1, P => if chgC P = 0 then 0 else betN n (chgP P) + 1
def betP : Nat → zS → zS
  | 0, P => P
  | n + 1, P => if chgC P = 0 then chgP P else betP n (chgP P)
theorem bet_ok : ∀ (n : Nat) {P : zS}, WfR P 0 → WfR (betP n P) 0 ∧ OptEq P (betP n P) := by
  intro n
  induction n with
  | zero => intro P hW; exact ⟨hW, OptEq.rf P⟩
  | succ n ih =>
    intro P hW
    obtain ⟨h1, h2⟩ := chgP_ok hW
    show WfR (if _ then _ else _) 0 ∧ OptEq P (if _ then _ else _)
    split
    · exact ⟨h1, h2⟩
    · exact ⟨(ih h1).1, h2.tr (ih h1).2⟩
theorem betN_le : ∀ (n : Nat) (P : zS), betN n P ≤ n := by
  intro n
  induction n with
  | zero => intro P; exact Nat.le_refl 0
  | succ n ih =>
    intro P
    show (if chgC P = 0 then 0 else betN n (chgP P) + 1) ≤ n + 1
    have := ih (chgP P)
    split <;> omega
def aBetter (P : zS) (n : Int) : Int := if isRl P ∧ (0 ≤ n ∧ n ≤ 60) then (betN n.toNat P : Int) else -2
def pBetter (P : zS) (n : Int) : zS := if isRl P ∧ (0 ≤ n ∧ n ≤ 60) then betP n.toNat P else P
def aGood (P : zS) : Int := if isRl P then allOf (betP 60 P) 2 else -2
theorem optP_over (P : zS) (b x o : Int) : optP (optP P b x) b o = optP P b o := by
  funext k j
  by_cases hk : k = 24
  · subst hk
    by_cases h3 : j = 5 * (10 * 0 + b) + 3
    · subst h3; rw [optP_3, optP_3]
    · by_cases h4 : j = 5 * (10 * 0 + b) + 4
      · subst h4; rw [optP_4, optP_4]
      · rw [optP_n _ _ _ h3 h4, optP_n _ _ _ h3 h4, optP_n _ _ _ h3 h4]
  · rw [optP_k _ _ _ hk, optP_k _ _ _ hk, optP_k _ _ _ hk]
theorem optP_self {P : zS} {b : Int} (hm : 0 ≤ P 24 (5 * (10 * 0 + b) + 4) ∧ P 24 (5 * (10 * 0 + b) + 4) ≤ 1) : optP P b (optOf P b) = P := by
  have h := optP_back (P := P) b 0 hm
  rw [optP_over] at h
  exact h
/-- the settling loop at its head: k rounds run, the rail Pk, the flag f -/
def stI (n k : Nat) (P Pk : zS) (f : Int) : Prop := (f = 0 ∧ k + stlN (n - k) Pk = stlN n P ∧ stlF (n - k) Pk = stlF n P ∧ stlP (n - k) Pk = stlP n P) ∨ (f = 1 ∧ k = stlN n P ∧ stlF n P = 1 ∧ Pk = stlP n P)
theorem stI.one {n k : Nat} {P Pk : zS} {f : Int} (h : stI n k P Pk f) (hf : f = 0) (hk : k < n) (hr : rndC Pk = 0) : stI n (k + 1) P (rnd Pk) 1 := by
  rcases h with h | h
  · obtain ⟨-, h1, h2, h3⟩ := h
    rw [show n - k = (n - (k + 1)) + 1 by omega] at h1 h2 h3
    simp only [stlN, stlF, stlP, if_pos hr] at h1 h2 h3
    exact Or.inr ⟨rfl, h1, h2.symm, h3⟩
  · omega
theorem stI.zero {n k : Nat} {P Pk : zS} {f : Int} (h : stI n k P Pk f) (hf : f = 0) (hk : k < n) (hr : ¬ rndC Pk = 0) : stI n (k + 1) P (rnd Pk) 0 := by
  rcases h with h | h
  · obtain ⟨-, h1, h2, h3⟩ := h
    rw [show n - k = (n - (k + 1)) + 1 by omega] at h1 h2 h3
    simp only [stlN, stlF, stlP, if_neg hr] at h1 h2 h3
    exact Or.inl ⟨rfl, by omega, h2, h3⟩
  · omega
theorem stI.done {n k : Nat} {P Pk : zS} {f : Int} (h : stI n k P Pk f) (hk : k ≤ n) (hd : n ≤ k ∨ ¬ f = 0) : (k : Int) = (stlN n P : Int) ∧ Pk = stlP n P ∧ f = stlF n P := by
  rcases h with h | h
  · obtain ⟨h0, h1, h2, h3⟩ := h
    rw [show n - k = 0 by omega] at h1 h2 h3
    exact ⟨by rw [← h1]; rfl, h3, by rw [h0]; exact h2⟩
  · exact ⟨by rw [← h.2.1], h.2.2.2, by rw [h.1, h.2.2.1]⟩
