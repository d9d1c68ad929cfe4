/-! ===== pairs, those beside, places, lamps, a watchman, marks ===== -/
abbrev isTwo (P : zS) (a b : Int) : Prop := isBk P a ∧ isBk P b ∧ a ≠ b
/-- a scan for the least: (which, least), none yet: -1 -/
def scS (st : Int × Int) (c v : Int) : Int × Int := if ¬ st.1 = -1 ∧ st.2 ≤ v then st else (c, v)
def pairP (P : zS) (a b i j : Int) : zS := optP (optP P a i) b j
def pairV (P : zS) (a b i j : Int) : Int := cost (pairP P a b i j) a + cost (pairP P a b i j) b
def prJ (P : zS) (a b i : Int) (st : Int × Int) : Nat → Int × Int
  | 0 => st
  | n + 1 => scS (prJ P a b i st n) (100 * i + n) (pairV P a b i n)
def prI (P : zS) (a b : Int) : Nat → Int × Int
  | 0 => (-1, 0)
  | n + 1 => prJ P a b n (prI P a b n) (nO P).toNat
def aPair (P : zS) (a b : Int) : Int := if isTwo P a b then (prI P a b (nO P).toNat).1 else -2
theorem optP_comm {P : zS} {a b : Int} (hab : a ≠ b) (i j : Int) : optP (optP P a i) b j = optP (optP P b j) a i := by
  funext k x
  by_cases hk : k = 24
  · subst hk
    by_cases h1 : x = 5 * (10 * 0 + b) + 3
    · subst h1; rw [optP_3, optP_n _ _ _ (by omega) (by omega), optP_3]
    · by_cases h2 : x = 5 * (10 * 0 + b) + 4
      · subst h2; rw [optP_4, optP_n _ _ _ (by omega) (by omega), optP_4]
      · rw [optP_n _ _ _ h1 h2]
        by_cases h3 : x = 5 * (10 * 0 + a) + 3
        · subst h3; rw [optP_3, optP_3]
        · by_cases h4 : x = 5 * (10 * 0 + a) + 4
          · subst h4; rw [optP_4, optP_4]
          · rw [optP_n _ _ _ h3 h4, optP_n _ _ _ h3 h4, optP_n _ _ _ h1 h2]
  · rw [optP_k _ _ _ hk, optP_k _ _ _ hk, optP_k _ _ _ hk, optP_k _ _ _ hk]
theorem pairP_over {P : zS} {a b : Int} (hab : a ≠ b) (x y i j : Int) : pairP (pairP P a b x y) a b i j = pairP P a b i j := by
  unfold pairP
  rw [optP_comm (P := P) hab x y, optP_over, ← optP_comm hab, optP_over]
theorem pairP_self {P : zS} (hW : WfR P 0) {a b : Int} (ha : 0 ≤ a ∧ a < P 23 0) (hb : 0 ≤ b ∧ b < P 23 0) : pairP P a b (optOf P a) (optOf P b) = P := by
  unfold pairP
  rw [optP_self (hW.bike ha).2.2.2.2, optP_self (hW.bike hb).2.2.2.2]
theorem pairP_wf {P : zS} (hW : WfR P 0) {a b i j : Int} (ha : 0 ≤ a ∧ a < P 23 0) (hb : 0 ≤ b ∧ b < P 23 0) (hi : 0 ≤ i ∧ i < nO P) (hj : 0 ≤ j ∧ j < nO P) : WfR (pairP P a b i j) 0 :=
  optP_wf (optP_wf hW ha hi) (by rw [optP_k _ _ _ (by decide)]; exact hb) (by unfold nO; rw [optP_k _ _ _ (by decide)]; exact hj)
theorem pairP_23 (P : zS) (a b i j : Int) : pairP P a b i j 23 = P 23 := by unfold pairP; rw [optP_k _ _ _ (by decide), optP_k _ _ _ (by decide)]
theorem pairP_21 (P : zS) (a b i j : Int) : pairP P a b i j 21 = P 21 := by unfold pairP; rw [optP_k _ _ _ (by decide), optP_k _ _ _ (by decide)]
theorem pairV_in {P : zS} (hW : WfR P 0) {a b i j : Int} (ha : 0 ≤ a ∧ a < P 23 0) (hb : 0 ≤ b ∧ b < P 23 0) (hi : 0 ≤ i ∧ i < nO P) (hj : 0 ≤ j ∧ j < nO P) : 0 ≤ pairV P a b i j ∧ pairV P a b i j ≤ 1323756000 := by
  have h := pairP_wf hW ha hb hi hj
  have h1 := cost_in h (b := a) (by rw [pairP_23]; exact ha)
  have h2 := cost_in h (b := b) (by rw [pairP_23]; exact hb)
  unfold pairV
  omega
def scOk (M : Int) (st : Int × Int) : Prop := (-1 ≤ st.1 ∧ st.1 ≤ 2000) ∧ (0 ≤ st.2 ∧ st.2 ≤ M)
theorem scS_ok {M : Int} {st : Int × Int} (h : scOk M st) {c v : Int} (hc : 0 ≤ c ∧ c ≤ 2000) (hv : 0 ≤ v ∧ v ≤ M) : scOk M (scS st c v) := by
  unfold scS
  split
  · exact h
  · exact ⟨by show -1 ≤ c ∧ c ≤ 2000; omega, hv⟩
theorem prJ_ok {P : zS} (hW : WfR P 0) {a b i : Int} (ha : 0 ≤ a ∧ a < P 23 0) (hb : 0 ≤ b ∧ b < P 23 0) (hi : 0 ≤ i ∧ i < nO P) {st : Int × Int} (h : scOk 1323756000 st) : ∀ n : Nat, (n : Int) ≤ nO P → scOk 1323756000 (prJ P a b i st n) := by
  intro n
  have := nO_in hW
  induction n with
  | zero => intro _; exact h
  | succ n ih => intro hn; exact scS_ok (ih (by omega)) (by omega) (pairV_in hW ha hb hi ⟨by omega, by omega⟩)
theorem prI_ok {P : zS} (hW : WfR P 0) {a b : Int} (ha : 0 ≤ a ∧ a < P 23 0) (hb : 0 ≤ b ∧ b < P 23 0) : ∀ n : Nat, (n : Int) ≤ nO P → scOk 1323756000 (prI P a b n) := by
  intro n
  have := nO_in hW
  induction n with
  | zero => intro _; exact ⟨by show (-1 : Int) ≤ -1 ∧ (-1 : Int) ≤ 2000; decide, by show (0 : Int) ≤ 0 ∧ (0 : Int) ≤ 1323756000; decide⟩
  | succ n ih => intro hn; exact prJ_ok hW ha hb ⟨by omega, by omega⟩ (ih (by omega)) _ (by omega)
/-- all bikes below n with option 0 -/
def bareP (P : zS) : Nat → zS
  | 0 => P
  | n + 1 => optP (bareP P n) n 0
theorem bare_ok {P : zS} (hW : WfR P 0) : ∀ n : Nat, (n : Int) ≤ P 23 0 → WfR (bareP P n) 0 ∧ OptEq P (bareP P n) := by
  intro n
  induction n with
  | zero => intro _; exact ⟨hW, OptEq.rf P⟩
  | succ n ih =>
    intro hn
    obtain ⟨h1, h2⟩ := ih (by omega)
    have h23 : (bareP P n) 23 0 = P 23 0 := by rw [h2.1 23 (by decide)]
    have ho := nO_in h1
    exact ⟨optP_wf h1 ⟨by omega, by omega⟩ ⟨by omega, by omega⟩, h2.opt ⟨by omega, by omega⟩ _⟩
def aWasted (P : zS) : Int := if isRl P then allOf P 2 - allOf (bareP P (P 23 0).toNat) 2 else -1000000000000
/-- how much more is risked of k, if b had option o -/
def growF (P : zS) (b o : Int) (k : Int) : Int := risk (optP P b o) k - risk P k
def aBeside (P : zS) (b o c : Int) : Int := if isTwo P b c ∧ isOp P o then growF P b o c else -1000000000000
def worseTo (P : zS) (b o : Int) (n : Nat) : Int := zsm (fun k => if ¬ (k : Int) = b ∧ 0 < growF P b o k then 1 else 0) n
def aWorse (P : zS) (b o : Int) : Int := if isBk P b ∧ isOp P o then worseTo P b o (P 23 0).toNat else -2
def nxF (g : Int → Int) (b : Int) : Nat → Int × Int
  | 0 => (-1, 0)
  | n + 1 => if (n : Int) = b ∨ g n ≤ (nxF g b n).2 then nxF g b n else ((n : Int), g n)
def aNext (P : zS) (b o : Int) : Int := if isBk P b ∧ isOp P o then (nxF (growF P b o) b (P 23 0).toNat).1 else -2
/-- who stands on a place, from bike k on -/
def stN (P : zS) (pl : Int) : Nat → Nat → Int
  | 0, _ => -1
  | f + 1, k => if P 24 (5 * (10 * 0 + (k : Int)) + 2) = pl then (k : Int) else stN P pl f (k + 1)
def stands (P : zS) (pl : Int) : Int := stN P pl (P 23 0).toNat 0
theorem stN_ok (P : zS) (pl : Int) : ∀ f k : Nat, (stN P pl f k = -1 ∧ ∀ b : Int, k ≤ b → b < k + f → P 24 (5 * (10 * 0 + b) + 2) ≠ pl) ∨ ((k : Int) ≤ stN P pl f k ∧ stN P pl f k < k + f ∧ P 24 (5 * (10 * 0 + stN P pl f k) + 2) = pl) := by
  intro f
  induction f with
  | zero => intro k; exact Or.inl ⟨rfl, fun b h1 h2 => by omega⟩
  | succ f ih =>
    intro k
    show ((if _ then _ else _) = -1 ∧ _) ∨ ((k : Int) ≤ (if _ then _ else _) ∧ (if _ then _ else _) < _ ∧ P 24 (5 * (10 * 0 + (if _ then _ else _)) + 2) = pl)
    by_cases q : P 24 (5 * (10 * 0 + (k : Int)) + 2) = pl
    · rw [if_pos q]; exact Or.inr ⟨Int.le_refl _, by omega, q⟩
    · rw [if_neg q]
      rcases ih (k + 1) with ⟨h1, h2⟩ | ⟨h1, h2, h3⟩
      · refine Or.inl ⟨h1, fun b g1 g2 => ?_⟩
        by_cases z : b = k
        · subst z; exact q
        · exact h2 b (by omega) (by omega)
      · exact Or.inr ⟨by omega, by omega, h3⟩
theorem stands_ok {P : zS} (hW : WfR P 0) (pl : Int) : (stands P pl = -1 ∧ ∀ b : Int, 0 ≤ b → b < P 23 0 → P 24 (5 * (10 * 0 + b) + 2) ≠ pl) ∨ (0 ≤ stands P pl ∧ stands P pl < P 23 0 ∧ P 24 (5 * (10 * 0 + stands P pl) + 2) = pl) := by
  have hb := hW.bikes
  rcases stN_ok P pl (P 23 0).toNat 0 with ⟨h1, h2⟩ | ⟨h1, h2, h3⟩
  · exact Or.inl ⟨h1, fun b g1 g2 => h2 b g1 (by omega)⟩
  · exact Or.inr ⟨h1, by unfold stands; omega, h3⟩
/-- bike b on a place -/
def plP (P : zS) (b pl : Int) : zS := zup P 24 (5 * (10 * 0 + b) + 2) pl
theorem plP_k (P : zS) (b pl : Int) {k : Nat} (hk : k ≠ 24) : plP P b pl k = P k := by rw [plP, zup_k _ _ _ hk]
theorem plP_2 (P : zS) (b pl : Int) : plP P b pl 24 (5 * (10 * 0 + b) + 2) = pl := by rw [plP, zup_s]
theorem plP_n (P : zS) (b pl : Int) {j : Int} (h : j ≠ 5 * (10 * 0 + b) + 2) : plP P b pl 24 j = P 24 j := by rw [plP, zup_n _ _ _ _ h]
theorem plP_over (P : zS) (b x pl : Int) : plP (plP P b x) b pl = plP P b pl := by
  funext k j
  unfold plP zup
  split <;> rfl
theorem plP_self (P : zS) (b : Int) : plP P b (P 24 (5 * (10 * 0 + b) + 2)) = P := by
  funext k j
  unfold plP zup
  split
  · next q => rw [q.1, q.2]
  · rfl
/-- another rail 0 that differs in the bikes' places alone -/
theorem WfR.pl {P Q : zS} (h : WfR P 0) (hk : ∀ k, k ≠ 24 → Q k = P k) (hb : ∀ b : Int, 0 ≤ b → b < P 23 0 → Q 24 (5 * (10 * 0 + b)) = P 24 (5 * (10 * 0 + b)) ∧ Q 24 (5 * (10 * 0 + b) + 1) = P 24 (5 * (10 * 0 + b) + 1) ∧ (0 ≤ Q 24 (5 * (10 * 0 + b) + 2) ∧ Q 24 (5 * (10 * 0 + b) + 2) ≤ 19) ∧ Q 24 (5 * (10 * 0 + b) + 3) = P 24 (5 * (10 * 0 + b) + 3) ∧ Q 24 (5 * (10 * 0 + b) + 4) = P 24 (5 * (10 * 0 + b) + 4))
    (hd : ∀ b c : Int, 0 ≤ b → b < P 23 0 → 0 ≤ c → c < P 23 0 → b ≠ c → Q 24 (5 * (10 * 0 + b) + 2) ≠ Q 24 (5 * (10 * 0 + c) + 2)) : WfR Q 0 := by
  obtain ⟨h1, h2, h3, h4, h5, h6, h7, h8, h9, h10, h11, h12, h13⟩ := h
  unfold WfR
  rw [hk 17 (by decide), hk 18 (by decide), hk 19 (by decide), hk 20 (by decide), hk 21 (by decide), hk 22 (by decide), hk 23 (by decide), hk 25 (by decide), hk 26 (by decide), hk 27 (by decide), hk 31 (by decide), hk 32 (by decide)]
  refine ⟨h1, h2, h3, h4, h5, h6, h7, h8, fun b g1 g2 => ?_, h10, h11, hd, h13⟩
  obtain ⟨e1, e2, e3, e4, e5⟩ := hb b g1 g2
  rw [e1, e2, e4, e5]
  exact ⟨(h9 b g1 g2).1, (h9 b g1 g2).2.1, e3, (h9 b g1 g2).2.2.2⟩
theorem plP_wf {P : zS} (hW : WfR P 0) {b pl : Int} (hb : 0 ≤ b ∧ b < P 23 0) (hp : 0 ≤ pl ∧ pl ≤ 19) (hf : ∀ c : Int, 0 ≤ c → c < P 23 0 → c ≠ b → P 24 (5 * (10 * 0 + c) + 2) ≠ pl) : WfR (plP P b pl) 0 := by
  refine hW.pl (fun k hk => plP_k P b pl hk) (fun c h1 h2 => ?_) (fun c d h1 h2 h3 h4 h5 => ?_)
  · rw [plP_n P b pl (by omega), plP_n P b pl (by omega), plP_n P b pl (by omega : 5 * (10 * 0 + c) + 3 ≠ _), plP_n P b pl (by omega : 5 * (10 * 0 + c) + 4 ≠ _)]
    refine ⟨rfl, rfl, ?_, rfl, rfl⟩
    by_cases q : c = b
    · subst q; rw [plP_2]; exact hp
    · rw [plP_n P b pl (by omega)]; exact (hW.bike ⟨h1, h2⟩).2.2.1
  · by_cases q : c = b
    · subst q; rw [plP_2, plP_n P c pl (by omega)]; exact fun z => hf d h3 h4 (by omega) z.symm
    · rw [plP_n P b pl (by omega : 5 * (10 * 0 + c) + 2 ≠ _)]
      by_cases q2 : d = b
      · subst q2; rw [plP_2]; exact hf c h1 h2 q
      · rw [plP_n P b pl (by omega)]; exact hW.apart ⟨h1, h2⟩ ⟨h3, h4⟩ h5
def plOk (P : zS) (b pl : Int) : Prop := stands P pl = -1 ∨ stands P pl = b
theorem plOk_free {P : zS} (hW : WfR P 0) {b pl : Int} (h : plOk P b pl) : ∀ c : Int, 0 ≤ c → c < P 23 0 → c ≠ b → P 24 (5 * (10 * 0 + c) + 2) ≠ pl := by
  intro c h1 h2 h3
  rcases stands_ok hW pl with ⟨-, g⟩ | ⟨g1, g2, g3⟩
  · exact g c h1 h2
  · rcases h with h | h
    · omega
    · rw [h] at g1 g2 g3
      have := hW.apart ⟨h1, h2⟩ ⟨g1, g2⟩ h3
      rw [g3] at this
      exact this
def aMove (P : zS) (b pl : Int) : Int := if isBk P b ∧ isPl P pl then (if ¬ stands P pl = -1 ∧ ¬ stands P pl = b then -5 else P 24 (5 * (10 * 0 + b) + 2)) else -2
def pMove (P : zS) (b pl : Int) : zS := if (isBk P b ∧ isPl P pl) ∧ ¬ (¬ stands P pl = -1 ∧ ¬ stands P pl = b) then plP P b pl else P
def swapP (P : zS) (a b : Int) : zS := plP (plP P a (P 24 (5 * (10 * 0 + b) + 2))) b (P 24 (5 * (10 * 0 + a) + 2))
theorem swapP_wf {P : zS} (hW : WfR P 0) {a b : Int} (ha : 0 ≤ a ∧ a < P 23 0) (hb : 0 ≤ b ∧ b < P 23 0) (hab : a ≠ b) : WfR (swapP P a b) 0 := by
  have v : ∀ c : Int, swapP P a b 24 (5 * (10 * 0 + c) + 2) = P 24 (5 * (10 * 0 + (if c = a then b else if c = b then a else c)) + 2) := by
    intro c
    unfold swapP
    by_cases q : c = b
    · subst q; rw [plP_2, if_neg (by omega), if_pos rfl]
    · rw [plP_n _ _ _ (by omega)]
      by_cases q2 : c = a
      · subst q2; rw [plP_2, if_pos rfl]
      · rw [plP_n _ _ _ (by omega), if_neg q2, if_neg q]
  refine hW.pl (fun k hk => by unfold swapP; rw [plP_k _ _ _ hk, plP_k _ _ _ hk]) (fun c h1 h2 => ?_) (fun c d h1 h2 h3 h4 h5 => ?_)
  · rw [v]
    unfold swapP
    rw [plP_n _ _ _ (by omega), plP_n _ _ _ (by omega), plP_n _ _ _ (by omega : 5 * (10 * 0 + c) + 1 ≠ _), plP_n _ _ _ (by omega : 5 * (10 * 0 + c) + 1 ≠ _), plP_n _ _ _ (by omega : 5 * (10 * 0 + c) + 3 ≠ _), plP_n _ _ _ (by omega : 5 * (10 * 0 + c) + 3 ≠ _), plP_n _ _ _ (by omega : 5 * (10 * 0 + c) + 4 ≠ _), plP_n _ _ _ (by omega : 5 * (10 * 0 + c) + 4 ≠ _)]
    refine ⟨rfl, rfl, ?_, rfl, rfl⟩
    refine (hW.bike (b := if c = a then b else if c = b then a else c) ?_).2.2.1
    split
    · exact hb
    · split
      · exact ha
      · exact ⟨h1, h2⟩
  · rw [v, v]
    refine hW.apart ?_ ?_ ?_
    · split
      · exact hb
      · split
        · exact ha
        · exact ⟨h1, h2⟩
    · split
      · exact hb
      · split
        · exact ha
        · exact ⟨h3, h4⟩
    · split <;> split <;> (try split) <;> (try split) <;> omega
def aSwap (P : zS) (a b : Int) : Int := if isTwo P a b then (if allOf (swapP P a b) 1 < allOf P 1 then 1 else 0) else -2
def pSwap (P : zS) (a b : Int) : zS := if isTwo P a b then swapP P a b else P
/-- where it costs least to stand -/
def whF (P : zS) (b : Int) : Nat → Int × Int
  | 0 => (-1, 0)
  | n + 1 => if ¬ stands P n = -1 ∧ ¬ stands P n = b then whF P b n else scS (whF P b n) n (cost (plP P b n) b)
theorem whF_ok {P : zS} (hW : WfR P 0) {b : Int} (hb : 0 ≤ b ∧ b < P 23 0) : ∀ n : Nat, (n : Int) ≤ P 17 0 → scOk 661878000 (whF P b n) := by
  intro n
  have hp := hW.places
  induction n with
  | zero => intro _; exact ⟨by show (-1 : Int) ≤ -1 ∧ (-1 : Int) ≤ 2000; decide, by show (0 : Int) ≤ 0 ∧ (0 : Int) ≤ 661878000; decide⟩
  | succ n ih =>
    intro hn
    show scOk _ (if _ then _ else _)
    split
    · exact ih (by omega)
    · next q =>
      have hw := plP_wf hW hb (pl := n) (by omega) (plOk_free hW (by unfold plOk; omega))
      exact scS_ok (ih (by omega)) (by omega) (cost_in hw (by rw [plP_k _ _ _ (by decide)]; exact hb))
def aWhere (P : zS) (b : Int) : Int := if isBk P b then (whF P b (P 17 0).toNat).1 else -2
/-- one more lamp -/
def litP (P : zS) (pl br : Int) : zS := zup (zup P 31 0 pl) 32 0 br
def litV (P : zS) (pl br : Int) : Int := allOf (litP P pl br) 1
theorem litP_k (P : zS) (pl br : Int) {k : Nat} (h1 : k ≠ 31) (h2 : k ≠ 32) : litP P pl br k = P k := by rw [litP, zup_k _ _ _ h2, zup_k _ _ _ h1]
theorem litP_wf {P : zS} (hW : WfR P 0) {pl br : Int} (hp : 0 ≤ pl ∧ pl ≤ 19) (hb : 0 ≤ br ∧ br ≤ 99) : WfR (litP P pl br) 0 := by
  obtain ⟨h1, h2, h3, h4, h5, h6, h7, h8, h9, h10, h11, h12, h13⟩ := hW
  unfold WfR
  rw [litP_k P pl br (by decide : 17 ≠ 31) (by decide), litP_k P pl br (by decide : 18 ≠ 31) (by decide), litP_k P pl br (by decide : 19 ≠ 31) (by decide), litP_k P pl br (by decide : 20 ≠ 31) (by decide), litP_k P pl br (by decide : 21 ≠ 31) (by decide), litP_k P pl br (by decide : 22 ≠ 31) (by decide), litP_k P pl br (by decide : 23 ≠ 31) (by decide), litP_k P pl br (by decide : 24 ≠ 31) (by decide), litP_k P pl br (by decide : 25 ≠ 31) (by decide), litP_k P pl br (by decide : 26 ≠ 31) (by decide), litP_k P pl br (by decide : 27 ≠ 31) (by decide)]
  refine ⟨h1, h2, h3, h4, h5, h6, h7, h8, h9, h10, h11, h12, ?_, ?_⟩
  · rw [litP, zup_k _ _ _ (by decide), zup_s]; exact hp
  · rw [litP, zup_s]; exact hb
theorem litP_back {P : zS} (pl br : Int) (h1 : P 31 0 = 0) (h2 : P 32 0 = 0) : zup (zup (litP P pl br) 32 0 0) 31 0 0 = P := by
  funext k j
  unfold litP zup
  by_cases q : k = 31 ∧ j = 0
  · rw [if_pos q, q.1, q.2, h1]
  · rw [if_neg q]
    by_cases q2 : k = 32 ∧ j = 0
    · rw [if_pos q2, q2.1, q2.2, h2]
    · rw [if_neg q2, if_neg q2, if_neg q]
def lampAt (P : zS) (br : Int) : Nat := amin (fun p => litV P p br) ((P 17 0).toNat - 1)
def aLamp (P : zS) (br : Int) : Int := if isRl P ∧ (0 ≤ br ∧ br ≤ 99) then (lampAt P br : Int) else -2
def aLit (P : zS) (pl br : Int) : Int := if isPl P pl ∧ (0 ≤ br ∧ br ≤ 99) then litV P pl br else -2
/-- with the watchman there or not -/
def wtP (P : zS) (w : Int) : zS := zup P 27 6 w
theorem wtP_k (P : zS) (w : Int) {k : Nat} (hk : k ≠ 27) : wtP P w k = P k := by rw [wtP, zup_k _ _ _ hk]
theorem wtP_n (P : zS) (w : Int) {j : Int} (hj : j ≠ 6) : wtP P w 27 j = P 27 j := by rw [wtP, zup_n _ _ _ _ hj]
theorem wtP_wf {P : zS} (hW : WfR P 0) {w : Int} (hw : 0 ≤ w ∧ w ≤ 1) : WfR (wtP P w) 0 := by
  obtain ⟨h1, h2, h3, h4, h5, h6, h7, h8, h9, h10, h11, h12, h13⟩ := hW
  unfold WfR
  rw [wtP_k P w (by decide : 17 ≠ 27), wtP_k P w (by decide : 18 ≠ 27), wtP_k P w (by decide : 19 ≠ 27), wtP_k P w (by decide : 20 ≠ 27), wtP_k P w (by decide : 21 ≠ 27), wtP_k P w (by decide : 22 ≠ 27), wtP_k P w (by decide : 23 ≠ 27), wtP_k P w (by decide : 24 ≠ 27), wtP_k P w (by decide : 25 ≠ 27), wtP_k P w (by decide : 26 ≠ 27), wtP_k P w (by decide : 31 ≠ 27), wtP_k P w (by decide : 32 ≠ 27)]
  refine ⟨h1, h2, h3, h4, h5, h6, h7, h8, h9, h10, ?_, h12, h13⟩
  rw [wtP_n P w (by decide), wtP_n P w (by decide), wtP_n P w (by decide), wtP_n P w (by decide), wtP_n P w (by decide), wtP_n P w (by decide), show (7 * 0 + 6 : Int) = 6 by decide, show wtP P w 27 6 = w from zup_s _ _ _ _]
  exact ⟨h11.1, h11.2.1, h11.2.2.1, h11.2.2.2.1, h11.2.2.2.2.1, h11.2.2.2.2.2.1, hw⟩
theorem wtP_over (P : zS) (x w : Int) : wtP (wtP P x) w = wtP P w := by funext k j; unfold wtP zup; split <;> rfl
theorem wtP_self (P : zS) : wtP P (P 27 6) = P := by
  funext k j
  unfold wtP zup
  split
  · next q => rw [q.1, q.2]
  · rfl
def aWatch (P : zS) : Int := if P 27 3 = 0 then -2 else P 27 6
def pWatch (P : zS) (w : Int) : zS := if P 27 3 = 0 then P else wtP P w
def saveF (P : zS) (b : Int) : Int := loss (wtP P 0) b - loss (wtP P 1) b
theorem saveF_in {P : zS} (hW : WfR P 0) {b : Int} (hb : 0 ≤ b ∧ b < P 23 0) : -599940000 ≤ saveF P b ∧ saveF P b ≤ 599940000 := by
  have h1 := loss_in (wtP_wf hW (w := 0) (by decide)) (b := b) (by rw [wtP_k _ _ (by decide)]; exact hb)
  have h2 := loss_in (wtP_wf hW (w := 1) (by decide)) (b := b) (by rw [wtP_k _ _ (by decide)]; exact hb)
  unfold saveF
  omega
def aPenny (P : zS) : Int := if P 27 3 = 0 then -1000000000000 else -(wages P) + zsm (fun b => saveF P b) (P 23 0).toNat
/-- the one not used of the most gain below n -/
def bsF (g : Int → Int) (u : Nat) : Nat → Int
  | 0 => -1
  | n + 1 => if (u : Int) / 2 ^ n % 2 = 1 then bsF g u n else if bsF g u n = -1 ∨ g (bsF g u n) < g n then (n : Int) else bsF g u n
theorem bsF_in (g : Int → Int) (u : Nat) (n : Nat) : -1 ≤ bsF g u n ∧ bsF g u n < n := by
  induction n with
  | zero => exact ⟨Int.le_refl _, by show (-1 : Int) < 0; decide⟩
  | succ n ih =>
    show -1 ≤ (if _ then _ else _) ∧ (if _ then _ else _) < _
    split
    · omega
    · split <;> omega
def enG (g : Int → Int) (N : Nat) : Nat → Nat → Int → Nat → Int
  | 0, _, _, _ => -1
  | f + 1, n, left, u => if left ≤ 0 then (n : Int) else if bsF g u N = -1 then -1 else enG g N f (n + 1) (left - g (bsF g u N)) (u ||| 2 ^ (bsF g u N).toNat)
def aEnough (P : zS) : Int := if P 27 3 = 0 then -2 else enG (saveF P) (P 23 0).toNat ((P 23 0).toNat + 1) 0 (wages P) 0
/-- marks of the bikes below n by f -/
def mkF (P : zS) (f : Nat → Int) : Nat → zS
  | 0 => P
  | n + 1 => zup (mkF P f n) 24 (5 * (10 * 0 + (n : Int)) + 4) (f n)
theorem mkF_k (P : zS) (f : Nat → Int) (n : Nat) {k : Nat} (hk : k ≠ 24) : mkF P f n k = P k := by
  induction n with
  | zero => rfl
  | succ n ih => show zup _ _ _ _ k = _; rw [zup_k _ _ _ hk]; exact ih
theorem mkF_at (P : zS) (f : Nat → Int) : ∀ (n : Nat) (j : Int), mkF P f n 24 j = if j % 5 = 4 ∧ 0 ≤ j ∧ j < 5 * n then f (j / 5).toNat else P 24 j := by
  intro n
  induction n with
  | zero => intro j; rw [if_neg (by omega)]; rfl
  | succ n ih =>
    intro j
    show zup _ _ _ _ 24 j = _
    by_cases q : j = 5 * (10 * 0 + (n : Int)) + 4
    · subst q
      rw [zup_s, if_pos (by omega)]
      congr 1
      omega
    · rw [zup_n _ _ _ _ q, ih j]
      by_cases z : j % 5 = 4 ∧ 0 ≤ j ∧ j < 5 * n
      · rw [if_pos z, if_pos (by omega)]
      · rw [if_neg z, if_neg (by omega)]
theorem mkF_over (P : zS) (f g : Nat → Int) (n : Nat) : mkF (mkF P f n) g n = mkF P g n := by
  funext k j
  by_cases hk : k = 24
  · subst hk
    rw [mkF_at, mkF_at, mkF_at]
    split <;> rfl
  · rw [mkF_k _ _ _ hk, mkF_k _ _ _ hk, mkF_k _ _ _ hk]
theorem mkF_congr {P : zS} {f g : Nat → Int} {n : Nat} (h : ∀ k, k < n → f k = g k) : mkF P f n = mkF P g n := by
  induction n with
  | zero => rfl
  | succ n ih =>
    show zup (mkF P f n) _ _ (f n) = zup (mkF P g n) _ _ (g n)
    rw [ih (fun k hk => h k (by omega)), h n (by omega)]
theorem mkF_ok {P : zS} (hW : WfR P 0) {f : Nat → Int} (hf : ∀ k, 0 ≤ f k ∧ f k ≤ 1) {n : Nat} (hn : (n : Int) ≤ P 23 0) : WfR (mkF P f n) 0 ∧ OptEq P (mkF P f n) := by
  refine ⟨hW.opt (fun k hk => mkF_k P f n hk) (fun b h1 h2 => ?_), fun k hk => mkF_k P f n hk, fun j hj => ?_⟩
  · have hb := hW.bike ⟨h1, h2⟩
    rw [mkF_at, mkF_at, mkF_at, mkF_at, mkF_at, if_neg (by omega), if_neg (by omega), if_neg (by omega), if_neg (by omega : ¬ ((5 * (10 * 0 + b) + 3) % 5 = 4 ∧ _))]
    refine ⟨rfl, rfl, rfl, hb.2.2.2.1, ?_⟩
    split
    · exact hf _
    · exact hb.2.2.2.2
  · rw [mkF_at]
    split
    · next q =>
      have := (hj (j / 5) (by omega) (by omega)).2
      exfalso; omega
    · rfl
/-- whether some thief wants some bike -/
def wtN (P : zS) : Nat → Nat → Int
  | 0, _ => 0
  | f + 1, k => if 0 < wants P k then 1 else wtN P f (k + 1)
def wanted (P : zS) : Int := wtN P (P 25 0).toNat 0
def firstM (k : Nat) : Nat → Int := fun j => if j < k then 1 else 0
theorem firstM_01 (k j : Nat) : 0 ≤ firstM k j ∧ firstM k j ≤ 1 := by unfold firstM; split <;> omega
def mrN (P : zS) : Nat → Nat → Int
  | 0, _ => -1
  | f + 1, k => if wanted (mkF P (firstM k) (P 23 0).toNat) = 0 then (k : Int) else mrN P f (k + 1)
def aMarks (P : zS) : Int := if isRl P then mrN P ((P 23 0).toNat + 1) 0 else -2
theorem firstM_bits : ∀ k, k < 11 → ∀ j, j < 10 → (((2 ^ k : Nat) : Int) - 1) / 2 ^ j % 2 = firstM k j := by decide +kernel
def butM (b : Nat) : Nat → Int := fun j => if j = b then 0 else 1
theorem butM_01 (b j : Nat) : 0 ≤ butM b j ∧ butM b j ≤ 1 := by unfold butM; split <;> omega
def aHides (P : zS) (b : Int) : Int := if isBk P b then loss (mkF P (fun _ => 0) (P 23 0).toNat) b - loss (mkF P (butM b.toNat) (P 23 0).toNat) b else -1000000000000
theorem butM_not : ∀ b, b < 10 → iZ ((2 ^ b : Nat) : Int) ^^^ iZ (-1) = iZ (-((2 ^ b : Nat) : Int) - 1) := by decide +kernel
theorem butM_and : ∀ n, n < 11 → ∀ b, b < n → iZ (((2 ^ n : Nat) : Int) - 1) &&& iZ (-((2 ^ b : Nat) : Int) - 1) = iZ (((2 ^ n - 1 - 2 ^ b : Nat)) : Int) := by decide +kernel
theorem butM_bits : ∀ n, n < 11 → ∀ b, b < n → ∀ j, j < n → (((2 ^ n - 1 - 2 ^ b : Nat)) : Int) / 2 ^ j % 2 = butM b j := by decide +kernel
theorem wtN_01 (P : zS) : ∀ f k : Nat, wtN P f k = 0 ∨ wtN P f k = 1 := by
  intro f
  induction f with
  | zero => intro k; exact Or.inl rfl
  | succ f ih =>
    intro k
    show (if _ then (1 : Int) else _) = 0 ∨ (if _ then (1 : Int) else _) = 1
    split
    · exact Or.inr rfl
    · exact ih (k + 1)
