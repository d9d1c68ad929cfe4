/-! ===== baits: cells 64 * gone + caught ===== -/
def nS (P : zS) : Nat := 2 ^ ((P 23 0).toNat + 1)
def nC (P : zS) : Nat := 2 ^ (P 25 0).toNat
theorem nS_in {P : zS} (hW : WfR P 0) : 2 ≤ nS P ∧ nS P ≤ 2048 := by
  have h := zpow_in (k := P 23 0) (M := 10) (by have := hW.bikes; omega)
  unfold nS
  rw [Nat.pow_succ]
  omega
theorem nC_in {P : zS} (hW : WfR P 0) : 1 ≤ nC P ∧ nC P ≤ 64 := by
  have h := zpow_in (k := P 25 0) (M := 6) (by have := hW.thieves; omega)
  unfold nC
  omega
theorem zshl2b {k : Int} (hk : 0 ≤ k ∧ k ≤ 20) : iZ 2 <<< (iZ k &&& 31) = iZ ((2 ^ (k.toNat + 1) : Nat) : Int) := by
  have h1 : 2 ^ k.toNat ≤ 2 ^ 20 := Nat.pow_le_pow_right (by decide) (by omega)
  have h := iZ_shl (n := 2) (k := k.toNat) (by omega) (by omega)
  rw [show ((k.toNat : Nat) : Int) = k by omega] at h
  rw [Nat.pow_succ, Nat.mul_comm]
  exact h
abbrev cellOk (P : zS) (x : Nat) : Prop := x / 64 < nS P ∧ x % 64 < nC P
/-- what comes of a cell, with thief t -/
def bV (P : zS) (t : Nat) (F : Nat → Int) (x : Nat) : Int := if x % 64 / 2 ^ t % 2 = 1 then 0 else F x * comesOf P t / 100
def bB (P : zS) (sm : Int) (t x : Nat) : Int := takes P sm t ((x / 64 : Nat) : Int)
/-- what of that is caught -/
def bH (P : zS) (sm : Int) (t : Nat) (h : Int) (F : Nat → Int) (x : Nat) : Int := if bB P sm t x = P 23 0 then bV P t F x * h / 100 else 0
def bTo (P : zS) (sm : Int) (t x : Nat) : Nat := 64 * (x / 64 ||| 2 ^ (bB P sm t x).toNat) + x % 64
def bTc (P : zS) (sm : Int) (t x : Nat) : Nat := 64 * (x / 64 ||| 2 ^ (bB P sm t x).toNat) + (x % 64 ||| 2 ^ t)
/-- what one cell does to another -/
def dlt (P : zS) (sm : Int) (t : Nat) (h : Int) (F : Nat → Int) (x y : Nat) : Int := if bB P sm t x = -1 then 0 else (if y = bTc P sm t x then bH P sm t h F x else 0) + (if y = bTo P sm t x then bV P t F x - bH P sm t h F x else 0) - (if y = x then bV P t F x else 0)
def bSt (P : zS) (sm : Int) (t : Nat) (h : Int) (F : Nat → Int) (n y : Nat) : Int := F y + zsm (fun x => dlt P sm t h F x y) n
theorem bSt_s (P : zS) (sm : Int) (t : Nat) (h : Int) (F : Nat → Int) (n y : Nat) : bSt P sm t h F (n + 1) y = bSt P sm t h F n y + dlt P sm t h F n y := by
  unfold bSt; rw [zsm_s]; omega
def bGo (P : zS) (sm : Int) (t : Nat) (h : Int) (F : Nat → Int) : Nat → Int := bSt P sm t h F (64 * nS P)
def bT (P : zS) (sm h : Int) (F : Nat → Int) : Nat → Nat → Int
  | 0 => F
  | t + 1 => bGo P sm t h (bT P sm h F t)
def bN (P : zS) (sm h : Int) : Nat → Nat → Int
  | 0 => fun x => if x = 0 then 1000000000000 else 0
  | n + 1 => fun x => if x < 64 then zsm (fun g => bT P sm h (bN P sm h n) (P 25 0).toNat (64 * g + x)) (nS P) else 0
def wOf (P : zS) (g : Nat) : Int := zsm (fun b => if g / 2 ^ b % 2 = 1 then P 24 (5 * (10 * 0 + (b : Int))) else 0) (P 23 0).toNat
def bL (P : zS) (sm h : Int) : Nat → Int
  | 0 => 0
  | n + 1 => bL P sm h n + zsm (fun x => bT P sm h (bN P sm h n) (P 25 0).toNat x * wOf P (x / 64)) (64 * nS P)
/-- parts of cells: none below 0, none where no cell is, a whole together -/
def BOk (P : zS) (F : Nat → Int) : Prop := (∀ x, 0 ≤ F x) ∧ (∀ x, ¬ cellOk P x → F x = 0) ∧ zsm F (64 * nS P) = 1000000000000
theorem BOk.in {P : zS} {F : Nat → Int} (h : BOk P F) (x : Nat) : 0 ≤ F x ∧ F x ≤ 1000000000000 := by
  refine ⟨h.1 x, ?_⟩
  by_cases q : cellOk P x
  · rw [← h.2.2]; exact zsm_le (fun k _ => h.1 k) (by have := q.1; omega)
  · rw [h.2.1 x q]; omega
theorem bV_in {P : zS} (hW : WfR P 0) {t : Nat} (ht : (t : Int) < P 25 0) {F : Nat → Int} (hF : ∀ x, 0 ≤ F x) (x : Nat) : 0 ≤ bV P t F x ∧ bV P t F x ≤ F x := by
  unfold bV
  split
  · exact ⟨Int.le_refl 0, hF x⟩
  · exact come_in (hF x) (hW.thief0 ⟨by omega, ht⟩).2.1
theorem bH_in {P : zS} (hW : WfR P 0) {t : Nat} (ht : (t : Int) < P 25 0) {F : Nat → Int} (hF : ∀ x, 0 ≤ F x) (sm : Int) {h : Int} (hh : 0 ≤ h ∧ h ≤ 100) (x : Nat) : 0 ≤ bH P sm t h F x ∧ bH P sm t h F x ≤ bV P t F x := by
  have h1 := bV_in hW ht hF x
  unfold bH
  split
  · exact come_in h1.1 hh
  · omega
theorem bB_in {P : zS} (hW : WfR P 0) {sm : Int} (hs : 0 ≤ sm) (t x : Nat) : -1 ≤ bB P sm t x ∧ bB P sm t x ≤ P 23 0 := by
  have h := takes_in hW sm t ((x / 64 : Nat) : Int)
  have h1 : bt1 sm = 1 := by unfold bt1; rw [if_neg (by omega)]
  unfold bB
  omega
theorem bTo_ok {P : zS} (hW : WfR P 0) {sm : Int} (hs : 0 ≤ sm) {t : Nat} (ht : (t : Int) < P 25 0) {x : Nat} (hx : cellOk P x) (hb : bB P sm t x ≠ -1) : cellOk P (bTo P sm t x) ∧ cellOk P (bTc P sm t x) := by
  have h1 := bB_in hW hs t x
  have h2 : x / 64 ||| 2 ^ (bB P sm t x).toNat < nS P := Nat.or_lt_two_pow hx.1 (Nat.pow_lt_pow_right (by decide) (by omega))
  have h3 : x % 64 ||| 2 ^ t < nC P := Nat.or_lt_two_pow hx.2 (Nat.pow_lt_pow_right (by decide) (by omega))
  have h4 := nC_in hW
  have h5 := hx.2
  unfold bTo bTc cellOk
  refine ⟨⟨?_, ?_⟩, ?_, ?_⟩ <;> omega
theorem dlt_z {P : zS} (sm : Int) (t : Nat) (h : Int) {F : Nat → Int} {x : Nat} (hv : bV P t F x = 0) (y : Nat) : dlt P sm t h F x y = 0 := by
  have h1 : bH P sm t h F x = 0 := by unfold bH; rw [hv]; split <;> simp
  unfold dlt
  rw [hv, h1]
  simp
theorem dlt_off {P : zS} (sm : Int) (t : Nat) (h : Int) {F : Nat → Int} {x : Nat} (hv : F x = 0) (y : Nat) : dlt P sm t h F x y = 0 := dlt_z sm t h (by unfold bV; rw [hv]; split <;> simp) y
theorem bSt_ok {P : zS} (hW : WfR P 0) {sm : Int} (hs : 0 ≤ sm) {t : Nat} (ht : (t : Int) < P 25 0) {h : Int} (hh : 0 ≤ h ∧ h ≤ 100) {F : Nat → Int} (hF : BOk P F) : ∀ n, n ≤ 64 * nS P → BOk P (bSt P sm t h F n) ∧ ∀ y, n ≤ y → F y ≤ bSt P sm t h F n y := by
  intro n
  induction n with
  | zero =>
    intro _
    have e : bSt P sm t h F 0 = F := by funext y; unfold bSt; rw [zsm_0]; omega
    rw [e]
    exact ⟨hF, fun y _ => Int.le_refl _⟩
  | succ n ih =>
    intro hn
    obtain ⟨⟨h1, h2, h3⟩, h4⟩ := ih (by omega)
    have hv := bV_in hW ht hF.1 n
    have hc := bH_in hW ht hF.1 sm hh n
    by_cases q : F n = 0 ∨ bB P sm t n = -1
    · have e : bSt P sm t h F (n + 1) = bSt P sm t h F n := by
        funext y
        rw [bSt_s]
        rcases q with q | q
        · rw [dlt_off sm t h q]; omega
        · unfold dlt; rw [if_pos q]; omega
      rw [e]
      exact ⟨⟨h1, h2, h3⟩, fun y hy => h4 y (by omega)⟩
    · have q1 : cellOk P n := by
        by_cases z : cellOk P n
        · exact z
        · exact absurd (Or.inl (hF.2.1 n z)) q
      have q2 : bB P sm t n ≠ -1 := fun z => q (Or.inr z)
      obtain ⟨g1, g2⟩ := bTo_ok hW hs ht q1 q2
      have e : bSt P sm t h F (n + 1) = fun y => bSt P sm t h F n y + ((if y = bTc P sm t n then bH P sm t h F n else 0) + (if y = bTo P sm t n then bV P t F n - bH P sm t h F n else 0) - (if y = n then bV P t F n else 0)) := by
        funext y
        rw [bSt_s]
        unfold dlt
        rw [if_neg q2]
      rw [e]
      refine ⟨⟨fun y => ?_, fun y hy => ?_, ?_⟩, fun y hy => ?_⟩
      · have a1 := h1 y
        dsimp only
        by_cases z : y = n
        · subst z
          have := h4 y (Nat.le_refl _)
          rw [if_pos rfl]
          split <;> split <;> omega
        · rw [if_neg z]
          split <;> split <;> omega
      · dsimp only
        rw [h2 y hy, if_neg (fun z => hy (by rw [z]; exact g2)), if_neg (fun z => hy (by rw [z]; exact g1)), if_neg (fun z => hy (by rw [z]; exact q1))]
        rfl
      · rw [zsm_add, zsm_sub, zsm_add, zsm_one, zsm_one, zsm_one, if_pos (by have := g2.1; omega), if_pos (by have := g1.1; omega), if_pos (by omega), h3]
        omega
      · have a1 := h4 y (by omega)
        dsimp only
        rw [if_neg (show ¬ y = n by omega)]
        split <;> split <;> omega
theorem bT_ok {P : zS} (hW : WfR P 0) {sm : Int} (hs : 0 ≤ sm) {h : Int} (hh : 0 ≤ h ∧ h ≤ 100) {F : Nat → Int} (hF : BOk P F) : ∀ t : Nat, (t : Int) ≤ P 25 0 → BOk P (bT P sm h F t) := by
  intro t
  induction t with
  | zero => intro _; exact hF
  | succ t ih => intro ht; exact (bSt_ok hW hs (by omega) hh (ih (by omega)) _ (Nat.le_refl _)).1
theorem zsm_mul (f : Nat → Int) (n m : Nat) : zsm f (n * m) = zsm (fun g => zsm (fun x => f (n * g + x)) n) m := by
  induction m with
  | zero => rfl
  | succ m ih =>
    rw [zsm_s, ← ih, Nat.mul_succ]
    generalize n * m = a
    have : ∀ k, zsm f (a + k) = zsm f a + zsm (fun x => f (a + x)) k := by
      intro k
      induction k with
      | zero => rw [zsm_0]; simp
      | succ k ih => rw [← Nat.add_assoc, zsm_s, zsm_s, ih]; omega
    exact this n
theorem zsm_swap (f : Nat → Nat → Int) (n m : Nat) : zsm (fun g => zsm (fun x => f g x) n) m = zsm (fun x => zsm (fun g => f g x) m) n := by
  induction m with
  | zero => rw [zsm_0]; exact (zsm_z n).symm
  | succ m ih => rw [zsm_s, ih, ← zsm_add]; rfl
theorem zsm_cut {f : Nat → Int} {n : Nat} (m : Nat) (h : ∀ x, n ≤ x → f x = 0) : zsm f (n + m) = zsm f n := by
  induction m with
  | zero => rfl
  | succ m ih => rw [← Nat.add_assoc, zsm_s, ih, h _ (by omega)]; omega
theorem zsm_mulr (f : Nat → Int) (c : Int) (n : Nat) : zsm (fun k => f k * c) n = zsm f n * c := by
  induction n with
  | zero => rw [zsm_0, zsm_0]; simp
  | succ n ih => rw [zsm_s, zsm_s, ih, Int.add_mul]
theorem bN_ok {P : zS} (hW : WfR P 0) {sm : Int} (hs : 0 ≤ sm) {h : Int} (hh : 0 ≤ h ∧ h ≤ 100) : ∀ n, BOk P (bN P sm h n) := by
  have a1 := nS_in hW
  have a2 := nC_in hW
  intro n
  induction n with
  | zero =>
    refine ⟨fun x => ?_, fun x hx => ?_, ?_⟩
    · show 0 ≤ (if x = 0 then (1000000000000 : Int) else 0)
      split <;> omega
    · show (if x = 0 then (1000000000000 : Int) else 0) = 0
      rw [if_neg (fun z => hx (by subst z; unfold cellOk; omega))]
    · show zsm (fun x => if x = 0 then (1000000000000 : Int) else 0) (64 * nS P) = _
      rw [zsm_one, if_pos (by omega)]
  | succ n ih =>
    have hT := bT_ok hW hs hh ih (P 25 0).toNat (by have := hW.thieves; omega)
    refine ⟨fun x => ?_, fun x hx => ?_, ?_⟩
    · show 0 ≤ (if x < 64 then zsm (fun g => bT P sm h (bN P sm h n) (P 25 0).toNat (64 * g + x)) (nS P) else 0)
      split
      · exact zsm_nn (fun k _ => hT.1 _)
      · exact Int.le_refl 0
    · show (if x < 64 then zsm (fun g => bT P sm h (bN P sm h n) (P 25 0).toNat (64 * g + x)) (nS P) else 0) = 0
      split
      · next q =>
        rw [zsm_congr (g := fun _ => 0) (fun k hk => hT.2.1 _ (fun z => hx ⟨by omega, by have := z.2; omega⟩))]
        exact zsm_z _
      · rfl
    · show zsm (fun x => if x < 64 then zsm (fun g => bT P sm h (bN P sm h n) (P 25 0).toNat (64 * g + x)) (nS P) else 0) (64 * nS P) = _
      rw [show 64 * nS P = 64 + (64 * nS P - 64) by omega, zsm_cut _ (fun x hx => if_neg (by omega))]
      rw [zsm_congr (g := fun x => zsm (fun g => bT P sm h (bN P sm h n) (P 25 0).toNat (64 * g + x)) (nS P)) (fun k hk => if_pos hk), ← zsm_swap (fun g x => bT P sm h (bN P sm h n) (P 25 0).toNat (64 * g + x)), ← zsm_mul]
      exact hT.2.2
theorem wOf_in {P : zS} (hW : WfR P 0) (g : Nat) : 0 ≤ wOf P g ∧ wOf P g ≤ 99990 := by
  have hb := hW.bikes
  have := zsm_in (f := fun b => if g / 2 ^ b % 2 = 1 then P 24 (5 * (10 * 0 + (b : Int))) else 0) (n := (P 23 0).toNat) (M := 9999) (fun k hk => by
    have := (hW.bike (b := k) (by omega)).1
    split <;> omega)
  unfold wOf
  omega
theorem bLt_in {P : zS} (hW : WfR P 0) {F : Nat → Int} (hF : BOk P F) {n : Nat} (hn : n ≤ 64 * nS P) : 0 ≤ zsm (fun x => F x * wOf P (x / 64)) n ∧ zsm (fun x => F x * wOf P (x / 64)) n ≤ 99990000000000000 := by
  have h1 : ∀ k, 0 ≤ F k * wOf P (k / 64) ∧ F k * wOf P (k / 64) ≤ F k * 99990 := fun k => by
    have h2 := wOf_in hW (k / 64)
    exact ⟨Int.mul_nonneg (hF.1 k) h2.1, Int.mul_le_mul_of_nonneg_left h2.2 (hF.1 k)⟩
  refine ⟨zsm_nn (fun k _ => (h1 k).1), ?_⟩
  have h3 := zsm_mono (n := n) (fun k _ => (h1 k).2)
  rw [zsm_mulr] at h3
  have h4 := zsm_up (fun k _ => hF.1 k) hn
  rw [hF.2.2] at h4
  omega
theorem bL_in {P : zS} (hW : WfR P 0) {sm : Int} (hs : 0 ≤ sm) {h : Int} (hh : 0 ≤ h ∧ h ≤ 100) (n : Nat) : 0 ≤ bL P sm h n ∧ bL P sm h n ≤ n * 99990000000000000 := by
  induction n with
  | zero => exact ⟨Int.le_refl 0, by show (0 : Int) ≤ _; omega⟩
  | succ n ih =>
    have h1 := bLt_in hW (bT_ok hW hs hh (bN_ok hW hs hh n) (P 25 0).toNat (by have := hW.thieves; omega)) (Nat.le_refl _)
    rw [bL]
    omega
/-- the cells hold F -/
def BIs (P : zS) (F : Nat → Int) (S : zS) : Prop := ∀ g c : Nat, g < nS P → c < nC P → S 44 (64 * (g : Int) + (c : Int)) = F (64 * g + c)
theorem BIs.mv {P S S1 : zS} {F : Nat → Int} {ks : List Nat} (h : BIs P F S) (hF : Fr ks S S1) (h44 : 44 ∉ ks) : BIs P F S1 := by
  unfold BIs at *
  rw [hF 44 h44]
  exact h
/-- the cells before (G, C) of a row hold F -/
def TIs (P : zS) (a : Nat) (F : Nat → Int) (G C : Nat) (S : zS) : Prop := ∀ g c : Nat, (g < G ∨ (g = G ∧ c < C)) → c < nC P → S a (64 * (g : Int) + (c : Int)) = F (64 * g + c)
theorem TIs.up {P S S1 : zS} {a : Nat} {F : Nat → Int} {G C : Nat} {v : Int} (h : TIs P a F G C S) (hn : nC P ≤ 64) (hC : C < nC P) (e : S1 = zup S a (64 * (G : Int) + (C : Int)) v) (hv : v = F (64 * G + C)) : TIs P a F G (C + 1) S1 := by
  intro g c h1 h2
  rw [e]
  by_cases q : g = G ∧ c = C
  · rw [q.1, q.2, zup_s, hv]
  · rw [zup_n _ _ _ _ (by omega)]
    exact h g c (by omega) h2
theorem TIs.row {P S : zS} {a : Nat} {F : Nat → Int} {G C : Nat} (h : TIs P a F G C S) (hC : nC P ≤ C) : TIs P a F (G + 1) 0 S := fun g c h1 h2 => h g c (by omega) h2
theorem TIs.mv {P S S1 : zS} {a : Nat} {F : Nat → Int} {G C : Nat} {ks : List Nat} (h : TIs P a F G C S) (hF : Fr ks S S1) (ha : a ∉ ks) : TIs P a F G C S1 := by
  unfold TIs at *
  rw [hF a ha]
  exact h
theorem TIs.all {P S : zS} {F : Nat → Int} {G : Nat} (h : TIs P 44 F G 0 S) (hG : nS P ≤ G) : BIs P F S := fun g c h1 h2 => h g c (by omega) h2
theorem bSt_0 (P : zS) (sm : Int) (t : Nat) (h : Int) (F : Nat → Int) : bSt P sm t h F 0 = F := by funext y; unfold bSt; rw [zsm_0]; omega
theorem zshl1N {t : Nat} (h : t ≤ 30) : iZ 1 <<< (iZ (t : Int) &&& 31) = iZ ((2 ^ t : Nat) : Int) := zshl1 (k := (t : Int)) (by omega)
theorem natbit {k b : Nat} : ((k : Int) / 2 ^ b % 2 = 1) ↔ (k / 2 ^ b % 2 = 1) := by
  have : ((k : Int) / 2 ^ b) % 2 = ((k / 2 ^ b % 2 : Nat) : Int) := by simp
  rw [this]; omega
theorem bN_hi (P : zS) (sm h : Int) (n : Nat) {x : Nat} (hx : 64 ≤ x) : bN P sm h n x = 0 := by
  cases n with
  | zero => exact if_neg (by omega)
  | succ n => exact if_neg (by omega)
theorem bcol_in {P : zS} {F : Nat → Int} (hF : BOk P F) (c n : Nat) : 0 ≤ zsm (fun g => F (64 * g + c)) n ∧ zsm (fun g => F (64 * g + c)) n ≤ n * 1000000000000 := zsm_in (fun k _ => hF.in _)
theorem bLrow {P : zS} {F : Nat → Int} (hF : BOk P F) {k m : Nat} (hm : nC P ≤ m) (h6 : m ≤ 64) : zsm (fun x => F x * wOf P (x / 64)) (64 * (k + 1)) = zsm (fun x => F x * wOf P (x / 64)) (64 * k + m) := by
  have h : ∀ j, m + j ≤ 64 → zsm (fun x => F x * wOf P (x / 64)) (64 * k + (m + j)) = zsm (fun x => F x * wOf P (x / 64)) (64 * k + m) := by
    intro j
    induction j with
    | zero => intro _; rfl
    | succ j ih =>
      intro hj
      rw [show 64 * k + (m + (j + 1)) = 64 * k + (m + j) + 1 by omega, zsm_s, ih (by omega), hF.2.1 _ (fun z => by have := z.2; omega)]
      simp
  have h1 := h (64 - m) (by omega)
  rw [show 64 * k + (m + (64 - m)) = 64 * (k + 1) by omega] at h1
  exact h1
/-- sums over the gone, up to k, of those before m up to k + 1 -/
def YIs (P : zS) (F : Nat → Int) (k m : Nat) (S : zS) : Prop := ∀ c : Nat, c < nC P → S 46 (c : Int) = zsm (fun g => F (64 * g + c)) (if c < m then k + 1 else k)
theorem YIs.up {P S S1 : zS} {F : Nat → Int} {k m : Nat} (h : YIs P F k m S) (hm : m < nC P) (e : S1 = zup S 46 (m : Int) (S 46 (m : Int) + F (64 * k + m))) : YIs P F k (m + 1) S1 := by
  intro c hc
  rw [e]
  by_cases q : c = m
  · subst q
    rw [zup_s, h c hc, if_neg (by omega), if_pos (by omega), zsm_s]
  · rw [zup_n _ _ _ _ (by omega), h c hc]
    by_cases q2 : c < m
    · rw [if_pos q2, if_pos (by omega)]
    · rw [if_neg q2, if_neg (by omega)]
theorem YIs.row {P S : zS} {F : Nat → Int} {k m : Nat} (h : YIs P F k m S) (hm : nC P ≤ m) : YIs P F (k + 1) 0 S := by
  intro c hc
  have := h c hc
  rw [if_pos (by omega)] at this
  rw [if_neg (by omega)]
  exact this
theorem YIs.mv {P S S1 : zS} {F : Nat → Int} {k m : Nat} {ks : List Nat} (h : YIs P F k m S) (hF : Fr ks S S1) (h46 : 46 ∉ ks) : YIs P F k m S1 := by
  unfold YIs at *
  rw [hF 46 h46]
  exact h
theorem bV_at (P : zS) (t : Nat) (F : Nat → Int) (g : Nat) {c : Nat} (hc : c < 64) : bV P t F (64 * g + c) = if (c : Int) / 2 ^ t % 2 = 1 then 0 else F (64 * g + c) * comesOf P t / 100 := by
  unfold bV
  rw [show (64 * g + c) % 64 = c by omega]
  have : ((c : Int) / 2 ^ t) % 2 = ((c / 2 ^ t % 2 : Nat) : Int) := by simp
  rw [this]
  by_cases q : c / 2 ^ t % 2 = 1
  · rw [if_pos q, if_pos (by omega)]
  · rw [if_neg q, if_neg (by omega)]
theorem bB_at (P : zS) (sm : Int) (t g : Nat) {c : Nat} (hc : c < 64) : bB P sm t (64 * g + c) = takes P sm t g := by
  unfold bB
  rw [show (64 * g + c) / 64 = g by omega]
theorem bSt_skip {P : zS} {sm : Int} {t : Nat} {h : Int} {F : Nat → Int} {x : Nat} (hv : bV P t F x = 0) : bSt P sm t h F (x + 1) = bSt P sm t h F x := by
  funext y
  rw [bSt_s, dlt_z sm t h hv]; omega
theorem bSt_row {P : zS} {sm : Int} {t : Nat} {h : Int} {F : Nat → Int} {g c : Nat} (hz : ∀ k, c ≤ k → k < 64 → ∀ y, dlt P sm t h F (64 * g + k) y = 0) (hc : c ≤ 64) : bSt P sm t h F (64 * (g + 1)) = bSt P sm t h F (64 * g + c) := by
  have : ∀ k, c + k ≤ 64 → bSt P sm t h F (64 * g + (c + k)) = bSt P sm t h F (64 * g + c) := by
    intro k
    induction k with
    | zero => intro _; rfl
    | succ k ih =>
      intro hk
      rw [← ih (by omega)]
      funext y
      rw [show 64 * g + (c + (k + 1)) = 64 * g + (c + k) + 1 by omega, bSt_s, hz (c + k) (by omega) (by omega)]; omega
  have h1 := this (64 - c) (by omega)
  rw [show 64 * g + (c + (64 - c)) = 64 * (g + 1) by omega] at h1
  exact h1
theorem BIs.move {P S S1 S2 S3 : zS} {sm : Int} {t : Nat} {h : Int} {F : Nat → Int} {G C b : Nat} (hW : WfR P 0) (hI : BIs P (bSt P sm t h F (64 * G + C)) S) (hG : G < nS P) (hC : C < nC P) (hb : takes P sm t G = b)
    (e1 : S1 = zup S 44 (64 * (G : Int) + (C : Int)) (S 44 (64 * (G : Int) + (C : Int)) - bV P t F (64 * G + C)))
    (e2 : S2 = zup S1 44 (64 * ((G ||| 2 ^ b : Nat) : Int) + ((C ||| 2 ^ t : Nat) : Int)) (S1 44 (64 * ((G ||| 2 ^ b : Nat) : Int) + ((C ||| 2 ^ t : Nat) : Int)) + bH P sm t h F (64 * G + C)))
    (e3 : S3 = zup S2 44 (64 * ((G ||| 2 ^ b : Nat) : Int) + (C : Int)) (S2 44 (64 * ((G ||| 2 ^ b : Nat) : Int) + (C : Int)) + (bV P t F (64 * G + C) - bH P sm t h F (64 * G + C)))) : BIs P (bSt P sm t h F (64 * G + C + 1)) S3 := by
  have a2 := nC_in hW
  have k1 : bB P sm t (64 * G + C) = b := by rw [bB_at P sm t G (by omega)]; exact hb
  have k2 : bTo P sm t (64 * G + C) = 64 * (G ||| 2 ^ b) + C := by unfold bTo; rw [k1, show (64 * G + C) / 64 = G by omega, show (64 * G + C) % 64 = C by omega]; rfl
  have k3 : bTc P sm t (64 * G + C) = 64 * (G ||| 2 ^ b) + (C ||| 2 ^ t) := by unfold bTc; rw [k1, show (64 * G + C) / 64 = G by omega, show (64 * G + C) % 64 = C by omega]; rfl
  intro g c hg hc
  rw [bSt_s, ← hI g c hg hc]
  unfold dlt
  rw [if_neg (by omega), k2, k3, e3, e2, e1]
  generalize bV P t F (64 * G + C) = v
  generalize bH P sm t h F (64 * G + C) = w
  generalize (G ||| 2 ^ b) = G1
  generalize (C ||| 2 ^ t) = C1
  unfold zup
  simp only [true_and]
  by_cases q1 : 64 * (g : Int) + (c : Int) = 64 * (G1 : Int) + (C : Int)
  · rw [if_pos q1, if_pos (show 64 * g + c = 64 * G1 + C by omega), ← q1]
    by_cases q2 : 64 * (g : Int) + (c : Int) = 64 * (G1 : Int) + (C1 : Int)
    · rw [if_pos q2, if_pos (show 64 * g + c = 64 * G1 + C1 by omega), ← q2]
      by_cases q3 : 64 * (g : Int) + (c : Int) = 64 * (G : Int) + (C : Int)
      · rw [if_pos q3, if_pos (show 64 * g + c = 64 * G + C by omega), q3]; omega
      · rw [if_neg q3, if_neg (show ¬ 64 * g + c = 64 * G + C by omega)]; omega
    · rw [if_neg q2, if_neg (show ¬ 64 * g + c = 64 * G1 + C1 by omega)]
      by_cases q3 : 64 * (g : Int) + (c : Int) = 64 * (G : Int) + (C : Int)
      · rw [if_pos q3, if_pos (show 64 * g + c = 64 * G + C by omega), q3]; omega
      · rw [if_neg q3, if_neg (show ¬ 64 * g + c = 64 * G + C by omega)]; omega
  · rw [if_neg q1, if_neg (show ¬ 64 * g + c = 64 * G1 + C by omega)]
    by_cases q2 : 64 * (g : Int) + (c : Int) = 64 * (G1 : Int) + (C1 : Int)
    · rw [if_pos q2, if_pos (show 64 * g + c = 64 * G1 + C1 by omega), ← q2]
      by_cases q3 : 64 * (g : Int) + (c : Int) = 64 * (G : Int) + (C : Int)
      · rw [if_pos q3, if_pos (show 64 * g + c = 64 * G + C by omega), q3]; omega
      · rw [if_neg q3, if_neg (show ¬ 64 * g + c = 64 * G + C by omega)]; omega
    · rw [if_neg q2, if_neg (show ¬ 64 * g + c = 64 * G1 + C1 by omega)]
      by_cases q3 : 64 * (g : Int) + (c : Int) = 64 * (G : Int) + (C : Int)
      · rw [if_pos q3, if_pos (show 64 * g + c = 64 * G + C by omega), q3]; omega
      · rw [if_neg q3, if_neg (show ¬ 64 * g + c = 64 * G + C by omega)]; omega
/-! answers -/
abbrev baitOk (P : zS) (pl sm h : Int) : Prop := isPl P pl ∧ (0 ≤ sm ∧ sm ≤ 9999) ∧ (0 ≤ h ∧ h ≤ 100)
def whyF (P : zS) (pl sm h : Int) : Int := if baitOk P pl sm h then (if stands P pl = -1 then 0 else -5) else -2
def aBait (P : zS) (pl sm h : Int) : Int := if baitOk P pl sm h then (if stands P pl = -1 then bL P sm h (P 18 0).toNat / 1000000000 else -5) else -2
def cauF (P : zS) (t : Nat) (F : Nat → Int) (n : Nat) : Int := zsm (fun c => if (c : Int) / 2 ^ t % 2 = 1 then F c else 0) n
def aCaught (P : zS) (t pl sm h : Int) : Int := if isTh P t ∧ baitOk P pl sm h then (if stands P pl = -1 then cauF P t.toNat (bN P sm h (P 18 0).toNat) (nC P) else -5) else -2
/-- whether a thief below n takes the bait that seems s -/
def lurT (P : zS) (s : Int) : Nat → Bool
  | 0 => false
  | t + 1 => lurT P s t || decide (takes P s t 0 = P 23 0)
def lured (P : zS) (s : Int) : Prop := ∃ t : Int, 0 ≤ t ∧ t < P 25 0 ∧ takes P s t 0 = P 23 0
/-- the least s in k .. k + n - 1 by which one is lured -/
def lurF (P : zS) (k : Nat) : Nat → Int
  | 0 => -1
  | n + 1 => if lurT P k (P 25 0).toNat = true then (k : Int) else lurF P (k + 1) n
def aLures (P : zS) (pl : Int) : Int := if isPl P pl then (if stands P pl = -1 then lurF P 0 10000 else -5) else -2
theorem lurT_mono {P : zS} {s : Int} {a b : Nat} (h : lurT P s a = true) (hab : a ≤ b) : lurT P s b = true := by
  induction b with
  | zero => rw [show a = 0 by omega] at h; exact h
  | succ b ih =>
    by_cases q : a = b + 1
    · rw [← q]; exact h
    · rw [lurT, ih (by omega)]; rfl
theorem lurF_hit {P : zS} {k n : Nat} (h : lurT P k (P 25 0).toNat = true) : lurF P k (n + 1) = k := by rw [lurF, if_pos h]
theorem lurF_miss {P : zS} {k n : Nat} (h : lurT P k (P 25 0).toNat = false) : lurF P k (n + 1) = lurF P (k + 1) n := by rw [lurF, if_neg (by rw [h]; decide)]
/-- all is laid but how much the bait seems -/
def LaidN (P : zS) (S : zS) : Prop := S 35 0 = P 23 0 + 1 ∧ (∀ t b : Int, 0 ≤ t → t < P 25 0 → 0 ≤ b → b < P 23 0 → S 33 (11 * t + b) = trouble P t 0 b ∧ S 34 (11 * t + b) = gain P 0 b - trouble P t 0 b) ∧ ∀ t : Int, 0 ≤ t → t < P 25 0 → S 33 (11 * t + P 23 0) = 0
theorem Laid.toN {P S : zS} (h : Laid P 0 S) (hb : 0 ≤ P 23 0) : LaidN P S := by
  have e : bt1 0 = 1 := rfl
  refine ⟨h.1, fun t b h1 h2 h3 h4 => ?_, fun t h1 h2 => ?_⟩
  · have := h.2 t b h1 h2 h3 (by omega)
    unfold trOf netOf at this
    rw [if_pos h4, if_pos h4] at this
    exact this
  · have := (h.2 t (P 23 0) h1 h2 (by omega) (by omega)).1
    unfold trOf at this
    rw [if_neg (by omega)] at this
    exact this
theorem LaidN.one {P S S1 : zS} (h : LaidN P S) {t s : Int} (hb : 0 ≤ P 23 0 ∧ P 23 0 ≤ 10) (ht : 0 ≤ t ∧ t < P 25 0) (hs : 0 ≤ s) (e : S1 = zup S 34 (11 * t + P 23 0) s) : LaidN P S1 ∧ Laid1 P s t S1 := by
  have e1 : bt1 s = 1 := by unfold bt1; rw [if_neg (by omega)]
  have k33 : S1 33 = S 33 := by rw [e, zup_k _ _ _ (by decide)]
  have k35 : S1 35 = S 35 := by rw [e, zup_k _ _ _ (by decide)]
  refine ⟨⟨by rw [k35]; exact h.1, fun t' b h1 h2 h3 h4 => ?_, fun t' h1 h2 => by rw [k33]; exact h.2.2 t' h1 h2⟩, by rw [k35, h.1, e1], fun b h3 h4 => ?_⟩
  · rw [k33, e, zup_n _ _ _ _ (by omega)]
    exact h.2.1 t' b h1 h2 h3 h4
  · rw [k33]
    unfold trOf netOf
    by_cases q : b < P 23 0
    · rw [if_pos q, if_pos q, e, zup_n _ _ _ _ (by omega)]
      exact h.2.1 t b ht.1 ht.2 h3 q
    · rw [if_neg q, if_neg q, show b = P 23 0 by omega, e, zup_s]
      exact ⟨h.2.2 t ht.1 ht.2, rfl⟩
theorem whyF_in (P : zS) (pl sm h : Int) : -5 ≤ whyF P pl sm h ∧ whyF P pl sm h ≤ 0 := by
  unfold whyF
  split
  · split <;> omega
  · omega
theorem whyF_0 {P : zS} {pl sm h : Int} (q : whyF P pl sm h = 0) : baitOk P pl sm h ∧ stands P pl = -1 := by
  unfold whyF at q
  by_cases q1 : baitOk P pl sm h
  · rw [if_pos q1] at q
    by_cases q2 : stands P pl = -1
    · exact ⟨q1, q2⟩
    · rw [if_neg q2] at q; omega
  · rw [if_neg q1] at q; omega
theorem whyF_n {P : zS} {pl sm h x : Int} (q : ¬ whyF P pl sm h = 0) : whyF P pl sm h = if baitOk P pl sm h then (if stands P pl = -1 then x else -5) else -2 := by
  unfold whyF at q ⊢
  by_cases q1 : baitOk P pl sm h
  · rw [if_pos q1] at q ⊢
    rw [if_pos q1]
    by_cases q2 : stands P pl = -1
    · rw [if_pos q2] at q; exact absurd rfl q
    · rw [if_neg q2, if_neg q2]
  · rw [if_neg q1, if_neg q1]
theorem whyF_bait {P : zS} {pl sm h : Int} (q : ¬ whyF P pl sm h = 0) : whyF P pl sm h = aBait P pl sm h := whyF_n q
theorem whyF_caught {P : zS} {t pl sm h : Int} (ht : isTh P t) (q : ¬ whyF P pl sm h = 0) : whyF P pl sm h = aCaught P t pl sm h := by
  unfold aCaught
  by_cases q1 : baitOk P pl sm h
  · rw [if_pos ⟨ht, q1⟩]
    have := whyF_n (x := cauF P t.toNat (bN P sm h (P 18 0).toNat) (nC P)) q
    rw [if_pos q1] at this
    exact this
  · rw [if_neg (fun z => q1 z.2)]
    have := whyF_n (x := 0) q
    rw [if_neg q1] at this
    exact this
theorem whyF_lures {P : zS} {pl : Int} (q : ¬ whyF P pl 0 0 = 0) : whyF P pl 0 0 = aLures P pl := by
  unfold aLures
  by_cases q1 : isPl P pl
  · rw [if_pos q1]
    have := whyF_n (x := lurF P 0 10000) q
    rw [if_pos ⟨q1, by decide, by decide⟩] at this
    exact this
  · rw [if_neg q1]
    have := whyF_n (x := 0) q
    rw [if_neg (fun z => q1 z.1)] at this
    exact this
