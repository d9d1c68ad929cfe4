/-! ===== who takes what; what is laid out ===== -/
/-- the best one below n: w 0 best, 1 any, 2 just o; nets and troubles by number; g: those gone -/
def takesF (w o : Int) (net tr : Int → Int) (g : Int) : Nat → Int
  | 0 => -1
  | n + 1 => if g / 2 ^ n % 2 = 1 ∨ net n ≤ 0 then takesF w o net tr g n else if w = 2 then (if (n : Int) = o then (n : Int) else takesF w o net tr g n) else if takesF w o net tr g n = -1 ∨ (w = 0 ∧ net (takesF w o net tr g n) < net n) ∨ (¬ w = 0 ∧ tr n < tr (takesF w o net tr g n)) then (n : Int) else takesF w o net tr g n
theorem takesF_s (w o : Int) (net tr : Int → Int) (g : Int) (n : Nat) : takesF w o net tr g (n + 1) = if g / 2 ^ n % 2 = 1 ∨ net n ≤ 0 then takesF w o net tr g n else if w = 2 then (if (n : Int) = o then (n : Int) else takesF w o net tr g n) else if takesF w o net tr g n = -1 ∨ (w = 0 ∧ net (takesF w o net tr g n) < net n) ∨ (¬ w = 0 ∧ tr n < tr (takesF w o net tr g n)) then (n : Int) else takesF w o net tr g n := rfl
theorem takesF_or (w o : Int) (net tr : Int → Int) (g : Int) (n : Nat) : takesF w o net tr g (n + 1) = takesF w o net tr g n ∨ (takesF w o net tr g (n + 1) = (n : Int) ∧ ¬ (g / 2 ^ n % 2 = 1) ∧ 0 < net n) := by
  rw [takesF_s]
  by_cases q : g / 2 ^ n % 2 = 1 ∨ net n ≤ 0
  · rw [if_pos q]; exact Or.inl rfl
  · have q1 : ¬ (g / 2 ^ n % 2 = 1) ∧ 0 < net n := ⟨fun z => q (Or.inl z), Int.not_le.mp fun z => q (Or.inr z)⟩
    rw [if_neg q]
    split
    · split
      · exact Or.inr ⟨rfl, q1⟩
      · exact Or.inl rfl
    · split
      · exact Or.inr ⟨rfl, q1⟩
      · exact Or.inl rfl
theorem takesF_in (w o : Int) (net tr : Int → Int) (g : Int) (n : Nat) : -1 ≤ takesF w o net tr g n ∧ takesF w o net tr g n < n := by
  induction n with
  | zero => simp [takesF]
  | succ n ih =>
    rcases takesF_or w o net tr g n with q | q
    · rw [q]; omega
    · rw [q.1]; omega
theorem takesF_ok (w o : Int) (net tr : Int → Int) (g : Int) (n : Nat) (h : takesF w o net tr g n ≠ -1) : ¬ (g / 2 ^ (takesF w o net tr g n).toNat % 2 = 1) ∧ 0 < net (takesF w o net tr g n) := by
  induction n with
  | zero => simp [takesF] at h
  | succ n ih =>
    rcases takesF_or w o net tr g n with q | q
    · rw [q] at h ⊢; exact ih h
    · rw [q.1]; simpa using q.2
theorem takesF_congr {w o : Int} {net tr net' tr' : Int → Int} {g : Int} {n : Nat} (h : ∀ b : Int, 0 ≤ b → b < n → net b = net' b ∧ tr b = tr' b) : takesF w o net tr g n = takesF w o net' tr' g n := by
  induction n with
  | zero => rfl
  | succ n ih =>
    have ih := ih (fun b h1 h2 => h b h1 (by omega))
    rw [takesF_s, takesF_s, ← ih]
    have hn := h n (by omega) (by omega)
    rw [← hn.1, ← hn.2]
    have hi := takesF_in w o net tr g n
    by_cases q : takesF w o net tr g n = -1
    · rw [q]; simp
    · have hq := h (takesF w o net tr g n) (by omega) (by omega)
      rw [← hq.1, ← hq.2]
theorem takesF_just {w o : Int} {net tr : Int → Int} {g : Int} {k n : Nat} (hw : w = 2) (ho : (k : Int) = o) (hg : ¬ (g / 2 ^ k % 2 = 1)) (hn : 0 < net k) (h : k < n) : takesF w o net tr g n = k := by
  induction n with
  | zero => omega
  | succ n ih =>
    rw [takesF_s]
    by_cases q : n = k
    · subst q
      rw [if_neg (fun z => by rcases z with z | z; exact hg z; omega), if_pos hw, if_pos ho]
    · rw [if_pos hw, if_neg (show ¬ (n : Int) = o by omega), ih (by omega)]
      split <;> rfl
def bt1 (sm : Int) : Int := if sm < 0 then 0 else 1
theorem bt1_in (sm : Int) : 0 ≤ bt1 sm ∧ bt1 sm ≤ 1 := by unfold bt1; split <;> omega
/-- with a bait that seems so much (none: below 0) -/
def netOf (P : zS) (sm t b : Int) : Int := if b < P 23 0 then gain P 0 b - trouble P t 0 b else sm
def trOf (P : zS) (t b : Int) : Int := if b < P 23 0 then trouble P t 0 b else 0
def takes (P : zS) (sm t g : Int) : Int := takesF (P 26 (5 * t + 3)) (P 26 (5 * t + 4)) (netOf P sm t) (trOf P t) g (P 23 0 + bt1 sm).toNat
theorem takes_in {P : zS} (hW : WfR P 0) (sm t g : Int) : -1 ≤ takes P sm t g ∧ takes P sm t g < P 23 0 + bt1 sm := by
  have h := takesF_in (P 26 (5 * t + 3)) (P 26 (5 * t + 4)) (netOf P sm t) (trOf P t) g (P 23 0 + bt1 sm).toNat
  have := hW.bikes
  have := bt1_in sm
  unfold takes
  omega
def Laid (P : zS) (sm : Int) (S : zS) : Prop := S 35 0 = P 23 0 + bt1 sm ∧ ∀ t b : Int, 0 ≤ t → t < P 25 0 → 0 ≤ b → b < P 23 0 + bt1 sm → S 33 (11 * t + b) = trOf P t b ∧ S 34 (11 * t + b) = netOf P sm t b
theorem takes_laid {P : zS} {sm t g : Int} {S : zS} (hL : Laid P sm S) (ht : 0 ≤ t ∧ t < P 25 0) (hn : 0 ≤ P 23 0 + bt1 sm) : takesF (P 26 (5 * t + 3)) (P 26 (5 * t + 4)) (fun b => S 34 (11 * t + b)) (fun b => S 33 (11 * t + b)) g (S 35 0).toNat = takes P sm t g := by
  rw [hL.1]
  exact takesF_congr (fun b h1 h2 => ⟨(hL.2 t b ht.1 ht.2 h1 (by omega)).2, (hL.2 t b ht.1 ht.2 h1 (by omega)).1⟩)
/-- the row of one thief is laid -/
def Laid1 (P : zS) (sm t : Int) (S : zS) : Prop := S 35 0 = P 23 0 + bt1 sm ∧ ∀ b : Int, 0 ≤ b → b < P 23 0 + bt1 sm → S 33 (11 * t + b) = trOf P t b ∧ S 34 (11 * t + b) = netOf P sm t b
theorem Laid.row {P : zS} {sm t : Int} {S : zS} (h : Laid P sm S) (ht : 0 ≤ t ∧ t < P 25 0) : Laid1 P sm t S := ⟨h.1, fun b h1 h2 => h.2 t b ht.1 ht.2 h1 h2⟩
theorem takes_laid1 {P : zS} {sm t g : Int} {S : zS} (hL : Laid1 P sm t S) (hn : 0 ≤ P 23 0 + bt1 sm) : takesF (P 26 (5 * t + 3)) (P 26 (5 * t + 4)) (fun b => S 34 (11 * t + b)) (fun b => S 33 (11 * t + b)) g (S 35 0).toNat = takes P sm t g := by
  rw [hL.1]
  exact takesF_congr (fun b h1 h2 => ⟨(hL.2 b h1 (by omega)).2, (hL.2 b h1 (by omega)).1⟩)
theorem Laid.mv {P : zS} {sm : Int} {S S1 : zS} {ks : List Nat} (h : Laid P sm S) (hF : Fr ks S S1) (h33 : 33 ∉ ks) (h34 : 34 ∉ ks) (h35 : 35 ∉ ks) : Laid P sm S1 := by
  unfold Laid at *
  rw [hF 33 h33, hF 34 h34, hF 35 h35]
  exact h
/-- rows below T are laid, of row T what is below B; of the bait what is below C -/
def LaidB (P : zS) (sm : Int) (T B C : Nat) (S : zS) : Prop := ∀ t b : Int, 0 ≤ t → 0 ≤ b → ((b < P 23 0 ∧ (t < T ∨ t = T ∧ b < B)) ∨ (b = P 23 0 ∧ t < C ∧ 0 ≤ sm)) → S 33 (11 * t + b) = trOf P t b ∧ S 34 (11 * t + b) = netOf P sm t b
theorem LaidB.step {P : zS} {sm : Int} {T B C : Nat} {S S1 S2 : zS} (h : LaidB P sm T B C S) (hn : P 23 0 ≤ 10) (hC : C ≤ T) (hB : (B : Int) < P 23 0) (e1 : S1 = zup S 33 (11 * (T : Int) + (B : Int)) (trouble P T 0 B)) (e2 : S2 = zup S1 34 (11 * (T : Int) + (B : Int)) (gain P 0 B - S1 33 (11 * (T : Int) + (B : Int)))) : LaidB P sm T (B + 1) C S2 := by
  intro t b h1 h2 h3
  subst e2
  rw [zup_k S1 _ _ (by decide : 33 ≠ 34)]
  by_cases q : t = T ∧ b = B
  · obtain ⟨rfl, rfl⟩ := q
    subst e1
    rw [zup_s, zup_s]
    unfold trOf netOf
    rw [if_pos hB, if_pos hB]
    exact ⟨rfl, rfl⟩
  · rw [zup_n S1 _ _ _ (by omega : 11 * t + b ≠ 11 * (T : Int) + (B : Int))]
    subst e1
    rw [zup_n S _ _ _ (by omega : 11 * t + b ≠ 11 * (T : Int) + (B : Int)), zup_k S _ _ (by decide : 34 ≠ 33)]
    exact h t b h1 h2 (by omega)
theorem LaidB.bait {P : zS} {sm : Int} {T B C : Nat} {S S1 S2 : zS} (h : LaidB P sm T B C S) (hn : 0 ≤ P 23 0 ∧ P 23 0 ≤ 10) (hC : C = T) (e1 : S1 = zup S 33 (11 * (T : Int) + P 23 0) 0) (e2 : S2 = zup S1 34 (11 * (T : Int) + P 23 0) sm) : LaidB P sm T B (T + 1) S2 := by
  intro t b h1 h2 h3
  subst e2
  rw [zup_k S1 _ _ (by decide : 33 ≠ 34)]
  by_cases q : t = T ∧ b = P 23 0
  · obtain ⟨rfl, rfl⟩ := q
    subst e1
    rw [zup_s, zup_s]
    unfold trOf netOf
    rw [if_neg (by omega), if_neg (by omega)]
    exact ⟨rfl, rfl⟩
  · have hne : 11 * t + b ≠ 11 * (T : Int) + P 23 0 := by omega
    rw [zup_n S1 _ _ _ hne]
    subst e1
    rw [zup_n S _ _ _ hne, zup_k S _ _ (by decide : 34 ≠ 33)]
    exact h t b h1 h2 (by omega)
theorem LaidB.row {P : zS} {sm : Int} {T B C C' : Nat} {S : zS} (h : LaidB P sm T B C S) (hB : P 23 0 ≤ B) (hC : 0 ≤ sm → C' ≤ C) : LaidB P sm (T + 1) 0 C' S := fun t b h1 h2 h3 => h t b h1 h2 (by omega)
theorem LaidB.all {P : zS} {sm : Int} {T C : Nat} {S : zS} (h : LaidB P sm T 0 C S) (hT : P 25 0 ≤ T) (hC : 0 ≤ sm → P 25 0 ≤ C) (h35 : S 35 0 = P 23 0 + bt1 sm) : Laid P sm S := by
  refine ⟨h35, fun t b h1 h2 h3 h4 => h t b h1 h3 ?_⟩
  unfold bt1 at h4
  split at h4 <;> omega
def takesOk (P : zS) (g : Int) : Prop := 0 ≤ g ∧ g ≤ ((2 ^ (P 23 0).toNat : Nat) : Int) - 1
def aTakes (P : zS) (t g : Int) : Int := if isTh P t ∧ (0 ≤ g ∧ g ≤ ((2 ^ (P 23 0).toNat : Nat) : Int) - 1) then takes P (-1) t g else -2
/-- how many a thief wants -/
def wants (P : zS) (t : Int) : Int := zsm (fun b => if 0 < gain P 0 b - trouble P t 0 b then 1 else 0) (P 23 0).toNat
def aWants (P : zS) (t : Int) : Int := if isTh P t then wants P t else -2
