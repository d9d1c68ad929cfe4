/-! ===== what the system says, in numbers: P holds the fields of LockRailModel by number ===== -/
theorem zmul_in {a b A B : Int} (ha : 0 ≤ a ∧ a ≤ A) (hb : 0 ≤ b ∧ b ≤ B) : 0 ≤ a * b ∧ a * b ≤ A * B :=
  ⟨Int.mul_nonneg ha.1 hb.1, Int.mul_le_mul ha.2 hb.2 hb.1 (by omega)⟩
theorem zdiv_in {a d A : Int} (ha : 0 ≤ a ∧ a ≤ A) (hd : 0 < d) : 0 ≤ a / d ∧ a / d ≤ A / d := ⟨Int.ediv_nonneg ha.1 (by omega), Int.ediv_le_ediv hd ha.2⟩
theorem zdiv_le {a d : Int} (ha : 0 ≤ a) (hd : 0 < d) : 0 ≤ a / d ∧ a / d ≤ a := ⟨Int.ediv_nonneg ha (by omega), Int.ediv_le_self _ ha⟩
theorem zsm_in {f : Nat → Int} {n : Nat} {M : Int} (h : ∀ k, k < n → 0 ≤ f k ∧ f k ≤ M) : 0 ≤ zsm f n ∧ zsm f n ≤ n * M := by
  induction n with
  | zero => simp [zsm]
  | succ n ih =>
    have h1 := ih (fun k hk => h k (by omega))
    have h2 := h n (by omega)
    rw [zsm_s]
    have e : ((n + 1 : Nat) : Int) * M = n * M + M := by rw [Int.natCast_add, Int.add_mul]; simp
    omega
def zabove (v : Int) : Int := if 0 < v then v else 0
def zapart (a b : Int) : Int := if a < b then b - a else a - b
theorem zapart_in {a b : Int} (ha : 0 ≤ a ∧ a ≤ 19) (hb : 0 ≤ b ∧ b ≤ 19) : 0 ≤ zapart a b ∧ zapart a b ≤ 19 := by unfold zapart; split <;> omega
theorem zabove_in {v M : Int} (h : v ≤ M) (hM : 0 ≤ M) : 0 ≤ zabove v ∧ zabove v ≤ M := by unfold zabove; split <;> omega
/-- a rail within its bounds: r is 0 (that which holds), 1 .. 3 (images), 4 (that which is read) -/
def WfR (P : zS) (r : Int) : Prop :=
  (0 ≤ P 17 r ∧ P 17 r ≤ 20) ∧ (0 ≤ P 18 r ∧ P 18 r ≤ 60) ∧ (0 ≤ P 19 r ∧ P 19 r ≤ 4) ∧ (0 ≤ P 21 r ∧ P 21 r ≤ 5) ∧ (0 ≤ P 23 r ∧ P 23 r ≤ 10) ∧ (0 ≤ P 25 r ∧ P 25 r ≤ 6) ∧
  (∀ i : Int, 0 ≤ i → i < P 19 r → (0 ≤ P 20 (2 * (4 * r + i)) ∧ P 20 (2 * (4 * r + i)) ≤ 19) ∧ (0 ≤ P 20 (2 * (4 * r + i) + 1) ∧ P 20 (2 * (4 * r + i) + 1) ≤ 99)) ∧
  (∀ i : Int, 0 ≤ i → i < P 21 r → (0 ≤ P 22 (4 * (5 * r + i)) ∧ P 22 (4 * (5 * r + i)) ≤ 999) ∧ ∀ t : Int, 0 ≤ t → t ≤ 2 → 1 ≤ P 22 (4 * (5 * r + i) + 1 + t) ∧ P 22 (4 * (5 * r + i) + 1 + t) ≤ 999) ∧
  (∀ b : Int, 0 ≤ b → b < P 23 r → (0 ≤ P 24 (5 * (10 * r + b)) ∧ P 24 (5 * (10 * r + b)) ≤ 9999) ∧ (0 ≤ P 24 (5 * (10 * r + b) + 1) ∧ P 24 (5 * (10 * r + b) + 1) ≤ 9999) ∧ (0 ≤ P 24 (5 * (10 * r + b) + 2) ∧ P 24 (5 * (10 * r + b) + 2) ≤ 19) ∧ (-1 ≤ P 24 (5 * (10 * r + b) + 3) ∧ P 24 (5 * (10 * r + b) + 3) < P 21 r) ∧ (0 ≤ P 24 (5 * (10 * r + b) + 4) ∧ P 24 (5 * (10 * r + b) + 4) ≤ 1)) ∧
  (∀ t : Int, 0 ≤ t → t < P 25 r → (0 ≤ P 26 (5 * (6 * r + t)) ∧ P 26 (5 * (6 * r + t)) ≤ 2) ∧ (0 ≤ P 26 (5 * (6 * r + t) + 1) ∧ P 26 (5 * (6 * r + t) + 1) ≤ 100) ∧ (0 ≤ P 26 (5 * (6 * r + t) + 2) ∧ P 26 (5 * (6 * r + t) + 2) ≤ 99) ∧ (0 ≤ P 26 (5 * (6 * r + t) + 3) ∧ P 26 (5 * (6 * r + t) + 3) ≤ 2)) ∧
  ((0 ≤ P 27 (7 * r) ∧ P 27 (7 * r) ≤ 999) ∧ (0 ≤ P 27 (7 * r + 1) ∧ P 27 (7 * r + 1) ≤ 100) ∧ (0 ≤ P 27 (7 * r + 2) ∧ P 27 (7 * r + 2) ≤ 1) ∧ (0 ≤ P 27 (7 * r + 3) ∧ P 27 (7 * r + 3) ≤ 1) ∧ (0 ≤ P 27 (7 * r + 4) ∧ P 27 (7 * r + 4) ≤ 999) ∧ (0 ≤ P 27 (7 * r + 5) ∧ P 27 (7 * r + 5) ≤ 99) ∧ (0 ≤ P 27 (7 * r + 6) ∧ P 27 (7 * r + 6) ≤ 1)) ∧
  (∀ b c : Int, 0 ≤ b → b < P 23 r → 0 ≤ c → c < P 23 r → b ≠ c → P 24 (5 * (10 * r + b) + 2) ≠ P 24 (5 * (10 * r + c) + 2)) ∧
  ((0 ≤ P 31 0 ∧ P 31 0 ≤ 19) ∧ (0 ≤ P 32 0 ∧ P 32 0 ≤ 99))
theorem WfR.places {P : zS} {r : Int} (h : WfR P r) : 0 ≤ P 17 r ∧ P 17 r ≤ 20 := h.1
theorem WfR.nights {P : zS} {r : Int} (h : WfR P r) : 0 ≤ P 18 r ∧ P 18 r ≤ 60 := h.2.1
theorem WfR.lamps {P : zS} {r : Int} (h : WfR P r) : 0 ≤ P 19 r ∧ P 19 r ≤ 4 := h.2.2.1
theorem WfR.locks {P : zS} {r : Int} (h : WfR P r) : 0 ≤ P 21 r ∧ P 21 r ≤ 5 := h.2.2.2.1
theorem WfR.bikes {P : zS} {r : Int} (h : WfR P r) : 0 ≤ P 23 r ∧ P 23 r ≤ 10 := h.2.2.2.2.1
theorem WfR.thieves {P : zS} {r : Int} (h : WfR P r) : 0 ≤ P 25 r ∧ P 25 r ≤ 6 := h.2.2.2.2.2.1
theorem WfR.lamp {P : zS} {r : Int} (h : WfR P r) {i : Int} (hi : 0 ≤ i ∧ i < P 19 r) : (0 ≤ P 20 (2 * (4 * r + i)) ∧ P 20 (2 * (4 * r + i)) ≤ 19) ∧ (0 ≤ P 20 (2 * (4 * r + i) + 1) ∧ P 20 (2 * (4 * r + i) + 1) ≤ 99) := h.2.2.2.2.2.2.1 i hi.1 hi.2
theorem WfR.price {P : zS} {r : Int} (h : WfR P r) {i : Int} (hi : 0 ≤ i ∧ i < P 21 r) : 0 ≤ P 22 (4 * (5 * r + i)) ∧ P 22 (4 * (5 * r + i)) ≤ 999 := (h.2.2.2.2.2.2.2.1 i hi.1 hi.2).1
theorem WfR.cut {P : zS} {r : Int} (h : WfR P r) {i t : Int} (hi : 0 ≤ i ∧ i < P 21 r) (ht : 0 ≤ t ∧ t ≤ 2) : 1 ≤ P 22 (4 * (5 * r + i) + 1 + t) ∧ P 22 (4 * (5 * r + i) + 1 + t) ≤ 999 := (h.2.2.2.2.2.2.2.1 i hi.1 hi.2).2 t ht.1 ht.2
theorem WfR.bike {P : zS} {r : Int} (h : WfR P r) {b : Int} (hb : 0 ≤ b ∧ b < P 23 r) : (0 ≤ P 24 (5 * (10 * r + b)) ∧ P 24 (5 * (10 * r + b)) ≤ 9999) ∧ (0 ≤ P 24 (5 * (10 * r + b) + 1) ∧ P 24 (5 * (10 * r + b) + 1) ≤ 9999) ∧ (0 ≤ P 24 (5 * (10 * r + b) + 2) ∧ P 24 (5 * (10 * r + b) + 2) ≤ 19) ∧ (-1 ≤ P 24 (5 * (10 * r + b) + 3) ∧ P 24 (5 * (10 * r + b) + 3) < P 21 r) ∧ (0 ≤ P 24 (5 * (10 * r + b) + 4) ∧ P 24 (5 * (10 * r + b) + 4) ≤ 1) := h.2.2.2.2.2.2.2.2.1 b hb.1 hb.2
theorem WfR.thief0 {P : zS} (h : WfR P 0) {t : Int} (ht : 0 ≤ t ∧ t < P 25 0) : (0 ≤ P 26 (5 * t) ∧ P 26 (5 * t) ≤ 2) ∧ (0 ≤ P 26 (5 * t + 1) ∧ P 26 (5 * t + 1) ≤ 100) ∧ (0 ≤ P 26 (5 * t + 2) ∧ P 26 (5 * t + 2) ≤ 99) ∧ (0 ≤ P 26 (5 * t + 3) ∧ P 26 (5 * t + 3) ≤ 2) := by
  have := h.2.2.2.2.2.2.2.2.2.1 t ht.1 ht.2
  rw [show (5 * (6 * 0 + t) : Int) = 5 * t by omega] at this
  exact this
theorem WfR.set {P : zS} {r : Int} (h : WfR P r) : (0 ≤ P 27 (7 * r) ∧ P 27 (7 * r) ≤ 999) ∧ (0 ≤ P 27 (7 * r + 1) ∧ P 27 (7 * r + 1) ≤ 100) ∧ (0 ≤ P 27 (7 * r + 2) ∧ P 27 (7 * r + 2) ≤ 1) ∧ (0 ≤ P 27 (7 * r + 3) ∧ P 27 (7 * r + 3) ≤ 1) ∧ (0 ≤ P 27 (7 * r + 4) ∧ P 27 (7 * r + 4) ≤ 999) ∧ (0 ≤ P 27 (7 * r + 5) ∧ P 27 (7 * r + 5) ≤ 99) ∧ (0 ≤ P 27 (7 * r + 6) ∧ P 27 (7 * r + 6) ≤ 1) := h.2.2.2.2.2.2.2.2.2.2.1
theorem WfR.apart {P : zS} {r : Int} (h : WfR P r) {b c : Int} (hb : 0 ≤ b ∧ b < P 23 r) (hc : 0 ≤ c ∧ c < P 23 r) (hn : b ≠ c) : P 24 (5 * (10 * r + b) + 2) ≠ P 24 (5 * (10 * r + c) + 2) := h.2.2.2.2.2.2.2.2.2.2.2.1 b c hb.1 hb.2 hc.1 hc.2 hn
theorem WfR.more {P : zS} {r : Int} (h : WfR P r) : (0 ≤ P 31 0 ∧ P 31 0 ≤ 19) ∧ (0 ≤ P 32 0 ∧ P 32 0 ≤ 99) := h.2.2.2.2.2.2.2.2.2.2.2.2
/-- light, trouble, gain -/
def lightF (P : zS) (r pl : Int) (k : Nat) : Int := zabove (P 20 (2 * (4 * r + (k : Int)) + 1) - zapart (P 20 (2 * (4 * r + (k : Int)))) pl)
def light (P : zS) (r pl : Int) : Int := (if P 27 (7 * r + 6) = 1 then P 27 (7 * r + 5) else 0) + zsm (lightF P r pl) (P 19 r).toNat + zabove (P 32 0 - zapart (P 31 0) pl)
def trouble (P : zS) (t r b : Int) : Int := if P 24 (5 * (10 * r + b) + 3) = -1 then 0 else P 22 (4 * (5 * r + P 24 (5 * (10 * r + b) + 3)) + 1 + P 26 (5 * t)) * P 26 (5 * t + 2) * (1 + light P r (P 24 (5 * (10 * r + b) + 2))) / 100
def marked (P : zS) (r : Int) : Int := zsm (fun b => P 24 (5 * (10 * r + (b : Int)) + 4)) (P 23 r).toNat
def gain (P : zS) (r b : Int) : Int := if P 27 (7 * r + 2) = 1 then P 24 (5 * (10 * r + b) + 1) * (100 * P 23 r - P 27 (7 * r + 1) * marked P r) / (100 * P 23 r) else if P 24 (5 * (10 * r + b) + 4) = 1 then P 24 (5 * (10 * r + b) + 1) * (100 - P 27 (7 * r + 1)) / 100 else P 24 (5 * (10 * r + b) + 1)
theorem lightF_in {P : zS} {r pl : Int} (h : WfR P r) (hp : 0 ≤ pl ∧ pl ≤ 19) {k : Nat} (hk : (k : Int) < P 19 r) : 0 ≤ lightF P r pl k ∧ lightF P r pl k ≤ 99 := by
  have h1 := h.lamp (i := k) ⟨by omega, hk⟩
  have h2 := zapart_in h1.1 hp
  exact zabove_in (by omega) (by omega)
theorem light_in {P : zS} {r pl : Int} (h : WfR P r) (hp : 0 ≤ pl ∧ pl ≤ 19) : 0 ≤ light P r pl ∧ light P r pl ≤ 594 := by
  have hl := h.lamps
  have h1 : 0 ≤ zsm (lightF P r pl) (P 19 r).toNat ∧ zsm (lightF P r pl) (P 19 r).toNat ≤ ((P 19 r).toNat : Int) * 99 := zsm_in fun k hk => lightF_in h hp (by omega)
  have h2 := zabove_in (v := P 32 0 - zapart (P 31 0) pl) (M := 99) (by have := zapart_in h.more.1 hp; have := h.more; omega) (by omega)
  have h3 := h.set
  unfold light
  split <;> omega
theorem trouble_in {P : zS} {t r b : Int} (h : WfR P r) (h0 : WfR P 0) (ht : 0 ≤ t ∧ t < P 25 0) (hb : 0 ≤ b ∧ b < P 23 r) : 0 ≤ trouble P t r b ∧ trouble P t r b ≤ 588461 := by
  unfold trouble
  split
  · omega
  · have h1 := h.bike hb
    have h2 := h0.thief0 ht
    have h3 := h.cut (i := P 24 (5 * (10 * r + b) + 3)) (t := P 26 (5 * t)) (by omega) h2.1
    have h4 := light_in h h1.2.2.1
    have h5 := zmul_in (A := 999) (B := 99) (by omega : 0 ≤ P 22 (4 * (5 * r + P 24 (5 * (10 * r + b) + 3)) + 1 + P 26 (5 * t)) ∧ _) h2.2.2.1
    have h6 := zmul_in (B := 595) h5 (by omega : 0 ≤ 1 + light P r (P 24 (5 * (10 * r + b) + 2)) ∧ _)
    have h7 := zdiv_in h6 (by decide : (0 : Int) < 100)
    omega
theorem marked_in {P : zS} {r : Int} (h : WfR P r) : 0 ≤ marked P r ∧ marked P r ≤ P 23 r := by
  have hb := h.bikes
  have := zsm_in (f := fun b => P 24 (5 * (10 * r + (b : Int)) + 4)) (n := (P 23 r).toNat) (M := 1) (fun k hk => (h.bike (b := k) (by omega)).2.2.2.2)
  unfold marked
  omega
theorem gain_pos {P : zS} {r b : Int} (h : WfR P r) (hb : 0 ≤ b ∧ b < P 23 r) : 0 ≤ 100 * P 23 r - P 27 (7 * r + 1) * marked P r ∧ 100 * P 23 r - P 27 (7 * r + 1) * marked P r ≤ 100 * P 23 r := by
  have h1 := zmul_in h.set.2.1 (marked_in h)
  omega
theorem gain_in {P : zS} {r b : Int} (h : WfR P r) (hb : 0 ≤ b ∧ b < P 23 r) : 0 ≤ gain P r b ∧ gain P r b ≤ 9999 := by
  have h1 := h.bike hb
  have h2 := gain_pos h hb
  have h3 := h.set
  unfold gain
  split
  · have h4 := zmul_in h1.2.1 h2
    refine ⟨Int.ediv_nonneg h4.1 (by omega), Int.ediv_le_of_le_mul (by omega) h4.2⟩
  · split
    · have h4 := zmul_in (B := 100) h1.2.1 (by omega : 0 ≤ 100 - P 27 (7 * r + 1) ∧ _)
      omega
    · exact h1.2.1
