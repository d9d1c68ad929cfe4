/-! ===== answers: what is told of a rail ===== -/
abbrev isBk (P : zS) (b : Int) : Prop := 0 ≤ b ∧ b ≤ P 23 0 - 1
abbrev isTh (P : zS) (t : Int) : Prop := 0 ≤ t ∧ t ≤ P 25 0 - 1
abbrev isPl (P : zS) (v : Int) : Prop := 0 ≤ v ∧ v ≤ P 17 0 - 1
def aLight (P : zS) (v : Int) : Int := if isPl P v then light P 0 v else -2
def aBike (P : zS) (b w : Int) : Int := if isBk P b ∧ (0 ≤ w ∧ w ≤ 4) then P 24 (5 * (10 * 0 + b) + w) else -2
def aTrouble (P : zS) (t b : Int) : Int := if isTh P t ∧ isBk P b then trouble P t 0 b else -2
def aGain (P : zS) (b : Int) : Int := if isBk P b then gain P 0 b else -2
theorem zshl1 {k : Int} (hk : 0 ≤ k ∧ k ≤ 30) : iZ 1 <<< (iZ k &&& 31) = iZ ((2 ^ k.toNat : Nat) : Int) := by
  have h := iZ_shl (n := 1) (k := k.toNat) (by omega) (by rw [Nat.one_mul]; exact Nat.pow_lt_pow_right (by decide) (by omega))
  rw [Nat.one_mul, show ((k.toNat : Nat) : Int) = k by omega] at h
  exact h
theorem zshl2 {k : Int} (hk : 0 ≤ k ∧ k ≤ 29) : iZ 2 <<< (iZ k &&& 31) = iZ ((2 * 2 ^ k.toNat : Nat) : Int) := by
  have h := iZ_shl (n := 2) (k := k.toNat) (by omega) (by
    have : 2 ^ k.toNat ≤ 2 ^ 29 := Nat.pow_le_pow_right (by decide) (by omega)
    omega)
  rw [show ((k.toNat : Nat) : Int) = k by omega] at h
  exact h
theorem zshr {z k : Int} (h : I32 z) (hk : 0 ≤ k ∧ k ≤ 31) : iZ z >>> (iZ k &&& 31) = iZ (z / 2 ^ k.toNat) := by
  have h1 := iZ_shr h (k := k.toNat) (by omega)
  rw [show ((k.toNat : Nat) : Int) = k by omega] at h1
  exact h1
theorem zpow_in {k : Int} {M : Nat} (h : k.toNat ≤ M) : 1 ≤ 2 ^ k.toNat ∧ 2 ^ k.toNat ≤ 2 ^ M := ⟨Nat.one_le_two_pow, Nat.pow_le_pow_right (by decide) h⟩
