/-! ===== rows of numbers; images; counts ===== -/
def cutF (v w : Int) : Int := if w = 0 then sx8 v else if w = 1 then sx16 v else if w = 2 then sx32 v else v
theorem cutF_in {v : Int} (h : I64 v) (w : Int) : I64 (cutF v w) := by
  have := sx8_in v; have := sx16_in v; have := sx32_in v
  unfold cutF
  split
  · omega
  · split
    · omega
    · split <;> omega
abbrev rowOk (s w n : Int) : Prop := isSl s ∧ (0 ≤ w ∧ w ≤ 3) ∧ n ≤ 60
def zeroF (P : zS) (a : Int) : Nat → zS
  | 0 => P
  | k + 1 => zup (zeroF P a k) 3 (a + k) 0
theorem zeroF_s (P : zS) (a : Int) (k : Nat) : zeroF P a (k + 1) = zup (zeroF P a k) 3 (a + k) 0 := rfl
def aRow (s w n : Int) : Int := if rowOk s w n then (if n < 0 then -3 else 0) else -2
def pRow (P : zS) (s w n : Int) : zS := if rowOk s w n ∧ 0 ≤ n then zeroF (zup (zup P 1 s w) 2 s n) (60 * s) n.toNat else P
def aWrite (P : zS) (s i : Int) : Int := if isSl s then (if P 1 s = -1 then -6 else if 0 ≤ i ∧ i ≤ P 2 s - 1 then 0 else -7) else -2
def pWrite (P : zS) (s i v : Int) : zS := if isSl s ∧ P 1 s ≠ -1 ∧ 0 ≤ i ∧ i ≤ P 2 s - 1 then zup P 3 (60 * s + i) (cutF v (P 1 s)) else P
abbrev pasteOk (P : zS) (s i t k n : Int) : Prop := 0 ≤ i ∧ 0 ≤ k ∧ 0 ≤ n ∧ i + n ≤ P 2 s ∧ k + n ≤ P 2 t
def aPaste (P : zS) (s i t k n : Int) : Int := if isSl s ∧ isSl t then (if P 1 s = -1 ∨ P 1 t = -1 then -6 else if P 1 s = P 1 t then (if pasteOk P s i t k n then 0 else -7) else -8) else -2
def putF (P : zS) (f : Nat) (b : Int) (g : Int → Int) : Nat → zS
  | 0 => P
  | k + 1 => zup (putF P f b g k) f (b + k) (g k)
theorem putF_s (P : zS) (f : Nat) (b : Int) (g : Int → Int) (k : Nat) : putF P f b g (k + 1) = zup (putF P f b g k) f (b + k) (g k) := rfl
theorem putF_at (P : zS) (f : Nat) (b : Int) (g : Int → Int) (n : Nat) (k : Nat) (j : Int) : putF P f b g n k j = if k = f ∧ b ≤ j ∧ j < b + n then g (j - b) else P k j := by
  induction n with
  | zero => rw [if_neg (by omega)]; rfl
  | succ n ih =>
    rw [putF_s]
    unfold zup
    by_cases q : k = f ∧ j = b + (n : Int)
    · rw [if_pos q, if_pos (by omega), show j - b = (n : Int) by omega]
    · rw [if_neg q, ih]
      by_cases q2 : k = f ∧ b ≤ j ∧ j < b + n
      · rw [if_pos q2, if_pos (by omega)]
      · rw [if_neg q2, if_neg (by omega)]
def pPaste (P : zS) (s i t k n : Int) : zS := if (isSl s ∧ isSl t) ∧ (P 1 s ≠ -1 ∧ P 1 t ≠ -1) ∧ P 1 s = P 1 t ∧ pasteOk P s i t k n then putF P 3 (60 * t + k) (fun x => P 3 (60 * s + i + x)) n.toNat else P
/-- a row of many, of a rail a to a rail b -/
def cp1 (P : zS) (f : Nat) (n a b : Int) : zS := fun k j => if k = f ∧ n * b ≤ j ∧ j < n * b + n then P f (n * a + (j - n * b)) else P k j
theorem cp1_of (P : zS) (f : Nat) (n a b : Int) (hn : 0 ≤ n) : cp1 P f n a b = putF P f (n * b) (fun x => P f (n * a + x)) n.toNat := by
  funext k j
  rw [putF_at, cp1, Int.toNat_of_nonneg hn]
theorem cp1_k (P : zS) {f k : Nat} (n a b : Int) (h : k ≠ f) : cp1 P f n a b k = P k := by
  funext j
  rw [cp1, if_neg (fun z => h z.1)]
theorem cp1_s (P : zS) (f : Nat) (n a b : Int) {j : Int} (h : 0 ≤ j ∧ j < n) : cp1 P f n a b f (n * b + j) = P f (n * a + j) := by
  rw [cp1, if_pos ⟨rfl, by omega, by omega⟩]
  congr 1
  omega
theorem cp1_n (P : zS) (f : Nat) (n a b : Int) {j : Int} (h : j < n * b ∨ n * b + n ≤ j) : cp1 P f n a b f j = P f j := by
  rw [cp1, if_neg (by omega)]
def cpRail (P : zS) (a b : Int) : zS := cp1 (cp1 (cp1 (cp1 (cp1 (cp1 (cp1 (cp1 (cp1 (cp1 (cp1 (cp1 (cp1 P 16 1 a b) 17 1 a b) 18 1 a b) 19 1 a b) 20 8 a b) 21 1 a b) 22 20 a b) 23 1 a b) 24 50 a b) 25 1 a b) 26 30 a b) 27 7 a b) 29 17 a b
abbrev isIm (k : Int) : Prop := 0 ≤ k ∧ k ≤ 2
def aKeep (k : Int) : Int := if isIm k then 0 else -2
def pKeep (P : zS) (k : Int) : zS := if isIm k then zup (cpRail P 0 (1 + k)) 30 k 1 else P
def aBack (P : zS) (k : Int) : Int := if isIm k then (if P 30 k = 0 then -6 else 0) else -2
def pBack (P : zS) (k : Int) : zS := if isIm k ∧ P 30 k ≠ 0 then cpRail P (1 + k) 0 else P
def slF (P : zS) (n : Nat) : Int := zsm (fun k => if P 1 (k : Int) = -1 then 0 else 1) n
def aCount (P : zS) (w : Int) : Int :=
  if w = 0 then P 17 0 else if w = 1 then P 18 0 else if w = 2 then P 19 0 else if w = 3 then P 21 0 else if w = 4 then P 23 0 else if w = 5 then P 25 0 else if w = 6 then P 16 0 else if w = 7 then P 6 0 else
  if w = 8 then marked P 0 else if w = 9 then P 27 6 else if w = 10 then (if isRl P then nO P else 0) else if w = 11 then P 29 0 else if w = 12 then slF P 4 else -1
