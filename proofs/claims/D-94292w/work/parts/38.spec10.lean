/-! ===== the tape and its tokens: T the bytes, n how many ===== -/
def fourTo (P : zS) (v : Int) (i : Nat) : zS := fun k j => if k = 5 ∧ P 6 0 ≤ j ∧ j < P 6 0 + i then sx8 (v / 2 ^ (24 - 8 * (j - P 6 0).toNat)) else if k = 6 ∧ j = 0 then P 6 0 + i else P k j
def fourP (P : zS) (v : Int) : zS := fourTo P v 4
theorem fourTo_0 (P : zS) (v : Int) : fourTo P v 0 = P := by
  funext k j
  unfold fourTo
  rw [if_neg (by omega)]
  split
  · next q => rw [q.1, q.2]; simp
  · rfl
theorem fourTo_6 (P : zS) (v : Int) (i : Nat) : fourTo P v i 6 0 = P 6 0 + i := by unfold fourTo; simp
theorem fourTo_s {P : zS} {v : Int} {i : Nat} {x : Int} (hx : x = sx8 (v / 2 ^ (24 - 8 * i))) : fourTo P v (i + 1) = zup (zup (fourTo P v i) 5 (P 6 0 + i) x) 6 0 (P 6 0 + i + 1) := by
  funext k j
  unfold zup fourTo
  by_cases q : k = 6 ∧ j = 0
  · rw [if_neg (by omega), if_pos q, if_pos q]; omega
  · rw [if_neg q, if_neg q, if_neg q]
    by_cases q2 : k = 5 ∧ j = P 6 0 + i
    · rw [if_pos q2, if_pos (by omega), hx, show (j - P 6 0).toNat = i by omega]
    · rw [if_neg q2]
      by_cases q3 : k = 5 ∧ P 6 0 ≤ j ∧ j < P 6 0 + i
      · rw [if_pos q3, if_pos (by omega)]
      · rw [if_neg q3, if_neg (by omega)]
def aFeed (P : zS) : Int := if P 6 0 + 20 ≤ 1600 then P 6 0 + 20 else -1
def pFeed (P : zS) (a b c d e : Int) : zS := if P 6 0 + 20 ≤ 1600 then fourP (fourP (fourP (fourP (fourP P a) b) c) d) e else P
theorem fourP_6 (P : zS) (v : Int) : fourP P v 6 0 = P 6 0 + 4 := fourTo_6 P v 4
def aEnd (P : zS) (n : Int) : Int := if 0 ≤ n ∧ n ≤ P 6 0 then n else -1
def pEnd (P : zS) (n : Int) : zS := if 0 ≤ n ∧ n ≤ P 6 0 then zup P 6 0 n else P
def aFault (P : zS) (w : Int) : Int := if w = 0 then P 14 0 else if w = 1 then P 15 0 else -1
def skF (T : Int → Int) (n : Int) : Nat → Int → Int
  | 0, a => a
  | f + 1, a => if a < n ∧ (T a = 32 ∨ T a = 10) then skF T n f (a + 1) else a
/-- behind blanks -/
def sk (T : Int → Int) (n a : Int) : Int := skF T n (n - a).toNat a
theorem sk_step {T : Int → Int} {n a : Int} (h : a < n) (hb : T a = 32 ∨ T a = 10) : sk T n a = sk T n (a + 1) := by
  unfold sk
  rw [show (n - a).toNat = (n - (a + 1)).toNat + 1 by omega, skF, if_pos ⟨h, hb⟩]
theorem sk_stop {T : Int → Int} {n a : Int} (h : ¬ (a < n ∧ (T a = 32 ∨ T a = 10))) : sk T n a = a := by
  unfold sk
  cases (n - a).toNat with
  | zero => rfl
  | succ f => rw [skF, if_neg h]
theorem skF_in (T : Int → Int) (n : Int) : ∀ (f : Nat) (a : Int), f = (n - a).toNat → a ≤ n → (a ≤ skF T n f a ∧ skF T n f a ≤ n) ∧ (skF T n f a < n → ¬ (T (skF T n f a) = 32 ∨ T (skF T n f a) = 10)) := by
  intro f
  induction f with
  | zero => intro a h1 h2; exact ⟨⟨Int.le_refl _, h2⟩, fun h3 => absurd h3 (by show ¬ a < n; omega)⟩
  | succ f ih =>
    intro a h1 h2
    rw [skF]
    by_cases q : a < n ∧ (T a = 32 ∨ T a = 10)
    · rw [if_pos q]
      have := ih (a + 1) (by omega) (by omega)
      exact ⟨⟨by omega, this.1.2⟩, this.2⟩
    · rw [if_neg q]
      exact ⟨⟨Int.le_refl _, h2⟩, fun h3 z => q ⟨h3, z⟩⟩
theorem sk_in {T : Int → Int} {n a : Int} (h : a ≤ n) : (a ≤ sk T n a ∧ sk T n a ≤ n) ∧ (sk T n a < n → ¬ (T (sk T n a) = 32 ∨ T (sk T n a) = 10)) := skF_in T n _ a rfl h
def rnF (T : Int → Int) (n lo hi : Int) : Nat → Int → Int
  | 0, a => a
  | f + 1, a => if a < n ∧ lo ≤ T a ∧ T a ≤ hi then rnF T n lo hi f (a + 1) else a
/-- behind a run of bytes of lo .. hi -/
def rn (T : Int → Int) (n lo hi a : Int) : Int := rnF T n lo hi (n - a).toNat a
theorem rn_step {T : Int → Int} {n lo hi a : Int} (h : a < n ∧ lo ≤ T a ∧ T a ≤ hi) : rn T n lo hi a = rn T n lo hi (a + 1) := by
  unfold rn
  rw [show (n - a).toNat = (n - (a + 1)).toNat + 1 by omega, rnF, if_pos h]
theorem rn_stop {T : Int → Int} {n lo hi a : Int} (h : ¬ (a < n ∧ lo ≤ T a ∧ T a ≤ hi)) : rn T n lo hi a = a := by
  unfold rn
  cases (n - a).toNat with
  | zero => rfl
  | succ f => rw [rnF, if_neg h]
theorem rnF_in (T : Int → Int) (n lo hi : Int) : ∀ (f : Nat) (a : Int), f = (n - a).toNat → a ≤ n → (a ≤ rnF T n lo hi f a ∧ rnF T n lo hi f a ≤ n) ∧ ∀ j, a ≤ j → j < rnF T n lo hi f a → lo ≤ T j ∧ T j ≤ hi := by
  intro f
  induction f with
  | zero => intro a h1 h2; exact ⟨⟨Int.le_refl _, h2⟩, fun j h3 h4 => absurd h4 (by show ¬ j < a; omega)⟩
  | succ f ih =>
    intro a h1 h2
    rw [rnF]
    by_cases q : a < n ∧ lo ≤ T a ∧ T a ≤ hi
    · rw [if_pos q]
      have h5 := ih (a + 1) (by omega) (by omega)
      refine ⟨⟨by omega, h5.1.2⟩, fun j h3 h4 => ?_⟩
      by_cases z : j = a
      · rw [z]; exact q.2
      · exact h5.2 j (by omega) h4
    · rw [if_neg q]
      exact ⟨⟨Int.le_refl _, h2⟩, fun j h3 h4 => by omega⟩
theorem rn_in {T : Int → Int} {n a : Int} (lo hi : Int) (h : a ≤ n) : (a ≤ rn T n lo hi a ∧ rn T n lo hi a ≤ n) ∧ ∀ j, a ≤ j → j < rn T n lo hi a → lo ≤ T j ∧ T j ≤ hi := rnF_in T n lo hi _ a rfl h
def nmV (T : Int → Int) (p : Int) : Nat → Int
  | 0 => 0
  | k + 1 => if 100000 < nmV T p k then 1000000 else 10 * nmV T p k + T (p + k) - 48
def hsh (T : Int → Int) (p : Int) : Nat → Int
  | 0 => 0
  | k + 1 => if 11 < k then -1 else 27 * hsh T p k + T (p + k) - 96
theorem nmV_in {T : Int → Int} {p : Int} {k : Nat} (h : ∀ j, p ≤ j → j < p + k → 48 ≤ T j ∧ T j ≤ 57) : 0 ≤ nmV T p k ∧ nmV T p k ≤ 1000009 := by
  induction k with
  | zero => exact ⟨Int.le_refl 0, by show (0 : Int) ≤ _; omega⟩
  | succ k ih =>
    have h1 := ih (fun j h1 h2 => h j h1 (by omega))
    have h2 := h (p + k) (by omega) (by omega)
    rw [nmV]
    split <;> omega
theorem hsh_in {T : Int → Int} {p : Int} {k : Nat} (h : ∀ j, p ≤ j → j < p + k → 97 ≤ T j ∧ T j ≤ 122) (hk : k ≤ 12) : 0 ≤ hsh T p k ∧ hsh T p k + 1 ≤ ((27 ^ k : Nat) : Int) := by
  induction k with
  | zero => exact ⟨Int.le_refl 0, by show (0 : Int) + 1 ≤ 1; omega⟩
  | succ k ih =>
    have h1 := ih (fun j h1 h2 => h j h1 (by omega)) (by omega)
    have h2 := h (p + k) (by omega) (by omega)
    rw [hsh, if_neg (by omega), Nat.pow_succ]
    omega
def tkK (T : Int → Int) (n p : Int) : Int := if p = n then 0 else if 97 ≤ T p ∧ T p ≤ 122 then 1 else if 48 ≤ T p ∧ T p ≤ 57 then 2 else if T p = 59 then 3 else 4
def tkE (T : Int → Int) (n p : Int) : Int := if tkK T n p = 0 then p else if tkK T n p = 1 then rn T n 97 122 p else if tkK T n p = 2 then rn T n 48 57 p else p + 1
def tkV (T : Int → Int) (n p : Int) : Int := if tkK T n p = 2 then nmV T p (tkE T n p - p).toNat else 0
def tkW (T : Int → Int) (n p : Int) : Int := if tkK T n p = 1 then hsh T p (tkE T n p - p).toNat else 0
theorem tkK_in (T : Int → Int) (n p : Int) : 0 ≤ tkK T n p ∧ tkK T n p ≤ 4 := by
  unfold tkK
  split
  · omega
  · split
    · omega
    · split
      · omega
      · split <;> omega
theorem tkK_0 {T : Int → Int} {n p : Int} : tkK T n p = 0 ↔ p = n := by
  unfold tkK
  constructor
  · intro h
    by_cases q : p = n
    · exact q
    · rw [if_neg q] at h
      split at h
      · omega
      · split at h
        · omega
        · split at h <;> omega
  · intro h; rw [if_pos h]
theorem tkE_in {T : Int → Int} {n p : Int} (h : p ≤ n) : (p ≤ tkE T n p ∧ tkE T n p ≤ n) ∧ (p < n → p < tkE T n p) := by
  have h0 : tkK T n p = 0 ↔ p = n := tkK_0
  have h1 := rn_in (T := T) 97 122 h
  have h2 := rn_in (T := T) 48 57 h
  unfold tkE
  split
  · omega
  · split
    · next q1 q2 =>
      have h3 : 97 ≤ T p ∧ T p ≤ 122 := by
        unfold tkK at q2
        split at q2
        · omega
        · split at q2
          · assumption
          · split at q2
            · omega
            · split at q2 <;> omega
      have h4 := rn_step (T := T) (n := n) (a := p) (lo := 97) (hi := 122) ⟨by omega, h3⟩
      have h5 := rn_in (T := T) (a := p + 1) (n := n) 97 122 (by omega)
      omega
    · split
      · next q1 q2 q3 =>
        have h3 : 48 ≤ T p ∧ T p ≤ 57 := by
          unfold tkK at q3
          split at q3
          · omega
          · split at q3
            · omega
            · split at q3
              · assumption
              · split at q3 <;> omega
        have h4 := rn_step (T := T) (n := n) (a := p) (lo := 48) (hi := 57) ⟨by omega, h3⟩
        have h5 := rn_in (T := T) (a := p + 1) (n := n) 48 57 (by omega)
        omega
      · omega
theorem tkV_in {T : Int → Int} {n p : Int} (h : p ≤ n) : 0 ≤ tkV T n p ∧ tkV T n p ≤ 1000009 := by
  unfold tkV
  split
  · next q =>
    have h2 := rn_in (T := T) 48 57 h
    have e : tkE T n p = rn T n 48 57 p := by unfold tkE; rw [if_neg (by omega), if_neg (by omega), if_pos q]
    rw [e]
    exact nmV_in (fun j h3 h4 => h2.2 j h3 (by omega))
  · omega
/-- the token at p is read -/
def TokAt (T : Int → Int) (n p : Int) (S : zS) : Prop := S 7 0 = tkE T n p ∧ S 8 0 = tkK T n p ∧ S 9 0 = p ∧ S 10 0 = tkV T n p ∧ S 11 0 = tkW T n p ∧ 0 ≤ p ∧ p ≤ n
/-- where the reading stands: (0, place of the token), or (what is wrong, where) -/
def MS (T : Int → Int) (n : Int) (st : Int × Int) (S : zS) : Prop := S 12 0 = st.1 ∧ (st.1 = 0 → TokAt T n st.2 S) ∧ (st.1 ≠ 0 → S 13 0 = st.2)
theorem MS.mv {T : Int → Int} {n : Int} {st : Int × Int} {S S1 : zS} {ks : List Nat} (h : MS T n st S) (hF : Fr ks S S1) (hk : ks.all (fun k => decide (k < 7 ∨ 13 < k)) = true) : MS T n st S1 := by
  have e : ∀ k, 7 ≤ k → k ≤ 13 → S1 k = S k := fun k h1 h2 => hF k (fun z => by
    have := List.all_eq_true.mp hk k z
    simp at this
    omega)
  unfold MS TokAt at *
  rw [e 7 (by decide) (by decide), e 8 (by decide) (by decide), e 9 (by decide) (by decide), e 10 (by decide) (by decide), e 11 (by decide) (by decide), e 12 (by decide) (by decide), e 13 (by decide) (by decide)]
  exact h
def nx (T : Int → Int) (n p : Int) : Int := sk T n (tkE T n p)
theorem nx_in {T : Int → Int} {n p : Int} (h : p ≤ n) : (p ≤ nx T n p ∧ nx T n p ≤ n) ∧ (p < n → p < nx T n p) := by
  have h1 := tkE_in (T := T) h
  have h2 := (sk_in (T := T) h1.1.2).1
  unfold nx
  omega
abbrev rS : Type := Int × Int
def failS (st : rS) (k : Int) : rS := if st.1 = 0 then (k, st.2) else st
abbrev isW (T : Int → Int) (n : Int) (st : rS) (w : Int) : Prop := st.1 = 0 ∧ tkK T n st.2 = 1 ∧ tkW T n st.2 = w
def nextS (T : Int → Int) (n : Int) (st : rS) : rS := if st.1 = 0 then (0, nx T n st.2) else st
def takesS (T : Int → Int) (n : Int) (st : rS) (w : Int) : rS := if isW T n st w then nextS T n st else st
def asksS (T : Int → Int) (n : Int) (st : rS) (w : Int) : rS := if isW T n st w then nextS T n st else failS st 1
abbrev numOk (T : Int → Int) (n : Int) (st : rS) (lo hi : Int) : Prop := st.1 = 0 ∧ tkK T n st.2 = 2 ∧ lo ≤ tkV T n st.2 ∧ tkV T n st.2 ≤ hi
def numS (T : Int → Int) (n : Int) (st : rS) (lo hi : Int) : rS := if st.1 = 0 then (if tkK T n st.2 = 2 then (if lo ≤ tkV T n st.2 ∧ tkV T n st.2 ≤ hi then (0, nx T n st.2) else (2, st.2)) else (1, st.2)) else st
def numV (T : Int → Int) (n : Int) (st : rS) (lo hi : Int) : Int := if numOk T n st lo hi then tkV T n st.2 else lo
def endsS (T : Int → Int) (n : Int) (st : rS) : rS := if st.1 = 0 then (if tkK T n st.2 = 3 then (0, nx T n st.2) else (1, st.2)) else st
/-- a place that is one -/
def SIn (n : Int) (st : rS) : Prop := st.1 = 0 → 0 ≤ st.2 ∧ st.2 ≤ n
theorem MS.at {T : Int → Int} {n : Int} {st : rS} {S : zS} (h : MS T n st S) (h0 : st.1 = 0) : TokAt T n st.2 S := h.2.1 h0
theorem MS.go {T : Int → Int} {n p : Int} {S : zS} (h : TokAt T n p S) (h0 : S 12 0 = 0) : MS T n (0, p) S := ⟨h0, fun _ => h, fun z => absurd rfl z⟩
theorem MS.bad {T : Int → Int} {n k p : Int} {S : zS} (h1 : S 12 0 = k) (h2 : S 13 0 = p) (hk : k ≠ 0) : MS T n (k, p) S := ⟨h1, fun z => absurd z hk, fun _ => h2⟩
def numWS (T : Int → Int) (n : Int) (st : rS) (w lo hi : Int) : rS := numS T n (asksS T n st w) lo hi
def numWV (T : Int → Int) (n : Int) (st : rS) (w lo hi : Int) : Int := numV T n (asksS T n st w) lo hi
theorem numV_in {T : Int → Int} {n : Int} {st : rS} {S : zS} (h : MS T n st S) {lo : Int} (hl : I32 lo) (hi : Int) : I32 (numV T n st lo hi) := by
  unfold numV
  split
  · next q =>
    have := tkV_in (T := T) (h.at q.1).2.2.2.2.2.2
    omega
  · exact hl
theorem tok_0 {T : Int → Int} {n p : Int} {S : zS} (hp : 0 ≤ p) (e : p = n) (h7 : S 7 0 = p) (h8 : S 8 0 = 0) (h9 : S 9 0 = p) (h10 : S 10 0 = 0) (h11 : S 11 0 = 0) : TokAt T n p S := by
  have hk : tkK T n p = 0 := tkK_0.mpr e
  refine ⟨?_, by rw [h8, hk], h9, ?_, ?_, hp, by omega⟩
  · rw [h7]; unfold tkE; rw [if_pos hk]
  · rw [h10]; unfold tkV; rw [if_neg (by omega)]
  · rw [h11]; unfold tkW; rw [if_neg (by omega)]
theorem tok_1 {T : Int → Int} {n p : Int} {S : zS} {k : Nat} (hp : 0 ≤ p ∧ p < n) (hl : 97 ≤ T p ∧ T p ≤ 122) (hr : rn T n 97 122 p = p + (k : Int)) (h7 : S 7 0 = p + (k : Int)) (h8 : S 8 0 = 1) (h9 : S 9 0 = p) (h10 : S 10 0 = 0) (h11 : S 11 0 = hsh T p k) : TokAt T n p S := by
  have hk : tkK T n p = 1 := by unfold tkK; rw [if_neg (by omega), if_pos hl]
  have he : tkE T n p = p + (k : Int) := by unfold tkE; rw [if_neg (by omega), if_pos hk, hr]
  refine ⟨by rw [h7, he], by rw [h8, hk], h9, ?_, ?_, hp.1, by omega⟩
  · rw [h10]; unfold tkV; rw [if_neg (by omega)]
  · rw [h11]; unfold tkW; rw [if_pos hk, he]; congr 1; omega
theorem tok_2 {T : Int → Int} {n p : Int} {S : zS} {k : Nat} (hp : 0 ≤ p ∧ p < n) (hl : 48 ≤ T p ∧ T p ≤ 57) (hr : rn T n 48 57 p = p + (k : Int)) (h7 : S 7 0 = p + (k : Int)) (h8 : S 8 0 = 2) (h9 : S 9 0 = p) (h10 : S 10 0 = nmV T p k) (h11 : S 11 0 = 0) : TokAt T n p S := by
  have hk : tkK T n p = 2 := by unfold tkK; rw [if_neg (by omega), if_neg (by omega), if_pos hl]
  have he : tkE T n p = p + (k : Int) := by unfold tkE; rw [if_neg (by omega), if_neg (by omega), if_pos hk, hr]
  refine ⟨by rw [h7, he], by rw [h8, hk], h9, ?_, ?_, hp.1, by omega⟩
  · rw [h10]; unfold tkV; rw [if_pos hk, he]; congr 1; omega
  · rw [h11]; unfold tkW; rw [if_neg (by omega)]
theorem tok_3 {T : Int → Int} {n p : Int} {S : zS} (hp : 0 ≤ p ∧ p < n) (hl : ¬ (97 ≤ T p ∧ T p ≤ 122)) (hd : ¬ (48 ≤ T p ∧ T p ≤ 57)) (h7 : S 7 0 = p + 1) (h8 : S 8 0 = if T p = 59 then 3 else 4) (h9 : S 9 0 = p) (h10 : S 10 0 = 0) (h11 : S 11 0 = 0) : TokAt T n p S := by
  have hk : tkK T n p = if T p = 59 then 3 else 4 := by unfold tkK; rw [if_neg (by omega), if_neg hl, if_neg hd]
  have h3 : 3 ≤ tkK T n p := by rw [hk]; split <;> omega
  refine ⟨?_, by rw [h8, hk], h9, ?_, ?_, hp.1, by omega⟩
  · rw [h7]; unfold tkE; rw [if_neg (by omega), if_neg (by omega), if_neg (by omega)]
  · rw [h10]; unfold tkV; rw [if_neg (by omega)]
  · rw [h11]; unfold tkW; rw [if_neg (by omega)]
