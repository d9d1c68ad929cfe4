/-! ===== a night ===== -/
theorem zsm_ext {f g : Nat → Int} (n : Nat) (h : ∀ k, k < n → f k = g k) : zsm f n = zsm g n := zsm_congr h
theorem zsm_add (f g : Nat → Int) (n : Nat) : zsm (fun k => f k + g k) n = zsm f n + zsm g n := by
  induction n with
  | zero => rfl
  | succ n ih => rw [zsm_s, zsm_s, zsm_s, ih]; omega
theorem zsm_sub (f g : Nat → Int) (n : Nat) : zsm (fun k => f k - g k) n = zsm f n - zsm g n := by
  induction n with
  | zero => rfl
  | succ n ih => rw [zsm_s, zsm_s, zsm_s, ih]; omega
theorem zsm_z (n : Nat) : zsm (fun _ => 0) n = 0 := by
  induction n with
  | zero => rfl
  | succ n ih => rw [zsm_s, ih]; rfl
theorem zsm_one (j : Nat) (c : Int) (n : Nat) : zsm (fun k => if k = j then c else 0) n = if j < n then c else 0 := by
  induction n with
  | zero => simp [zsm]
  | succ n ih =>
    rw [zsm_s, ih]
    by_cases q : n = j
    · subst q; simp
    · rw [if_neg q]
      by_cases q2 : j < n
      · rw [if_pos q2, if_pos (by omega)]; omega
      · rw [if_neg q2, if_neg (by omega)]; omega
theorem zsm_nn {f : Nat → Int} {n : Nat} (h : ∀ k, k < n → 0 ≤ f k) : 0 ≤ zsm f n := by
  induction n with
  | zero => exact Int.le_refl 0
  | succ n ih => rw [zsm_s]; have := ih (fun k hk => h k (by omega)); have := h n (by omega); omega
theorem zsm_le {f : Nat → Int} {n j : Nat} (h : ∀ k, k < n → 0 ≤ f k) (hj : j < n) : f j ≤ zsm f n := by
  induction n with
  | zero => omega
  | succ n ih =>
    rw [zsm_s]
    by_cases q : j = n
    · subst q; have := zsm_nn (f := f) (n := j) (fun k hk => h k (by omega)); omega
    · have := ih (fun k hk => h k (by omega)) (by omega); have := h n (by omega); omega
def nN (P : zS) : Nat := 2 ^ (P 23 0).toNat
theorem nN_in {P : zS} (hW : WfR P 0) : 1 ≤ nN P ∧ nN P ≤ 1024 := by
  have h := zpow_in (k := P 23 0) (M := 10) (by have := hW.bikes; omega)
  unfold nN
  omega
abbrev comesOf (P : zS) (t : Int) : Int := P 26 (5 * t + 1)
/-- behind i sets of one thief's coming, out of f -/
def nstep (P : zS) (t : Int) (f : Nat → Int) : Nat → Nat → Int
  | 0 => f
  | i + 1 => if f i * comesOf P t / 100 = 0 ∨ takes P (-1) t i = -1 then nstep P t f i else fun s => nstep P t f i s - (if s = i then f i * comesOf P t / 100 else 0) + (if s = i ||| 2 ^ (takes P (-1) t i).toNat then f i * comesOf P t / 100 else 0)
theorem nstep_s (P : zS) (t : Int) (f : Nat → Int) (i : Nat) : nstep P t f (i + 1) = if f i * comesOf P t / 100 = 0 ∨ takes P (-1) t i = -1 then nstep P t f i else fun s => nstep P t f i s - (if s = i then f i * comesOf P t / 100 else 0) + (if s = i ||| 2 ^ (takes P (-1) t i).toNat then f i * comesOf P t / 100 else 0) := rfl
/-- parts by sets that are gone, behind t thieves -/
def nightF (P : zS) : Nat → Nat → Int
  | 0 => fun s => if s = 0 then 1000000000000 else 0
  | t + 1 => nstep P t (nightF P t) (nN P)
theorem come_in {c v : Int} (hv : 0 ≤ v) (hc : 0 ≤ c ∧ c ≤ 100) : 0 ≤ v * c / 100 ∧ v * c / 100 ≤ v := by
  have h1 := Int.mul_nonneg hv hc.1
  have h2 : v * c ≤ v * 100 := Int.mul_le_mul_of_nonneg_left hc.2 hv
  omega
theorem takes_bit {P : zS} (hW : WfR P 0) {sm t g : Int} (h : takes P sm t g ≠ -1) : ¬ (g / 2 ^ (takes P sm t g).toNat % 2 = 1) := (takesF_ok _ _ _ _ _ _ h).1
theorem or_lt_N {P : zS} (hW : WfR P 0) {t : Int} {i : Nat} (hi : i < nN P) (h : takes P (-1) t i ≠ -1) : i ||| 2 ^ (takes P (-1) t i).toNat < nN P := by
  have h1 := takes_in hW (-1) t i
  have h2 : bt1 (-1) = 0 := rfl
  unfold nN at *
  exact Nat.or_lt_two_pow hi (Nat.pow_lt_pow_right (by decide) (by omega))
theorem nstep_ok {P : zS} (hW : WfR P 0) {t : Int} (ht : 0 ≤ t ∧ t < P 25 0) {f : Nat → Int} (hf : ∀ s, 0 ≤ f s) : ∀ i, i ≤ nN P → (∀ s, 0 ≤ nstep P t f i s) ∧ (∀ s, i ≤ s → f s ≤ nstep P t f i s) ∧ zsm (nstep P t f i) (nN P) = zsm f (nN P) := by
  intro i
  induction i with
  | zero => intro _; exact ⟨hf, fun s _ => Int.le_refl _, rfl⟩
  | succ i ih =>
    intro hi
    obtain ⟨h1, h2, h3⟩ := ih (by omega)
    have hc : 0 ≤ f i * comesOf P t / 100 ∧ f i * comesOf P t / 100 ≤ f i := come_in (hf i) (hW.thief0 ht).2.1
    rw [nstep_s]
    split
    · exact ⟨h1, fun s hs => h2 s (by omega), h3⟩
    · next q =>
      have hj := or_lt_N hW (t := t) (i := i) (by omega) (fun z => q (Or.inr z))
      refine ⟨fun s => ?_, fun s hs => ?_, ?_⟩
      · have := h1 s
        have := h2 s
        dsimp only
        split
        · next z => subst z; have := h2 s (Nat.le_refl _); split <;> omega
        · split <;> omega
      · have := h2 s (by omega)
        dsimp only
        rw [if_neg (show ¬ s = i by omega)]
        split <;> omega
      · rw [zsm_add, zsm_sub, zsm_one, zsm_one, if_pos (by omega), if_pos hj, h3]
        omega
theorem nightF_ok {P : zS} (hW : WfR P 0) : ∀ t : Nat, (t : Int) ≤ P 25 0 → (∀ s, 0 ≤ nightF P t s) ∧ zsm (nightF P t) (nN P) = 1000000000000 := by
  intro t
  induction t with
  | zero =>
    intro _
    refine ⟨fun s => ?_, ?_⟩
    · show 0 ≤ (if s = 0 then (1000000000000 : Int) else 0)
      split <;> omega
    · show zsm (fun s => if s = 0 then (1000000000000 : Int) else 0) (nN P) = _
      have := nN_in hW
      rw [zsm_one, if_pos (by omega)]
  | succ t ih =>
    intro ht
    obtain ⟨h1, h2⟩ := ih (by omega)
    obtain ⟨g1, -, g3⟩ := nstep_ok hW (t := t) ⟨by omega, by omega⟩ h1 (nN P) (Nat.le_refl _)
    exact ⟨g1, g3.trans h2⟩
theorem nstep_in {P : zS} (hW : WfR P 0) {t : Nat} (ht : (t : Int) < P 25 0) {i s : Nat} (hi : i ≤ nN P) (hs : s < nN P) : 0 ≤ nstep P t (nightF P t) i s ∧ nstep P t (nightF P t) i s ≤ 1000000000000 := by
  obtain ⟨h1, h2⟩ := nightF_ok hW t (by omega)
  obtain ⟨g1, -, g3⟩ := nstep_ok hW (t := t) ⟨by omega, ht⟩ h1 i hi
  exact ⟨g1 s, by rw [← h2, ← g3]; exact zsm_le (fun k _ => g1 k) hs⟩
theorem nightF_in {P : zS} (hW : WfR P 0) {t : Nat} (ht : (t : Int) ≤ P 25 0) {s : Nat} (hs : s < nN P) : 0 ≤ nightF P t s ∧ nightF P t s ≤ 1000000000000 := by
  obtain ⟨h1, h2⟩ := nightF_ok hW t ht
  exact ⟨h1 s, by rw [← h2]; exact zsm_le (fun k _ => h1 k) hs⟩
/-- what thief t has of bike b by the sets below i -/
def hasF (P : zS) (t b : Int) (i : Nat) : Int := zsm (fun s => if takes P (-1) t s = b then nightF P t.toNat s * comesOf P t / 100 else 0) i
def NightA (P : zS) (T i : Nat) (S : zS) : Prop := (∀ s : Nat, s < nN P → S 36 s = nstep P T (nightF P T) i s) ∧ (∀ t b : Int, 0 ≤ t → t < T → 0 ≤ b → b < P 23 0 → S 38 (10 * t + b) = hasF P t b (nN P)) ∧ (∀ b : Int, T < 6 → 0 ≤ b → b < P 23 0 → S 38 (10 * T + b) = hasF P T b i) ∧ (∀ t b : Int, T < t → t < 6 → 0 ≤ b → b < 10 → S 38 (10 * t + b) = 0)
def NightIs (P : zS) (S : zS) : Prop := (∀ s : Nat, s < nN P → S 36 s = nightF P (P 25 0).toNat s) ∧ (∀ t b : Int, 0 ≤ t → t < P 25 0 → 0 ≤ b → b < P 23 0 → S 38 (10 * t + b) = hasF P t b (nN P))
theorem NightIs.mv {P S S1 : zS} {ks : List Nat} (h : NightIs P S) (hF : Fr ks S S1) (h36 : 36 ∉ ks) (h38 : 38 ∉ ks) : NightIs P S1 := by
  unfold NightIs at *
  rw [hF 36 h36, hF 38 h38]
  exact h
theorem NightA.mv {P S S1 : zS} {T i : Nat} {ks : List Nat} (h : NightA P T i S) (hF : Fr ks S S1) (h36 : 36 ∉ ks) (h38 : 38 ∉ ks) : NightA P T i S1 := by
  unfold NightA at *
  rw [hF 36 h36, hF 38 h38]
  exact h
theorem NightA.zero {P S : zS} (h1 : ∀ s : Nat, s < nN P → S 36 s = if s = 0 then 1000000000000 else 0) (h2 : ∀ k : Int, 0 ≤ k → k < 60 → S 38 k = 0) (hb : P 23 0 ≤ 10) : NightA P 0 0 S :=
  ⟨fun s hs => h1 s hs, fun t b h1 h3 => by omega, fun b _ h3 h4 => by rw [h2 _ (by omega) (by omega)]; rfl, fun t b h3 h4 h5 h6 => h2 _ (by omega) (by omega)⟩
theorem NightA.row {P S : zS} {T : Nat} (h : NightA P T (nN P) S) (hT : T < 6) (hb : P 23 0 ≤ 10) : NightA P (T + 1) 0 S :=
  ⟨h.1, fun t b h1 h2 h3 h4 => by
    by_cases q : t = T
    · subst q; exact h.2.2.1 b hT h3 h4
    · exact h.2.1 t b h1 (by omega) h3 h4,
   fun b q h3 h4 => by rw [h.2.2.2 _ b (by omega) (by omega) h3 (by omega)]; rfl, fun t b h1 h2 h3 h4 => h.2.2.2 t b (by omega) h2 h3 h4⟩
theorem NightA.all {P S : zS} {T : Nat} (h : NightA P T 0 S) (hT : (T : Int) = P 25 0) : NightIs P S := by
  refine ⟨fun s hs => ?_, fun t b h1 h2 h3 h4 => h.2.1 t b h1 (by omega) h3 h4⟩
  rw [h.1 s hs, show (P 25 0).toNat = T by omega]
  rfl
theorem NightA.skip {P S : zS} {T i : Nat} (h : NightA P T i S) (hs : nightF P T i * comesOf P T / 100 = 0 ∨ takes P (-1) T i = -1) : NightA P T (i + 1) S := by
  refine ⟨fun s q => by rw [nstep_s, if_pos hs]; exact h.1 s q, h.2.1, fun b h5 h3 h4 => ?_, h.2.2.2⟩
  rw [h.2.2.1 b h5 h3 h4, hasF, hasF, zsm_s]
  rcases hs with q | q
  · rw [show ((T : Int)).toNat = T by omega, q]; simp
  · rw [if_neg (by omega)]; omega
theorem NightA.move {P S S1 S2 S3 : zS} {T i : Nat} (hW : WfR P 0) (h : NightA P T i S) (hi : i < nN P) (h37 : S 37 i = nightF P T i * comesOf P T / 100) (hs : ¬ (nightF P T i * comesOf P T / 100 = 0)) (hs2 : ¬ takes P (-1) T i = -1)
    (e1 : S1 = zup S 36 (i : Int) (S 36 (i : Int) - S 37 (i : Int))) (e2 : S2 = zup S1 36 ((i ||| 2 ^ (takes P (-1) T i).toNat : Nat) : Int) (S1 36 ((i ||| 2 ^ (takes P (-1) T i).toNat : Nat) : Int) + S1 37 (i : Int)))
    (e3 : S3 = zup S2 38 (10 * (T : Int) + takes P (-1) T i) (S2 38 (10 * (T : Int) + takes P (-1) T i) + S2 37 (i : Int))) : NightA P T (i + 1) S3 := by
  have hb := takes_in hW (-1) T i
  have hbk := hW.bikes
  have h0 : bt1 (-1) = 0 := rfl
  have g1 : S1 37 = S 37 := by rw [e1, zup_k S _ _ (by decide)]
  have g2 : S2 37 = S 37 := by rw [e2, zup_k S1 _ _ (by decide), g1]
  have k1 : S2 38 = S 38 := by rw [e2, zup_k S1 _ _ (by decide), e1, zup_k S _ _ (by decide)]
  have k2 : S3 36 = S2 36 := by rw [e3, zup_k S2 _ _ (by decide)]
  refine ⟨fun s q => ?_, fun t b h1 h2 h3 h4 => ?_, fun b h5 h3 h4 => ?_, fun t b h1 h2 h3 h4 => ?_⟩
  · rw [k2, e2, nstep_s, if_neg (fun z => z.elim hs hs2), g1, e1]
    have hv := h.1 s q
    have hv2 := h.1 i hi
    unfold zup
    simp only [true_and, Int.ofNat_inj]
    by_cases q1 : s = i ||| 2 ^ (takes P (-1) T i).toNat
    · rw [if_pos q1, if_pos q1]
      rw [← q1]
      by_cases q2 : s = i
      · subst q2; rw [if_pos rfl, if_pos rfl, hv, h37]
      · rw [if_neg q2, if_neg q2, hv, h37]; omega
    · rw [if_neg q1, if_neg q1]
      by_cases q2 : s = i
      · subst q2; rw [if_pos rfl, if_pos rfl, hv, h37]; omega
      · rw [if_neg q2, if_neg q2, hv]; omega
  · rw [e3, zup_n S2 38 38 _ (by omega : 10 * t + b ≠ 10 * (T : Int) + takes P (-1) T i), k1]
    exact h.2.1 t b h1 h2 h3 h4
  · have hh := h.2.2.1 b h5 h3 h4
    rw [hasF, zsm_s, show ((T : Int)).toNat = T by omega]
    rw [hasF, show ((T : Int)).toNat = T by omega] at hh
    by_cases q : takes P (-1) T i = b
    · rw [if_pos q, e3, ← q, zup_s, k1, q, hh, g2, h37]
    · rw [if_neg q, e3, zup_n S2 38 38 _ (by omega : 10 * (T : Int) + b ≠ 10 * (T : Int) + takes P (-1) T i), k1, hh]; omega
  · rw [e3, zup_n S2 38 38 _ (by omega : 10 * t + b ≠ 10 * (T : Int) + takes P (-1) T i), k1]
    exact h.2.2.2 t b h1 h2 h3 h4
theorem zfill {S1 S2 : zS} {a k : Nat} {v : Int} {F : Nat → Int} (h : ∀ s : Nat, s < k → S1 a (s : Int) = F s) (e : S2 = zup S1 a (k : Int) v) (hv : v = F k) : ∀ s : Nat, s < k + 1 → S2 a (s : Int) = F s := by
  intro s hs
  by_cases q : s = k
  · subst q; rw [e, zup_s, hv]
  · rw [e, zup_n S1 a a v (by omega : (s : Int) ≠ (k : Int))]; exact h s (by omega)
theorem zkeep {S1 S2 : zS} {a b n : Nat} {i v : Int} {F : Nat → Int} (h : ∀ s : Nat, s < n → S1 a (s : Int) = F s) (e : S2 = zup S1 b i v) (hab : a ≠ b) : ∀ s : Nat, s < n → S2 a (s : Int) = F s := by
  intro s hs
  rw [e, zup_k S1 i v hab]; exact h s hs
theorem zfr {S1 S2 : zS} {a n : Nat} {F : Nat → Int} {ks : List Nat} (h : ∀ s : Nat, s < n → S1 a (s : Int) = F s) (hF : Fr ks S1 S2) (ha : a ∉ ks) : ∀ s : Nat, s < n → S2 a (s : Int) = F s := by
  intro s hs
  rw [hF a ha]; exact h s hs
theorem zsm_mono {f g : Nat → Int} {n : Nat} (h : ∀ k, k < n → f k ≤ g k) : zsm f n ≤ zsm g n := by
  induction n with
  | zero => exact Int.le_refl 0
  | succ n ih => rw [zsm_s, zsm_s]; have := ih (fun k hk => h k (by omega)); have := h n (by omega); omega
theorem zsm_up {f : Nat → Int} {i n : Nat} (h : ∀ k, k < n → 0 ≤ f k) (hi : i ≤ n) : zsm f i ≤ zsm f n := by
  induction n with
  | zero => rw [show i = 0 by omega]; exact Int.le_refl _
  | succ n ih =>
    by_cases q : i = n + 1
    · rw [q]; exact Int.le_refl _
    · rw [zsm_s]; have := ih (fun k hk => h k (by omega)) (by omega); have := h n (by omega); omega
theorem hasF_in {P : zS} (hW : WfR P 0) {t : Nat} (ht : (t : Int) < P 25 0) (b : Int) {i : Nat} (hi : i ≤ nN P) : 0 ≤ hasF P t b i ∧ hasF P t b i ≤ 1000000000000 := by
  obtain ⟨h1, h2⟩ := nightF_ok hW t (by omega)
  have hc := fun s => come_in (h1 s) (hW.thief0 (t := t) ⟨by omega, ht⟩).2.1
  refine ⟨zsm_nn (fun k _ => ?_), ?_⟩
  · split
    · exact (hc k).1
    · exact Int.le_refl 0
  · have h3 : hasF P t b i ≤ zsm (nightF P t) i := zsm_mono (fun k _ => by
      have := h1 k
      split
      · exact (hc k).2
      · exact this)
    have h4 := zsm_up (fun k _ => h1 k) hi
    omega
/-! ===== answers out of a night ===== -/
def nightS (P : zS) (s : Nat) : Int := nightF P (P 25 0).toNat s
def risk (P : zS) (b : Int) : Int := zsm (fun s => if (s : Int) / 2 ^ b.toNat % 2 = 1 then nightS P s else 0) (nN P)
def paid (P : zS) (b : Int) : Int := 1000 * ((if P 24 (5 * (10 * 0 + b) + 3) = -1 then 0 else P 22 (4 * P 24 (5 * (10 * 0 + b) + 3))) + (if P 24 (5 * (10 * 0 + b) + 4) = 1 then P 27 0 else 0))
def loss (P : zS) (b : Int) : Int := P 18 0 * P 24 (5 * (10 * 0 + b)) * risk P b / 1000000000
def wages (P : zS) : Int := 1000 * P 27 4 * P 18 0
def cost (P : zS) (b : Int) : Int := paid P b + loss P b + (if P 27 6 = 1 then wages P / P 23 0 else 0)
def whatOf (P : zS) (b w : Int) : Int := if w = 0 then paid P b else if w = 1 then loss P b else cost P b
def allOf (P : zS) (w : Int) : Int := zsm (fun b => whatOf P b w) (P 23 0).toNat
theorem nightS_in {P : zS} (hW : WfR P 0) {s : Nat} (hs : s < nN P) : 0 ≤ nightS P s ∧ nightS P s ≤ 1000000000000 := nightF_in hW (by have := hW.thieves; omega) hs
theorem nightS_sum {P : zS} (hW : WfR P 0) {g : Nat → Int} {i : Nat} (hi : i ≤ nN P) (hg : ∀ s, s < i → 0 ≤ g s ∧ g s ≤ nightS P s) : 0 ≤ zsm g i ∧ zsm g i ≤ 1000000000000 := by
  obtain ⟨h1, h2⟩ := nightF_ok hW (P 25 0).toNat (by have := hW.thieves; omega)
  refine ⟨zsm_nn (fun k hk => (hg k hk).1), ?_⟩
  have h3 := zsm_mono (fun k hk => (hg k hk).2)
  have h4 : zsm (nightS P) i ≤ zsm (nightS P) (nN P) := zsm_up (fun k _ => h1 k) hi
  have h5 : zsm (nightS P) (nN P) = 1000000000000 := h2
  omega
theorem risk_in {P : zS} (hW : WfR P 0) (b : Int) : 0 ≤ risk P b ∧ risk P b ≤ 1000000000000 := nightS_sum hW (Nat.le_refl _) (fun s hs => by
  have := nightS_in hW hs
  split <;> omega)
theorem paid_in {P : zS} (hW : WfR P 0) {b : Int} (hb : 0 ≤ b ∧ b < P 23 0) : 0 ≤ paid P b ∧ paid P b ≤ 1998000 := by
  have h1 := hW.bike hb
  have h2 := hW.set
  have h4 : 0 ≤ P 27 0 ∧ P 27 0 ≤ 999 := h2.1
  unfold paid
  by_cases q : P 24 (5 * (10 * 0 + b) + 3) = -1
  · rw [if_pos q]; split <;> omega
  · have h3 := hW.price (i := P 24 (5 * (10 * 0 + b) + 3)) (by omega)
    rw [show (5 * 0 + P 24 (5 * (10 * 0 + b) + 3) : Int) = P 24 (5 * (10 * 0 + b) + 3) by omega] at h3
    rw [if_neg q]; split <;> omega
theorem lossM_in {P : zS} (hW : WfR P 0) {b : Int} (hb : 0 ≤ b ∧ b < P 23 0) : 0 ≤ P 18 0 * P 24 (5 * (10 * 0 + b)) * risk P b ∧ P 18 0 * P 24 (5 * (10 * 0 + b)) * risk P b ≤ 599940000000000000 := by
  have h1 := zmul_in hW.nights (hW.bike hb).1
  have h2 := zmul_in h1 (risk_in hW b)
  omega
theorem loss_in {P : zS} (hW : WfR P 0) {b : Int} (hb : 0 ≤ b ∧ b < P 23 0) : 0 ≤ loss P b ∧ loss P b ≤ 599940000 := by
  have h2 := lossM_in hW hb
  unfold loss
  omega
theorem wages_in {P : zS} (hW : WfR P 0) : 0 ≤ wages P ∧ wages P ≤ 59940000 := by
  have h : 0 ≤ P 27 4 ∧ P 27 4 ≤ 999 := hW.set.2.2.2.2.1
  have h2 := zmul_in (A := 999000) (by omega : 0 ≤ 1000 * P 27 4 ∧ _) hW.nights
  unfold wages
  omega
theorem cost_in {P : zS} (hW : WfR P 0) {b : Int} (hb : 0 ≤ b ∧ b < P 23 0) : 0 ≤ cost P b ∧ cost P b ≤ 661878000 := by
  have h1 := paid_in hW hb
  have h2 := loss_in hW hb
  have h3 := wages_in hW
  have h4 := zdiv_le h3.1 (by omega : 0 < P 23 0)
  unfold cost
  split <;> omega
theorem whatOf_in {P : zS} (hW : WfR P 0) {b : Int} (hb : 0 ≤ b ∧ b < P 23 0) (w : Int) : 0 ≤ whatOf P b w ∧ whatOf P b w ≤ 661878000 := by
  have h1 := paid_in hW hb
  have h2 := loss_in hW hb
  have h3 := cost_in hW hb
  unfold whatOf
  split
  · omega
  · split <;> omega
theorem allTo_in {P : zS} (hW : WfR P 0) (w : Int) {i : Nat} (hi : (i : Int) ≤ P 23 0) : 0 ≤ zsm (fun b => whatOf P b w) i ∧ zsm (fun b => whatOf P b w) i ≤ 6618780000 := by
  have h := zsm_in (f := fun b => whatOf P b w) (n := i) (M := 661878000) (fun k hk => whatOf_in hW ⟨by omega, by omega⟩ w)
  have := hW.bikes
  omega
theorem allOf_in {P : zS} (hW : WfR P 0) (w : Int) : 0 ≤ allOf P w ∧ allOf P w ≤ 6618780000 := allTo_in hW w (by have := hW.bikes; omega)
abbrev isRl (P : zS) : Prop := 0 < P 17 0
abbrev isSt (P : zS) (s : Int) : Prop := 0 < P 17 0 ∧ (0 ≤ s ∧ s ≤ ((2 ^ (P 23 0).toNat : Nat) : Int) - 1)
def aPart (P : zS) (s : Int) : Int := if isSt P s then nightS P s.toNat else -2
/-- how many are in a set of numbers below 10 -/
def bitsOf (s : Nat) : Nat := s % 2 + s / 2 % 2 + s / 4 % 2 + s / 8 % 2 + s / 16 % 2 + s / 32 % 2 + s / 64 % 2 + s / 128 % 2 + s / 256 % 2 + s / 512 % 2
theorem bits_dec : ∀ v, v < 1024 → v ≠ 0 → v &&& (v - 1) < v ∧ bitsOf (v &&& (v - 1)) + 1 = bitsOf v := by decide +kernel
def aMany (P : zS) (n : Int) : Int := if isRl P ∧ (0 ≤ n ∧ n ≤ P 23 0) then zsm (fun s => if (bitsOf s : Int) = n then nightS P s else 0) (nN P) else -2
def aRisk (P : zS) (b : Int) : Int := if isBk P b then risk P b else -2
def aHas (P : zS) (t b : Int) : Int := if isTh P t ∧ isBk P b then hasF P t b (nN P) else -2
def aCost (P : zS) (b w : Int) : Int := if isBk P b ∧ (0 ≤ w ∧ w ≤ 2) then whatOf P b w else -2
def aAll (P : zS) (w : Int) : Int := if isRl P ∧ (0 ≤ w ∧ w ≤ 2) then allOf P w else -2
