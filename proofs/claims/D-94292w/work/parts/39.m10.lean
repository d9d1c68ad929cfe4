theorem vX6_134 : zV RX6 134 RX6 yX6_four cX6_four 3 none 1 := ⟨lw_V q1930 q1932 qs62 q149 q1933, rfl, by decide +kernel⟩
theorem vX6_141 : zV RX6 141 RX6 yX6_isByte cX6_isByte 4 (some .boolean) 3 := ⟨lw_V q1958 q1960 qs66 q149 q1961, rfl, by decide +kernel⟩
theorem mcX6_four (l : Launch) (g : mG) (h : Nat) (ad : Nat → Nat) (P S : zS) (hPS : per S = P) (v : Int) (hn : 0 ≤ P 6 0 ∧ P 6 0 ≤ 1596) (hv : I32 v) : mMV l g h ad yX6_four cX6_four 3 (k2_rm 0 0) [.int (iZ v)] S (fun S1 => per S1 = fourP P v ∧ True) := by
  refine z_start (own := RX6) (by decide) rfl (Nat.le_of_ble_eq_true rfl) ?_
  intro prg env s mid blw mth cod ls Q C hQ hret hlk hnm hK hH hl
  have hP : MP g h ad S s.heap := hH
  have hS : va_S (MA h ad) s.heap s.heap [] := va_S.rf
  have hl : lv_has ls 3 [(0, .ref h), (1, .int (iZ v))] := hl
  refine z_bipush C dX6_four_0 rfl ?_
  refine z_istore_n C dX6_four_2 rfl hl (by decide) rfl (fun ls hl => ?_)
  have hl : lv_has ls 3 [(2, _), (0, _), (1, _)] := hl
  have hL_3 : ∀ (fuel : Nat) (i : Nat) (w : Int) (S1 : zS) (H : Heap) (locs : List Loc) (ls : Array Slot), 4 - i < fuel → (i ≤ 4) → (w = 24 - 8 * (i : Int)) → per S1 = fourTo P v i → MP g h ad S1 H → va_S (MA h ad) s.heap H locs → lv_has ls 3 [(0, .ref h), (1, .int (iZ v)), (2, .int (iZ w))] → W prg l env (k2_rm 0 0) s mid ([.ref h, .int (iZ v)] : List Value).toArray blw mth cod H locs 0 0 Q (F0 mid 3 ls []) := by
    intro fuel
    induction fuel with
    | zero => intro i w S1  H locs ls hm; exact absurd hm (Nat.not_lt_zero _)
    | succ fuel hL_3 =>
      intro i w S1  H locs ls hm ii iw hPS_3 hP  hS hl
      have q1 := fourTo_6 P v i
      have q2 := fourTo_6 P v
      refine z_iload_n C dX6_four_3 hl 2 rfl ?_
      refine z_if_lt C 36 dX6_four_4 (by decide) (by omega) (fun c_4 => ?_) (fun c_4 => ?_)
      · exact m_mret_v C hQ hret hlk hS hP ⟨by rw [hPS_3, fourP, show i = 4 by omega], trivial⟩ dX6_four_36
      · have q4 := sx8_in (v / 2 ^ w.toNat)
        refine z_aload_n C dX6_four_7 hl 0 rfl ?_
        refine m_geta C hK hP 5 (by decide) q1754 rfl (by decide) dX6_four_8 ?_
        refine z_aload_n C dX6_four_11 hl 0 rfl ?_
        refine m_geti C hK hP 6 (by decide) q1755 rfl (Or.inl rfl) ((pe hPS_3 rfl).trans q1) dX6_four_12 (fun r_12 => ?_)
        refine z_iload_n C dX6_four_15 hl 1 rfl ?_
        refine z_iload_n C dX6_four_16 hl 2 rfl ?_
        refine z_ishr C dX6_four_17 (zshr (by omega) (by omega)) ?_
        refine z_i2b C dX6_four_18 ?_
        refine m_bast C hK hP hS 5 (by decide) rfl (by have h9 : mlen 5 = 1600 := rfl; omega) (by omega) dX6_four_19 (fun S_19 eS_19 H locs hP hS => ?_)
        have hS_19 := per_w2 rfl hPS_3 eS_19
        have q5 : S_19 6 0 = P 6 0 + (i : Int) := by rw [eS_19, zup_k _ _ _ (by decide)]; exact (pe hPS_3 rfl).trans q1
        refine z_aload_n C dX6_four_20 hl 0 rfl ?_
        refine z_dup C dX6_four_21 rfl ?_
        refine m_geti C hK hP 6 (by decide) q1755 rfl (Or.inl rfl) q5 dX6_four_22 (fun r_22 => ?_)
        refine z_iconst C dX6_four_25 ?_
        refine z_iadd C dX6_four_26 ?_
        refine m_puti C hK hP hS 6 (by decide) q1755 rfl rfl (by omega) dX6_four_27 (fun S_27 eS_27 H locs hP hS => ?_)
        have hS_27 := per_w2 rfl hS_19 eS_27
        refine z_iinc C dX6_four_30 hl (by decide) 2 rfl rfl (fun ls hl => ?_)
        have hl : lv_has ls 3 [(2, _), (0, _), (1, _)] := hl
        refine z_goto C 3 dX6_four_33 (by decide) ?_
        exact hL_3 (i + 1) _ _ _ _ ls (by omega) (by omega) (by omega) (by rw [hS_27, fourTo_s (x := sx8 (v / 2 ^ w.toNat)) (by rw [show w.toNat = 24 - 8 * i by omega])]) hP hS (lv_sub hl [1, 2, 0] rfl)
  exact hL_3 _ 0 _ _ _ _ ls (Nat.lt_succ_self _) (by omega) (by omega) (by rw [fourTo_0]; exact hPS) hP hS (lv_sub hl [1, 2, 0] rfl)
theorem mcX6_feed (l : Launch) (g : mG) (h : Nat) (ad : Nat → Nat) (P S : zS) (hPS : per S = P) (a b c d e : Int) (hN : 0 ≤ P 6 0 ∧ P 6 0 ≤ 1600) (h1 : I32 a) (h2 : I32 b) (h3 : I32 c) (h4 : I32 d) (h9 : I32 e) : mMI l g h ad yX6_feed cX6_feed 6 .int (k2_rm 1 22) [.int (iZ a), .int (iZ b), .int (iZ c), .int (iZ d), .int (iZ e)] S (fun z1 S1 => z1 = aFeed P ∧ per S1 = pFeed P a b c d e) := by
  refine z_start (own := RX6) (by decide) rfl (Nat.le_of_ble_eq_true rfl) ?_
  intro prg env s mid blw mth cod ls Q C hQ hret hlk hnm hK hH hl
  have hP : MP g h ad S s.heap := hH
  have hS : va_S (MA h ad) s.heap s.heap [] := va_S.rf
  have hl : lv_has ls 6 [(0, .ref h), (1, .int (iZ a)), (2, .int (iZ b)), (3, .int (iZ c)), (4, .int (iZ d)), (5, .int (iZ e))] := hl
  refine z_aload_n C dX6_feed_0 hl 0 rfl ?_
  refine z_iconst C dX6_feed_1 ?_
  refine m_puti C hK hP hS 0 (by decide) q1749 rfl rfl (by omega) dX6_feed_2 (fun S_2 eS_2 H locs hP hS => ?_)
  have hS_2 := per_s rfl hPS eS_2
  refine z_aload_n C dX6_feed_5 hl 0 rfl ?_
  refine m_geti C hK hP 6 (by decide) q1755 rfl (Or.inl rfl) (pe hS_2 rfl) dX6_feed_6 (fun r_6 => ?_)
  refine z_bipush C dX6_feed_9 rfl ?_
  refine z_iadd C dX6_feed_11 ?_
  refine z_sipush C dX6_feed_12 rfl ?_
  have q1 := fourP_6 P a
  have q2 := fourP_6 (fourP P a) b
  have q3 := fourP_6 (fourP (fourP P a) b) c
  have q4 := fourP_6 (fourP (fourP (fourP P a) b) c) d
  have q5 := fourP_6 (fourP (fourP (fourP (fourP P a) b) c) d) e
  refine z_icmp_le C 20 dX6_feed_15 (by decide) (by omega) (by omega) (fun c_15 => ?_) (fun c_15 => ?_)
  · refine z_aload_n C dX6_feed_20 hl 0 rfl ?_
    refine z_iload_n C dX6_feed_21 hl 1 rfl ?_
    refine m_mv C vX6_134 (mcX6_four l g h ad _ _ hS_2 _ (by omega) (by omega)) hS hl ⟨Nat.le_of_ble_eq_true rfl, Nat.le_of_ble_eq_true rfl⟩ ⟨rfl, rfl⟩ hK hP (fun _ h9 => h9) rfl rfl (Nat.le_of_ble_eq_true rfl) dX6_feed_22 ⟨Nat.zero_le _, Nat.zero_le _⟩ (fun S_22 H locs pS_22 hP hS => ?_)
    obtain ⟨hS_22, pS_22⟩ := pS_22
    refine z_aload_n C dX6_feed_25 hl 0 rfl ?_
    refine z_iload_n C dX6_feed_26 hl 2 rfl ?_
    refine m_mv C vX6_134 (mcX6_four l g h ad _ _ hS_22 _ (by omega) (by omega)) hS hl ⟨Nat.le_of_ble_eq_true rfl, Nat.le_of_ble_eq_true rfl⟩ ⟨rfl, rfl⟩ hK hP (fun _ h9 => h9) rfl rfl (Nat.le_of_ble_eq_true rfl) dX6_feed_27 ⟨Nat.zero_le _, Nat.zero_le _⟩ (fun S_27 H locs pS_27 hP hS => ?_)
    obtain ⟨hS_27, pS_27⟩ := pS_27
    refine z_aload_n C dX6_feed_30 hl 0 rfl ?_
    refine z_iload_n C dX6_feed_31 hl 3 rfl ?_
    refine m_mv C vX6_134 (mcX6_four l g h ad _ _ hS_27 _ (by omega) (by omega)) hS hl ⟨Nat.le_of_ble_eq_true rfl, Nat.le_of_ble_eq_true rfl⟩ ⟨rfl, rfl⟩ hK hP (fun _ h9 => h9) rfl rfl (Nat.le_of_ble_eq_true rfl) dX6_feed_32 ⟨Nat.zero_le _, Nat.zero_le _⟩ (fun S_32 H locs pS_32 hP hS => ?_)
    obtain ⟨hS_32, pS_32⟩ := pS_32
    refine z_aload_n C dX6_feed_35 hl 0 rfl ?_
    refine z_iload C dX6_feed_36 hl 4 rfl ?_
    refine m_mv C vX6_134 (mcX6_four l g h ad _ _ hS_32 _ (by omega) (by omega)) hS hl ⟨Nat.le_of_ble_eq_true rfl, Nat.le_of_ble_eq_true rfl⟩ ⟨rfl, rfl⟩ hK hP (fun _ h9 => h9) rfl rfl (Nat.le_of_ble_eq_true rfl) dX6_feed_38 ⟨Nat.zero_le _, Nat.zero_le _⟩ (fun S_38 H locs pS_38 hP hS => ?_)
    obtain ⟨hS_38, pS_38⟩ := pS_38
    refine z_aload_n C dX6_feed_41 hl 0 rfl ?_
    refine z_iload C dX6_feed_42 hl 5 rfl ?_
    refine m_mv C vX6_134 (mcX6_four l g h ad _ _ hS_38 _ (by omega) (by omega)) hS hl ⟨Nat.le_of_ble_eq_true rfl, Nat.le_of_ble_eq_true rfl⟩ ⟨rfl, rfl⟩ hK hP (fun _ h9 => h9) rfl rfl (Nat.le_of_ble_eq_true rfl) dX6_feed_44 ⟨Nat.zero_le _, Nat.zero_le _⟩ (fun S_44 H locs pS_44 hP hS => ?_)
    obtain ⟨hS_44, pS_44⟩ := pS_44
    refine z_aload_n C dX6_feed_47 hl 0 rfl ?_
    refine m_geti C hK hP 6 (by decide) q1755 rfl (Or.inl rfl) (pe hS_44 rfl) dX6_feed_48 (fun r_48 => ?_)
    exact m_mret_i C hQ hret hlk hS hP ⟨by rw [aFeed, if_pos (by omega)]; omega, by rw [pFeed, if_pos (by omega)]; exact hS_44⟩ dX6_feed_51
  · refine z_iconst C dX6_feed_18 ?_
    exact m_mret_i C hQ hret hlk hS hP ⟨(if_neg (by omega)).symm, by rw [pFeed, if_neg (by omega)]; exact hS_2⟩ dX6_feed_19
theorem mcX6_end (l : Launch) (g : mG) (h : Nat) (ad : Nat → Nat) (P S : zS) (hPS : per S = P) (k : Int) (hN : 0 ≤ P 6 0 ∧ P 6 0 ≤ 1600) (h1 : I32 k) : mMI l g h ad yX6_end cX6_end 2 .int (k2_rm 1 25) [.int (iZ k)] S (fun z1 S1 => z1 = aEnd P k ∧ per S1 = pEnd P k) := by
  refine z_start (own := RX6) (by decide) rfl (Nat.le_of_ble_eq_true rfl) ?_
  intro prg env s mid blw mth cod ls Q C hQ hret hlk hnm hK hH hl
  have hP : MP g h ad S s.heap := hH
  have hS : va_S (MA h ad) s.heap s.heap [] := va_S.rf
  have hl : lv_has ls 2 [(0, .ref h), (1, .int (iZ k))] := hl
  refine z_aload_n C dX6_end_0 hl 0 rfl ?_
  refine z_iconst C dX6_end_1 ?_
  refine m_puti C hK hP hS 0 (by decide) q1749 rfl rfl (by omega) dX6_end_2 (fun S_2 eS_2 H locs hP hS => ?_)
  have hS_2 := per_s rfl hPS eS_2
  refine z_iload_n C dX6_end_5 hl 1 rfl ?_
  refine z_i2l C dX6_end_6 (by omega) ?_
  refine z_lconst (v := 0) C dX6_end_7 rfl ?_
  refine z_aload_n C dX6_end_8 hl 0 rfl ?_
  refine m_geti C hK hP 6 (by decide) q1755 rfl (Or.inl rfl) (pe hS_2 rfl) dX6_end_9 (fun r_9 => ?_)
  refine z_i2l C dX6_end_12 (by omega) ?_
  refine s_pi C vX6_119 (mcX6_in l _ _ _ (by omega) (by omega) (by omega)) hS hl ⟨Nat.le_of_ble_eq_true rfl, Nat.le_of_ble_eq_true rfl⟩ ⟨rfl, rfl⟩ rfl rfl (Nat.le_of_ble_eq_true rfl) dX6_end_13 ⟨Nat.zero_le _, Nat.zero_le _⟩ (fun locs hS => ?_)
  refine z_if_ne C 21 dX6_end_16 (by decide) z01_in (fun c_16 => ?_) (fun c_16 => ?_)
  · replace c_16 := z01_t c_16
    refine z_aload_n C dX6_end_21 hl 0 rfl ?_
    refine z_iload_n C dX6_end_22 hl 1 rfl ?_
    refine m_puti C hK hP hS 6 (by decide) q1755 rfl rfl (by omega) dX6_end_23 (fun S_23 eS_23 H locs hP hS => ?_)
    have hS_23 := per_w2 rfl hS_2 eS_23
    refine z_iload_n C dX6_end_26 hl 1 rfl ?_
    exact m_mret_i C hQ hret hlk hS hP ⟨(if_pos (by omega)).symm, by rw [pEnd, if_pos (by omega)]; exact hS_23⟩ dX6_end_27
  · replace c_16 := z01_f c_16
    refine z_iconst C dX6_end_19 ?_
    exact m_mret_i C hQ hret hlk hS hP ⟨(if_neg (by omega)).symm, by rw [pEnd, if_neg (by omega)]; exact hS_2⟩ dX6_end_20
theorem mcX6_isByte (l : Launch) (g : mG) (h : Nat) (ad : Nat → Nat) (P S : zS) (hPS : per S = P) (k lo hi : Int) (hN : 0 ≤ P 6 0 ∧ P 6 0 ≤ 1600) (hk : 0 ≤ k ∧ k ≤ 1600) (h1 : I32 lo) (h2 : I32 hi) : mPI l g h ad yX6_isByte cX6_isByte 4 .boolean (k2_rm 0 0) [.int (iZ k), .int (iZ lo), .int (iZ hi)] S (if k < P 6 0 ∧ lo ≤ P 5 k ∧ P 5 k ≤ hi then 1 else 0) := by
  intro H0 hP
  refine z_start (own := RX6) (by decide) rfl (Nat.le_of_ble_eq_true rfl) ?_
  intro prg env s mid blw mth cod ls Q C hQ hret hlk hnm hK hH hl
  subst hH
  have hS : va_S nA s.heap s.heap [] := va_S.rf
  have hl : lv_has ls 4 [(0, .ref h), (1, .int (iZ k)), (2, .int (iZ lo)), (3, .int (iZ hi))] := hl
  refine z_iload_n C dX6_isByte_0 hl 1 rfl ?_
  refine z_aload_n C dX6_isByte_1 hl 0 rfl ?_
  refine m_geti C hK hP 6 (by decide) q1755 rfl (Or.inl rfl) (pe hPS rfl) dX6_isByte_2 (fun r_2 => ?_)
  refine z_icmp_ge C 32 dX6_isByte_5 (by decide) (by omega) (by omega) (fun c_5 => ?_) (fun c_5 => ?_)
  · refine z_iconst C dX6_isByte_32 ?_
    exact z_pret_z C hQ hret hlk hS z01_any (by first | rw [if_pos (by omega)] | rw [if_neg (by omega)]) dX6_isByte_33
  · refine z_aload_n C dX6_isByte_8 hl 0 rfl ?_
    refine m_geta C hK hP 5 (by decide) q1754 rfl (by decide) dX6_isByte_9 ?_
    refine z_iload_n C dX6_isByte_12 hl 1 rfl ?_
    refine m_bald C hK hP 5 (by decide) rfl (by have h9 : mlen 5 = 1600 := rfl; omega) (pe hPS rfl) dX6_isByte_13 (fun r_13 => ?_)
    refine z_iload_n C dX6_isByte_14 hl 2 rfl ?_
    refine z_icmp_lt C 32 dX6_isByte_15 (by decide) (by omega) (by omega) (fun c_15 => ?_) (fun c_15 => ?_)
    · refine z_iconst C dX6_isByte_32 ?_
      exact z_pret_z C hQ hret hlk hS z01_any (by first | rw [if_pos (by omega)] | rw [if_neg (by omega)]) dX6_isByte_33
    · refine z_aload_n C dX6_isByte_18 hl 0 rfl ?_
      refine m_geta C hK hP 5 (by decide) q1754 rfl (by decide) dX6_isByte_19 ?_
      refine z_iload_n C dX6_isByte_22 hl 1 rfl ?_
      refine m_bald C hK hP 5 (by decide) rfl (by have h9 : mlen 5 = 1600 := rfl; omega) (pe hPS rfl) dX6_isByte_23 (fun r_23 => ?_)
      refine z_iload_n C dX6_isByte_24 hl 3 rfl ?_
      refine z_icmp_gt C 32 dX6_isByte_25 (by decide) (by omega) (by omega) (fun c_25 => ?_) (fun c_25 => ?_)
      · refine z_iconst C dX6_isByte_32 ?_
        exact z_pret_z C hQ hret hlk hS z01_any (by first | rw [if_pos (by omega)] | rw [if_neg (by omega)]) dX6_isByte_33
      · refine z_iconst C dX6_isByte_28 ?_
        refine z_goto C 33 dX6_isByte_29 (by decide) ?_
        exact z_pret_z C hQ hret hlk hS z01_any (by first | rw [if_pos (by omega)] | rw [if_neg (by omega)]) dX6_isByte_33
theorem mcX6_next (l : Launch) (g : mG) (h : Nat) (ad : Nat → Nat) (P S : zS) (hPS : per S = P) (a : Int) (hN : 0 ≤ P 6 0 ∧ P 6 0 ≤ 1600) (h7 : S 7 0 = a) (ha : 0 ≤ a ∧ a ≤ P 6 0) : mMV l g h ad yX6_next cX6_next 2 (k2_rm 1 23) [] S (fun S1 => TokAt (P 5) (P 6 0) (sk (P 5) (P 6 0) a) S1 ∧ Fr [7, 8, 9, 10, 11] S S1) := by
  refine z_start (own := RX6) (by decide) rfl (Nat.le_of_ble_eq_true rfl) ?_
  intro prg env s mid blw mth cod ls Q C hQ hret hlk hnm hK hH hl
  have hP : MP g h ad S s.heap := hH
  have hS : va_S (MA h ad) s.heap s.heap [] := va_S.rf
  have hl : lv_has ls 2 [(0, .ref h)] := hl
  have hL_0 : ∀ (fuel : Nat) (p : Int) (S1 : zS) (H : Heap) (locs : List Loc) (ls : Array Slot), (P 6 0 - p).toNat < fuel → (0 ≤ p ∧ p ≤ P 6 0) → (S1 7 0 = p) → (sk (P 5) (P 6 0) p = sk (P 5) (P 6 0) a) → (Fr [7, 8, 9, 10, 11] S S1) → per S1 = P → MP g h ad S1 H → va_S (MA h ad) s.heap H locs → lv_has ls 2 [(0, .ref h)] → W prg l env (k2_rm 1 23) s mid ([.ref h] : List Value).toArray blw mth cod H locs 0 0 Q (F0 mid 0 ls []) := by
    intro fuel
    induction fuel with
    | zero => intro p S1  H locs ls hm; exact absurd hm (Nat.not_lt_zero _)
    | succ fuel hL_0 =>
      intro p S1  H locs ls hm ip i7 iK iF hPS_0 hP  hS hl
      refine z_aload_n C dX6_next_0 hl 0 rfl ?_
      refine z_aload_n C dX6_next_1 hl 0 rfl ?_
      refine m_geti C hK hP 7 (by decide) q1756 rfl (Or.inl rfl) i7 dX6_next_2 (fun r_2 => ?_)
      refine z_bipush C dX6_next_5 rfl ?_
      refine z_bipush C dX6_next_7 rfl ?_
      refine m_pi C vX6_141 (mcX6_isByte l g h ad _ _ hPS_0 _ _ _ (by omega) (by omega) (by omega) (by omega)) hS hl ⟨Nat.le_of_ble_eq_true rfl, Nat.le_of_ble_eq_true rfl⟩ ⟨rfl, rfl⟩ hK hP rfl rfl (Nat.le_of_ble_eq_true rfl) dX6_next_9 ⟨Nat.zero_le _, Nat.zero_le _⟩ (fun locs hS => ?_)
      refine z_if_ne C 30 dX6_next_12 (by decide) z01_in (fun c_12 => ?_) (fun c_12 => ?_)
      · replace c_12 := z01_t c_12
        refine z_aload_n C dX6_next_30 hl 0 rfl ?_
        refine z_dup C dX6_next_31 rfl ?_
        refine m_geti C hK hP 7 (by decide) q1756 rfl (Or.inl rfl) i7 dX6_next_32 (fun r_32 => ?_)
        refine z_iconst C dX6_next_35 ?_
        refine z_iadd C dX6_next_36 ?_
        refine m_puti C hK hP hS 7 (by decide) q1756 rfl rfl (by omega) dX6_next_37 (fun S_37 eS_37 H locs hP hS => ?_)
        have hS_37 := per_s rfl hPS_0 eS_37
        refine z_goto C 0 dX6_next_40 (by decide) ?_
        exact hL_0 (p + 1) _ _ _ ls (by omega) (by omega) (by rw [eS_37, zup_s]) (by rw [← iK]; exact (sk_step (by omega) (by omega)).symm) (Fr.up iF eS_37 (by decide)) hS_37 hP hS (lv_sub hl [0] rfl)
      · replace c_12 := z01_f c_12
        refine z_aload_n C dX6_next_15 hl 0 rfl ?_
        refine z_aload_n C dX6_next_16 hl 0 rfl ?_
        refine m_geti C hK hP 7 (by decide) q1756 rfl (Or.inl rfl) i7 dX6_next_17 (fun r_17 => ?_)
        refine z_bipush C dX6_next_20 rfl ?_
        refine z_bipush C dX6_next_22 rfl ?_
        refine m_pi C vX6_141 (mcX6_isByte l g h ad _ _ hPS_0 _ _ _ (by omega) (by omega) (by omega) (by omega)) hS hl ⟨Nat.le_of_ble_eq_true rfl, Nat.le_of_ble_eq_true rfl⟩ ⟨rfl, rfl⟩ hK hP rfl rfl (Nat.le_of_ble_eq_true rfl) dX6_next_24 ⟨Nat.zero_le _, Nat.zero_le _⟩ (fun locs hS => ?_)
        refine z_if_eq C 43 dX6_next_27 (by decide) z01_in (fun c_27 => ?_) (fun c_27 => ?_)
        · replace c_27 := z01_f c_27
          have q1 : sk (P 5) (P 6 0) a = p := by rw [← iK]; exact sk_stop (by omega)
          have q2 := tkK_0 (T := P 5) (n := P 6 0) (p := p)
          refine z_aload_n C dX6_next_43 hl 0 rfl ?_
          refine z_aload_n C dX6_next_44 hl 0 rfl ?_
          refine m_geti C hK hP 7 (by decide) q1756 rfl (Or.inl rfl) i7 dX6_next_45 (fun r_45 => ?_)
          refine m_puti C hK hP hS 9 (by decide) q1758 rfl rfl (by omega) dX6_next_48 (fun S_48 eS_48 H locs hP hS => ?_)
          have hS_48 := per_s rfl hPS_0 eS_48
          refine z_aload_n C dX6_next_51 hl 0 rfl ?_
          refine z_iconst C dX6_next_52 ?_
          refine m_puti C hK hP hS 10 (by decide) q1759 rfl rfl (by omega) dX6_next_53 (fun S_53 eS_53 H locs hP hS => ?_)
          have hS_53 := per_s rfl hS_48 eS_53
          refine z_aload_n C dX6_next_56 hl 0 rfl ?_
          refine z_lconst (v := 0) C dX6_next_57 rfl ?_
          refine m_putl C hK hP hS 11 (by decide) q1760 rfl rfl (by omega) dX6_next_58 (fun S_58 eS_58 H locs hP hS => ?_)
          have hS_58 := per_s rfl hS_53 eS_58
          have q7 : S_58 7 0 = p := by simp [zup, eS_58, eS_53, eS_48, i7]
          refine z_aload_n C dX6_next_61 hl 0 rfl ?_
          refine m_geti C hK hP 7 (by decide) q1756 rfl (Or.inl rfl) q7 dX6_next_62 (fun r_62 => ?_)
          refine z_aload_n C dX6_next_65 hl 0 rfl ?_
          refine m_geti C hK hP 6 (by decide) q1755 rfl (Or.inl rfl) (pe hS_58 rfl) dX6_next_66 (fun r_66 => ?_)
          refine z_icmp_ne C 80 dX6_next_69 (by decide) (by omega) (by omega) (fun c_69 => ?_) (fun c_69 => ?_)
          · refine z_aload_n C dX6_next_80 hl 0 rfl ?_
            refine z_aload_n C dX6_next_81 hl 0 rfl ?_
            refine m_geti C hK hP 7 (by decide) q1756 rfl (Or.inl rfl) q7 dX6_next_82 (fun r_82 => ?_)
            refine z_bipush C dX6_next_85 rfl ?_
            refine z_bipush C dX6_next_87 rfl ?_
            refine m_pi C vX6_141 (mcX6_isByte l g h ad _ _ hS_58 _ _ _ (by omega) (by omega) (by omega) (by omega)) hS hl ⟨Nat.le_of_ble_eq_true rfl, Nat.le_of_ble_eq_true rfl⟩ ⟨rfl, rfl⟩ hK hP rfl rfl (Nat.le_of_ble_eq_true rfl) dX6_next_89 ⟨Nat.zero_le _, Nat.zero_le _⟩ (fun locs hS => ?_)
            refine z_if_eq C 188 dX6_next_92 (by decide) z01_in (fun c_92 => ?_) (fun c_92 => ?_)
            · replace c_92 := z01_f c_92
              refine z_aload_n C dX6_next_188 hl 0 rfl ?_
              refine z_aload_n C dX6_next_189 hl 0 rfl ?_
              refine m_geti C hK hP 7 (by decide) q1756 rfl (Or.inl rfl) q7 dX6_next_190 (fun r_190 => ?_)
              refine z_bipush C dX6_next_193 rfl ?_
              refine z_bipush C dX6_next_195 rfl ?_
              refine m_pi C vX6_141 (mcX6_isByte l g h ad _ _ hS_58 _ _ _ (by omega) (by omega) (by omega) (by omega)) hS hl ⟨Nat.le_of_ble_eq_true rfl, Nat.le_of_ble_eq_true rfl⟩ ⟨rfl, rfl⟩ hK hP rfl rfl (Nat.le_of_ble_eq_true rfl) dX6_next_197 ⟨Nat.zero_le _, Nat.zero_le _⟩ (fun locs hS => ?_)
              refine z_if_eq C 274 dX6_next_200 (by decide) z01_in (fun c_200 => ?_) (fun c_200 => ?_)
              · replace c_200 := z01_f c_200
                refine z_aload_n C dX6_next_274 hl 0 rfl ?_
                refine z_aload_n C dX6_next_275 hl 0 rfl ?_
                refine m_geta C hK hP 5 (by decide) q1754 rfl (by decide) dX6_next_276 ?_
                refine z_aload_n C dX6_next_279 hl 0 rfl ?_
                refine m_geti C hK hP 7 (by decide) q1756 rfl (Or.inl rfl) q7 dX6_next_280 (fun r_280 => ?_)
                refine m_bald C hK hP 5 (by decide) rfl (by have h9 : mlen 5 = 1600 := rfl; omega) (pe hS_58 rfl) dX6_next_283 (fun r_283 => ?_)
                refine z_bipush C dX6_next_284 rfl ?_
                refine z_icmp_ne C 293 dX6_next_286 (by decide) (by omega) (by omega) (fun c_286 => ?_) (fun c_286 => ?_)
                · refine z_iconst C dX6_next_293 ?_
                  refine m_puti C hK hP hS 8 (by decide) q1757 rfl rfl (by omega) dX6_next_294 (fun S_294 eS_294 H locs hP hS => ?_)
                  have hS_294 := per_s rfl hS_58 eS_294
                  have q7 : S_294 7 0 = p := by simp [zup, eS_294, q7]
                  refine z_aload_n C dX6_next_297 hl 0 rfl ?_
                  refine z_dup C dX6_next_298 rfl ?_
                  refine m_geti C hK hP 7 (by decide) q1756 rfl (Or.inl rfl) q7 dX6_next_299 (fun r_299 => ?_)
                  refine z_iconst C dX6_next_302 ?_
                  refine z_iadd C dX6_next_303 ?_
                  refine m_puti C hK hP hS 7 (by decide) q1756 rfl rfl (by omega) dX6_next_304 (fun S_304 eS_304 H locs hP hS => ?_)
                  have hS_304 := per_s rfl hS_294 eS_304
                  have nxW : TokAt (P 5) (P 6 0) (sk (P 5) (P 6 0) a) S_304 ∧ Fr [7, 8, 9, 10, 11] S S_304 := by
                    rw [q1]
                    exact ⟨tok_3 (by omega) (by omega) (by omega) (by simp [zup, eS_304, q7]) (by simp [zup, eS_304, eS_294]; omega) (by simp [zup, eS_304, eS_294, eS_58, eS_53, eS_48, i7]) (by simp [zup, eS_304, eS_294, eS_58, eS_53, eS_48, i7]) (by simp [zup, eS_304, eS_294, eS_58, eS_53, eS_48, i7]), (Fr.up (Fr.up (Fr.up (Fr.up (Fr.up iF eS_48 (by decide)) eS_53 (by decide)) eS_58 (by decide)) eS_294 (by decide)) eS_304 (by decide))⟩
                  exact m_mret_v C hQ hret hlk hS hP nxW dX6_next_307
                · refine z_iconst C dX6_next_289 ?_
                  refine z_goto C 294 dX6_next_290 (by decide) ?_
                  refine m_puti C hK hP hS 8 (by decide) q1757 rfl rfl (by omega) dX6_next_294 (fun S_294 eS_294 H locs hP hS => ?_)
                  have hS_294 := per_s rfl hS_58 eS_294
                  have q7 : S_294 7 0 = p := by simp [zup, eS_294, q7]
                  refine z_aload_n C dX6_next_297 hl 0 rfl ?_
                  refine z_dup C dX6_next_298 rfl ?_
                  refine m_geti C hK hP 7 (by decide) q1756 rfl (Or.inl rfl) q7 dX6_next_299 (fun r_299 => ?_)
                  refine z_iconst C dX6_next_302 ?_
                  refine z_iadd C dX6_next_303 ?_
                  refine m_puti C hK hP hS 7 (by decide) q1756 rfl rfl (by omega) dX6_next_304 (fun S_304 eS_304 H locs hP hS => ?_)
                  have hS_304 := per_s rfl hS_294 eS_304
                  have nxW : TokAt (P 5) (P 6 0) (sk (P 5) (P 6 0) a) S_304 ∧ Fr [7, 8, 9, 10, 11] S S_304 := by
                    rw [q1]
                    exact ⟨tok_3 (by omega) (by omega) (by omega) (by simp [zup, eS_304, q7]) (by simp [zup, eS_304, eS_294]; omega) (by simp [zup, eS_304, eS_294, eS_58, eS_53, eS_48, i7]) (by simp [zup, eS_304, eS_294, eS_58, eS_53, eS_48, i7]) (by simp [zup, eS_304, eS_294, eS_58, eS_53, eS_48, i7]), (Fr.up (Fr.up (Fr.up (Fr.up (Fr.up iF eS_48 (by decide)) eS_53 (by decide)) eS_58 (by decide)) eS_294 (by decide)) eS_304 (by decide))⟩
                  exact m_mret_v C hQ hret hlk hS hP nxW dX6_next_307
              · replace c_200 := z01_t c_200
                refine z_aload_n C dX6_next_203 hl 0 rfl ?_
                refine z_iconst C dX6_next_204 ?_
                refine m_puti C hK hP hS 8 (by decide) q1757 rfl rfl (by omega) dX6_next_205 (fun S_205 eS_205 H locs hP hS => ?_)
                have hS_205 := per_s rfl hS_58 eS_205
                have hL_208 : ∀ (fuel : Nat) (k : Nat) (S3 : zS) (H : Heap) (locs : List Loc) (ls : Array Slot), (P 6 0 - p).toNat - k < fuel → (p + (k : Int) ≤ P 6 0) → (S3 7 0 = p + (k : Int)) → (S3 8 0 = 2) → (S3 9 0 = p) → (S3 10 0 = nmV (P 5) p k) → (S3 11 0 = 0) → (rn (P 5) (P 6 0) 48 57 (p + (k : Int)) = rn (P 5) (P 6 0) 48 57 p) → (∀ j, p ≤ j → j < p + (k : Int) → 48 ≤ P 5 j ∧ P 5 j ≤ 57) → (Fr [7, 8, 9, 10, 11] S S3) → per S3 = P → MP g h ad S3 H → va_S (MA h ad) s.heap H locs → lv_has ls 2 [(0, .ref h)] → W prg l env (k2_rm 1 23) s mid ([.ref h] : List Value).toArray blw mth cod H locs 0 0 Q (F0 mid 208 ls []) := by
                  intro fuel
                  induction fuel with
                  | zero => intro k S3  H locs ls hm; exact absurd hm (Nat.not_lt_zero _)
                  | succ fuel hL_208 =>
                    intro k S3  H locs ls hm jk j7 j8 j9 j10 j11 jR jL jF hPS_208 hP  hS hl
                    refine z_aload_n C dX6_next_208 hl 0 rfl ?_
                    refine z_aload_n C dX6_next_209 hl 0 rfl ?_
                    refine m_geti C hK hP 7 (by decide) q1756 rfl (Or.inl rfl) j7 dX6_next_210 (fun r_210 => ?_)
                    refine z_bipush C dX6_next_213 rfl ?_
                    refine z_bipush C dX6_next_215 rfl ?_
                    refine m_pi C vX6_141 (mcX6_isByte l g h ad _ _ hPS_208 _ _ _ (by omega) (by omega) (by omega) (by omega)) hS hl ⟨Nat.le_of_ble_eq_true rfl, Nat.le_of_ble_eq_true rfl⟩ ⟨rfl, rfl⟩ hK hP rfl rfl (Nat.le_of_ble_eq_true rfl) dX6_next_217 ⟨Nat.zero_le _, Nat.zero_le _⟩ (fun locs hS => ?_)
                    refine z_if_eq C 307 dX6_next_220 (by decide) z01_in (fun c_220 => ?_) (fun c_220 => ?_)
                    · replace c_220 := z01_f c_220
                      have nxW : TokAt (P 5) (P 6 0) (sk (P 5) (P 6 0) a) S3 ∧ Fr [7, 8, 9, 10, 11] S S3 := by
                        rw [q1]
                        exact ⟨tok_2 (k := k) (by omega) c_200.2 (by rw [← jR]; exact rn_stop c_220) j7 j8 j9 j10 j11, jF⟩
                      exact m_mret_v C hQ hret hlk hS hP nxW dX6_next_307
                    · replace c_220 := z01_t c_220
                      have q8 : ∀ j, p ≤ j → j < p + ((k + 1 : Nat) : Int) → 48 ≤ P 5 j ∧ P 5 j ≤ 57 := fun j h1 h2 => by
                        by_cases z : j = p + (k : Int)
                        · rw [z]; exact c_220.2
                        · exact jL j h1 (by omega)
                      have q9 : rn (P 5) (P 6 0) 48 57 (p + ((k + 1 : Nat) : Int)) = rn (P 5) (P 6 0) 48 57 p := by rw [← jR, rn_step c_220]; congr 1; omega
                      have q3 := nmV_in jL
                      have q5 := q8 (p + (k : Int)) (by omega) (by omega)
                      refine z_aload_n C dX6_next_223 hl 0 rfl ?_
                      refine z_aload_n C dX6_next_224 hl 0 rfl ?_
                      refine m_geti C hK hP 10 (by decide) q1759 rfl (Or.inl rfl) j10 dX6_next_225 (fun r_225 => ?_)
                      refine z_ldc (v := 100000) C q1965 dX6_next_228 rfl ?_
                      refine z_icmp_le C 238 dX6_next_230 (by decide) (by omega) (by omega) (fun c_230 => ?_) (fun c_230 => ?_)
                      · refine z_bipush C dX6_next_238 rfl ?_
                        refine z_aload_n C dX6_next_240 hl 0 rfl ?_
                        refine m_geti C hK hP 10 (by decide) q1759 rfl (Or.inl rfl) j10 dX6_next_241 (fun r_241 => ?_)
                        refine z_imul C dX6_next_244 ?_
                        refine z_aload_n C dX6_next_245 hl 0 rfl ?_
                        refine m_geta C hK hP 5 (by decide) q1754 rfl (by decide) dX6_next_246 ?_
                        refine z_aload_n C dX6_next_249 hl 0 rfl ?_
                        refine m_geti C hK hP 7 (by decide) q1756 rfl (Or.inl rfl) j7 dX6_next_250 (fun r_250 => ?_)
                        refine m_bald C hK hP 5 (by decide) rfl (by have h9 : mlen 5 = 1600 := rfl; omega) (pe hPS_208 rfl) dX6_next_253 (fun r_253 => ?_)
                        refine z_iadd C dX6_next_254 ?_
                        refine z_bipush C dX6_next_255 rfl ?_
                        refine z_isub C dX6_next_257 ?_
                        refine m_puti C hK hP hS 10 (by decide) q1759 rfl rfl (by omega) dX6_next_258 (fun S_258 eS_258 H locs hP hS => ?_)
                        have hS_258 := per_s rfl hPS_208 eS_258
                        have q7 : S_258 7 0 = p + (k : Int) := by simp [zup, eS_258, j7]
                        refine z_aload_n C dX6_next_261 hl 0 rfl ?_
                        refine z_dup C dX6_next_262 rfl ?_
                        refine m_geti C hK hP 7 (by decide) q1756 rfl (Or.inl rfl) q7 dX6_next_263 (fun r_263 => ?_)
                        refine z_iconst C dX6_next_266 ?_
                        refine z_iadd C dX6_next_267 ?_
                        refine m_puti C hK hP hS 7 (by decide) q1756 rfl rfl (by omega) dX6_next_268 (fun S_268 eS_268 H locs hP hS => ?_)
                        have hS_268 := per_s rfl hS_258 eS_268
                        refine z_goto C 208 dX6_next_271 (by decide) ?_
                        exact hL_208 (k + 1) _ _ _ ls (by omega) (by omega) (by simp [zup, eS_268, eS_258, j7]; try omega) (by simp [zup, eS_268, eS_258, j8]; try omega) (by simp [zup, eS_268, eS_258, j9]; try omega) (by simp [zup, eS_268, eS_258, nmV, j7, j10]; omega) (by simp [zup, eS_268, eS_258, j11]; try omega) q9 q8 (Fr.up (Fr.up jF eS_258 (by decide)) eS_268 (by decide)) hS_268 hP hS (lv_sub hl [0] rfl)
                      · refine z_ldc (v := 1000000) C q1966 dX6_next_233 rfl ?_
                        refine z_goto C 258 dX6_next_235 (by decide) ?_
                        refine m_puti C hK hP hS 10 (by decide) q1759 rfl rfl (by omega) dX6_next_258 (fun S_258 eS_258 H locs hP hS => ?_)
                        have hS_258 := per_s rfl hPS_208 eS_258
                        have q7 : S_258 7 0 = p + (k : Int) := by simp [zup, eS_258, j7]
                        refine z_aload_n C dX6_next_261 hl 0 rfl ?_
                        refine z_dup C dX6_next_262 rfl ?_
                        refine m_geti C hK hP 7 (by decide) q1756 rfl (Or.inl rfl) q7 dX6_next_263 (fun r_263 => ?_)
                        refine z_iconst C dX6_next_266 ?_
                        refine z_iadd C dX6_next_267 ?_
                        refine m_puti C hK hP hS 7 (by decide) q1756 rfl rfl (by omega) dX6_next_268 (fun S_268 eS_268 H locs hP hS => ?_)
                        have hS_268 := per_s rfl hS_258 eS_268
                        refine z_goto C 208 dX6_next_271 (by decide) ?_
                        exact hL_208 (k + 1) _ _ _ ls (by omega) (by omega) (by simp [zup, eS_268, eS_258, j7]; try omega) (by simp [zup, eS_268, eS_258, j8]; try omega) (by simp [zup, eS_268, eS_258, j9]; try omega) (by simp [zup, eS_268, eS_258, nmV, j7, j10]; omega) (by simp [zup, eS_268, eS_258, j11]; try omega) q9 q8 (Fr.up (Fr.up jF eS_258 (by decide)) eS_268 (by decide)) hS_268 hP hS (lv_sub hl [0] rfl)
                exact hL_208 _ 0 _ _ _ ls (Nat.lt_succ_self _) (by omega) (by simp [zup, eS_205, eS_58, eS_53, eS_48, i7]; try omega) (by simp [zup, eS_205]; try omega) (by simp [zup, eS_205, eS_58, eS_53, eS_48, i7]; try omega) (by simp [zup, eS_205, eS_58, eS_53, nmV]) (by simp [zup, eS_205, eS_58]; try omega) (by simp) (fun j h1 h2 => by omega) (Fr.up (Fr.up (Fr.up (Fr.up iF eS_48 (by decide)) eS_53 (by decide)) eS_58 (by decide)) eS_205 (by decide)) hS_205 hP hS (lv_sub hl [0] rfl)
            · replace c_92 := z01_t c_92
              refine z_aload_n C dX6_next_95 hl 0 rfl ?_
              refine z_iconst C dX6_next_96 ?_
              refine m_puti C hK hP hS 8 (by decide) q1757 rfl rfl (by omega) dX6_next_97 (fun S_97 eS_97 H locs hP hS => ?_)
              have hS_97 := per_s rfl hS_58 eS_97
              refine z_iconst C dX6_next_100 ?_
              refine z_istore_n C dX6_next_101 rfl hl (by decide) rfl (fun ls hl => ?_)
              have hl : lv_has ls 2 [(1, _), (0, _)] := hl
              have hL_102 : ∀ (fuel : Nat) (k : Nat) (S2 : zS) (H : Heap) (locs : List Loc) (ls : Array Slot), (P 6 0 - p).toNat - k < fuel → (p + (k : Int) ≤ P 6 0) → (S2 7 0 = p + (k : Int)) → (S2 8 0 = 1) → (S2 9 0 = p) → (S2 10 0 = 0) → (S2 11 0 = hsh (P 5) p k) → (rn (P 5) (P 6 0) 97 122 (p + (k : Int)) = rn (P 5) (P 6 0) 97 122 p) → (∀ j, p ≤ j → j < p + (k : Int) → 97 ≤ P 5 j ∧ P 5 j ≤ 122) → (Fr [7, 8, 9, 10, 11] S S2) → per S2 = P → MP g h ad S2 H → va_S (MA h ad) s.heap H locs → lv_has ls 2 [(0, .ref h), (1, .int (iZ (k : Int)))] → W prg l env (k2_rm 1 23) s mid ([.ref h] : List Value).toArray blw mth cod H locs 0 0 Q (F0 mid 102 ls []) := by
                intro fuel
                induction fuel with
                | zero => intro k S2  H locs ls hm; exact absurd hm (Nat.not_lt_zero _)
                | succ fuel hL_102 =>
                  intro k S2  H locs ls hm jk j7 j8 j9 j10 j11 jR jL jF hPS_102 hP  hS hl
                  refine z_aload_n C dX6_next_102 hl 0 rfl ?_
                  refine z_aload_n C dX6_next_103 hl 0 rfl ?_
                  refine m_geti C hK hP 7 (by decide) q1756 rfl (Or.inl rfl) j7 dX6_next_104 (fun r_104 => ?_)
                  refine z_bipush C dX6_next_107 rfl ?_
                  refine z_bipush C dX6_next_109 rfl ?_
                  refine m_pi C vX6_141 (mcX6_isByte l g h ad _ _ hPS_102 _ _ _ (by omega) (by omega) (by omega) (by omega)) hS hl ⟨Nat.le_of_ble_eq_true rfl, Nat.le_of_ble_eq_true rfl⟩ ⟨rfl, rfl⟩ hK hP rfl rfl (Nat.le_of_ble_eq_true rfl) dX6_next_111 ⟨Nat.zero_le _, Nat.zero_le _⟩ (fun locs hS => ?_)
                  refine z_if_eq C 185 dX6_next_114 (by decide) z01_in (fun c_114 => ?_) (fun c_114 => ?_)
                  · replace c_114 := z01_f c_114
                    have nxW : TokAt (P 5) (P 6 0) (sk (P 5) (P 6 0) a) S2 ∧ Fr [7, 8, 9, 10, 11] S S2 := by
                      rw [q1]
                      exact ⟨tok_1 (k := k) (by omega) c_92.2 (by rw [← jR]; exact rn_stop c_114) j7 j8 j9 j10 j11, jF⟩
                    refine z_goto C 307 dX6_next_185 (by decide) ?_
                    exact m_mret_v C hQ hret hlk hS hP nxW dX6_next_307
                  · replace c_114 := z01_t c_114
                    have q8 : ∀ j, p ≤ j → j < p + ((k + 1 : Nat) : Int) → 97 ≤ P 5 j ∧ P 5 j ≤ 122 := fun j h1 h2 => by
                      by_cases z : j = p + (k : Int)
                      · rw [z]; exact c_114.2
                      · exact jL j h1 (by omega)
                    have q9 : rn (P 5) (P 6 0) 97 122 (p + ((k + 1 : Nat) : Int)) = rn (P 5) (P 6 0) 97 122 p := by rw [← jR, rn_step c_114]; congr 1; omega
                    refine z_aload_n C dX6_next_117 hl 0 rfl ?_
                    refine z_iload_n C dX6_next_118 hl 1 rfl ?_
                    refine z_bipush C dX6_next_119 rfl ?_
                    refine z_icmp_le C 130 dX6_next_121 (by decide) (by omega) (by omega) (fun c_121 => ?_) (fun c_121 => ?_)
                    · have q3 := hsh_in jL (by omega)
                      have q4 : 27 ^ k ≤ 27 ^ 11 := Nat.pow_le_pow_right (by decide) (by omega)
                      have q5 := q8 (p + (k : Int)) (by omega) (by omega)
                      refine z_ldc2 (v := 27) C q1963 dX6_next_130 rfl ?_
                      refine z_aload_n C dX6_next_133 hl 0 rfl ?_
                      refine m_getl C hK hP 11 (by decide) q1760 rfl rfl j11 dX6_next_134 (fun r_134 => ?_)
                      refine z_lmul C dX6_next_137 ?_
                      refine z_aload_n C dX6_next_138 hl 0 rfl ?_
                      refine m_geta C hK hP 5 (by decide) q1754 rfl (by decide) dX6_next_139 ?_
                      refine z_aload_n C dX6_next_142 hl 0 rfl ?_
                      refine m_geti C hK hP 7 (by decide) q1756 rfl (Or.inl rfl) j7 dX6_next_143 (fun r_143 => ?_)
                      refine m_bald C hK hP 5 (by decide) rfl (by have h9 : mlen 5 = 1600 := rfl; omega) (pe hPS_102 rfl) dX6_next_146 (fun r_146 => ?_)
                      refine z_i2l C dX6_next_147 (by omega) ?_
                      refine z_ladd C dX6_next_148 ?_
                      refine z_ldc2 (v := 96) C q1964 dX6_next_149 rfl ?_
                      refine z_lsub C dX6_next_152 ?_
                      refine m_putl C hK hP hS 11 (by decide) q1760 rfl rfl (by omega) dX6_next_153 (fun S_153 eS_153 H locs hP hS => ?_)
                      have hS_153 := per_s rfl hPS_102 eS_153
                      have q7 : S_153 7 0 = p + (k : Int) := by simp [zup, eS_153, j7]
                      refine z_iload_n C dX6_next_156 hl 1 rfl ?_
                      refine z_bipush C dX6_next_157 rfl ?_
                      refine z_icmp_le C 169 dX6_next_159 (by decide) (by omega) (by omega) (fun c_159 => ?_) (fun c_159 => ?_)
                      · refine z_aload_n C dX6_next_169 hl 0 rfl ?_
                        refine z_dup C dX6_next_170 rfl ?_
                        refine m_geti C hK hP 7 (by decide) q1756 rfl (Or.inl rfl) q7 dX6_next_171 (fun r_171 => ?_)
                        refine z_iconst C dX6_next_174 ?_
                        refine z_iadd C dX6_next_175 ?_
                        refine m_puti C hK hP hS 7 (by decide) q1756 rfl rfl (by omega) dX6_next_176 (fun S_176 eS_176 H locs hP hS => ?_)
                        have hS_176 := per_s rfl hS_153 eS_176
                        refine z_iinc C dX6_next_179 hl (by decide) 1 rfl rfl (fun ls hl => ?_)
                        have hl : lv_has ls 2 [(1, _), (0, _)] := hl
                        refine z_goto C 102 dX6_next_182 (by decide) ?_
                        exact hL_102 (k + 1) _ _ _ ls (by omega) (by omega) (by simp [zup, eS_176, eS_153, j7]; try omega) (by simp [zup, eS_176, eS_153, j8]; try omega) (by simp [zup, eS_176, eS_153, j9]; try omega) (by simp [zup, eS_176, eS_153, j10]; try omega) (by simp [zup, eS_176, eS_153, hsh, j7, j11]; omega) q9 q8 (Fr.up (Fr.up jF eS_153 (by decide)) eS_176 (by decide)) hS_176 hP hS (lv_sub hl [1, 0] rfl)
                      · refine z_aload_n C dX6_next_162 hl 0 rfl ?_
                        refine z_ldc2 (v := -1) C q1962 dX6_next_163 rfl ?_
                        refine m_putl C hK hP hS 11 (by decide) q1760 rfl rfl (by omega) dX6_next_166 (fun S_166 eS_166 H locs hP hS => ?_)
                        have hS_166 := per_s rfl hS_153 eS_166
                        have q7 : S_166 7 0 = p + (k : Int) := by simp [zup, eS_166, q7]
                        refine z_aload_n C dX6_next_169 hl 0 rfl ?_
                        refine z_dup C dX6_next_170 rfl ?_
                        refine m_geti C hK hP 7 (by decide) q1756 rfl (Or.inl rfl) q7 dX6_next_171 (fun r_171 => ?_)
                        refine z_iconst C dX6_next_174 ?_
                        refine z_iadd C dX6_next_175 ?_
                        refine m_puti C hK hP hS 7 (by decide) q1756 rfl rfl (by omega) dX6_next_176 (fun S_176 eS_176 H locs hP hS => ?_)
                        have hS_176 := per_s rfl hS_166 eS_176
                        refine z_iinc C dX6_next_179 hl (by decide) 1 rfl rfl (fun ls hl => ?_)
                        have hl : lv_has ls 2 [(1, _), (0, _)] := hl
                        refine z_goto C 102 dX6_next_182 (by decide) ?_
                        exact hL_102 (k + 1) _ _ _ ls (by omega) (by omega) (by simp [zup, eS_176, eS_166, eS_153, j7]; try omega) (by simp [zup, eS_176, eS_166, eS_153, j8]; try omega) (by simp [zup, eS_176, eS_166, eS_153, j9]; try omega) (by simp [zup, eS_176, eS_166, eS_153, j10]; try omega) (by simp [zup, eS_176, eS_166, hsh]; omega) q9 q8 (Fr.up (Fr.up (Fr.up jF eS_153 (by decide)) eS_166 (by decide)) eS_176 (by decide)) hS_176 hP hS (lv_sub hl [1, 0] rfl)
                    · refine z_ldc2 (v := -1) C q1962 dX6_next_124 rfl ?_
                      refine z_goto C 153 dX6_next_127 (by decide) ?_
                      refine m_putl C hK hP hS 11 (by decide) q1760 rfl rfl (by omega) dX6_next_153 (fun S_153 eS_153 H locs hP hS => ?_)
                      have hS_153 := per_s rfl hPS_102 eS_153
                      have q7 : S_153 7 0 = p + (k : Int) := by simp [zup, eS_153, j7]
                      refine z_iload_n C dX6_next_156 hl 1 rfl ?_
                      refine z_bipush C dX6_next_157 rfl ?_
                      refine z_icmp_le C 169 dX6_next_159 (by decide) (by omega) (by omega) (fun c_159 => ?_) (fun c_159 => ?_)
                      · refine z_aload_n C dX6_next_169 hl 0 rfl ?_
                        refine z_dup C dX6_next_170 rfl ?_
                        refine m_geti C hK hP 7 (by decide) q1756 rfl (Or.inl rfl) q7 dX6_next_171 (fun r_171 => ?_)
                        refine z_iconst C dX6_next_174 ?_
                        refine z_iadd C dX6_next_175 ?_
                        refine m_puti C hK hP hS 7 (by decide) q1756 rfl rfl (by omega) dX6_next_176 (fun S_176 eS_176 H locs hP hS => ?_)
                        have hS_176 := per_s rfl hS_153 eS_176
                        refine z_iinc C dX6_next_179 hl (by decide) 1 rfl rfl (fun ls hl => ?_)
                        have hl : lv_has ls 2 [(1, _), (0, _)] := hl
                        refine z_goto C 102 dX6_next_182 (by decide) ?_
                        exact hL_102 (k + 1) _ _ _ ls (by omega) (by omega) (by simp [zup, eS_176, eS_153, j7]; try omega) (by simp [zup, eS_176, eS_153, j8]; try omega) (by simp [zup, eS_176, eS_153, j9]; try omega) (by simp [zup, eS_176, eS_153, j10]; try omega) (by simp [zup, eS_176, eS_153, hsh, j7, j11]; omega) q9 q8 (Fr.up (Fr.up jF eS_153 (by decide)) eS_176 (by decide)) hS_176 hP hS (lv_sub hl [1, 0] rfl)
                      · refine z_aload_n C dX6_next_162 hl 0 rfl ?_
                        refine z_ldc2 (v := -1) C q1962 dX6_next_163 rfl ?_
                        refine m_putl C hK hP hS 11 (by decide) q1760 rfl rfl (by omega) dX6_next_166 (fun S_166 eS_166 H locs hP hS => ?_)
                        have hS_166 := per_s rfl hS_153 eS_166
                        have q7 : S_166 7 0 = p + (k : Int) := by simp [zup, eS_166, q7]
                        refine z_aload_n C dX6_next_169 hl 0 rfl ?_
                        refine z_dup C dX6_next_170 rfl ?_
                        refine m_geti C hK hP 7 (by decide) q1756 rfl (Or.inl rfl) q7 dX6_next_171 (fun r_171 => ?_)
                        refine z_iconst C dX6_next_174 ?_
                        refine z_iadd C dX6_next_175 ?_
                        refine m_puti C hK hP hS 7 (by decide) q1756 rfl rfl (by omega) dX6_next_176 (fun S_176 eS_176 H locs hP hS => ?_)
                        have hS_176 := per_s rfl hS_166 eS_176
                        refine z_iinc C dX6_next_179 hl (by decide) 1 rfl rfl (fun ls hl => ?_)
                        have hl : lv_has ls 2 [(1, _), (0, _)] := hl
                        refine z_goto C 102 dX6_next_182 (by decide) ?_
                        exact hL_102 (k + 1) _ _ _ ls (by omega) (by omega) (by simp [zup, eS_176, eS_166, eS_153, j7]; try omega) (by simp [zup, eS_176, eS_166, eS_153, j8]; try omega) (by simp [zup, eS_176, eS_166, eS_153, j9]; try omega) (by simp [zup, eS_176, eS_166, eS_153, j10]; try omega) (by simp [zup, eS_176, eS_166, hsh]; omega) q9 q8 (Fr.up (Fr.up (Fr.up jF eS_153 (by decide)) eS_166 (by decide)) eS_176 (by decide)) hS_176 hP hS (lv_sub hl [1, 0] rfl)
              exact hL_102 _ 0 _ _ _ ls (Nat.lt_succ_self _) (by omega) (by simp [zup, eS_97, eS_58, eS_53, eS_48, i7]; try omega) (by simp [zup, eS_97]; try omega) (by simp [zup, eS_97, eS_58, eS_53, eS_48, i7]; try omega) (by simp [zup, eS_97, eS_58, eS_53]; try omega) (by simp [zup, eS_97, eS_58, hsh]) (by simp) (fun j h1 h2 => by omega) (Fr.up (Fr.up (Fr.up (Fr.up iF eS_48 (by decide)) eS_53 (by decide)) eS_58 (by decide)) eS_97 (by decide)) hS_97 hP hS (lv_sub hl [1, 0] rfl)
          · refine z_aload_n C dX6_next_72 hl 0 rfl ?_
            refine z_iconst C dX6_next_73 ?_
            refine m_puti C hK hP hS 8 (by decide) q1757 rfl rfl (by omega) dX6_next_74 (fun S_74 eS_74 H locs hP hS => ?_)
            have hS_74 := per_s rfl hS_58 eS_74
            have nxW : TokAt (P 5) (P 6 0) (sk (P 5) (P 6 0) a) S_74 ∧ Fr [7, 8, 9, 10, 11] S S_74 := by
              rw [q1]
              exact ⟨tok_0 (by omega) c_69 (by simp [zup, eS_74, eS_58, eS_53, eS_48, i7]) (by simp [zup, eS_74, eS_58, eS_53, eS_48, i7]) (by simp [zup, eS_74, eS_58, eS_53, eS_48, i7]) (by simp [zup, eS_74, eS_58, eS_53, eS_48, i7]) (by simp [zup, eS_74, eS_58, eS_53, eS_48, i7]), (Fr.up (Fr.up (Fr.up (Fr.up iF eS_48 (by decide)) eS_53 (by decide)) eS_58 (by decide)) eS_74 (by decide))⟩
            refine z_goto C 307 dX6_next_77 (by decide) ?_
            exact m_mret_v C hQ hret hlk hS hP nxW dX6_next_307
        · replace c_27 := z01_t c_27
          refine z_aload_n C dX6_next_30 hl 0 rfl ?_
          refine z_dup C dX6_next_31 rfl ?_
          refine m_geti C hK hP 7 (by decide) q1756 rfl (Or.inl rfl) i7 dX6_next_32 (fun r_32 => ?_)
          refine z_iconst C dX6_next_35 ?_
          refine z_iadd C dX6_next_36 ?_
          refine m_puti C hK hP hS 7 (by decide) q1756 rfl rfl (by omega) dX6_next_37 (fun S_37 eS_37 H locs hP hS => ?_)
          have hS_37 := per_s rfl hPS_0 eS_37
          refine z_goto C 0 dX6_next_40 (by decide) ?_
          exact hL_0 (p + 1) _ _ _ ls (by omega) (by omega) (by rw [eS_37, zup_s]) (by rw [← iK]; exact (sk_step (by omega) (by omega)).symm) (Fr.up iF eS_37 (by decide)) hS_37 hP hS (lv_sub hl [0] rfl)
  exact hL_0 _ a _ _ _ ls (Nat.lt_succ_self _) (by omega) h7 rfl Fr.rf hPS hP hS (lv_sub hl [0] rfl)
