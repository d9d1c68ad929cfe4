theorem vX6_172 : zV RX6 172 RX6 yX6_is cX6_is 3 (some .boolean) 1 := ⟨lw_V q1984 q1986 qs71 q149 q1987, rfl, by decide +kernel⟩
theorem vX6_176 : zV RX6 176 RX6 yX6_next cX6_next 2 none 0 := ⟨lw_V q1954 q1956 qs65 q149 q1957, rfl, by decide +kernel⟩
theorem vX6_179 : zV RX6 179 RX6 yX6_takes cX6_takes 3 (some .boolean) 1 := ⟨lw_V q1980 q1982 qs70 q149 q1983, rfl, by decide +kernel⟩
theorem vX6_182 : zV RX6 182 RX6 yX6_fails cX6_fails 2 none 1 := ⟨lw_V q1988 q1990 qs72 q149 q1991, rfl, by decide +kernel⟩
theorem vX6_185 : zV RX6 185 RX6 yX6_asks cX6_asks 3 none 1 := ⟨lw_V q1976 q1978 qs69 q149 q1979, rfl, by decide +kernel⟩
theorem vX6_189 : zV RX6 189 RX6 yX6_number_2 cX6_number_2 4 (some .int) 2 := ⟨lw_V q1997 q1999 qs74 q149 q2000, rfl, by decide +kernel⟩
theorem mcX6_isGood (l : Launch) (g : mG) (h : Nat) (ad : Nat → Nat) (P S : zS) (hPS : per S = P) (st : rS) (T : Int → Int) (nn : Int) (hM : MS T nn st S) : mPI l g h ad yX6_isGood cX6_isGood 1 .boolean (k2_rm 0 0) [] S (if st.1 = 0 then 1 else 0) := by
  intro H0 hP
  refine z_start (own := RX6) (by decide) rfl (Nat.le_of_ble_eq_true rfl) ?_
  intro prg env s mid blw mth cod ls Q C hQ hret hlk hnm hK hH hl
  subst hH
  have hS : va_S nA s.heap s.heap [] := va_S.rf
  have hl : lv_has ls 1 [(0, .ref h)] := hl
  refine z_aload_n C dX6_isGood_0 hl 0 rfl ?_
  refine m_geti C hK hP 12 (by decide) q1761 rfl (Or.inl rfl) hM.1 dX6_isGood_1 (fun r_1 => ?_)
  refine z_if_ne C 11 dX6_isGood_4 (by decide) (by omega) (fun c_4 => ?_) (fun c_4 => ?_)
  · refine z_iconst C dX6_isGood_11 ?_
    exact z_pret_z C hQ hret hlk hS z01_any (by first | exact (if_pos (by assumption)).symm | exact (if_neg (by assumption)).symm) dX6_isGood_12
  · refine z_iconst C dX6_isGood_7 ?_
    refine z_goto C 12 dX6_isGood_8 (by decide) ?_
    exact z_pret_z C hQ hret hlk hS z01_any (by first | exact (if_pos (by assumption)).symm | exact (if_neg (by assumption)).symm) dX6_isGood_12
theorem mcX6_fails (l : Launch) (g : mG) (h : Nat) (ad : Nat → Nat) (P S : zS) (hPS : per S = P) (T : Int → Int) (nn : Int) (st : rS) (k : Int) (hM : MS T nn st S) (hk : I32 k ∧ k ≠ 0) : mMV l g h ad yX6_fails cX6_fails 2 (k2_rm 0 0) [.int (iZ k)] S (fun S1 => MS T nn (failS st k) S1 ∧ Fr [12, 13] S S1) := by
  refine z_start (own := RX6) (by decide) rfl (Nat.le_of_ble_eq_true rfl) ?_
  intro prg env s mid blw mth cod ls Q C hQ hret hlk hnm hK hH hl
  have hP : MP g h ad S s.heap := hH
  have hS : va_S (MA h ad) s.heap s.heap [] := va_S.rf
  have hl : lv_has ls 2 [(0, .ref h), (1, .int (iZ k))] := hl
  refine z_aload_n C dX6_fails_0 hl 0 rfl ?_
  refine m_geti C hK hP 12 (by decide) q1761 rfl (Or.inl rfl) hM.1 dX6_fails_1 (fun r_1 => ?_)
  refine z_if_eq C 8 dX6_fails_4 (by decide) (by omega) (fun c_4 => ?_) (fun c_4 => ?_)
  · refine z_aload_n C dX6_fails_8 hl 0 rfl ?_
    refine z_iload_n C dX6_fails_9 hl 1 rfl ?_
    refine m_puti C hK hP hS 12 (by decide) q1761 rfl rfl (by omega) dX6_fails_10 (fun S_10 eS_10 H locs hP hS => ?_)
    have hS_10 := per_s rfl hPS eS_10
    have q1 : S_10 9 0 = st.2 := by rw [eS_10, zup_k _ _ _ (by decide)]; exact (hM.at c_4).2.2.1
    refine z_aload_n C dX6_fails_13 hl 0 rfl ?_
    refine z_aload_n C dX6_fails_14 hl 0 rfl ?_
    refine m_geti C hK hP 9 (by decide) q1758 rfl (Or.inl rfl) q1 dX6_fails_15 (fun r_15 => ?_)
    refine m_puti C hK hP hS 13 (by decide) q1762 rfl rfl (by omega) dX6_fails_18 (fun S_18 eS_18 H locs hP hS => ?_)
    have hS_18 := per_s rfl hS_10 eS_18
    exact m_mret_v C hQ hret hlk hS hP ⟨by rw [failS, if_pos c_4]; exact MS.bad (by simp [zup, eS_18, eS_10]) (by simp [zup, eS_18]) hk.2, Fr.up (Fr.up Fr.rf eS_10 (by decide)) eS_18 (by decide)⟩ dX6_fails_21
  · exact m_mret_v C hQ hret hlk hS hP ⟨by rw [failS, if_neg c_4]; exact hM, Fr.rf⟩ dX6_fails_7
theorem mcX6_is (l : Launch) (g : mG) (h : Nat) (ad : Nat → Nat) (P S : zS) (hPS : per S = P) (T : Int → Int) (nn : Int) (st : rS) (w : Int) (hM : MS T nn st S) (hw : I64 w) : mPI l g h ad yX6_is cX6_is 3 .boolean (k2_rm 0 0) [.long (lZ w)] S (if isW T nn st w then 1 else 0) := by
  intro H0 hP
  refine z_start (own := RX6) (by decide) rfl (Nat.le_of_ble_eq_true rfl) ?_
  intro prg env s mid blw mth cod ls Q C hQ hret hlk hnm hK hH hl
  subst hH
  have hS : va_S nA s.heap s.heap [] := va_S.rf
  have hl : lv_has ls 3 [(0, .ref h), (1, .long (lZ w))] := hl
  refine z_aload_n C dX6_is_0 hl 0 rfl ?_
  refine m_geti C hK hP 12 (by decide) q1761 rfl (Or.inl rfl) hM.1 dX6_is_1 (fun r_1 => ?_)
  refine z_if_ne C 28 dX6_is_4 (by decide) (by omega) (fun c_4 => ?_) (fun c_4 => ?_)
  · refine z_iconst C dX6_is_28 ?_
    exact z_pret_z C hQ hret hlk hS z01_any (by first | exact (if_pos ⟨c_4, c_12, by omega⟩).symm | exact (if_neg (fun z => by have z1 := z.1; have z2 := z.2.1; have z3 := z.2.2; omega)).symm) dX6_is_29
  · have q1 := hM.at c_4
    refine z_aload_n C dX6_is_7 hl 0 rfl ?_
    refine m_geti C hK hP 8 (by decide) q1757 rfl (Or.inl rfl) q1.2.1 dX6_is_8 (fun r_8 => ?_)
    refine z_iconst C dX6_is_11 ?_
    refine z_icmp_ne C 28 dX6_is_12 (by decide) (by omega) (by omega) (fun c_12 => ?_) (fun c_12 => ?_)
    · refine z_iconst C dX6_is_28 ?_
      exact z_pret_z C hQ hret hlk hS z01_any (by first | exact (if_pos ⟨c_4, c_12, by omega⟩).symm | exact (if_neg (fun z => by have z1 := z.1; have z2 := z.2.1; have z3 := z.2.2; omega)).symm) dX6_is_29
    · refine z_aload_n C dX6_is_15 hl 0 rfl ?_
      refine m_getl C hK hP 11 (by decide) q1760 rfl rfl q1.2.2.2.2.1 dX6_is_16 (fun r_16 => ?_)
      refine z_lload_n C dX6_is_19 hl 1 rfl ?_
      refine z_lcmp_ne C 28 dX6_is_20 dX6_is_21 (by decide) (by omega) (by omega) (fun c_20 => ?_) (fun c_20 => ?_)
      · refine z_iconst C dX6_is_28 ?_
        exact z_pret_z C hQ hret hlk hS z01_any (by first | exact (if_pos ⟨c_4, c_12, by omega⟩).symm | exact (if_neg (fun z => by have z1 := z.1; have z2 := z.2.1; have z3 := z.2.2; omega)).symm) dX6_is_29
      · refine z_iconst C dX6_is_24 ?_
        refine z_goto C 29 dX6_is_25 (by decide) ?_
        exact z_pret_z C hQ hret hlk hS z01_any (by first | exact (if_pos ⟨c_4, c_12, by omega⟩).symm | exact (if_neg (fun z => by have z1 := z.1; have z2 := z.2.1; have z3 := z.2.2; omega)).symm) dX6_is_29
theorem mcX6_takes (l : Launch) (g : mG) (h : Nat) (ad : Nat → Nat) (P S : zS) (hPS : per S = P) (T : Int → Int) (nn : Int) (st : rS) (w : Int) (hnn : 0 ≤ nn ∧ nn ≤ 1600) (h5 : P 5 = T) (h6 : P 6 0 = nn) (hM : MS T nn st S) (hw : I64 w) : mMI l g h ad yX6_takes cX6_takes 3 .boolean (k2_rm 2 44) [.long (lZ w)] S (fun z1 S1 => z1 = (if isW T nn st w then 1 else 0) ∧ MS T nn (takesS T nn st w) S1 ∧ Fr [7, 8, 9, 10, 11] S S1) := by
  refine z_start (own := RX6) (by decide) rfl (Nat.le_of_ble_eq_true rfl) ?_
  intro prg env s mid blw mth cod ls Q C hQ hret hlk hnm hK hH hl
  have hP : MP g h ad S s.heap := hH
  have hS : va_S (MA h ad) s.heap s.heap [] := va_S.rf
  have hl : lv_has ls 3 [(0, .ref h), (1, .long (lZ w))] := hl
  subst h5 h6
  refine z_aload_n C dX6_takes_0 hl 0 rfl ?_
  refine z_lload_n C dX6_takes_1 hl 1 rfl ?_
  refine m_pi C vX6_172 (mcX6_is l g h ad _ _ hPS _ _ st _ hM (by omega)) hS hl ⟨Nat.le_of_ble_eq_true rfl, Nat.le_of_ble_eq_true rfl⟩ ⟨rfl, rfl⟩ hK hP rfl rfl (Nat.le_of_ble_eq_true rfl) dX6_takes_2 ⟨Nat.zero_le _, Nat.zero_le _⟩ (fun locs hS => ?_)
  refine z_if_ne C 10 dX6_takes_5 (by decide) z01_in (fun c_5 => ?_) (fun c_5 => ?_)
  · replace c_5 := z01_t c_5
    have c9 := c_5.1
    have q1 := hM.at c9
    have q2 : 0 ≤ tkE (P 5) (P 6 0) st.2 ∧ tkE (P 5) (P 6 0) st.2 ≤ P 6 0 := by have q3 := tkE_in (T := P 5) q1.2.2.2.2.2.2; have q4 := q1.2.2.2.2.2.1; omega
    refine z_aload_n C dX6_takes_10 hl 0 rfl ?_
    refine m_mv C vX6_176 (mcX6_next l g h ad _ _ hPS (tkE (P 5) (P 6 0) st.2) (by omega) q1.1 q2) hS hl ⟨Nat.le_of_ble_eq_true rfl, Nat.le_of_ble_eq_true rfl⟩ ⟨rfl, rfl⟩ hK hP (fun _ h9 => h9) rfl rfl (Nat.le_of_ble_eq_true rfl) dX6_takes_11 ⟨Nat.zero_le _, Nat.zero_le _⟩ (fun S_11 H locs pS_11 hP hS => ?_)
    have hS_11 : per S_11 = P := (pS_11.2.pr rfl hPS)
    refine z_iconst C dX6_takes_14 ?_
    exact m_mret_z C hQ hret hlk hS hP (Or.inr rfl) ⟨(if_pos c_5).symm, by rw [takesS, if_pos c_5, nextS, if_pos c9]; exact (MS.go pS_11.1 (by rw [pS_11.2 12 (by decide)]; exact hM.1.trans c9)), pS_11.2⟩ dX6_takes_15
  · replace c_5 := z01_f c_5
    refine z_iconst C dX6_takes_8 ?_
    exact m_mret_z C hQ hret hlk hS hP (Or.inl rfl) ⟨(if_neg c_5).symm, by rw [takesS, if_neg c_5]; exact hM, Fr.rf⟩ dX6_takes_9
theorem mcX6_asks (l : Launch) (g : mG) (h : Nat) (ad : Nat → Nat) (P S : zS) (hPS : per S = P) (T : Int → Int) (nn : Int) (st : rS) (w : Int) (hnn : 0 ≤ nn ∧ nn ≤ 1600) (h5 : P 5 = T) (h6 : P 6 0 = nn) (hM : MS T nn st S) (hw : I64 w) : mMV l g h ad yX6_asks cX6_asks 3 (k2_rm 3 66) [.long (lZ w)] S (fun S1 => MS T nn (asksS T nn st w) S1 ∧ Fr [7, 8, 9, 10, 11, 12, 13] S S1) := by
  refine z_start (own := RX6) (by decide) rfl (Nat.le_of_ble_eq_true rfl) ?_
  intro prg env s mid blw mth cod ls Q C hQ hret hlk hnm hK hH hl
  have hP : MP g h ad S s.heap := hH
  have hS : va_S (MA h ad) s.heap s.heap [] := va_S.rf
  have hl : lv_has ls 3 [(0, .ref h), (1, .long (lZ w))] := hl
  refine z_aload_n C dX6_asks_0 hl 0 rfl ?_
  refine z_lload_n C dX6_asks_1 hl 1 rfl ?_
  refine m_mi C vX6_179 (mcX6_takes l g h ad _ _ hPS T nn st _ hnn h5 h6 hM (by omega)) hS hl ⟨Nat.le_of_ble_eq_true rfl, Nat.le_of_ble_eq_true rfl⟩ ⟨rfl, rfl⟩ hK hP (fun _ h9 => h9) rfl rfl (Nat.le_of_ble_eq_true rfl) dX6_asks_2 ⟨Nat.zero_le _, Nat.zero_le _⟩ (fun v_2 S_2 H locs pS_2 hP hS => ?_)
  obtain ⟨e_2, pS_2⟩ := pS_2
  subst e_2
  have hS_2 : per S_2 = P := (pS_2.2.pr rfl hPS)
  refine z_if_ne C 13 dX6_asks_5 (by decide) z01_in (fun c_5 => ?_) (fun c_5 => ?_)
  · replace c_5 := z01_t c_5
    exact m_mret_v C hQ hret hlk hS hP ⟨by first | (rw [asksS, if_pos c_5]; have q := pS_2.1; rw [takesS, if_pos c_5] at q; exact q) | (rw [asksS, if_neg c_5]; have q := pS_10.1; rw [takesS, if_neg c_5] at q; exact q), by first | exact (pS_2.2.le (by decide)).tr (pS_10.2.le (by decide)) | exact pS_2.2.le (by decide)⟩ dX6_asks_13
  · replace c_5 := z01_f c_5
    refine z_aload_n C dX6_asks_8 hl 0 rfl ?_
    refine z_iconst C dX6_asks_9 ?_
    refine m_mv C vX6_182 (mcX6_fails l g h ad _ _ hS_2 T nn _ _ pS_2.1 (by omega)) hS hl ⟨Nat.le_of_ble_eq_true rfl, Nat.le_of_ble_eq_true rfl⟩ ⟨rfl, rfl⟩ hK hP (fun _ h9 => h9) rfl rfl (Nat.le_of_ble_eq_true rfl) dX6_asks_10 ⟨Nat.zero_le _, Nat.zero_le _⟩ (fun S_10 H locs pS_10 hP hS => ?_)
    have hS_10 : per S_10 = P := (pS_10.2.pr rfl hS_2)
    exact m_mret_v C hQ hret hlk hS hP ⟨by first | (rw [asksS, if_pos c_5]; have q := pS_2.1; rw [takesS, if_pos c_5] at q; exact q) | (rw [asksS, if_neg c_5]; have q := pS_10.1; rw [takesS, if_neg c_5] at q; exact q), by first | exact (pS_2.2.le (by decide)).tr (pS_10.2.le (by decide)) | exact pS_2.2.le (by decide)⟩ dX6_asks_13
theorem mcX6_number_2 (l : Launch) (g : mG) (h : Nat) (ad : Nat → Nat) (P S : zS) (hPS : per S = P) (T : Int → Int) (nn : Int) (st : rS) (lo hi : Int) (hnn : 0 ≤ nn ∧ nn ≤ 1600) (h5 : P 5 = T) (h6 : P 6 0 = nn) (hM : MS T nn st S) (hlo : I32 lo) (hhi : I32 hi) : mMI l g h ad yX6_number_2 cX6_number_2 4 .int (k2_rm 2 44) [.int (iZ lo), .int (iZ hi)] S (fun z1 S1 => z1 = numV T nn st lo hi ∧ I32 (numV T nn st lo hi) ∧ MS T nn (numS T nn st lo hi) S1 ∧ Fr [7, 8, 9, 10, 11, 12, 13] S S1) := by
  refine z_start (own := RX6) (by decide) rfl (Nat.le_of_ble_eq_true rfl) ?_
  intro prg env s mid blw mth cod ls Q C hQ hret hlk hnm hK hH hl
  have hP : MP g h ad S s.heap := hH
  have hS : va_S (MA h ad) s.heap s.heap [] := va_S.rf
  have hl : lv_has ls 4 [(0, .ref h), (1, .int (iZ lo)), (2, .int (iZ hi))] := hl
  subst h5 h6
  have q0 := numV_in hM hlo hi
  refine z_aload_n C dX6_number_2_0 hl 0 rfl ?_
  refine m_geti C hK hP 12 (by decide) q1761 rfl (Or.inl rfl) hM.1 dX6_number_2_1 (fun r_1 => ?_)
  refine z_if_eq C 9 dX6_number_2_4 (by decide) (by omega) (fun c_4 => ?_) (fun c_4 => ?_)
  · have c9 := c_4
    have q1 := hM.at c9
    have q2 : 0 ≤ tkE (P 5) (P 6 0) st.2 ∧ tkE (P 5) (P 6 0) st.2 ≤ P 6 0 := by have q3 := tkE_in (T := P 5) q1.2.2.2.2.2.2; have q4 := q1.2.2.2.2.2.1; omega
    refine z_aload_n C dX6_number_2_9 hl 0 rfl ?_
    refine m_geti C hK hP 8 (by decide) q1757 rfl (Or.inl rfl) q1.2.1 dX6_number_2_10 (fun r_10 => ?_)
    refine z_iconst C dX6_number_2_13 ?_
    refine z_icmp_eq C 24 dX6_number_2_14 (by decide) (by omega) (by omega) (fun c_14 => ?_) (fun c_14 => ?_)
    · refine z_aload_n C dX6_number_2_24 hl 0 rfl ?_
      refine m_geti C hK hP 10 (by decide) q1759 rfl (Or.inl rfl) q1.2.2.2.1 dX6_number_2_25 (fun r_25 => ?_)
      refine z_i2l C dX6_number_2_28 (by omega) ?_
      refine z_iload_n C dX6_number_2_29 hl 1 rfl ?_
      refine z_i2l C dX6_number_2_30 (by omega) ?_
      refine z_iload_n C dX6_number_2_31 hl 2 rfl ?_
      refine z_i2l C dX6_number_2_32 (by omega) ?_
      refine s_pi C vX6_119 (mcX6_in l _ _ _ (by omega) (by omega) (by omega)) hS hl ⟨Nat.le_of_ble_eq_true rfl, Nat.le_of_ble_eq_true rfl⟩ ⟨rfl, rfl⟩ rfl rfl (Nat.le_of_ble_eq_true rfl) dX6_number_2_33 ⟨Nat.zero_le _, Nat.zero_le _⟩ (fun locs hS => ?_)
      refine z_if_ne C 46 dX6_number_2_36 (by decide) z01_in (fun c_36 => ?_) (fun c_36 => ?_)
      · replace c_36 := z01_t c_36
        refine z_aload_n C dX6_number_2_46 hl 0 rfl ?_
        refine m_geti C hK hP 10 (by decide) q1759 rfl (Or.inl rfl) q1.2.2.2.1 dX6_number_2_47 (fun r_47 => ?_)
        refine z_istore_n C dX6_number_2_50 rfl hl (by decide) rfl (fun ls hl => ?_)
        have hl : lv_has ls 4 [(3, _), (0, _), (1, _), (2, _)] := hl
        refine z_aload_n C dX6_number_2_51 hl 1 rfl ?_
        refine m_mv C vX6_176 (mcX6_next l g h ad _ _ hPS (tkE (P 5) (P 6 0) st.2) (by omega) q1.1 q2) hS hl ⟨Nat.le_of_ble_eq_true rfl, Nat.le_of_ble_eq_true rfl⟩ ⟨rfl, rfl⟩ hK hP (fun _ h9 => h9) rfl rfl (Nat.le_of_ble_eq_true rfl) dX6_number_2_52 ⟨Nat.zero_le _, Nat.zero_le _⟩ (fun S_52 H locs pS_52 hP hS => ?_)
        have hS_52 : per S_52 = P := (pS_52.2.pr rfl hPS)
        refine z_iload_n C dX6_number_2_55 hl 0 rfl ?_
        exact m_mret_i C hQ hret hlk hS hP ⟨(if_pos ⟨c9, c_14, c_36⟩).symm, q0, by rw [numS, if_pos c9, if_pos c_14, if_pos c_36]; exact (MS.go pS_52.1 (by rw [pS_52.2 12 (by decide)]; exact hM.1.trans c9)), pS_52.2.le (by decide)⟩ dX6_number_2_56
      · replace c_36 := z01_f c_36
        refine z_aload_n C dX6_number_2_39 hl 0 rfl ?_
        refine z_iconst C dX6_number_2_40 ?_
        refine m_mv C vX6_182 (mcX6_fails l g h ad _ _ hPS _ _ _ _ hM (by omega)) hS hl ⟨Nat.le_of_ble_eq_true rfl, Nat.le_of_ble_eq_true rfl⟩ ⟨rfl, rfl⟩ hK hP (fun _ h9 => h9) rfl rfl (Nat.le_of_ble_eq_true rfl) dX6_number_2_41 ⟨Nat.zero_le _, Nat.zero_le _⟩ (fun S_41 H locs pS_41 hP hS => ?_)
        have hS_41 : per S_41 = P := (pS_41.2.pr rfl hPS)
        refine z_iload_n C dX6_number_2_44 hl 1 rfl ?_
        exact m_mret_i C hQ hret hlk hS hP ⟨(if_neg (fun z => c_36 z.2.2)).symm, q0, by have q := pS_41.1; rw [failS, if_pos c9] at q; rw [numS, if_pos c9, if_pos c_14, if_neg c_36]; exact q, pS_41.2.le (by decide)⟩ dX6_number_2_45
    · refine z_aload_n C dX6_number_2_17 hl 0 rfl ?_
      refine z_iconst C dX6_number_2_18 ?_
      refine m_mv C vX6_182 (mcX6_fails l g h ad _ _ hPS _ _ _ _ hM (by omega)) hS hl ⟨Nat.le_of_ble_eq_true rfl, Nat.le_of_ble_eq_true rfl⟩ ⟨rfl, rfl⟩ hK hP (fun _ h9 => h9) rfl rfl (Nat.le_of_ble_eq_true rfl) dX6_number_2_19 ⟨Nat.zero_le _, Nat.zero_le _⟩ (fun S_19 H locs pS_19 hP hS => ?_)
      have hS_19 : per S_19 = P := (pS_19.2.pr rfl hPS)
      refine z_iload_n C dX6_number_2_22 hl 1 rfl ?_
      exact m_mret_i C hQ hret hlk hS hP ⟨(if_neg (fun z => c_14 z.2.1)).symm, q0, by have q := pS_19.1; rw [failS, if_pos c9] at q; rw [numS, if_pos c9, if_neg c_14]; exact q, pS_19.2.le (by decide)⟩ dX6_number_2_23
  · refine z_iload_n C dX6_number_2_7 hl 1 rfl ?_
    exact m_mret_i C hQ hret hlk hS hP ⟨(if_neg (fun z => c_4 z.1)).symm, q0, by rw [numS, if_neg c_4]; exact hM, Fr.rf⟩ dX6_number_2_8
theorem mcX6_number (l : Launch) (g : mG) (h : Nat) (ad : Nat → Nat) (P S : zS) (hPS : per S = P) (T : Int → Int) (nn : Int) (st : rS) (w lo hi : Int) (hnn : 0 ≤ nn ∧ nn ≤ 1600) (h5 : P 5 = T) (h6 : P 6 0 = nn) (hM : MS T nn st S) (hw : I64 w) (hlo : I32 lo) (hhi : I32 hi) : mMI l g h ad yX6_number cX6_number 5 .int (k2_rm 4 88) [.long (lZ w), .int (iZ lo), .int (iZ hi)] S (fun z1 S1 => z1 = numWV T nn st w lo hi ∧ I32 (numWV T nn st w lo hi) ∧ MS T nn (numWS T nn st w lo hi) S1 ∧ Fr [7, 8, 9, 10, 11, 12, 13] S S1) := by
  refine z_start (own := RX6) (by decide) rfl (Nat.le_of_ble_eq_true rfl) ?_
  intro prg env s mid blw mth cod ls Q C hQ hret hlk hnm hK hH hl
  have hP : MP g h ad S s.heap := hH
  have hS : va_S (MA h ad) s.heap s.heap [] := va_S.rf
  have hl : lv_has ls 5 [(0, .ref h), (1, .long (lZ w)), (3, .int (iZ lo)), (4, .int (iZ hi))] := hl
  refine z_aload_n C dX6_number_0 hl 0 rfl ?_
  refine z_lload_n C dX6_number_1 hl 1 rfl ?_
  refine m_mv C vX6_185 (mcX6_asks l g h ad _ _ hPS T nn st _ hnn h5 h6 hM (by omega)) hS hl ⟨Nat.le_of_ble_eq_true rfl, Nat.le_of_ble_eq_true rfl⟩ ⟨rfl, rfl⟩ hK hP (fun _ h9 => h9) rfl rfl (Nat.le_of_ble_eq_true rfl) dX6_number_2 ⟨Nat.zero_le _, Nat.zero_le _⟩ (fun S_2 H locs pS_2 hP hS => ?_)
  have hS_2 : per S_2 = P := (pS_2.2.pr rfl hPS)
  refine z_aload_n C dX6_number_5 hl 0 rfl ?_
  refine z_iload_n C dX6_number_6 hl 2 rfl ?_
  refine z_iload C dX6_number_7 hl 3 rfl ?_
  refine m_mi C vX6_189 (mcX6_number_2 l g h ad _ _ hS_2 T nn _ _ _ hnn h5 h6 pS_2.1 (by omega) (by omega)) hS hl ⟨Nat.le_of_ble_eq_true rfl, Nat.le_of_ble_eq_true rfl⟩ ⟨rfl, rfl⟩ hK hP (fun _ h9 => h9) rfl rfl (Nat.le_of_ble_eq_true rfl) dX6_number_9 ⟨Nat.zero_le _, Nat.zero_le _⟩ (fun v_9 S_9 H locs pS_9 hP hS => ?_)
  obtain ⟨e_9, pS_9⟩ := pS_9
  subst e_9
  have hS_9 : per S_9 = P := (pS_9.2.2.pr rfl hS_2)
  exact m_mret_i C hQ hret hlk hS hP ⟨rfl, pS_9.1, pS_9.2.1, pS_2.2.tr pS_9.2.2⟩ dX6_number_12
theorem mcX6_ends (l : Launch) (g : mG) (h : Nat) (ad : Nat → Nat) (P S : zS) (hPS : per S = P) (T : Int → Int) (nn : Int) (st : rS) (hnn : 0 ≤ nn ∧ nn ≤ 1600) (h5 : P 5 = T) (h6 : P 6 0 = nn) (hM : MS T nn st S) (h0 : st.1 = 0) : mMV l g h ad yX6_ends cX6_ends 1 (k2_rm 2 44) [] S (fun S1 => MS T nn (endsS T nn st) S1 ∧ Fr [7, 8, 9, 10, 11, 12, 13] S S1) := by
  refine z_start (own := RX6) (by decide) rfl (Nat.le_of_ble_eq_true rfl) ?_
  intro prg env s mid blw mth cod ls Q C hQ hret hlk hnm hK hH hl
  have hP : MP g h ad S s.heap := hH
  have hS : va_S (MA h ad) s.heap s.heap [] := va_S.rf
  have hl : lv_has ls 1 [(0, .ref h)] := hl
  subst h5 h6
  have c9 := h0
  have q1 := hM.at c9
  have q2 : 0 ≤ tkE (P 5) (P 6 0) st.2 ∧ tkE (P 5) (P 6 0) st.2 ≤ P 6 0 := by have q3 := tkE_in (T := P 5) q1.2.2.2.2.2.2; have q4 := q1.2.2.2.2.2.1; omega
  refine z_aload_n C dX6_ends_0 hl 0 rfl ?_
  refine m_geti C hK hP 8 (by decide) q1757 rfl (Or.inl rfl) q1.2.1 dX6_ends_1 (fun r_1 => ?_)
  refine z_iconst C dX6_ends_4 ?_
  refine z_icmp_eq C 13 dX6_ends_5 (by decide) (by omega) (by omega) (fun c_5 => ?_) (fun c_5 => ?_)
  · have q7 : S 12 0 = 0 := hM.1.trans c9
    refine z_aload_n C dX6_ends_13 hl 0 rfl ?_
    refine m_geti C hK hP 12 (by decide) q1761 rfl (Or.inl rfl) rfl dX6_ends_14 (fun r_14 => ?_)
    refine z_if_ne C 24 dX6_ends_17 (by decide) (by omega) (fun c_17 => ?_) (fun c_17 => ?_)
    · exact m_mret_v C hQ hret hlk hS hP ⟨by first | exact absurd (q6.symm.trans c_17) (by decide) | (rw [endsS, if_pos c9, if_neg c_5]; exact q5) | exact absurd (c_17 (hM.1.trans c9)) id | (rw [endsS, if_pos c9, if_pos c_5]; exact (MS.go pS_21.1 (by rw [pS_21.2 12 (by decide)]; exact hM.1.trans c9))), by first | exact pS_10.2.le (by decide) | exact pS_21.2.le (by decide) | exact absurd (c_17 (hM.1.trans c9)) id | exact absurd (q6.symm.trans c_17) (by decide)⟩ dX6_ends_24
    · refine z_aload_n C dX6_ends_20 hl 0 rfl ?_
      refine m_mv C vX6_176 (mcX6_next l g h ad _ _ hPS (tkE (P 5) (P 6 0) st.2) (by omega) (by first | exact q1.1 | exact absurd (q6.symm.trans c_17) (by decide)) q2) hS hl ⟨Nat.le_of_ble_eq_true rfl, Nat.le_of_ble_eq_true rfl⟩ ⟨rfl, rfl⟩ hK hP (fun _ h9 => h9) rfl rfl (Nat.le_of_ble_eq_true rfl) dX6_ends_21 ⟨Nat.zero_le _, Nat.zero_le _⟩ (fun S_21 H locs pS_21 hP hS => ?_)
      have hS_21 : per S_21 = P := (pS_21.2.pr rfl hPS)
      exact m_mret_v C hQ hret hlk hS hP ⟨by first | exact absurd (q6.symm.trans c_17) (by decide) | (rw [endsS, if_pos c9, if_neg c_5]; exact q5) | exact absurd (c_17 (hM.1.trans c9)) id | (rw [endsS, if_pos c9, if_pos c_5]; exact (MS.go pS_21.1 (by rw [pS_21.2 12 (by decide)]; exact hM.1.trans c9))), by first | exact pS_10.2.le (by decide) | exact pS_21.2.le (by decide) | exact absurd (c_17 (hM.1.trans c9)) id | exact absurd (q6.symm.trans c_17) (by decide)⟩ dX6_ends_24
  · refine z_aload_n C dX6_ends_8 hl 0 rfl ?_
    refine z_iconst C dX6_ends_9 ?_
    refine m_mv C vX6_182 (mcX6_fails l g h ad _ _ hPS _ _ _ _ hM (by omega)) hS hl ⟨Nat.le_of_ble_eq_true rfl, Nat.le_of_ble_eq_true rfl⟩ ⟨rfl, rfl⟩ hK hP (fun _ h9 => h9) rfl rfl (Nat.le_of_ble_eq_true rfl) dX6_ends_10 ⟨Nat.zero_le _, Nat.zero_le _⟩ (fun S_10 H locs pS_10 hP hS => ?_)
    have hS_10 : per S_10 = P := (pS_10.2.pr rfl hPS)
    have q5 : MS (P 5) (P 6 0) (1, st.2) S_10 := by have q := pS_10.1; rw [failS, if_pos c9] at q; exact q
    have q6 : S_10 12 0 = 1 := q5.1
    refine z_aload_n C dX6_ends_13 hl 0 rfl ?_
    refine m_geti C hK hP 12 (by decide) q1761 rfl (Or.inl rfl) rfl dX6_ends_14 (fun r_14 => ?_)
    refine z_if_ne C 24 dX6_ends_17 (by decide) (by omega) (fun c_17 => ?_) (fun c_17 => ?_)
    · exact m_mret_v C hQ hret hlk hS hP ⟨by first | exact absurd (q6.symm.trans c_17) (by decide) | (rw [endsS, if_pos c9, if_neg c_5]; exact q5) | exact absurd (c_17 (hM.1.trans c9)) id | (rw [endsS, if_pos c9, if_pos c_5]; exact (MS.go pS_21.1 (by rw [pS_21.2 12 (by decide)]; exact hM.1.trans c9))), by first | exact pS_10.2.le (by decide) | exact pS_21.2.le (by decide) | exact absurd (c_17 (hM.1.trans c9)) id | exact absurd (q6.symm.trans c_17) (by decide)⟩ dX6_ends_24
    · refine z_aload_n C dX6_ends_20 hl 0 rfl ?_
      refine m_mv C vX6_176 (mcX6_next l g h ad _ _ hS_10 (tkE (P 5) (P 6 0) st.2) (by omega) (by first | exact q1.1 | exact absurd (q6.symm.trans c_17) (by decide)) q2) hS hl ⟨Nat.le_of_ble_eq_true rfl, Nat.le_of_ble_eq_true rfl⟩ ⟨rfl, rfl⟩ hK hP (fun _ h9 => h9) rfl rfl (Nat.le_of_ble_eq_true rfl) dX6_ends_21 ⟨Nat.zero_le _, Nat.zero_le _⟩ (fun S_21 H locs pS_21 hP hS => ?_)
      have hS_21 : per S_21 = P := (pS_21.2.pr rfl hS_10)
      exact m_mret_v C hQ hret hlk hS hP ⟨by first | exact absurd (q6.symm.trans c_17) (by decide) | (rw [endsS, if_pos c9, if_neg c_5]; exact q5) | exact absurd (c_17 (hM.1.trans c9)) id | (rw [endsS, if_pos c9, if_pos c_5]; exact (MS.go pS_21.1 (by rw [pS_21.2 12 (by decide)]; exact hM.1.trans c9))), by first | exact pS_10.2.le (by decide) | exact pS_21.2.le (by decide) | exact absurd (c_17 (hM.1.trans c9)) id | exact absurd (q6.symm.trans c_17) (by decide)⟩ dX6_ends_24
theorem mcX6_begins (l : Launch) (g : mG) (h : Nat) (ad : Nat → Nat) (P S : zS) (hPS : per S = P) (T : Int → Int) (nn : Int) (hnn : 0 ≤ nn ∧ nn ≤ 1600) (h5 : P 5 = T) (h6 : P 6 0 = nn) : mMV l g h ad yX6_begins cX6_begins 1 (k2_rm 2 44) [] S (fun S1 => MS T nn (0, sk T nn 0) S1 ∧ Fr [7, 8, 9, 10, 11, 12, 13] S S1) := by
  refine z_start (own := RX6) (by decide) rfl (Nat.le_of_ble_eq_true rfl) ?_
  intro prg env s mid blw mth cod ls Q C hQ hret hlk hnm hK hH hl
  have hP : MP g h ad S s.heap := hH
  have hS : va_S (MA h ad) s.heap s.heap [] := va_S.rf
  have hl : lv_has ls 1 [(0, .ref h)] := hl
  subst h5 h6
  refine z_aload_n C dX6_begins_0 hl 0 rfl ?_
  refine z_iconst C dX6_begins_1 ?_
  refine m_puti C hK hP hS 12 (by decide) q1761 rfl rfl (by omega) dX6_begins_2 (fun S_2 eS_2 H locs hP hS => ?_)
  have hS_2 := per_s rfl hPS eS_2
  refine z_aload_n C dX6_begins_5 hl 0 rfl ?_
  refine z_iconst C dX6_begins_6 ?_
  refine m_puti C hK hP hS 13 (by decide) q1762 rfl rfl (by omega) dX6_begins_7 (fun S_7 eS_7 H locs hP hS => ?_)
  have hS_7 := per_s rfl hS_2 eS_7
  refine z_aload_n C dX6_begins_10 hl 0 rfl ?_
  refine z_iconst C dX6_begins_11 ?_
  refine m_puti C hK hP hS 7 (by decide) q1756 rfl rfl (by omega) dX6_begins_12 (fun S_12 eS_12 H locs hP hS => ?_)
  have hS_12 := per_s rfl hS_7 eS_12
  refine z_aload_n C dX6_begins_15 hl 0 rfl ?_
  refine m_mv C vX6_176 (mcX6_next l g h ad _ _ hS_12 0 (by omega) (by rw [eS_12, zup_s]) ⟨Int.le_refl 0, hnn.1⟩) hS hl ⟨Nat.le_of_ble_eq_true rfl, Nat.le_of_ble_eq_true rfl⟩ ⟨rfl, rfl⟩ hK hP (fun _ h9 => h9) rfl rfl (Nat.le_of_ble_eq_true rfl) dX6_begins_16 ⟨Nat.zero_le _, Nat.zero_le _⟩ (fun S_16 H locs pS_16 hP hS => ?_)
  have hS_16 : per S_16 = P := (pS_16.2.pr rfl hS_12)
  exact m_mret_v C hQ hret hlk hS hP ⟨MS.go pS_16.1 (by rw [pS_16.2 12 (by decide)]; simp [zup, eS_12, eS_7, eS_2]), (Fr.up (Fr.up (Fr.up Fr.rf eS_2 (by decide)) eS_7 (by decide)) eS_12 (by decide)).tr (pS_16.2.le (by decide))⟩ dX6_begins_19
theorem mcX6_isOver (l : Launch) (g : mG) (h : Nat) (ad : Nat → Nat) (P S : zS) (hPS : per S = P) (T : Int → Int) (nn : Int) (st : rS) (hM : MS T nn st S) : mMV l g h ad yX6_isOver cX6_isOver 1 (k2_rm 0 0) [] S (fun S1 => per S1 = overP P st ∧ S1 12 0 = st.1) := by
  refine z_start (own := RX6) (by decide) rfl (Nat.le_of_ble_eq_true rfl) ?_
  intro prg env s mid blw mth cod ls Q C hQ hret hlk hnm hK hH hl
  have hP : MP g h ad S s.heap := hH
  have hS : va_S (MA h ad) s.heap s.heap [] := va_S.rf
  have hl : lv_has ls 1 [(0, .ref h)] := hl
  refine z_aload_n C dX6_isOver_0 hl 0 rfl ?_
  refine z_iconst C dX6_isOver_1 ?_
  refine m_puti C hK hP hS 6 (by decide) q1755 rfl rfl (by omega) dX6_isOver_2 (fun S_2 eS_2 H locs hP hS => ?_)
  have hS_2 := per_w2 rfl hPS eS_2
  have q1 : S_2 12 0 = st.1 := by rw [eS_2, zup_k _ _ _ (by decide)]; exact hM.1
  refine z_aload_n C dX6_isOver_5 hl 0 rfl ?_
  refine z_aload_n C dX6_isOver_6 hl 0 rfl ?_
  refine m_geti C hK hP 12 (by decide) q1761 rfl (Or.inl rfl) q1 dX6_isOver_7 (fun r_7 => ?_)
  refine m_puti C hK hP hS 14 (by decide) q1763 rfl rfl (by omega) dX6_isOver_10 (fun S_10 eS_10 H locs hP hS => ?_)
  have hS_10 := per_w2 rfl hS_2 eS_10
  have q2 : S_10 12 0 = st.1 := by rw [eS_10, zup_k _ _ _ (by decide)]; exact q1
  refine z_aload_n C dX6_isOver_13 hl 0 rfl ?_
  refine z_aload_n C dX6_isOver_14 hl 0 rfl ?_
  refine m_geti C hK hP 12 (by decide) q1761 rfl (Or.inl rfl) q2 dX6_isOver_15 (fun r_15 => ?_)
  refine z_if_ne C 25 dX6_isOver_18 (by decide) (by omega) (fun c_18 => ?_) (fun c_18 => ?_)
  · have q3 : S_10 13 0 = st.2 := by rw [eS_10, zup_k _ _ _ (by decide), eS_2, zup_k _ _ _ (by decide)]; exact hM.2.2 c_18
    refine z_aload_n C dX6_isOver_25 hl 0 rfl ?_
    refine m_geti C hK hP 13 (by decide) q1762 rfl (Or.inl rfl) q3 dX6_isOver_26 (fun r_26 => ?_)
    refine m_puti C hK hP hS 15 (by decide) q1764 rfl rfl (by omega) dX6_isOver_29 (fun S_29 eS_29 H locs hP hS => ?_)
    have hS_29 := per_w2 rfl hS_10 eS_29
    exact m_mret_v C hQ hret hlk hS hP ⟨by rw [hS_29, overP]; first | rw [if_pos c_18] | rw [if_neg c_18], by rw [eS_29, zup_k _ _ _ (by decide)]; exact q2⟩ dX6_isOver_32
  · refine z_iconst C dX6_isOver_21 ?_
    refine z_goto C 29 dX6_isOver_22 (by decide) ?_
    refine m_puti C hK hP hS 15 (by decide) q1764 rfl rfl (by omega) dX6_isOver_29 (fun S_29 eS_29 H locs hP hS => ?_)
    have hS_29 := per_w2 rfl hS_10 eS_29
    exact m_mret_v C hQ hret hlk hS hP ⟨by rw [hS_29, overP]; first | rw [if_pos c_18] | rw [if_neg c_18], by rw [eS_29, zup_k _ _ _ (by decide)]; exact q2⟩ dX6_isOver_32
theorem mcX6_fault (l : Launch) (g : mG) (h : Nat) (ad : Nat → Nat) (P S : zS) (hPS : per S = P) (w : Int) (hW : WfR P 0) (h1 : I32 w) : mMI l g h ad yX6_fault cX6_fault 2 .int (k2_rm 0 0) [.int (iZ w)] S (fun z1 S1 => z1 = aFault P w ∧ per S1 = P) := by
  refine z_start (own := RX6) (by decide) rfl (Nat.le_of_ble_eq_true rfl) ?_
  intro prg env s mid blw mth cod ls Q C hQ hret hlk hnm hK hH hl
  have hP : MP g h ad S s.heap := hH
  have hS : va_S (MA h ad) s.heap s.heap [] := va_S.rf
  have hl : lv_has ls 2 [(0, .ref h), (1, .int (iZ w))] := hl
  refine z_aload_n C dX6_fault_0 hl 0 rfl ?_
  refine z_iconst C dX6_fault_1 ?_
  refine m_puti C hK hP hS 0 (by decide) q1749 rfl rfl (by omega) dX6_fault_2 (fun S_2 eS_2 H locs hP hS => ?_)
  have hS_2 := per_s rfl hPS eS_2
  refine z_iload_n C dX6_fault_5 hl 1 rfl ?_
  refine z_if_ne C 16 dX6_fault_6 (by decide) (by omega) (fun c_6 => ?_) (fun c_6 => ?_)
  · refine z_iload_n C dX6_fault_16 hl 1 rfl ?_
    refine z_iconst C dX6_fault_17 ?_
    refine z_icmp_ne C 28 dX6_fault_18 (by decide) (by omega) (by omega) (fun c_18 => ?_) (fun c_18 => ?_)
    · refine z_iconst C dX6_fault_28 ?_
      exact m_mret_i C hQ hret hlk hS hP ⟨by unfold aFault; first | rw [if_pos (by assumption)] | (rw [if_neg (by assumption)]; first | rw [if_pos (by assumption)] | rw [if_neg (by assumption)]), hS_2⟩ dX6_fault_29
    · refine z_aload_n C dX6_fault_21 hl 0 rfl ?_
      refine m_geti C hK hP 15 (by decide) q1764 rfl (Or.inl rfl) (pe hS_2 rfl) dX6_fault_22 (fun r_22 => ?_)
      refine z_goto C 29 dX6_fault_25 (by decide) ?_
      exact m_mret_i C hQ hret hlk hS hP ⟨by unfold aFault; first | rw [if_pos (by assumption)] | (rw [if_neg (by assumption)]; first | rw [if_pos (by assumption)] | rw [if_neg (by assumption)]), hS_2⟩ dX6_fault_29
  · refine z_aload_n C dX6_fault_9 hl 0 rfl ?_
    refine m_geti C hK hP 14 (by decide) q1763 rfl (Or.inl rfl) (pe hS_2 rfl) dX6_fault_10 (fun r_10 => ?_)
    refine z_goto C 29 dX6_fault_13 (by decide) ?_
    exact m_mret_i C hQ hret hlk hS hP ⟨by unfold aFault; first | rw [if_pos (by assumption)] | (rw [if_neg (by assumption)]; first | rw [if_pos (by assumption)] | rw [if_neg (by assumption)]), hS_2⟩ dX6_fault_29
theorem mcX6_isFull (l : Launch) (g : mG) (h : Nat) (ad : Nat → Nat) (P S : zS) (hPS : per S = P) (w : Int) (h1 : I32 w) : mPI l g h ad yX6_isFull cX6_isFull 2 .boolean (k2_rm 0 0) [.int (iZ w)] S (if fullF P w then 1 else 0) := by
  intro H0 hP
  refine z_start (own := RX6) (by decide) rfl (Nat.le_of_ble_eq_true rfl) ?_
  intro prg env s mid blw mth cod ls Q C hQ hret hlk hnm hK hH hl
  subst hH
  have hS : va_S nA s.heap s.heap [] := va_S.rf
  have hl : lv_has ls 2 [(0, .ref h), (1, .int (iZ w))] := hl
  refine z_iload_n C dX6_isFull_0 hl 1 rfl ?_
  rcases (by omega : w = 0 ∨ w = 1 ∨ w = 2 ∨ (w < 0 ∨ 2 < w)) with c_1 | c_1 | c_1 | c_1
  · refine z_tin C 28 dX6_isFull_1 (by omega) (by omega) (by omega) (by rw [c_1]; rfl) (by decide) ?_
    refine z_aload_n C dX6_isFull_28 hl 0 rfl ?_
    refine m_geta C hK hP 19 (by decide) q1768 rfl (by decide) dX6_isFull_29 ?_
    refine z_iconst C dX6_isFull_32 ?_
    refine m_iald C hK hP 19 (by decide) rfl (by have h9 : mlen 19 = 5 := rfl; omega) (pe hPS rfl) dX6_isFull_33 (fun r_33 => ?_)
    refine z_iconst C dX6_isFull_34 ?_
    refine z_icmp_ne C 42 dX6_isFull_35 (by decide) (by omega) (by omega) (fun c_35 => ?_) (fun c_35 => ?_)
    · refine z_iconst C dX6_isFull_42 ?_
      exact z_pret_z C hQ hret hlk hS z01_any (by first | exact (if_pos (by omega)).symm | exact (if_neg (by omega)).symm) dX6_isFull_43
    · refine z_iconst C dX6_isFull_38 ?_
      refine z_goto C 43 dX6_isFull_39 (by decide) ?_
      exact z_pret_z C hQ hret hlk hS z01_any (by first | exact (if_pos (by omega)).symm | exact (if_neg (by omega)).symm) dX6_isFull_43
  · refine z_tin C 44 dX6_isFull_1 (by omega) (by omega) (by omega) (by rw [c_1]; rfl) (by decide) ?_
    refine z_aload_n C dX6_isFull_44 hl 0 rfl ?_
    refine m_geta C hK hP 21 (by decide) q1770 rfl (by decide) dX6_isFull_45 ?_
    refine z_iconst C dX6_isFull_48 ?_
    refine m_iald C hK hP 21 (by decide) rfl (by have h9 : mlen 21 = 5 := rfl; omega) (pe hPS rfl) dX6_isFull_49 (fun r_49 => ?_)
    refine z_iconst C dX6_isFull_50 ?_
    refine z_icmp_ne C 58 dX6_isFull_51 (by decide) (by omega) (by omega) (fun c_51 => ?_) (fun c_51 => ?_)
    · refine z_iconst C dX6_isFull_58 ?_
      exact z_pret_z C hQ hret hlk hS z01_any (by first | exact (if_pos (by omega)).symm | exact (if_neg (by omega)).symm) dX6_isFull_59
    · refine z_iconst C dX6_isFull_54 ?_
      refine z_goto C 59 dX6_isFull_55 (by decide) ?_
      exact z_pret_z C hQ hret hlk hS z01_any (by first | exact (if_pos (by omega)).symm | exact (if_neg (by omega)).symm) dX6_isFull_59
  · refine z_tin C 60 dX6_isFull_1 (by omega) (by omega) (by omega) (by rw [c_1]; rfl) (by decide) ?_
    refine z_aload_n C dX6_isFull_60 hl 0 rfl ?_
    refine m_geta C hK hP 23 (by decide) q1772 rfl (by decide) dX6_isFull_61 ?_
    refine z_iconst C dX6_isFull_64 ?_
    refine m_iald C hK hP 23 (by decide) rfl (by have h9 : mlen 23 = 5 := rfl; omega) (pe hPS rfl) dX6_isFull_65 (fun r_65 => ?_)
    refine z_bipush C dX6_isFull_66 rfl ?_
    refine z_icmp_ne C 75 dX6_isFull_68 (by decide) (by omega) (by omega) (fun c_68 => ?_) (fun c_68 => ?_)
    · refine z_iconst C dX6_isFull_75 ?_
      exact z_pret_z C hQ hret hlk hS z01_any (by first | exact (if_pos (by omega)).symm | exact (if_neg (by omega)).symm) dX6_isFull_76
    · refine z_iconst C dX6_isFull_71 ?_
      refine z_goto C 76 dX6_isFull_72 (by decide) ?_
      exact z_pret_z C hQ hret hlk hS z01_any (by first | exact (if_pos (by omega)).symm | exact (if_neg (by omega)).symm) dX6_isFull_76
  · refine z_tout C 77 dX6_isFull_1 (by omega) c_1 (by decide) ?_
    refine z_aload_n C dX6_isFull_77 hl 0 rfl ?_
    refine m_geta C hK hP 25 (by decide) q1774 rfl (by decide) dX6_isFull_78 ?_
    refine z_iconst C dX6_isFull_81 ?_
    refine m_iald C hK hP 25 (by decide) rfl (by have h9 : mlen 25 = 5 := rfl; omega) (pe hPS rfl) dX6_isFull_82 (fun r_82 => ?_)
    refine z_bipush C dX6_isFull_83 rfl ?_
    refine z_icmp_ne C 92 dX6_isFull_85 (by decide) (by omega) (by omega) (fun c_85 => ?_) (fun c_85 => ?_)
    · refine z_iconst C dX6_isFull_92 ?_
      exact z_pret_z C hQ hret hlk hS z01_any (by first | exact (if_pos (by omega)).symm | exact (if_neg (by omega)).symm) dX6_isFull_93
    · refine z_iconst C dX6_isFull_88 ?_
      refine z_goto C 93 dX6_isFull_89 (by decide) ?_
      exact z_pret_z C hQ hret hlk hS z01_any (by first | exact (if_pos (by omega)).symm | exact (if_neg (by omega)).symm) dX6_isFull_93
