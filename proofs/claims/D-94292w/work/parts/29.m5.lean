theorem vX6_401 : zV RX6 401 RX6 yX6_optionMany cX6_optionMany 1 (some .int) 0 := ⟨lw_V q2227 q2229 qs107 q149 q2230, rfl, by decide +kernel⟩
theorem vX6_405 : zV RX6 405 RX6 yX6_isOption cX6_isOption 2 (some .boolean) 1 := ⟨lw_V q2223 q2225 qs106 q149 q2226, rfl, by decide +kernel⟩
theorem vX6_408 : zV RX6 408 RX6 yX6_optionOf cX6_optionOf 2 (some .int) 1 := ⟨lw_V q2231 q2233 qs108 q149 q2234, rfl, by decide +kernel⟩
theorem vX6_411 : zV RX6 411 RX6 yX6_hasOption cX6_hasOption 3 none 2 := ⟨lw_V q2235 q2237 qs109 q149 q2238, rfl, by decide +kernel⟩
theorem vX6_414 : zV RX6 414 RX6 yX6_costNow cX6_costNow 2 (some .long) 1 := ⟨lw_V q2247 q2249 qs111 q149 q2250, rfl, by decide +kernel⟩
theorem vX6_417 : zV RX6 417 RX6 yX6_wouldOf cX6_wouldOf 6 (some .long) 2 := ⟨lw_V q2243 q2245 qs110 q149 q2246, rfl, by decide +kernel⟩
theorem vX6_423 : zV RX6 423 RX6 yX6_bestOf cX6_bestOf 6 (some .int) 1 := ⟨lw_V q2255 q2257 qs112 q149 q2258, rfl, by decide +kernel⟩
theorem vX6_430 : zV RX6 430 RX6 yX6_round cX6_round 4 (some .boolean) 0 := ⟨lw_V q2272 q2274 qs114 q149 q2275, rfl, by decide +kernel⟩
theorem vX6_435 : zV RX6 435 RX6 yX6_settlesIn cX6_settlesIn 3 (some .int) 1 := ⟨lw_V q2268 q2270 qs113 q149 q2271, rfl, by decide +kernel⟩
theorem vX6_438 : zV RX6 438 RX6 yX6_laysAside cX6_laysAside 2 none 0 := ⟨lw_V q2280 q2282 qs115 q149 q2283, rfl, by decide +kernel⟩
theorem vX6_441 : zV RX6 441 RX6 yX6_takesBack cX6_takesBack 2 none 0 := ⟨lw_V q2284 q2286 qs116 q149 q2287, rfl, by decide +kernel⟩
theorem vX6_444 : zV RX6 444 RX6 yX6_changes cX6_changes 10 (some .boolean) 0 := ⟨lw_V q2301 q2303 qs118 q149 q2304, rfl, by decide +kernel⟩
theorem vX6_449 : zV RX6 449 RX6 yX6_betters cX6_betters 3 (some .int) 1 := ⟨lw_V q2297 q2299 qs117 q149 q2300, rfl, by decide +kernel⟩
theorem mcX6_optionMany (l : Launch) (g : mG) (h : Nat) (ad : Nat → Nat) (P S : zS) (hPS : per S = P)  : mPI l g h ad yX6_optionMany cX6_optionMany 1 .int (k2_rm 0 0) [] S (nO P) := by
  intro H0 hP
  refine z_start (own := RX6) (by decide) rfl (Nat.le_of_ble_eq_true rfl) ?_
  intro prg env s mid blw mth cod ls Q C hQ hret hlk hnm hK hH hl
  subst hH
  have hS : va_S nA s.heap s.heap [] := va_S.rf
  have hl : lv_has ls 1 [(0, .ref h)] := hl
  refine z_iconst C dX6_optionMany_0 ?_
  refine z_aload_n C dX6_optionMany_1 hl 0 rfl ?_
  refine m_geta C hK hP 21 (by decide) q1770 rfl (by decide) dX6_optionMany_2 ?_
  refine z_iconst C dX6_optionMany_5 ?_
  refine m_iald C hK hP 21 (by decide) rfl (by have h9 : mlen 21 = 5 := rfl; omega) (pe hPS rfl) dX6_optionMany_6 (fun r_6 => ?_)
  refine z_iconst C dX6_optionMany_7 ?_
  refine z_iadd C dX6_optionMany_8 ?_
  refine z_imul C dX6_optionMany_9 ?_
  exact z_pret_i C hQ hret hlk hS rfl dX6_optionMany_10
theorem mcX6_isOption (l : Launch) (g : mG) (h : Nat) (ad : Nat → Nat) (P S : zS) (hPS : per S = P) (o : Int) (hW : WfR P 0) (ho : I32 o) : mPI l g h ad yX6_isOption cX6_isOption 2 .boolean (k2_rm 1 25) [.int (iZ o)] S (if isOp P o then 1 else 0) := by
  intro H0 hP
  refine z_start (own := RX6) (by decide) rfl (Nat.le_of_ble_eq_true rfl) ?_
  intro prg env s mid blw mth cod ls Q C hQ hret hlk hnm hK hH hl
  subst hH
  have hS : va_S nA s.heap s.heap [] := va_S.rf
  have hl : lv_has ls 2 [(0, .ref h), (1, .int (iZ o))] := hl
  have w7 := nO_in hW
  refine z_iload_n C dX6_isOption_0 hl 1 rfl ?_
  refine z_i2l C dX6_isOption_1 (by omega) ?_
  refine z_lconst (v := 0) C dX6_isOption_2 rfl ?_
  refine z_aload_n C dX6_isOption_3 hl 0 rfl ?_
  refine m_pi C vX6_401 (mcX6_optionMany l g h ad _ _ hPS ) hS hl ⟨Nat.le_of_ble_eq_true rfl, Nat.le_of_ble_eq_true rfl⟩ ⟨rfl, rfl⟩ hK hP rfl rfl (Nat.le_of_ble_eq_true rfl) dX6_isOption_4 ⟨Nat.zero_le _, Nat.zero_le _⟩ (fun locs hS => ?_)
  refine z_iconst C dX6_isOption_7 ?_
  refine z_isub C dX6_isOption_8 ?_
  refine z_i2l C dX6_isOption_9 (by omega) ?_
  refine s_pi C vX6_119 (mcX6_in l _ _ _ (by omega) (by omega) (by omega)) hS hl ⟨Nat.le_of_ble_eq_true rfl, Nat.le_of_ble_eq_true rfl⟩ ⟨rfl, rfl⟩ rfl rfl (Nat.le_of_ble_eq_true rfl) dX6_isOption_10 ⟨Nat.zero_le _, Nat.zero_le _⟩ (fun locs hS => ?_)
  exact z_pret_z C hQ hret hlk hS z01_any rfl dX6_isOption_13
theorem mcX6_optionOf (l : Launch) (g : mG) (h : Nat) (ad : Nat → Nat) (P S : zS) (hPS : per S = P) (b : Int) (hb : 0 ≤ b ∧ b < 10) : mPI l g h ad yX6_optionOf cX6_optionOf 2 .int (k2_rm 1 21) [.int (iZ b)] S (optOf P b) := by
  intro H0 hP
  refine z_start (own := RX6) (by decide) rfl (Nat.le_of_ble_eq_true rfl) ?_
  intro prg env s mid blw mth cod ls Q C hQ hret hlk hnm hK hH hl
  subst hH
  have hS : va_S nA s.heap s.heap [] := va_S.rf
  have hl : lv_has ls 2 [(0, .ref h), (1, .int (iZ b))] := hl
  refine z_iconst C dX6_optionOf_0 ?_
  refine z_aload_n C dX6_optionOf_1 hl 0 rfl ?_
  refine m_geta C hK hP 24 (by decide) q1773 rfl (by decide) dX6_optionOf_2 ?_
  refine z_iconst C dX6_optionOf_5 ?_
  refine z_iload_n C dX6_optionOf_6 hl 1 rfl ?_
  refine s_pi C vX6_323 (mcX6_at l _ _) hS hl ⟨Nat.le_of_ble_eq_true rfl, Nat.le_of_ble_eq_true rfl⟩ ⟨rfl, rfl⟩ rfl rfl (Nat.le_of_ble_eq_true rfl) dX6_optionOf_7 ⟨Nat.zero_le _, Nat.zero_le _⟩ (fun locs hS => ?_)
  refine z_iconst C dX6_optionOf_10 ?_
  refine z_iadd C dX6_optionOf_11 ?_
  refine m_iald C hK hP 24 (by decide) rfl (by have h9 : mlen 24 = 250 := rfl; omega) (pe hPS rfl) dX6_optionOf_12 (fun r_12 => ?_)
  refine z_iconst C dX6_optionOf_13 ?_
  refine z_iadd C dX6_optionOf_14 ?_
  refine z_imul C dX6_optionOf_15 ?_
  refine z_aload_n C dX6_optionOf_16 hl 0 rfl ?_
  refine m_geta C hK hP 24 (by decide) q1773 rfl (by decide) dX6_optionOf_17 ?_
  refine z_iconst C dX6_optionOf_20 ?_
  refine z_iload_n C dX6_optionOf_21 hl 1 rfl ?_
  refine s_pi C vX6_323 (mcX6_at l _ _) hS hl ⟨Nat.le_of_ble_eq_true rfl, Nat.le_of_ble_eq_true rfl⟩ ⟨rfl, rfl⟩ rfl rfl (Nat.le_of_ble_eq_true rfl) dX6_optionOf_22 ⟨Nat.zero_le _, Nat.zero_le _⟩ (fun locs hS => ?_)
  refine z_iconst C dX6_optionOf_25 ?_
  refine z_iadd C dX6_optionOf_26 ?_
  refine m_iald C hK hP 24 (by decide) rfl (by have h9 : mlen 24 = 250 := rfl; omega) (pe hPS rfl) dX6_optionOf_27 (fun r_27 => ?_)
  refine z_iadd C dX6_optionOf_28 ?_
  exact z_pret_i C hQ hret hlk hS rfl dX6_optionOf_29
theorem mcX6_hasOption (l : Launch) (g : mG) (h : Nat) (ad : Nat → Nat) (P S : zS) (hPS : per S = P) (b o : Int) (hb : 0 ≤ b ∧ b < 10) (ho : 0 ≤ o ∧ o ≤ 100) : mMV l g h ad yX6_hasOption cX6_hasOption 3 (k2_rm 1 21) [.int (iZ b), .int (iZ o)] S (fun S1 => per S1 = optP P b o ∧ Fr [24] S S1) := by
  refine z_start (own := RX6) (by decide) rfl (Nat.le_of_ble_eq_true rfl) ?_
  intro prg env s mid blw mth cod ls Q C hQ hret hlk hnm hK hH hl
  have hP : MP g h ad S s.heap := hH
  have hS : va_S (MA h ad) s.heap s.heap [] := va_S.rf
  have hl : lv_has ls 3 [(0, .ref h), (1, .int (iZ b)), (2, .int (iZ o))] := hl
  refine z_aload_n C dX6_hasOption_0 hl 0 rfl ?_
  refine m_geta C hK hP 24 (by decide) q1773 rfl (by decide) dX6_hasOption_1 ?_
  refine z_iconst C dX6_hasOption_4 ?_
  refine z_iload_n C dX6_hasOption_5 hl 1 rfl ?_
  refine s_pi C vX6_323 (mcX6_at l _ _) hS hl ⟨Nat.le_of_ble_eq_true rfl, Nat.le_of_ble_eq_true rfl⟩ ⟨rfl, rfl⟩ rfl rfl (Nat.le_of_ble_eq_true rfl) dX6_hasOption_6 ⟨Nat.zero_le _, Nat.zero_le _⟩ (fun locs hS => ?_)
  refine z_iconst C dX6_hasOption_9 ?_
  refine z_iadd C dX6_hasOption_10 ?_
  refine z_iload_n C dX6_hasOption_11 hl 2 rfl ?_
  refine z_iconst C dX6_hasOption_12 ?_
  refine z_idiv C dX6_hasOption_13 (by omega) (by omega) ?_
  refine z_iconst C dX6_hasOption_14 ?_
  refine z_isub C dX6_hasOption_15 ?_
  refine m_iast C hK hP hS 24 (by decide) rfl (by have h9 : mlen 24 = 250 := rfl; omega) (by omega) dX6_hasOption_16 (fun S_16 eS_16 H locs hP hS => ?_)
  have hS_16 := per_w2 rfl hPS eS_16
  refine z_aload_n C dX6_hasOption_17 hl 0 rfl ?_
  refine m_geta C hK hP 24 (by decide) q1773 rfl (by decide) dX6_hasOption_18 ?_
  refine z_iconst C dX6_hasOption_21 ?_
  refine z_iload_n C dX6_hasOption_22 hl 1 rfl ?_
  refine s_pi C vX6_323 (mcX6_at l _ _) hS hl ⟨Nat.le_of_ble_eq_true rfl, Nat.le_of_ble_eq_true rfl⟩ ⟨rfl, rfl⟩ rfl rfl (Nat.le_of_ble_eq_true rfl) dX6_hasOption_23 ⟨Nat.zero_le _, Nat.zero_le _⟩ (fun locs hS => ?_)
  refine z_iconst C dX6_hasOption_26 ?_
  refine z_iadd C dX6_hasOption_27 ?_
  refine z_iload_n C dX6_hasOption_28 hl 2 rfl ?_
  refine z_iconst C dX6_hasOption_29 ?_
  refine z_irem C dX6_hasOption_30 (by omega) (by omega) ?_
  refine m_iast C hK hP hS 24 (by decide) rfl (by have h9 : mlen 24 = 250 := rfl; omega) (by omega) dX6_hasOption_31 (fun S_31 eS_31 H locs hP hS => ?_)
  have hS_31 := per_w2 rfl hS_16 eS_31
  exact m_mret_v C hQ hret hlk hS hP ⟨hS_31, Fr.up (Fr.up Fr.rf eS_16 (by decide)) eS_31 (by decide)⟩ dX6_hasOption_32
theorem mcX6_option (l : Launch) (g : mG) (h : Nat) (ad : Nat → Nat) (P S : zS) (hPS : per S = P) (b o : Int) (hW : WfR P 0) (hb : I32 b) (ho : I32 o) : mMI l g h ad yX6_option cX6_option 4 .int (k2_rm 2 46) [.int (iZ b), .int (iZ o)] S (fun z1 S1 => z1 = aOption P b o ∧ per S1 = pOption P b o) := by
  refine z_start (own := RX6) (by decide) rfl (Nat.le_of_ble_eq_true rfl) ?_
  intro prg env s mid blw mth cod ls Q C hQ hret hlk hnm hK hH hl
  have hP : MP g h ad S s.heap := hH
  have hS : va_S (MA h ad) s.heap s.heap [] := va_S.rf
  have hl : lv_has ls 4 [(0, .ref h), (1, .int (iZ b)), (2, .int (iZ o))] := hl
  have w1 := hW.bikes
  have w7 := nO_in hW
  refine z_aload_n C dX6_option_0 hl 0 rfl ?_
  refine z_iconst C dX6_option_1 ?_
  refine m_puti C hK hP hS 0 (by decide) q1749 rfl rfl (by omega) dX6_option_2 (fun S_2 eS_2 H locs hP hS => ?_)
  have hS_2 := per_s rfl hPS eS_2
  refine z_aload_n C dX6_option_5 hl 0 rfl ?_
  refine z_iload_n C dX6_option_6 hl 1 rfl ?_
  refine m_pi C vX6_318 (mcX6_isBike l g h ad _ _ hS_2 _ (by assumption) (by omega)) hS hl ⟨Nat.le_of_ble_eq_true rfl, Nat.le_of_ble_eq_true rfl⟩ ⟨rfl, rfl⟩ hK hP rfl rfl (Nat.le_of_ble_eq_true rfl) dX6_option_7 ⟨Nat.zero_le _, Nat.zero_le _⟩ (fun locs hS => ?_)
  refine z_if_eq C 21 dX6_option_10 (by decide) z01_in (fun c_10 => ?_) (fun c_10 => ?_)
  · replace c_10 := z01_f c_10
    refine z_bipush C dX6_option_21 rfl ?_
    exact m_mret_i C hQ hret hlk hS hP ⟨(if_neg (by omega)).symm, by rw [pOption, if_neg (by omega)]; exact hS_2⟩ dX6_option_23
  · replace c_10 := z01_t c_10
    refine z_aload_n C dX6_option_13 hl 0 rfl ?_
    refine z_iload_n C dX6_option_14 hl 2 rfl ?_
    refine m_pi C vX6_405 (mcX6_isOption l g h ad _ _ hS_2 _ (by assumption) (by omega)) hS hl ⟨Nat.le_of_ble_eq_true rfl, Nat.le_of_ble_eq_true rfl⟩ ⟨rfl, rfl⟩ hK hP rfl rfl (Nat.le_of_ble_eq_true rfl) dX6_option_15 ⟨Nat.zero_le _, Nat.zero_le _⟩ (fun locs hS => ?_)
    refine z_if_ne C 24 dX6_option_18 (by decide) z01_in (fun c_18 => ?_) (fun c_18 => ?_)
    · replace c_18 := z01_t c_18
      refine z_aload_n C dX6_option_24 hl 0 rfl ?_
      refine z_iload_n C dX6_option_25 hl 1 rfl ?_
      refine m_pi C vX6_408 (mcX6_optionOf l g h ad _ _ hS_2 _ (by omega)) hS hl ⟨Nat.le_of_ble_eq_true rfl, Nat.le_of_ble_eq_true rfl⟩ ⟨rfl, rfl⟩ hK hP rfl rfl (Nat.le_of_ble_eq_true rfl) dX6_option_26 ⟨Nat.zero_le _, Nat.zero_le _⟩ (fun locs hS => ?_)
      refine z_istore_n C dX6_option_29 rfl hl (by decide) rfl (fun ls hl => ?_)
      have hl : lv_has ls 4 [(3, _), (0, _), (1, _), (2, _)] := hl
      refine z_aload_n C dX6_option_30 hl 1 rfl ?_
      refine z_iload_n C dX6_option_31 hl 2 rfl ?_
      refine z_iload_n C dX6_option_32 hl 3 rfl ?_
      refine m_mv C vX6_411 (mcX6_hasOption l g h ad _ _ hS_2 _ _ (by omega) (by omega)) hS hl ⟨Nat.le_of_ble_eq_true rfl, Nat.le_of_ble_eq_true rfl⟩ ⟨rfl, rfl⟩ hK hP (fun _ h9 => h9) rfl rfl (Nat.le_of_ble_eq_true rfl) dX6_option_33 ⟨Nat.zero_le _, Nat.zero_le _⟩ (fun S_33 H locs pS_33 hP hS => ?_)
      obtain ⟨hS_33, pS_33⟩ := pS_33
      refine z_iload_n C dX6_option_36 hl 0 rfl ?_
      exact m_mret_i C hQ hret hlk hS hP ⟨(if_pos ⟨c_10, c_18⟩).symm, by rw [pOption, if_pos ⟨c_10, c_18⟩]; exact hS_33⟩ dX6_option_37
    · replace c_18 := z01_f c_18
      refine z_bipush C dX6_option_21 rfl ?_
      exact m_mret_i C hQ hret hlk hS hP ⟨(if_neg (by omega)).symm, by rw [pOption, if_neg (by omega)]; exact hS_2⟩ dX6_option_23
theorem mcX6_wouldOf (l : Launch) (g : mG) (h : Nat) (ad : Nat → Nat) (P S : zS) (hPS : per S = P) (b o : Int) (hW : WfR P 0) (hb : 0 ≤ b ∧ b < P 23 0) (ho : 0 ≤ o ∧ o < nO P) : mML l g h ad yX6_wouldOf cX6_wouldOf 6 (k2_rm 6 140) [.int (iZ b), .int (iZ o)] S (fun z1 S1 => z1 = would P b o ∧ Fr [33, 34, 35, 36, 37, 38] S S1) := by
  refine z_start (own := RX6) (by decide) rfl (Nat.le_of_ble_eq_true rfl) ?_
  intro prg env s mid blw mth cod ls Q C hQ hret hlk hnm hK hH hl
  have hP : MP g h ad S s.heap := hH
  have hS : va_S (MA h ad) s.heap s.heap [] := va_S.rf
  have hl : lv_has ls 6 [(0, .ref h), (1, .int (iZ b)), (2, .int (iZ o))] := hl
  have w1 := hW.bikes
  have w7 := nO_in hW
  have w2 := hW.bike hb
  have w3 := optOf_in hW hb
  refine z_aload_n C dX6_wouldOf_0 hl 0 rfl ?_
  refine z_iload_n C dX6_wouldOf_1 hl 1 rfl ?_
  refine m_pi C vX6_408 (mcX6_optionOf l g h ad _ _ hPS _ (by omega)) hS hl ⟨Nat.le_of_ble_eq_true rfl, Nat.le_of_ble_eq_true rfl⟩ ⟨rfl, rfl⟩ hK hP rfl rfl (Nat.le_of_ble_eq_true rfl) dX6_wouldOf_2 ⟨Nat.zero_le _, Nat.zero_le _⟩ (fun locs hS => ?_)
  refine z_istore_n C dX6_wouldOf_5 rfl hl (by decide) rfl (fun ls hl => ?_)
  have hl : lv_has ls 6 [(3, _), (0, _), (1, _), (2, _)] := hl
  refine z_aload_n C dX6_wouldOf_6 hl 1 rfl ?_
  refine z_iload_n C dX6_wouldOf_7 hl 2 rfl ?_
  refine z_iload_n C dX6_wouldOf_8 hl 3 rfl ?_
  refine m_mv C vX6_411 (mcX6_hasOption l g h ad _ _ hPS _ _ (by omega) (by omega)) hS hl ⟨Nat.le_of_ble_eq_true rfl, Nat.le_of_ble_eq_true rfl⟩ ⟨rfl, rfl⟩ hK hP (fun _ h9 => h9) rfl rfl (Nat.le_of_ble_eq_true rfl) dX6_wouldOf_9 ⟨Nat.zero_le _, Nat.zero_le _⟩ (fun S_9 H locs pS_9 hP hS => ?_)
  obtain ⟨hS_9, pS_9⟩ := pS_9
  refine z_aload_n C dX6_wouldOf_12 hl 1 rfl ?_
  refine z_iload_n C dX6_wouldOf_13 hl 2 rfl ?_
  refine m_ml C vX6_414 (mcX6_costNow l g h ad _ _ hS_9 _ (optP_wf hW hb ho) (by rw [optP_k _ _ _ (by decide)]; exact hb)) hS hl ⟨Nat.le_of_ble_eq_true rfl, Nat.le_of_ble_eq_true rfl⟩ ⟨rfl, rfl⟩ hK hP (fun _ h9 => h9) rfl rfl (Nat.le_of_ble_eq_true rfl) dX6_wouldOf_14 ⟨Nat.zero_le _, Nat.zero_le _⟩ (fun v_14 S_14 H locs pS_14 hP hS => ?_)
  obtain ⟨e_14, pS_14⟩ := pS_14
  subst e_14
  have hS_14 : per S_14 = _ := (pS_14.pr rfl hS_9)
  refine z_lstore C dX6_wouldOf_17 hl (by decide) rfl (fun ls hl => ?_)
  have hl : lv_has ls 6 [(4, _), (3, _), (0, _), (1, _), (2, _)] := hl
  refine z_aload_n C dX6_wouldOf_19 hl 2 rfl ?_
  refine z_iload_n C dX6_wouldOf_20 hl 3 rfl ?_
  refine z_iload_n C dX6_wouldOf_21 hl 1 rfl ?_
  refine m_mv C vX6_411 (mcX6_hasOption l g h ad _ _ hS_14 _ _ (by omega) (by omega)) hS hl ⟨Nat.le_of_ble_eq_true rfl, Nat.le_of_ble_eq_true rfl⟩ ⟨rfl, rfl⟩ hK hP (fun _ h9 => h9) rfl rfl (Nat.le_of_ble_eq_true rfl) dX6_wouldOf_22 ⟨Nat.zero_le _, Nat.zero_le _⟩ (fun S_22 H locs pS_22 hP hS => ?_)
  obtain ⟨hS_22, pS_22⟩ := pS_22
  refine z_lload C dX6_wouldOf_25 hl 0 rfl ?_
  exact m_mret_l C hQ hret hlk hS hP ⟨rfl, Fr.back (q := 24) (((pS_9.le (by decide)).tr (pS_14.le (by decide))).tr (pS_22.le (by decide))) rfl hPS (by rw [hS_22, optP_back b o w2.2.2.2.2])⟩ dX6_wouldOf_27
theorem mcX6_would (l : Launch) (g : mG) (h : Nat) (ad : Nat → Nat) (P S : zS) (hPS : per S = P) (b o : Int) (hW : WfR P 0) (hb : I32 b) (ho : I32 o) : mML l g h ad yX6_would cX6_would 3 (k2_rm 7 165) [.int (iZ b), .int (iZ o)] S (fun z1 S1 => z1 = aWould P b o ∧ per S1 = P) := by
  refine z_start (own := RX6) (by decide) rfl (Nat.le_of_ble_eq_true rfl) ?_
  intro prg env s mid blw mth cod ls Q C hQ hret hlk hnm hK hH hl
  have hP : MP g h ad S s.heap := hH
  have hS : va_S (MA h ad) s.heap s.heap [] := va_S.rf
  have hl : lv_has ls 3 [(0, .ref h), (1, .int (iZ b)), (2, .int (iZ o))] := hl
  have w1 := hW.bikes
  have w7 := nO_in hW
  refine z_aload_n C dX6_would_0 hl 0 rfl ?_
  refine z_iconst C dX6_would_1 ?_
  refine m_puti C hK hP hS 0 (by decide) q1749 rfl rfl (by omega) dX6_would_2 (fun S_2 eS_2 H locs hP hS => ?_)
  have hS_2 := per_s rfl hPS eS_2
  refine z_aload_n C dX6_would_5 hl 0 rfl ?_
  refine z_iload_n C dX6_would_6 hl 1 rfl ?_
  refine m_pi C vX6_318 (mcX6_isBike l g h ad _ _ hS_2 _ (by assumption) (by omega)) hS hl ⟨Nat.le_of_ble_eq_true rfl, Nat.le_of_ble_eq_true rfl⟩ ⟨rfl, rfl⟩ hK hP rfl rfl (Nat.le_of_ble_eq_true rfl) dX6_would_7 ⟨Nat.zero_le _, Nat.zero_le _⟩ (fun locs hS => ?_)
  refine z_if_eq C 30 dX6_would_10 (by decide) z01_in (fun c_10 => ?_) (fun c_10 => ?_)
  · replace c_10 := z01_f c_10
    refine z_ldc2 (v := -2) C q2155 dX6_would_30 rfl ?_
    exact m_mret_l C hQ hret hlk hS hP ⟨by unfold aWould; split <;> first | rfl | omega, hS_2⟩ dX6_would_33
  · replace c_10 := z01_t c_10
    refine z_aload_n C dX6_would_13 hl 0 rfl ?_
    refine z_iload_n C dX6_would_14 hl 2 rfl ?_
    refine m_pi C vX6_405 (mcX6_isOption l g h ad _ _ hS_2 _ (by assumption) (by omega)) hS hl ⟨Nat.le_of_ble_eq_true rfl, Nat.le_of_ble_eq_true rfl⟩ ⟨rfl, rfl⟩ hK hP rfl rfl (Nat.le_of_ble_eq_true rfl) dX6_would_15 ⟨Nat.zero_le _, Nat.zero_le _⟩ (fun locs hS => ?_)
    refine z_if_eq C 30 dX6_would_18 (by decide) z01_in (fun c_18 => ?_) (fun c_18 => ?_)
    · replace c_18 := z01_f c_18
      refine z_ldc2 (v := -2) C q2155 dX6_would_30 rfl ?_
      exact m_mret_l C hQ hret hlk hS hP ⟨by unfold aWould; split <;> first | rfl | omega, hS_2⟩ dX6_would_33
    · replace c_18 := z01_t c_18
      refine z_aload_n C dX6_would_21 hl 0 rfl ?_
      refine z_iload_n C dX6_would_22 hl 1 rfl ?_
      refine z_iload_n C dX6_would_23 hl 2 rfl ?_
      refine m_ml C vX6_417 (mcX6_wouldOf l g h ad _ _ hS_2 _ _ (by assumption) (by omega) (by omega)) hS hl ⟨Nat.le_of_ble_eq_true rfl, Nat.le_of_ble_eq_true rfl⟩ ⟨rfl, rfl⟩ hK hP (fun _ h9 => h9) rfl rfl (Nat.le_of_ble_eq_true rfl) dX6_would_24 ⟨Nat.zero_le _, Nat.zero_le _⟩ (fun v_24 S_24 H locs pS_24 hP hS => ?_)
      obtain ⟨e_24, pS_24⟩ := pS_24
      subst e_24
      have hS_24 : per S_24 = P := (pS_24.pr rfl hS_2)
      refine z_goto C 33 dX6_would_27 (by decide) ?_
      exact m_mret_l C hQ hret hlk hS hP ⟨by unfold aWould; split <;> first | rfl | omega, hS_24⟩ dX6_would_33
theorem mcX6_bestOf (l : Launch) (g : mG) (h : Nat) (ad : Nat → Nat) (P S : zS) (hPS : per S = P) (b : Int) (hW : WfR P 0) (hb : 0 ≤ b ∧ b < P 23 0) : mMI l g h ad yX6_bestOf cX6_bestOf 6 .int (k2_rm 7 165) [.int (iZ b)] S (fun z1 S1 => z1 = (best P b : Int) ∧ S1 39 0 = would P b (best P b) ∧ Fr [33, 34, 35, 36, 37, 38, 39] S S1) := by
  refine z_start (own := RX6) (by decide) rfl (Nat.le_of_ble_eq_true rfl) ?_
  intro prg env s mid blw mth cod ls Q C hQ hret hlk hnm hK hH hl
  have hP : MP g h ad S s.heap := hH
  have hS : va_S (MA h ad) s.heap s.heap [] := va_S.rf
  have hl : lv_has ls 6 [(0, .ref h), (1, .int (iZ b))] := hl
  have w1 := hW.bikes
  have w7 := nO_in hW
  have w1 := would_in hW hb (o := 0) (by omega)
  refine z_iconst C dX6_bestOf_0 ?_
  refine z_istore_n C dX6_bestOf_1 rfl hl (by decide) rfl (fun ls hl => ?_)
  have hl : lv_has ls 6 [(2, _), (0, _), (1, _)] := hl
  refine z_aload_n C dX6_bestOf_2 hl 1 rfl ?_
  refine z_aload_n C dX6_bestOf_3 hl 1 rfl ?_
  refine z_iload_n C dX6_bestOf_4 hl 2 rfl ?_
  refine z_iconst C dX6_bestOf_5 ?_
  refine m_ml C vX6_417 (mcX6_wouldOf l g h ad _ _ hPS _ _ (by assumption) (by omega) (by omega)) hS hl ⟨Nat.le_of_ble_eq_true rfl, Nat.le_of_ble_eq_true rfl⟩ ⟨rfl, rfl⟩ hK hP (fun _ h9 => h9) rfl rfl (Nat.le_of_ble_eq_true rfl) dX6_bestOf_6 ⟨Nat.zero_le _, Nat.zero_le _⟩ (fun v_6 S_6 H locs pS_6 hP hS => ?_)
  obtain ⟨e_6, pS_6⟩ := pS_6
  subst e_6
  have hS_6 : per S_6 = P := (pS_6.pr rfl hPS)
  refine m_putl C hK hP hS 39 (by decide) q1788 rfl rfl (by omega) dX6_bestOf_9 (fun S_9 eS_9 H locs hP hS => ?_)
  have hS_9 := per_s rfl hS_6 eS_9
  refine z_iconst C dX6_bestOf_12 ?_
  refine z_istore_n C dX6_bestOf_13 rfl hl (by decide) rfl (fun ls hl => ?_)
  have hl : lv_has ls 6 [(3, _), (2, _), (0, _), (1, _)] := hl
  have hL_14 : ∀ (fuel : Nat) (k : Nat) (bst : Int) (S1 : zS) (H : Heap) (locs : List Loc) (ls : Array Slot), (nO P).toNat - k < fuel → ((k : Int) + 1 ≤ nO P) → (bst = (amin (fun o => would P b o) k : Int)) → (S1 39 0 = would P b (amin (fun o => would P b o) k)) → (Fr [33, 34, 35, 36, 37, 38, 39] S S1) → per S1 = P → MP g h ad S1 H → va_S (MA h ad) s.heap H locs → lv_has ls 6 [(0, .ref h), (1, .int (iZ b)), (2, .int (iZ bst)), (3, .int (iZ ((k : Int) + 1)))] → W prg l env (k2_rm 7 165) s mid ([.ref h, .int (iZ b)] : List Value).toArray blw mth cod H locs 0 0 Q (F0 mid 14 ls []) := by
    intro fuel
    induction fuel with
    | zero => intro k bst S1  H locs ls hm; exact absurd hm (Nat.not_lt_zero _)
    | succ fuel hL_14 =>
      intro k bst S1  H locs ls hm ik iB iL iF hPS_14 hP  hS hl
      refine z_iload_n C dX6_bestOf_14 hl 3 rfl ?_
      refine z_aload_n C dX6_bestOf_15 hl 0 rfl ?_
      refine m_pi C vX6_401 (mcX6_optionMany l g h ad _ _ hPS_14 ) hS hl ⟨Nat.le_of_ble_eq_true rfl, Nat.le_of_ble_eq_true rfl⟩ ⟨rfl, rfl⟩ hK hP rfl rfl (Nat.le_of_ble_eq_true rfl) dX6_bestOf_16 ⟨Nat.zero_le _, Nat.zero_le _⟩ (fun locs hS => ?_)
      refine z_icmp_ge C 57 dX6_bestOf_19 (by decide) (by omega) (by omega) (fun c_19 => ?_) (fun c_19 => ?_)
      · refine z_iload_n C dX6_bestOf_57 hl 2 rfl ?_
        exact m_mret_i C hQ hret hlk hS hP ⟨by rw [iB, best, show (nO P).toNat - 1 = k by omega], by rw [best, show (nO P).toNat - 1 = k by omega]; exact iL, iF⟩ dX6_bestOf_58
      · have q1 := would_in hW hb (o := (k : Int) + 1) (by omega)
        refine z_aload_n C dX6_bestOf_22 hl 0 rfl ?_
        refine z_iload_n C dX6_bestOf_23 hl 1 rfl ?_
        refine z_iload_n C dX6_bestOf_24 hl 3 rfl ?_
        refine m_ml C vX6_417 (mcX6_wouldOf l g h ad _ _ hPS_14 _ _ (by assumption) (by omega) (by omega)) hS hl ⟨Nat.le_of_ble_eq_true rfl, Nat.le_of_ble_eq_true rfl⟩ ⟨rfl, rfl⟩ hK hP (fun _ h9 => h9) rfl rfl (Nat.le_of_ble_eq_true rfl) dX6_bestOf_25 ⟨Nat.zero_le _, Nat.zero_le _⟩ (fun v_25 S_25 H locs pS_25 hP hS => ?_)
        obtain ⟨e_25, pS_25⟩ := pS_25
        subst e_25
        have hS_25 : per S_25 = P := (pS_25.pr rfl hPS_14)
        refine z_lstore C dX6_bestOf_28 hl (by decide) rfl (fun ls hl => ?_)
        have hl : lv_has ls 6 [(4, _), (0, _), (1, _), (2, _), (3, _)] := hl
        have q3 : S_25 39 0 = S1 39 0 := by rw [pS_25 39 (by decide)]
        have q9 : would P b (((k + 1 : Nat)) : Int) = would P b ((k : Int) + 1) := rfl
        refine z_lload C dX6_bestOf_30 hl 0 rfl ?_
        refine z_aload_n C dX6_bestOf_32 hl 1 rfl ?_
        refine m_getl C hK hP 39 (by decide) q1788 rfl rfl rfl dX6_bestOf_33 (fun r_33 => ?_)
        refine z_lcmp_lt C 43 dX6_bestOf_36 dX6_bestOf_37 (by decide) (by omega) (by omega) (fun c_36 => ?_) (fun c_36 => ?_)
        · refine z_iload_n C dX6_bestOf_43 hl 4 rfl ?_
          refine z_istore_n C dX6_bestOf_44 rfl hl (by decide) rfl (fun ls hl => ?_)
          have hl : lv_has ls 6 [(2, _), (4, _), (0, _), (1, _), (3, _)] := hl
          refine z_aload_n C dX6_bestOf_45 hl 2 rfl ?_
          refine z_lload C dX6_bestOf_46 hl 1 rfl ?_
          refine m_putl C hK hP hS 39 (by decide) q1788 rfl rfl (by omega) dX6_bestOf_48 (fun S_48 eS_48 H locs hP hS => ?_)
          have hS_48 := per_s rfl hS_25 eS_48
          refine z_iinc C dX6_bestOf_51 hl (by decide) 4 rfl rfl (fun ls hl => ?_)
          have hl : lv_has ls 6 [(3, _), (2, _), (4, _), (0, _), (1, _)] := hl
          refine z_goto C 14 dX6_bestOf_54 (by decide) ?_
          exact hL_14 (k + 1) _ _ _ _ ls (by omega) (by omega) (by rw [amin_s, if_pos (show would P b (((k + 1 : Nat)) : Int) < _ by rw [q9]; omega)]; rfl) (by rw [amin_s, if_pos (show would P b (((k + 1 : Nat)) : Int) < _ by rw [q9]; omega), eS_48, zup_s]; rfl) (Fr.up ((iF.le (by decide)).tr (pS_25.le (by decide))) eS_48 (by decide)) hS_48 hP hS (lv_sub hl [3, 4, 1, 0] rfl)
        · refine z_goto C 51 dX6_bestOf_40 (by decide) ?_
          refine z_iinc C dX6_bestOf_51 hl (by decide) 4 rfl rfl (fun ls hl => ?_)
          have hl : lv_has ls 6 [(3, _), (4, _), (0, _), (1, _), (2, _)] := hl
          refine z_goto C 14 dX6_bestOf_54 (by decide) ?_
          exact hL_14 (k + 1) _ _ _ _ ls (by omega) (by omega) (by rw [amin_s, if_neg (show ¬ would P b (((k + 1 : Nat)) : Int) < _ by rw [q9]; omega)]; exact iB) (by rw [amin_s, if_neg (show ¬ would P b (((k + 1 : Nat)) : Int) < _ by rw [q9]; omega), pS_25 39 (by decide)]; exact iL) ((iF.le (by decide)).tr (pS_25.le (by decide))) hS_25 hP hS (lv_sub hl [2, 3, 4, 0] rfl)
  exact hL_14 _ 0 0 _ _ _ ls (Nat.lt_succ_self _) (by omega) rfl (by rw [eS_9, zup_s]; rfl) (Fr.up (pS_6.le (by decide)) eS_9 (by decide)) hS_9 hP hS (lv_sub hl [2, 3, 1, 0] rfl)
theorem mcX6_best (l : Launch) (g : mG) (h : Nat) (ad : Nat → Nat) (P S : zS) (hPS : per S = P) (b : Int) (hW : WfR P 0) (hb : I32 b) : mMI l g h ad yX6_best cX6_best 2 .int (k2_rm 8 190) [.int (iZ b)] S (fun z1 S1 => z1 = aBest P b ∧ per S1 = P) := by
  refine z_start (own := RX6) (by decide) rfl (Nat.le_of_ble_eq_true rfl) ?_
  intro prg env s mid blw mth cod ls Q C hQ hret hlk hnm hK hH hl
  have hP : MP g h ad S s.heap := hH
  have hS : va_S (MA h ad) s.heap s.heap [] := va_S.rf
  have hl : lv_has ls 2 [(0, .ref h), (1, .int (iZ b))] := hl
  have w1 := hW.bikes
  refine z_aload_n C dX6_best_0 hl 0 rfl ?_
  refine z_iconst C dX6_best_1 ?_
  refine m_puti C hK hP hS 0 (by decide) q1749 rfl rfl (by omega) dX6_best_2 (fun S_2 eS_2 H locs hP hS => ?_)
  have hS_2 := per_s rfl hPS eS_2
  refine z_aload_n C dX6_best_5 hl 0 rfl ?_
  refine z_iload_n C dX6_best_6 hl 1 rfl ?_
  refine m_pi C vX6_318 (mcX6_isBike l g h ad _ _ hS_2 _ (by assumption) (by omega)) hS hl ⟨Nat.le_of_ble_eq_true rfl, Nat.le_of_ble_eq_true rfl⟩ ⟨rfl, rfl⟩ hK hP rfl rfl (Nat.le_of_ble_eq_true rfl) dX6_best_7 ⟨Nat.zero_le _, Nat.zero_le _⟩ (fun locs hS => ?_)
  refine z_if_eq C 21 dX6_best_10 (by decide) z01_in (fun c_10 => ?_) (fun c_10 => ?_)
  · replace c_10 := z01_f c_10
    refine z_bipush C dX6_best_21 rfl ?_
    exact m_mret_i C hQ hret hlk hS hP ⟨by unfold aBest; split <;> first | rfl | omega, hS_2⟩ dX6_best_23
  · replace c_10 := z01_t c_10
    refine z_aload_n C dX6_best_13 hl 0 rfl ?_
    refine z_iload_n C dX6_best_14 hl 1 rfl ?_
    refine m_mi C vX6_423 (mcX6_bestOf l g h ad _ _ hS_2 _ (by assumption) (by omega)) hS hl ⟨Nat.le_of_ble_eq_true rfl, Nat.le_of_ble_eq_true rfl⟩ ⟨rfl, rfl⟩ hK hP (fun _ h9 => h9) rfl rfl (Nat.le_of_ble_eq_true rfl) dX6_best_15 ⟨Nat.zero_le _, Nat.zero_le _⟩ (fun v_15 S_15 H locs pS_15 hP hS => ?_)
    obtain ⟨e_15, pS_15⟩ := pS_15
    subst e_15
    have hS_15 : per S_15 = P := (pS_15.2.pr rfl hS_2)
    refine z_goto C 23 dX6_best_18 (by decide) ?_
    exact m_mret_i C hQ hret hlk hS hP ⟨by unfold aBest; split <;> first | rfl | omega, hS_15⟩ dX6_best_23
theorem mcX6_restless (l : Launch) (g : mG) (h : Nat) (ad : Nat → Nat) (P S : zS) (hPS : per S = P)  (hW : WfR P 0) : mMI l g h ad yX6_restless cX6_restless 3 .int (k2_rm 8 190) [] S (fun z1 S1 => z1 = aRestless P ∧ per S1 = P) := by
  refine z_start (own := RX6) (by decide) rfl (Nat.le_of_ble_eq_true rfl) ?_
  intro prg env s mid blw mth cod ls Q C hQ hret hlk hnm hK hH hl
  have hP : MP g h ad S s.heap := hH
  have hS : va_S (MA h ad) s.heap s.heap [] := va_S.rf
  have hl : lv_has ls 3 [(0, .ref h)] := hl
  have w1 := hW.bikes
  have w2 := hW.places
  refine z_aload_n C dX6_restless_0 hl 0 rfl ?_
  refine z_iconst C dX6_restless_1 ?_
  refine m_puti C hK hP hS 0 (by decide) q1749 rfl rfl (by omega) dX6_restless_2 (fun S_2 eS_2 H locs hP hS => ?_)
  have hS_2 := per_s rfl hPS eS_2
  refine z_aload_n C dX6_restless_5 hl 0 rfl ?_
  refine m_pi C vX6_354 (mcX6_isRail l g h ad _ _ hS_2 (by assumption)) hS hl ⟨Nat.le_of_ble_eq_true rfl, Nat.le_of_ble_eq_true rfl⟩ ⟨rfl, rfl⟩ hK hP rfl rfl (Nat.le_of_ble_eq_true rfl) dX6_restless_6 ⟨Nat.zero_le _, Nat.zero_le _⟩ (fun locs hS => ?_)
  refine z_if_ne C 15 dX6_restless_9 (by decide) z01_in (fun c_9 => ?_) (fun c_9 => ?_)
  · replace c_9 := z01_t c_9
    refine z_iconst C dX6_restless_15 ?_
    refine z_istore_n C dX6_restless_16 rfl hl (by decide) rfl (fun ls hl => ?_)
    have hl : lv_has ls 3 [(1, _), (0, _)] := hl
    refine z_iconst C dX6_restless_17 ?_
    refine z_istore_n C dX6_restless_18 rfl hl (by decide) rfl (fun ls hl => ?_)
    have hl : lv_has ls 3 [(2, _), (1, _), (0, _)] := hl
    have hL_19 : ∀ (fuel : Nat) (k : Nat) (n : Int) (S1 : zS) (H : Heap) (locs : List Loc) (ls : Array Slot), (P 23 0).toNat - k < fuel → ((k : Int) ≤ P 23 0) → (n = restTo P k) → per S1 = P → MP g h ad S1 H → va_S (MA h ad) s.heap H locs → lv_has ls 3 [(0, .ref h), (1, .int (iZ n)), (2, .int (iZ (k : Int)))] → W prg l env (k2_rm 8 190) s mid ([.ref h] : List Value).toArray blw mth cod H locs 0 0 Q (F0 mid 19 ls []) := by
      intro fuel
      induction fuel with
      | zero => intro k n S1  H locs ls hm; exact absurd hm (Nat.not_lt_zero _)
      | succ fuel hL_19 =>
        intro k n S1  H locs ls hm ik iN hPS_19 hP  hS hl
        refine z_iload_n C dX6_restless_19 hl 2 rfl ?_
        refine z_aload_n C dX6_restless_20 hl 0 rfl ?_
        refine m_geta C hK hP 23 (by decide) q1772 rfl (by decide) dX6_restless_21 ?_
        refine z_iconst C dX6_restless_24 ?_
        refine m_iald C hK hP 23 (by decide) rfl (by have h9 : mlen 23 = 5 := rfl; omega) (pe hPS_19 rfl) dX6_restless_25 (fun r_25 => ?_)
        refine z_icmp_ge C 62 dX6_restless_26 (by decide) (by omega) (by omega) (fun c_26 => ?_) (fun c_26 => ?_)
        · refine z_iload_n C dX6_restless_62 hl 1 rfl ?_
          exact m_mret_i C hQ hret hlk hS hP ⟨by rw [aRestless, if_pos (by assumption), iN, show (P 23 0).toNat = k by omega], hPS_19⟩ dX6_restless_63
        · refine z_aload_n C dX6_restless_29 hl 0 rfl ?_
          refine z_iload_n C dX6_restless_30 hl 2 rfl ?_
          refine m_mi C vX6_423 (mcX6_bestOf l g h ad _ _ hPS_19 _ (by assumption) (by omega)) hS hl ⟨Nat.le_of_ble_eq_true rfl, Nat.le_of_ble_eq_true rfl⟩ ⟨rfl, rfl⟩ hK hP (fun _ h9 => h9) rfl rfl (Nat.le_of_ble_eq_true rfl) dX6_restless_31 ⟨Nat.zero_le _, Nat.zero_le _⟩ (fun v_31 S_31 H locs pS_31 hP hS => ?_)
          obtain ⟨e_31, pS_31⟩ := pS_31
          subst e_31
          have hS_31 : per S_31 = P := (pS_31.2.pr rfl hPS_19)
          refine z_pop C dX6_restless_34 rfl ?_
          refine z_iload_n C dX6_restless_35 hl 1 rfl ?_
          refine z_aload_n C dX6_restless_36 hl 0 rfl ?_
          refine m_getl C hK hP 39 (by decide) q1788 rfl rfl rfl dX6_restless_37 (fun r_37 => ?_)
          refine z_aload_n C dX6_restless_40 hl 0 rfl ?_
          refine z_iload_n C dX6_restless_41 hl 2 rfl ?_
          refine m_ml C vX6_414 (mcX6_costNow l g h ad _ _ hS_31 _ (by assumption) (by omega)) hS hl ⟨Nat.le_of_ble_eq_true rfl, Nat.le_of_ble_eq_true rfl⟩ ⟨rfl, rfl⟩ hK hP (fun _ h9 => h9) rfl rfl (Nat.le_of_ble_eq_true rfl) dX6_restless_42 ⟨Nat.zero_le _, Nat.zero_le _⟩ (fun v_42 S_42 H locs pS_42 hP hS => ?_)
          obtain ⟨e_42, pS_42⟩ := pS_42
          subst e_42
          have hS_42 : per S_42 = P := (pS_42.pr rfl hS_31)
          have q2 := cost_in hW (b := k) ⟨by omega, by omega⟩
          have q3 := pS_31.1
          refine z_lcmp_ge C 53 dX6_restless_45 dX6_restless_46 (by decide) (by omega) (by omega) (fun c_45 => ?_) (fun c_45 => ?_)
          · refine z_iconst C dX6_restless_53 ?_
            refine z_iadd C dX6_restless_54 ?_
            refine z_istore_n C dX6_restless_55 rfl hl (by decide) rfl (fun ls hl => ?_)
            have hl : lv_has ls 3 [(1, _), (0, _), (2, _)] := hl
            refine z_iinc C dX6_restless_56 hl (by decide) 2 rfl rfl (fun ls hl => ?_)
            have hl : lv_has ls 3 [(2, _), (1, _), (0, _)] := hl
            refine z_goto C 19 dX6_restless_59 (by decide) ?_
            exact hL_19 (k + 1) _ _ _ _ ls (by omega) (by omega) (by rw [restTo, zsm_s, if_neg (by omega), iN]; rfl) hS_42 hP hS (lv_sub hl [2, 1, 0] rfl)
          · refine z_iconst C dX6_restless_49 ?_
            refine z_goto C 54 dX6_restless_50 (by decide) ?_
            refine z_iadd C dX6_restless_54 ?_
            refine z_istore_n C dX6_restless_55 rfl hl (by decide) rfl (fun ls hl => ?_)
            have hl : lv_has ls 3 [(1, _), (0, _), (2, _)] := hl
            refine z_iinc C dX6_restless_56 hl (by decide) 2 rfl rfl (fun ls hl => ?_)
            have hl : lv_has ls 3 [(2, _), (1, _), (0, _)] := hl
            refine z_goto C 19 dX6_restless_59 (by decide) ?_
            exact hL_19 (k + 1) _ _ _ _ ls (by omega) (by omega) (by rw [restTo, zsm_s, if_pos (by omega), iN]; rfl) hS_42 hP hS (lv_sub hl [2, 1, 0] rfl)
    exact hL_19 _ 0 0 _ _ _ ls (Nat.lt_succ_self _) (by omega) rfl hS_2 hP hS (lv_sub hl [2, 1, 0] rfl)
  · replace c_9 := z01_f c_9
    refine z_bipush C dX6_restless_12 rfl ?_
    exact m_mret_i C hQ hret hlk hS hP ⟨(if_neg (by assumption)).symm, hS_2⟩ dX6_restless_14
theorem mcX6_round (l : Launch) (g : mG) (h : Nat) (ad : Nat → Nat) (P S : zS) (hPS : per S = P)  (hW : WfR P 0) : mMI l g h ad yX6_round cX6_round 4 .boolean (k2_rm 8 190) [] S (fun z1 S1 => z1 = rndC P ∧ per S1 = rnd P ∧ Fr [24, 33, 34, 35, 36, 37, 38, 39] S S1) := by
  refine z_start (own := RX6) (by decide) rfl (Nat.le_of_ble_eq_true rfl) ?_
  intro prg env s mid blw mth cod ls Q C hQ hret hlk hnm hK hH hl
  have hP : MP g h ad S s.heap := hH
  have hS : va_S (MA h ad) s.heap s.heap [] := va_S.rf
  have hl : lv_has ls 4 [(0, .ref h)] := hl
  have w1 := hW.bikes
  refine z_iconst C dX6_round_0 ?_
  refine z_istore_n C dX6_round_1 rfl hl (by decide) rfl (fun ls hl => ?_)
  have hl : lv_has ls 4 [(1, _), (0, _)] := hl
  refine z_iconst C dX6_round_2 ?_
  refine z_istore_n C dX6_round_3 rfl hl (by decide) rfl (fun ls hl => ?_)
  have hl : lv_has ls 4 [(2, _), (1, _), (0, _)] := hl
  have hL_4 : ∀ (fuel : Nat) (k : Nat) (c : Int) (S1 : zS) (H : Heap) (locs : List Loc) (ls : Array Slot), (P 23 0).toNat - k < fuel → ((k : Int) ≤ P 23 0) → (c = rndB P k) → (Fr [24, 33, 34, 35, 36, 37, 38, 39] S S1) → per S1 = rndP P k → MP g h ad S1 H → va_S (MA h ad) s.heap H locs → lv_has ls 4 [(0, .ref h), (1, .int (iZ c)), (2, .int (iZ (k : Int)))] → W prg l env (k2_rm 8 190) s mid ([.ref h] : List Value).toArray blw mth cod H locs 0 0 Q (F0 mid 4 ls []) := by
    intro fuel
    induction fuel with
    | zero => intro k c S1  H locs ls hm; exact absurd hm (Nat.not_lt_zero _)
    | succ fuel hL_4 =>
      intro k c S1  H locs ls hm ik iC iF hPS_4 hP  hS hl
      have q0 := rnd_ok hW k (by omega)
      have q1 : rndP P k 23 0 = P 23 0 := by rw [q0.2.1 23 (by decide)]
      refine z_iload_n C dX6_round_4 hl 2 rfl ?_
      refine z_aload_n C dX6_round_5 hl 0 rfl ?_
      refine m_geta C hK hP 23 (by decide) q1772 rfl (by decide) dX6_round_6 ?_
      refine z_iconst C dX6_round_9 ?_
      refine m_iald C hK hP 23 (by decide) rfl (by have h9 : mlen 23 = 5 := rfl; omega) (pe hPS_4 rfl) dX6_round_10 (fun r_10 => ?_)
      refine z_icmp_ge C 50 dX6_round_11 (by decide) (by omega) (by omega) (fun c_11 => ?_) (fun c_11 => ?_)
      · refine z_iload_n C dX6_round_50 hl 1 rfl ?_
        exact m_mret_z C hQ hret hlk hS hP (by rw [iC]; exact rndB_01 P k) ⟨by rw [iC, rndC, show (P 23 0).toNat = k by omega], by rw [rnd, show (P 23 0).toNat = k by omega]; exact hPS_4, iF⟩ dX6_round_51
      · have q3 := best_in q0.1 k
        have q4 := nO_in q0.1
        have q5 := cost_in q0.1 (b := k) ⟨by omega, by omega⟩
        refine z_aload_n C dX6_round_14 hl 0 rfl ?_
        refine z_iload_n C dX6_round_15 hl 2 rfl ?_
        refine m_mi C vX6_423 (mcX6_bestOf l g h ad _ _ hPS_4 _ q0.1 (by omega)) hS hl ⟨Nat.le_of_ble_eq_true rfl, Nat.le_of_ble_eq_true rfl⟩ ⟨rfl, rfl⟩ hK hP (fun _ h9 => h9) rfl rfl (Nat.le_of_ble_eq_true rfl) dX6_round_16 ⟨Nat.zero_le _, Nat.zero_le _⟩ (fun v_16 S_16 H locs pS_16 hP hS => ?_)
        obtain ⟨e_16, pS_16⟩ := pS_16
        subst e_16
        have hS_16 : per S_16 = _ := (pS_16.2.pr rfl hPS_4)
        refine z_istore_n C dX6_round_19 rfl hl (by decide) rfl (fun ls hl => ?_)
        have hl : lv_has ls 4 [(3, _), (0, _), (1, _), (2, _)] := hl
        have q6 := pS_16.1
        refine z_aload_n C dX6_round_20 hl 1 rfl ?_
        refine m_getl C hK hP 39 (by decide) q1788 rfl rfl rfl dX6_round_21 (fun r_21 => ?_)
        refine z_aload_n C dX6_round_24 hl 1 rfl ?_
        refine z_iload_n C dX6_round_25 hl 3 rfl ?_
        refine m_ml C vX6_414 (mcX6_costNow l g h ad _ _ hS_16 _ q0.1 (by omega)) hS hl ⟨Nat.le_of_ble_eq_true rfl, Nat.le_of_ble_eq_true rfl⟩ ⟨rfl, rfl⟩ hK hP (fun _ h9 => h9) rfl rfl (Nat.le_of_ble_eq_true rfl) dX6_round_26 ⟨Nat.zero_le _, Nat.zero_le _⟩ (fun v_26 S_26 H locs pS_26 hP hS => ?_)
        obtain ⟨e_26, pS_26⟩ := pS_26
        subst e_26
        have hS_26 : per S_26 = _ := (pS_26.pr rfl hS_16)
        refine z_lcmp_lt C 36 dX6_round_29 dX6_round_30 (by decide) (by omega) (by omega) (fun c_29 => ?_) (fun c_29 => ?_)
        · refine z_aload_n C dX6_round_36 hl 1 rfl ?_
          refine z_iload_n C dX6_round_37 hl 3 rfl ?_
          refine z_iload_n C dX6_round_38 hl 0 rfl ?_
          refine m_mv C vX6_411 (mcX6_hasOption l g h ad _ _ hS_26 _ _ (by omega) (by omega)) hS hl ⟨Nat.le_of_ble_eq_true rfl, Nat.le_of_ble_eq_true rfl⟩ ⟨rfl, rfl⟩ hK hP (fun _ h9 => h9) rfl rfl (Nat.le_of_ble_eq_true rfl) dX6_round_39 ⟨Nat.zero_le _, Nat.zero_le _⟩ (fun S_39 H locs pS_39 hP hS => ?_)
          obtain ⟨hS_39, pS_39⟩ := pS_39
          refine z_iconst C dX6_round_42 ?_
          refine z_istore_n C dX6_round_43 rfl hl (by decide) rfl (fun ls hl => ?_)
          have hl : lv_has ls 4 [(1, _), (3, _), (0, _), (2, _)] := hl
          refine z_iinc C dX6_round_44 hl (by decide) 3 rfl rfl (fun ls hl => ?_)
          have hl : lv_has ls 4 [(2, _), (1, _), (3, _), (0, _)] := hl
          refine z_goto C 4 dX6_round_47 (by decide) ?_
          exact hL_4 (k + 1) 1 _ _ _ ls (by omega) (by omega) (if_pos (by omega)).symm ((((iF.le (by decide)).tr (pS_16.2.le (by decide))).tr (pS_26.le (by decide))).tr (pS_39.le (by decide))) (hS_39.trans (if_pos (by omega)).symm) hP hS (lv_sub hl [3, 1, 0] rfl)
        · refine z_goto C 44 dX6_round_33 (by decide) ?_
          refine z_iinc C dX6_round_44 hl (by decide) 3 rfl rfl (fun ls hl => ?_)
          have hl : lv_has ls 4 [(2, _), (3, _), (0, _), (1, _)] := hl
          refine z_goto C 4 dX6_round_47 (by decide) ?_
          exact hL_4 (k + 1) _ _ _ _ ls (by omega) (by omega) (by rw [rndB, if_neg (by omega)]; exact iC) (((iF.le (by decide)).tr (pS_16.2.le (by decide))).tr (pS_26.le (by decide))) (hS_26.trans (if_neg (by omega)).symm) hP hS (lv_sub hl [2, 3, 0] rfl)
  exact hL_4 _ 0 0 _ _ _ ls (Nat.lt_succ_self _) (by omega) rfl Fr.rf hPS hP hS (lv_sub hl [2, 1, 0] rfl)
theorem mcX6_laysAside (l : Launch) (g : mG) (h : Nat) (ad : Nat → Nat) (P S : zS) (hPS : per S = P)  (hW : WfR P 0) : mMV l g h ad yX6_laysAside cX6_laysAside 2 (k2_rm 2 42) [] S (fun S1 => Fr [40] S S1 ∧ ∀ b : Nat, b < (P 23 0).toNat → S1 40 (b : Int) = optOf P b) := by
  refine z_start (own := RX6) (by decide) rfl (Nat.le_of_ble_eq_true rfl) ?_
  intro prg env s mid blw mth cod ls Q C hQ hret hlk hnm hK hH hl
  have hP : MP g h ad S s.heap := hH
  have hS : va_S (MA h ad) s.heap s.heap [] := va_S.rf
  have hl : lv_has ls 2 [(0, .ref h)] := hl
  have w1 := hW.bikes
  have w7 := nO_in hW
  refine z_iconst C dX6_laysAside_0 ?_
  refine z_istore_n C dX6_laysAside_1 rfl hl (by decide) rfl (fun ls hl => ?_)
  have hl : lv_has ls 2 [(1, _), (0, _)] := hl
  have hL_2 : ∀ (fuel : Nat) (k : Nat) (S1 : zS) (H : Heap) (locs : List Loc) (ls : Array Slot), (P 23 0).toNat - k < fuel → ((k : Int) ≤ P 23 0) → (Fr [40] S S1) → (∀ b : Nat, b < k → S1 40 (b : Int) = optOf P b) → per S1 = P → MP g h ad S1 H → va_S (MA h ad) s.heap H locs → lv_has ls 2 [(0, .ref h), (1, .int (iZ (k : Int)))] → W prg l env (k2_rm 2 42) s mid ([.ref h] : List Value).toArray blw mth cod H locs 0 0 Q (F0 mid 2 ls []) := by
    intro fuel
    induction fuel with
    | zero => intro k S1  H locs ls hm; exact absurd hm (Nat.not_lt_zero _)
    | succ fuel hL_2 =>
      intro k S1  H locs ls hm ik iF iA hPS_2 hP  hS hl
      refine z_iload_n C dX6_laysAside_2 hl 1 rfl ?_
      refine z_aload_n C dX6_laysAside_3 hl 0 rfl ?_
      refine m_geta C hK hP 23 (by decide) q1772 rfl (by decide) dX6_laysAside_4 ?_
      refine z_iconst C dX6_laysAside_7 ?_
      refine m_iald C hK hP 23 (by decide) rfl (by have h9 : mlen 23 = 5 := rfl; omega) (pe hPS_2 rfl) dX6_laysAside_8 (fun r_8 => ?_)
      refine z_icmp_ge C 29 dX6_laysAside_9 (by decide) (by omega) (by omega) (fun c_9 => ?_) (fun c_9 => ?_)
      · exact m_mret_v C hQ hret hlk hS hP ⟨iF, fun b hb => iA b (by omega)⟩ dX6_laysAside_29
      · refine z_aload_n C dX6_laysAside_12 hl 0 rfl ?_
        refine m_geta C hK hP 40 (by decide) q1789 rfl (by decide) dX6_laysAside_13 ?_
        refine z_iload_n C dX6_laysAside_16 hl 1 rfl ?_
        refine z_aload_n C dX6_laysAside_17 hl 0 rfl ?_
        refine z_iload_n C dX6_laysAside_18 hl 1 rfl ?_
        refine m_pi C vX6_408 (mcX6_optionOf l g h ad _ _ hPS_2 _ (by omega)) hS hl ⟨Nat.le_of_ble_eq_true rfl, Nat.le_of_ble_eq_true rfl⟩ ⟨rfl, rfl⟩ hK hP rfl rfl (Nat.le_of_ble_eq_true rfl) dX6_laysAside_19 ⟨Nat.zero_le _, Nat.zero_le _⟩ (fun locs hS => ?_)
        have q1 := optOf_in hW (b := k) ⟨by omega, by omega⟩
        refine m_iast C hK hP hS 40 (by decide) rfl (by have h9 : mlen 40 = 10 := rfl; omega) (by omega) dX6_laysAside_22 (fun S_22 eS_22 H locs hP hS => ?_)
        have hS_22 := per_s rfl hPS_2 eS_22
        refine z_iinc C dX6_laysAside_23 hl (by decide) 1 rfl rfl (fun ls hl => ?_)
        have hl : lv_has ls 2 [(1, _), (0, _)] := hl
        refine z_goto C 2 dX6_laysAside_26 (by decide) ?_
        exact hL_2 (k + 1) _ _ _ ls (by omega) (by omega) (Fr.up iF eS_22 (by decide)) (zfill iA eS_22 rfl) hS_22 hP hS (lv_sub hl [1, 0] rfl)
  exact hL_2 _ 0 _ _ _ ls (Nat.lt_succ_self _) (by omega) Fr.rf (fun s hs => absurd hs (Nat.not_lt_zero _)) hPS hP hS (lv_sub hl [1, 0] rfl)
theorem mcX6_takesBack (l : Launch) (g : mG) (h : Nat) (ad : Nat → Nat) (P S : zS) (hPS : per S = P) (P0 : zS) (hW0 : WfR P0 0) (hO : OptEq P0 P) (hA : ∀ b : Nat, b < (P0 23 0).toNat → S 40 (b : Int) = optOf P0 b) : mMV l g h ad yX6_takesBack cX6_takesBack 2 (k2_rm 2 43) [] S (fun S1 => per S1 = P0 ∧ Fr [24] S S1) := by
  refine z_start (own := RX6) (by decide) rfl (Nat.le_of_ble_eq_true rfl) ?_
  intro prg env s mid blw mth cod ls Q C hQ hret hlk hnm hK hH hl
  have hP : MP g h ad S s.heap := hH
  have hS : va_S (MA h ad) s.heap s.heap [] := va_S.rf
  have hl : lv_has ls 2 [(0, .ref h)] := hl
  have w1 := hW0.bikes
  have w2 := nO_in hW0
  refine z_iconst C dX6_takesBack_0 ?_
  refine z_istore_n C dX6_takesBack_1 rfl hl (by decide) rfl (fun ls hl => ?_)
  have hl : lv_has ls 2 [(1, _), (0, _)] := hl
  have hL_2 : ∀ (fuel : Nat) (k : Nat) (S1 : zS) (H : Heap) (locs : List Loc) (ls : Array Slot), (P0 23 0).toNat - k < fuel → ((k : Int) ≤ P0 23 0) → (Fr [24] S S1) → per S1 = backP P0 P k → MP g h ad S1 H → va_S (MA h ad) s.heap H locs → lv_has ls 2 [(0, .ref h), (1, .int (iZ (k : Int)))] → W prg l env (k2_rm 2 43) s mid ([.ref h] : List Value).toArray blw mth cod H locs 0 0 Q (F0 mid 2 ls []) := by
    intro fuel
    induction fuel with
    | zero => intro k S1  H locs ls hm; exact absurd hm (Nat.not_lt_zero _)
    | succ fuel hL_2 =>
      intro k S1  H locs ls hm ik iF hPS_2 hP  hS hl
      have q0 := backP_eq hO (fun b g1 g2 => (hW0.bike ⟨g1, g2⟩).2.2.2.2) k ik
      have q1 : backP P0 P k 23 0 = P0 23 0 := by rw [q0.1 23 (by decide)]
      refine z_iload_n C dX6_takesBack_2 hl 1 rfl ?_
      refine z_aload_n C dX6_takesBack_3 hl 0 rfl ?_
      refine m_geta C hK hP 23 (by decide) q1772 rfl (by decide) dX6_takesBack_4 ?_
      refine z_iconst C dX6_takesBack_7 ?_
      refine m_iald C hK hP 23 (by decide) rfl (by have h9 : mlen 23 = 5 := rfl; omega) (pe hPS_2 rfl) dX6_takesBack_8 (fun r_8 => ?_)
      refine z_icmp_ge C 29 dX6_takesBack_9 (by decide) (by omega) (by omega) (fun c_9 => ?_) (fun c_9 => ?_)
      · exact m_mret_v C hQ hret hlk hS hP ⟨by rw [hPS_2, show k = (P0 23 0).toNat by omega, backP_all hW0 hO], iF⟩ dX6_takesBack_29
      · have q2 : S1 40 (k : Int) = optOf P0 k := by rw [iF 40 (by decide)]; exact hA k (by omega)
        have q3 := optOf_in hW0 (b := k) ⟨by omega, by omega⟩
        refine z_aload_n C dX6_takesBack_12 hl 0 rfl ?_
        refine z_iload_n C dX6_takesBack_13 hl 1 rfl ?_
        refine z_aload_n C dX6_takesBack_14 hl 0 rfl ?_
        refine m_geta C hK hP 40 (by decide) q1789 rfl (by decide) dX6_takesBack_15 ?_
        refine z_iload_n C dX6_takesBack_18 hl 1 rfl ?_
        refine m_iald C hK hP 40 (by decide) rfl (by have h9 : mlen 40 = 10 := rfl; omega) rfl dX6_takesBack_19 (fun r_19 => ?_)
        refine m_mv C vX6_411 (mcX6_hasOption l g h ad _ _ hPS_2 _ _ (by omega) (by omega)) hS hl ⟨Nat.le_of_ble_eq_true rfl, Nat.le_of_ble_eq_true rfl⟩ ⟨rfl, rfl⟩ hK hP (fun _ h9 => h9) rfl rfl (Nat.le_of_ble_eq_true rfl) dX6_takesBack_20 ⟨Nat.zero_le _, Nat.zero_le _⟩ (fun S_20 H locs pS_20 hP hS => ?_)
        obtain ⟨hS_20, pS_20⟩ := pS_20
        refine z_iinc C dX6_takesBack_23 hl (by decide) 1 rfl rfl (fun ls hl => ?_)
        have hl : lv_has ls 2 [(1, _), (0, _)] := hl
        refine z_goto C 2 dX6_takesBack_26 (by decide) ?_
        exact hL_2 (k + 1) _ _ _ ls (by omega) (by omega) ((iF.le (by decide)).tr (pS_20.le (by decide))) (by rw [hS_20, q2]; rfl) hP hS (lv_sub hl [1, 0] rfl)
  exact hL_2 _ 0 _ _ _ ls (Nat.lt_succ_self _) (by omega) Fr.rf hPS hP hS (lv_sub hl [1, 0] rfl)
theorem mcX6_settlesIn (l : Launch) (g : mG) (h : Nat) (ad : Nat → Nat) (P S : zS) (hPS : per S = P) (n : Int) (hW : WfR P 0) (hn : 0 ≤ n ∧ n ≤ 30) : mMI l g h ad yX6_settlesIn cX6_settlesIn 3 .int (k2_rm 9 213) [.int (iZ n)] S (fun z1 S1 => z1 = (stlN n.toNat P : Int) ∧ per S1 = stlP n.toNat P ∧ S1 41 0 = stlF n.toNat P ∧ Fr [24, 33, 34, 35, 36, 37, 38, 39, 41] S S1) := by
  refine z_start (own := RX6) (by decide) rfl (Nat.le_of_ble_eq_true rfl) ?_
  intro prg env s mid blw mth cod ls Q C hQ hret hlk hnm hK hH hl
  have hP : MP g h ad S s.heap := hH
  have hS : va_S (MA h ad) s.heap s.heap [] := va_S.rf
  have hl : lv_has ls 3 [(0, .ref h), (1, .int (iZ n))] := hl
  refine z_aload_n C dX6_settlesIn_0 hl 0 rfl ?_
  refine z_iconst C dX6_settlesIn_1 ?_
  refine m_putz C hK hP hS 41 (by decide) q1790 rfl rfl (by omega) dX6_settlesIn_2 (fun S_2 eS_2 H locs hP hS => ?_)
  have hS_2 := per_s rfl hPS eS_2
  refine z_iconst C dX6_settlesIn_5 ?_
  refine z_istore_n C dX6_settlesIn_6 rfl hl (by decide) rfl (fun ls hl => ?_)
  have hl : lv_has ls 3 [(2, _), (0, _), (1, _)] := hl
  have hL_7 : ∀ (fuel : Nat) (k : Nat) (S1 : zS) (Pk : zS) (H : Heap) (locs : List Loc) (ls : Array Slot), n.toNat - k < fuel → ((k : Int) ≤ n) → (WfR Pk 0) → (stI n.toNat k P Pk (S1 41 0)) → (Fr [24, 33, 34, 35, 36, 37, 38, 39, 41] S S1) → per S1 = Pk → MP g h ad S1 H → va_S (MA h ad) s.heap H locs → lv_has ls 3 [(0, .ref h), (1, .int (iZ n)), (2, .int (iZ (k : Int)))] → W prg l env (k2_rm 9 213) s mid ([.ref h, .int (iZ n)] : List Value).toArray blw mth cod H locs 0 0 Q (F0 mid 7 ls []) := by
    intro fuel
    induction fuel with
    | zero => intro k S1 Pk  H locs ls hm; exact absurd hm (Nat.not_lt_zero _)
    | succ fuel hL_7 =>
      intro k S1 Pk  H locs ls hm ik iW iS iF hPS_7 hP  hS hl
      refine z_iload_n C dX6_settlesIn_7 hl 2 rfl ?_
      refine z_iload_n C dX6_settlesIn_8 hl 1 rfl ?_
      refine z_icmp_ge C 41 dX6_settlesIn_9 (by decide) (by omega) (by omega) (fun c_9 => ?_) (fun c_9 => ?_)
      · refine z_iload_n C dX6_settlesIn_41 hl 2 rfl ?_
        exact m_mret_i C hQ hret hlk hS hP ⟨(stI.done iS (by omega) (by first | exact Or.inr (by assumption) | exact Or.inl (by omega))).1, by rw [← (stI.done iS (by omega) (by first | exact Or.inr (by assumption) | exact Or.inl (by omega))).2.1]; exact hPS_7, (stI.done iS (by omega) (by first | exact Or.inr (by assumption) | exact Or.inl (by omega))).2.2, iF⟩ dX6_settlesIn_42
      · refine z_aload_n C dX6_settlesIn_12 hl 0 rfl ?_
        refine m_geti C hK hP 41 (by decide) q1790 rfl (Or.inr rfl) rfl dX6_settlesIn_13 (fun r_13 => ?_)
        refine z_if_ne C 41 dX6_settlesIn_16 (by decide) (by omega) (fun c_16 => ?_) (fun c_16 => ?_)
        · refine z_iload_n C dX6_settlesIn_41 hl 2 rfl ?_
          exact m_mret_i C hQ hret hlk hS hP ⟨(stI.done iS (by omega) (by first | exact Or.inr (by assumption) | exact Or.inl (by omega))).1, by rw [← (stI.done iS (by omega) (by first | exact Or.inr (by assumption) | exact Or.inl (by omega))).2.1]; exact hPS_7, (stI.done iS (by omega) (by first | exact Or.inr (by assumption) | exact Or.inl (by omega))).2.2, iF⟩ dX6_settlesIn_42
        · refine z_aload_n C dX6_settlesIn_19 hl 0 rfl ?_
          refine z_aload_n C dX6_settlesIn_20 hl 0 rfl ?_
          refine m_mi C vX6_430 (mcX6_round l g h ad _ _ hPS_7 (by assumption)) hS hl ⟨Nat.le_of_ble_eq_true rfl, Nat.le_of_ble_eq_true rfl⟩ ⟨rfl, rfl⟩ hK hP (fun _ h9 => h9) rfl rfl (Nat.le_of_ble_eq_true rfl) dX6_settlesIn_21 ⟨Nat.zero_le _, Nat.zero_le _⟩ (fun v_21 S_21 H locs pS_21 hP hS => ?_)
          obtain ⟨e_21, pS_21⟩ := pS_21
          subst e_21
          obtain ⟨hS_21, pS_21⟩ := pS_21
          have q1 := rndB_01 Pk (Pk 23 0).toNat
          have q2 : rndC Pk = rndB Pk (Pk 23 0).toNat := rfl
          refine z_if_ne C 31 dX6_settlesIn_24 (by decide) (by omega) (fun c_24 => ?_) (fun c_24 => ?_)
          · refine z_iconst C dX6_settlesIn_31 ?_
            refine m_putz C hK hP hS 41 (by decide) q1790 rfl rfl (by omega) dX6_settlesIn_32 (fun S_32 eS_32 H locs hP hS => ?_)
            have hS_32 := per_s rfl hS_21 eS_32
            refine z_iinc C dX6_settlesIn_35 hl (by decide) 2 rfl rfl (fun ls hl => ?_)
            have hl : lv_has ls 3 [(2, _), (0, _), (1, _)] := hl
            refine z_goto C 7 dX6_settlesIn_38 (by decide) ?_
            exact hL_7 (k + 1) _ _ _ _ ls (by omega) (by omega) (rnd_wf iW).1 (by rw [eS_32, zup_s]; exact stI.zero iS c_16 (by omega) c_24) (Fr.up ((iF.le (by decide)).tr (pS_21.le (by decide))) eS_32 (by decide)) hS_32 hP hS (lv_sub hl [1, 2, 0] rfl)
          · refine z_iconst C dX6_settlesIn_27 ?_
            refine z_goto C 32 dX6_settlesIn_28 (by decide) ?_
            refine m_putz C hK hP hS 41 (by decide) q1790 rfl rfl (by omega) dX6_settlesIn_32 (fun S_32 eS_32 H locs hP hS => ?_)
            have hS_32 := per_s rfl hS_21 eS_32
            refine z_iinc C dX6_settlesIn_35 hl (by decide) 2 rfl rfl (fun ls hl => ?_)
            have hl : lv_has ls 3 [(2, _), (0, _), (1, _)] := hl
            refine z_goto C 7 dX6_settlesIn_38 (by decide) ?_
            exact hL_7 (k + 1) _ _ _ _ ls (by omega) (by omega) (rnd_wf iW).1 (by rw [eS_32, zup_s]; exact stI.one iS c_16 (by omega) c_24) (Fr.up ((iF.le (by decide)).tr (pS_21.le (by decide))) eS_32 (by decide)) hS_32 hP hS (lv_sub hl [1, 2, 0] rfl)
  exact hL_7 _ 0 _ _ _ _ ls (Nat.lt_succ_self _) (by omega) hW (by rw [eS_2, zup_s]; exact Or.inl ⟨rfl, Nat.zero_add _, rfl, rfl⟩) (Fr.up Fr.rf eS_2 (by decide)) hS_2 hP hS (lv_sub hl [1, 2, 0] rfl)
theorem mcX6_settle (l : Launch) (g : mG) (h : Nat) (ad : Nat → Nat) (P S : zS) (hPS : per S = P) (n : Int) (hW : WfR P 0) (hn : I32 n) : mMI l g h ad yX6_settle cX6_settle 2 .int (k2_rm 10 235) [.int (iZ n)] S (fun z1 S1 => z1 = aSettle P n ∧ per S1 = pSettle P n) := by
  refine z_start (own := RX6) (by decide) rfl (Nat.le_of_ble_eq_true rfl) ?_
  intro prg env s mid blw mth cod ls Q C hQ hret hlk hnm hK hH hl
  have hP : MP g h ad S s.heap := hH
  have hS : va_S (MA h ad) s.heap s.heap [] := va_S.rf
  have hl : lv_has ls 2 [(0, .ref h), (1, .int (iZ n))] := hl
  have w2 := hW.places
  refine z_aload_n C dX6_settle_0 hl 0 rfl ?_
  refine z_iconst C dX6_settle_1 ?_
  refine m_puti C hK hP hS 0 (by decide) q1749 rfl rfl (by omega) dX6_settle_2 (fun S_2 eS_2 H locs hP hS => ?_)
  have hS_2 := per_s rfl hPS eS_2
  refine z_aload_n C dX6_settle_5 hl 0 rfl ?_
  refine m_pi C vX6_354 (mcX6_isRail l g h ad _ _ hS_2 (by assumption)) hS hl ⟨Nat.le_of_ble_eq_true rfl, Nat.le_of_ble_eq_true rfl⟩ ⟨rfl, rfl⟩ hK hP rfl rfl (Nat.le_of_ble_eq_true rfl) dX6_settle_6 ⟨Nat.zero_le _, Nat.zero_le _⟩ (fun locs hS => ?_)
  refine z_if_eq C 32 dX6_settle_9 (by decide) z01_in (fun c_9 => ?_) (fun c_9 => ?_)
  · replace c_9 := z01_f c_9
    refine z_bipush C dX6_settle_32 rfl ?_
    exact m_mret_i C hQ hret hlk hS hP ⟨by unfold aSettle; split <;> first | rfl | omega, by unfold pSettle; first | rw [if_pos ⟨c_9, c_21⟩]; exact hS_2 | rw [if_neg (by omega)]; exact hS_2⟩ dX6_settle_34
  · replace c_9 := z01_t c_9
    refine z_iload_n C dX6_settle_12 hl 1 rfl ?_
    refine z_i2l C dX6_settle_13 (by omega) ?_
    refine z_lconst (v := 0) C dX6_settle_14 rfl ?_
    refine z_ldc2 (v := 30) C q2267 dX6_settle_15 rfl ?_
    refine s_pi C vX6_119 (mcX6_in l _ _ _ (by omega) (by omega) (by omega)) hS hl ⟨Nat.le_of_ble_eq_true rfl, Nat.le_of_ble_eq_true rfl⟩ ⟨rfl, rfl⟩ rfl rfl (Nat.le_of_ble_eq_true rfl) dX6_settle_18 ⟨Nat.zero_le _, Nat.zero_le _⟩ (fun locs hS => ?_)
    refine z_if_eq C 32 dX6_settle_21 (by decide) z01_in (fun c_21 => ?_) (fun c_21 => ?_)
    · replace c_21 := z01_f c_21
      refine z_bipush C dX6_settle_32 rfl ?_
      exact m_mret_i C hQ hret hlk hS hP ⟨by unfold aSettle; split <;> first | rfl | omega, by unfold pSettle; first | rw [if_pos ⟨c_9, c_21⟩]; exact hS_2 | rw [if_neg (by omega)]; exact hS_2⟩ dX6_settle_34
    · replace c_21 := z01_t c_21
      refine z_aload_n C dX6_settle_24 hl 0 rfl ?_
      refine z_iload_n C dX6_settle_25 hl 1 rfl ?_
      refine m_mi C vX6_435 (mcX6_settlesIn l g h ad _ _ hS_2 _ (by assumption) (by omega)) hS hl ⟨Nat.le_of_ble_eq_true rfl, Nat.le_of_ble_eq_true rfl⟩ ⟨rfl, rfl⟩ hK hP (fun _ h9 => h9) rfl rfl (Nat.le_of_ble_eq_true rfl) dX6_settle_26 ⟨Nat.zero_le _, Nat.zero_le _⟩ (fun v_26 S_26 H locs pS_26 hP hS => ?_)
      obtain ⟨e_26, pS_26⟩ := pS_26
      subst e_26
      obtain ⟨hS_26, pS_26⟩ := pS_26
      refine z_goto C 34 dX6_settle_29 (by decide) ?_
      exact m_mret_i C hQ hret hlk hS hP ⟨by unfold aSettle; split <;> first | rfl | omega, by unfold pSettle; first | rw [if_pos ⟨c_9, c_21⟩]; exact hS_26 | rw [if_neg (by omega)]; exact hS_26⟩ dX6_settle_34
theorem mcX6_settles (l : Launch) (g : mG) (h : Nat) (ad : Nat → Nat) (P S : zS) (hPS : per S = P)  (hW : WfR P 0) : mMI l g h ad yX6_settles cX6_settles 2 .int (k2_rm 10 235) [] S (fun z1 S1 => z1 = aSettles P ∧ per S1 = P) := by
  refine z_start (own := RX6) (by decide) rfl (Nat.le_of_ble_eq_true rfl) ?_
  intro prg env s mid blw mth cod ls Q C hQ hret hlk hnm hK hH hl
  have hP : MP g h ad S s.heap := hH
  have hS : va_S (MA h ad) s.heap s.heap [] := va_S.rf
  have hl : lv_has ls 2 [(0, .ref h)] := hl
  have w2 := hW.places
  refine z_aload_n C dX6_settles_0 hl 0 rfl ?_
  refine z_iconst C dX6_settles_1 ?_
  refine m_puti C hK hP hS 0 (by decide) q1749 rfl rfl (by omega) dX6_settles_2 (fun S_2 eS_2 H locs hP hS => ?_)
  have hS_2 := per_s rfl hPS eS_2
  refine z_aload_n C dX6_settles_5 hl 0 rfl ?_
  refine m_pi C vX6_354 (mcX6_isRail l g h ad _ _ hS_2 (by assumption)) hS hl ⟨Nat.le_of_ble_eq_true rfl, Nat.le_of_ble_eq_true rfl⟩ ⟨rfl, rfl⟩ hK hP rfl rfl (Nat.le_of_ble_eq_true rfl) dX6_settles_6 ⟨Nat.zero_le _, Nat.zero_le _⟩ (fun locs hS => ?_)
  refine z_if_ne C 15 dX6_settles_9 (by decide) z01_in (fun c_9 => ?_) (fun c_9 => ?_)
  · replace c_9 := z01_t c_9
    refine z_aload_n C dX6_settles_15 hl 0 rfl ?_
    refine m_mv C vX6_438 (mcX6_laysAside l g h ad _ _ hS_2 (by assumption)) hS hl ⟨Nat.le_of_ble_eq_true rfl, Nat.le_of_ble_eq_true rfl⟩ ⟨rfl, rfl⟩ hK hP (fun _ h9 => h9) rfl rfl (Nat.le_of_ble_eq_true rfl) dX6_settles_16 ⟨Nat.zero_le _, Nat.zero_le _⟩ (fun S_16 H locs pS_16 hP hS => ?_)
    have hS_16 : per S_16 = P := (pS_16.1.pr rfl hS_2)
    refine z_aload_n C dX6_settles_19 hl 0 rfl ?_
    refine z_bipush C dX6_settles_20 rfl ?_
    refine m_mi C vX6_435 (mcX6_settlesIn l g h ad _ _ hS_16 _ (by assumption) (by omega)) hS hl ⟨Nat.le_of_ble_eq_true rfl, Nat.le_of_ble_eq_true rfl⟩ ⟨rfl, rfl⟩ hK hP (fun _ h9 => h9) rfl rfl (Nat.le_of_ble_eq_true rfl) dX6_settles_22 ⟨Nat.zero_le _, Nat.zero_le _⟩ (fun v_22 S_22 H locs pS_22 hP hS => ?_)
    obtain ⟨e_22, pS_22⟩ := pS_22
    subst e_22
    obtain ⟨hS_22, pS_22⟩ := pS_22
    refine z_istore_n C dX6_settles_25 rfl hl (by decide) rfl (fun ls hl => ?_)
    have hl : lv_has ls 2 [(1, _), (0, _)] := hl
    refine z_aload_n C dX6_settles_26 hl 1 rfl ?_
    refine m_mv C vX6_441 (mcX6_takesBack l g h ad _ _ hS_22 P hW (stl_ok _ hW).2 (fun b hb => by rw [pS_22.2 40 (by decide)]; exact pS_16.2 b hb)) hS hl ⟨Nat.le_of_ble_eq_true rfl, Nat.le_of_ble_eq_true rfl⟩ ⟨rfl, rfl⟩ hK hP (fun _ h9 => h9) rfl rfl (Nat.le_of_ble_eq_true rfl) dX6_settles_27 ⟨Nat.zero_le _, Nat.zero_le _⟩ (fun S_27 H locs pS_27 hP hS => ?_)
    obtain ⟨hS_27, pS_27⟩ := pS_27
    have q1 : S_27 41 0 = stlF 30 P := by rw [pS_27 41 (by decide)]; exact pS_22.1
    refine z_aload_n C dX6_settles_30 hl 1 rfl ?_
    refine m_geti C hK hP 41 (by decide) q1790 rfl (Or.inr rfl) rfl dX6_settles_31 (fun r_31 => ?_)
    refine z_if_eq C 41 dX6_settles_34 (by decide) (by omega) (fun c_34 => ?_) (fun c_34 => ?_)
    · refine z_iconst C dX6_settles_41 ?_
      exact m_mret_i C hQ hret hlk hS hP ⟨by rw [aSettles, if_pos c_9, ← q1]; first | rw [if_pos (by assumption)] | (rw [if_neg (by assumption)]; rfl), hS_27⟩ dX6_settles_42
    · refine z_iload_n C dX6_settles_37 hl 0 rfl ?_
      refine z_goto C 42 dX6_settles_38 (by decide) ?_
      exact m_mret_i C hQ hret hlk hS hP ⟨by rw [aSettles, if_pos c_9, ← q1]; first | rw [if_pos (by assumption)] | (rw [if_neg (by assumption)]; rfl), hS_27⟩ dX6_settles_42
  · replace c_9 := z01_f c_9
    refine z_bipush C dX6_settles_12 rfl ?_
    exact m_mret_i C hQ hret hlk hS hP ⟨(if_neg (by assumption)).symm, hS_2⟩ dX6_settles_14
theorem mcX6_settled (l : Launch) (g : mG) (h : Nat) (ad : Nat → Nat) (P S : zS) (hPS : per S = P)  (hW : WfR P 0) : mML l g h ad yX6_settled cX6_settled 3 (k2_rm 10 235) [] S (fun z1 S1 => z1 = aSettled P ∧ per S1 = P) := by
  refine z_start (own := RX6) (by decide) rfl (Nat.le_of_ble_eq_true rfl) ?_
  intro prg env s mid blw mth cod ls Q C hQ hret hlk hnm hK hH hl
  have hP : MP g h ad S s.heap := hH
  have hS : va_S (MA h ad) s.heap s.heap [] := va_S.rf
  have hl : lv_has ls 3 [(0, .ref h)] := hl
  have w2 := hW.places
  refine z_aload_n C dX6_settled_0 hl 0 rfl ?_
  refine z_iconst C dX6_settled_1 ?_
  refine m_puti C hK hP hS 0 (by decide) q1749 rfl rfl (by omega) dX6_settled_2 (fun S_2 eS_2 H locs hP hS => ?_)
  have hS_2 := per_s rfl hPS eS_2
  refine z_aload_n C dX6_settled_5 hl 0 rfl ?_
  refine m_pi C vX6_354 (mcX6_isRail l g h ad _ _ hS_2 (by assumption)) hS hl ⟨Nat.le_of_ble_eq_true rfl, Nat.le_of_ble_eq_true rfl⟩ ⟨rfl, rfl⟩ hK hP rfl rfl (Nat.le_of_ble_eq_true rfl) dX6_settled_6 ⟨Nat.zero_le _, Nat.zero_le _⟩ (fun locs hS => ?_)
  refine z_if_ne C 16 dX6_settled_9 (by decide) z01_in (fun c_9 => ?_) (fun c_9 => ?_)
  · replace c_9 := z01_t c_9
    refine z_aload_n C dX6_settled_16 hl 0 rfl ?_
    refine m_mv C vX6_438 (mcX6_laysAside l g h ad _ _ hS_2 (by assumption)) hS hl ⟨Nat.le_of_ble_eq_true rfl, Nat.le_of_ble_eq_true rfl⟩ ⟨rfl, rfl⟩ hK hP (fun _ h9 => h9) rfl rfl (Nat.le_of_ble_eq_true rfl) dX6_settled_17 ⟨Nat.zero_le _, Nat.zero_le _⟩ (fun S_17 H locs pS_17 hP hS => ?_)
    have hS_17 : per S_17 = P := (pS_17.1.pr rfl hS_2)
    refine z_aload_n C dX6_settled_20 hl 0 rfl ?_
    refine z_bipush C dX6_settled_21 rfl ?_
    refine m_mi C vX6_435 (mcX6_settlesIn l g h ad _ _ hS_17 _ (by assumption) (by omega)) hS hl ⟨Nat.le_of_ble_eq_true rfl, Nat.le_of_ble_eq_true rfl⟩ ⟨rfl, rfl⟩ hK hP (fun _ h9 => h9) rfl rfl (Nat.le_of_ble_eq_true rfl) dX6_settled_23 ⟨Nat.zero_le _, Nat.zero_le _⟩ (fun v_23 S_23 H locs pS_23 hP hS => ?_)
    obtain ⟨e_23, pS_23⟩ := pS_23
    subst e_23
    obtain ⟨hS_23, pS_23⟩ := pS_23
    refine z_pop C dX6_settled_26 rfl ?_
    refine z_aload_n C dX6_settled_27 hl 0 rfl ?_
    refine z_iconst C dX6_settled_28 ?_
    refine m_ml C vX6_398 (mcX6_allNow l g h ad _ _ hS_23 _ (stl_ok _ hW).1 (by omega)) hS hl ⟨Nat.le_of_ble_eq_true rfl, Nat.le_of_ble_eq_true rfl⟩ ⟨rfl, rfl⟩ hK hP (fun _ h9 => h9) rfl rfl (Nat.le_of_ble_eq_true rfl) dX6_settled_29 ⟨Nat.zero_le _, Nat.zero_le _⟩ (fun v_29 S_29 H locs pS_29 hP hS => ?_)
    obtain ⟨e_29, pS_29⟩ := pS_29
    subst e_29
    have hS_29 : per S_29 = _ := (pS_29.pr rfl hS_23)
    refine z_lstore_n C dX6_settled_32 rfl hl (by decide) rfl (fun ls hl => ?_)
    have hl : lv_has ls 3 [(1, _), (0, _)] := hl
    refine z_aload_n C dX6_settled_33 hl 1 rfl ?_
    refine m_mv C vX6_441 (mcX6_takesBack l g h ad _ _ hS_29 P hW (stl_ok _ hW).2 (fun b hb => by rw [pS_29 40 (by decide), pS_23.2 40 (by decide)]; exact pS_17.2 b hb)) hS hl ⟨Nat.le_of_ble_eq_true rfl, Nat.le_of_ble_eq_true rfl⟩ ⟨rfl, rfl⟩ hK hP (fun _ h9 => h9) rfl rfl (Nat.le_of_ble_eq_true rfl) dX6_settled_34 ⟨Nat.zero_le _, Nat.zero_le _⟩ (fun S_34 H locs pS_34 hP hS => ?_)
    obtain ⟨hS_34, pS_34⟩ := pS_34
    have q1 : S_34 41 0 = stlF 30 P := by rw [pS_34 41 (by decide), pS_29 41 (by decide)]; exact pS_23.1
    refine z_aload_n C dX6_settled_37 hl 1 rfl ?_
    refine m_geti C hK hP 41 (by decide) q1790 rfl (Or.inr rfl) rfl dX6_settled_38 (fun r_38 => ?_)
    refine z_if_eq C 48 dX6_settled_41 (by decide) (by omega) (fun c_41 => ?_) (fun c_41 => ?_)
    · refine z_ldc2 (v := -1) C q1962 dX6_settled_48 rfl ?_
      exact m_mret_l C hQ hret hlk hS hP ⟨by rw [aSettled, if_pos c_9, ← q1]; first | rw [if_pos (by assumption)] | (rw [if_neg (by assumption)]; rfl), hS_34⟩ dX6_settled_51
    · refine z_lload_n C dX6_settled_44 hl 0 rfl ?_
      refine z_goto C 51 dX6_settled_45 (by decide) ?_
      exact m_mret_l C hQ hret hlk hS hP ⟨by rw [aSettled, if_pos c_9, ← q1]; first | rw [if_pos (by assumption)] | (rw [if_neg (by assumption)]; rfl), hS_34⟩ dX6_settled_51
  · replace c_9 := z01_f c_9
    refine z_ldc2 (v := -2) C q2155 dX6_settled_12 rfl ?_
    exact m_mret_l C hQ hret hlk hS hP ⟨(if_neg (by assumption)).symm, hS_2⟩ dX6_settled_15
theorem mcX6_changes (l : Launch) (g : mG) (h : Nat) (ad : Nat → Nat) (P S : zS) (hPS : per S = P)  (hW : WfR P 0) : mMI l g h ad yX6_changes cX6_changes 10 .boolean (k2_rm 6 143) [] S (fun z1 S1 => z1 = chgC P ∧ per S1 = chgP P ∧ Fr [24, 33, 34, 35, 36, 37, 38, 39] S S1) := by
  refine z_start (own := RX6) (by decide) rfl (Nat.le_of_ble_eq_true rfl) ?_
  intro prg env s mid blw mth cod ls Q C hQ hret hlk hnm hK hH hl
  have hP : MP g h ad S s.heap := hH
  have hS : va_S (MA h ad) s.heap s.heap [] := va_S.rf
  have hl : lv_has ls 10 [(0, .ref h)] := hl
  have w1 := hW.bikes
  have w7 := nO_in hW
  refine z_aload_n C dX6_changes_0 hl 0 rfl ?_
  refine z_iconst C dX6_changes_1 ?_
  refine m_ml C vX6_398 (mcX6_allNow l g h ad _ _ hPS _ (by assumption) (by omega)) hS hl ⟨Nat.le_of_ble_eq_true rfl, Nat.le_of_ble_eq_true rfl⟩ ⟨rfl, rfl⟩ hK hP (fun _ h9 => h9) rfl rfl (Nat.le_of_ble_eq_true rfl) dX6_changes_2 ⟨Nat.zero_le _, Nat.zero_le _⟩ (fun v_2 S_2 H locs pS_2 hP hS => ?_)
  obtain ⟨e_2, pS_2⟩ := pS_2
  subst e_2
  have hS_2 : per S_2 = P := (pS_2.pr rfl hPS)
  refine z_lstore_n C dX6_changes_5 rfl hl (by decide) rfl (fun ls hl => ?_)
  have hl : lv_has ls 10 [(1, _), (0, _)] := hl
  refine z_iconst C dX6_changes_6 ?_
  refine z_istore_n C dX6_changes_7 rfl hl (by decide) rfl (fun ls hl => ?_)
  have hl : lv_has ls 10 [(3, _), (1, _), (0, _)] := hl
  refine z_iconst C dX6_changes_8 ?_
  refine z_istore C dX6_changes_9 hl (by decide) rfl (fun ls hl => ?_)
  have hl : lv_has ls 10 [(4, _), (3, _), (1, _), (0, _)] := hl
  refine z_iconst C dX6_changes_11 ?_
  refine z_istore C dX6_changes_12 hl (by decide) rfl (fun ls hl => ?_)
  have hl : lv_has ls 10 [(5, _), (4, _), (3, _), (1, _), (0, _)] := hl
  have hL_14 : ∀ (fuel : Nat) (k : Nat) (st : Int × Int × Int) (S1 : zS) (H : Heap) (locs : List Loc) (ls : Array Slot), (P 23 0).toNat - k < fuel → ((k : Int) ≤ P 23 0) → (st = chgB P k) → (Fr [24, 33, 34, 35, 36, 37, 38, 39] S S1) → per S1 = P → MP g h ad S1 H → va_S (MA h ad) s.heap H locs → lv_has ls 10 [(0, .ref h), (1, .long (lZ st.1)), (3, .int (iZ st.2.1)), (4, .int (iZ st.2.2)), (5, .int (iZ (k : Int)))] → W prg l env (k2_rm 6 143) s mid ([.ref h] : List Value).toArray blw mth cod H locs 0 0 Q (F0 mid 14 ls []) := by
    intro fuel
    induction fuel with
    | zero => intro k st S1  H locs ls hm; exact absurd hm (Nat.not_lt_zero _)
    | succ fuel hL_14 =>
      intro k st S1  H locs ls hm ik iS iF hPS_14 hP  hS hl
      have q0 : chgOk P k st := by rw [iS]; exact chgB_ok hW k ik
      have q01 := q0
      unfold chgOk at q01
      refine z_iload C dX6_changes_14 hl 4 rfl ?_
      refine z_aload_n C dX6_changes_16 hl 0 rfl ?_
      refine m_geta C hK hP 23 (by decide) q1772 rfl (by decide) dX6_changes_17 ?_
      refine z_iconst C dX6_changes_20 ?_
      refine m_iald C hK hP 23 (by decide) rfl (by have h9 : mlen 23 = 5 := rfl; omega) (pe hPS_14 rfl) dX6_changes_21 (fun r_21 => ?_)
      refine z_icmp_ge C 100 dX6_changes_22 (by decide) (by omega) (by omega) (fun c_22 => ?_) (fun c_22 => ?_)
      · have q7 : chg P = st := by rw [iS, chg, show (P 23 0).toNat = k by omega]
        refine z_iload_n C dX6_changes_100 hl 2 rfl ?_
        refine z_iconst C dX6_changes_101 ?_
        refine z_icmp_ne C 107 dX6_changes_102 (by decide) (by omega) (by omega) (fun c_102 => ?_) (fun c_102 => ?_)
        · refine z_aload_n C dX6_changes_107 hl 0 rfl ?_
          refine z_iload_n C dX6_changes_108 hl 2 rfl ?_
          refine z_iload C dX6_changes_109 hl 3 rfl ?_
          refine m_mv C vX6_411 (mcX6_hasOption l g h ad _ _ hPS_14 _ _ (by omega) (by omega)) hS hl ⟨Nat.le_of_ble_eq_true rfl, Nat.le_of_ble_eq_true rfl⟩ ⟨rfl, rfl⟩ hK hP (fun _ h9 => h9) rfl rfl (Nat.le_of_ble_eq_true rfl) dX6_changes_111 ⟨Nat.zero_le _, Nat.zero_le _⟩ (fun S_111 H locs pS_111 hP hS => ?_)
          obtain ⟨hS_111, pS_111⟩ := pS_111
          refine z_iconst C dX6_changes_114 ?_
          exact m_mret_z C hQ hret hlk hS hP (Or.inr rfl) ⟨by rw [chgC, q7, if_neg c_102], by rw [chgP, q7, if_neg c_102]; exact hS_111, ((iF.le (by decide)).tr (pS_111.le (by decide)))⟩ dX6_changes_115
        · refine z_iconst C dX6_changes_105 ?_
          exact m_mret_z C hQ hret hlk hS hP (Or.inl rfl) ⟨by rw [chgC, q7, if_pos c_102], by rw [chgP, q7, if_pos c_102]; exact hPS_14, iF⟩ dX6_changes_106
      · have q2 := hW.bike (b := k) ⟨by omega, by omega⟩
        have q3 := optOf_in hW (b := k) ⟨by omega, by omega⟩
        refine z_aload_n C dX6_changes_25 hl 0 rfl ?_
        refine z_iload C dX6_changes_26 hl 4 rfl ?_
        refine m_pi C vX6_408 (mcX6_optionOf l g h ad _ _ hPS_14 _ (by omega)) hS hl ⟨Nat.le_of_ble_eq_true rfl, Nat.le_of_ble_eq_true rfl⟩ ⟨rfl, rfl⟩ hK hP rfl rfl (Nat.le_of_ble_eq_true rfl) dX6_changes_28 ⟨Nat.zero_le _, Nat.zero_le _⟩ (fun locs hS => ?_)
        refine z_istore C dX6_changes_31 hl (by decide) rfl (fun ls hl => ?_)
        have hl : lv_has ls 10 [(6, _), (0, _), (1, _), (3, _), (4, _), (5, _)] := hl
        refine z_iconst C dX6_changes_33 ?_
        refine z_istore C dX6_changes_34 hl (by decide) rfl (fun ls hl => ?_)
        have hl : lv_has ls 10 [(7, _), (6, _), (0, _), (1, _), (3, _), (4, _), (5, _)] := hl
        have hL_36 : ∀ (fuel : Nat) (o : Nat) (s2 : Int × Int × Int) (S2 : zS) (Q1 : zS) (H : Heap) (locs : List Loc) (ls : Array Slot), (nO P).toNat - o < fuel → ((o : Int) ≤ nO P) → (s2 = chgO P k st o) → (∃ x, Q1 = optP P k x) → (Fr [24, 33, 34, 35, 36, 37, 38, 39] S S2) → per S2 = Q1 → MP g h ad S2 H → va_S (MA h ad) s.heap H locs → lv_has ls 10 [(0, .ref h), (1, .long (lZ s2.1)), (3, .int (iZ s2.2.1)), (4, .int (iZ s2.2.2)), (5, .int (iZ (k : Int))), (6, .int (iZ (optOf P k))), (7, .int (iZ (o : Int)))] → W prg l env (k2_rm 6 143) s mid ([.ref h] : List Value).toArray blw mth cod H locs 0 0 Q (F0 mid 36 ls []) := by
          intro fuel
          induction fuel with
          | zero => intro o s2 S2 Q1  H locs ls hm; exact absurd hm (Nat.not_lt_zero _)
          | succ fuel hL_36 =>
            intro o s2 S2 Q1  H locs ls hm io jS jQ jF hPS_36 hP  hS hl
            obtain ⟨x, jQ⟩ := jQ
            subst jQ
            have q4 : nO (optP P k x) = nO P := by unfold nO; rw [optP_k _ _ _ (by decide)]
            have q5 : chgOk P (k + 1) s2 := by rw [jS]; exact chgO_ok hW ⟨by omega, by omega⟩ (by omega) (q0.up (by omega)) o io
            have q51 := q5
            unfold chgOk at q51
            refine z_iload C dX6_changes_36 hl 6 rfl ?_
            refine z_aload_n C dX6_changes_38 hl 0 rfl ?_
            refine m_pi C vX6_401 (mcX6_optionMany l g h ad _ _ hPS_36 ) hS hl ⟨Nat.le_of_ble_eq_true rfl, Nat.le_of_ble_eq_true rfl⟩ ⟨rfl, rfl⟩ hK hP rfl rfl (Nat.le_of_ble_eq_true rfl) dX6_changes_39 ⟨Nat.zero_le _, Nat.zero_le _⟩ (fun locs hS => ?_)
            refine z_icmp_ge C 86 dX6_changes_42 (by decide) (by omega) (by omega) (fun c_42 => ?_) (fun c_42 => ?_)
            · rw [q4] at c_42
              refine z_aload_n C dX6_changes_86 hl 0 rfl ?_
              refine z_iload C dX6_changes_87 hl 4 rfl ?_
              refine z_iload C dX6_changes_89 hl 5 rfl ?_
              refine m_mv C vX6_411 (mcX6_hasOption l g h ad _ _ hPS_36 _ _ (by omega) (by omega)) hS hl ⟨Nat.le_of_ble_eq_true rfl, Nat.le_of_ble_eq_true rfl⟩ ⟨rfl, rfl⟩ hK hP (fun _ h9 => h9) rfl rfl (Nat.le_of_ble_eq_true rfl) dX6_changes_91 ⟨Nat.zero_le _, Nat.zero_le _⟩ (fun S_91 H locs pS_91 hP hS => ?_)
              obtain ⟨hS_91, pS_91⟩ := pS_91
              refine z_iinc C dX6_changes_94 hl (by decide) 4 rfl rfl (fun ls hl => ?_)
              have hl : lv_has ls 10 [(5, _), (0, _), (1, _), (3, _), (4, _), (6, _), (7, _)] := hl
              refine z_goto C 14 dX6_changes_97 (by decide) ?_
              exact hL_14 (k + 1) s2 _ _ _ ls (by omega) (by omega) (by rw [jS, show o = (nO P).toNat by omega, iS]; rfl) ((jF.le (by decide)).tr (pS_91.le (by decide))) (hS_91.trans (optP_back (k : Int) _ q2.2.2.2.2)) hP hS (lv_sub hl [1, 2, 3, 4, 0] rfl)
            · rw [q4] at c_42
              refine z_aload_n C dX6_changes_45 hl 0 rfl ?_
              refine z_iload C dX6_changes_46 hl 4 rfl ?_
              refine z_iload C dX6_changes_48 hl 6 rfl ?_
              refine m_mv C vX6_411 (mcX6_hasOption l g h ad _ _ hPS_36 _ _ (by omega) (by omega)) hS hl ⟨Nat.le_of_ble_eq_true rfl, Nat.le_of_ble_eq_true rfl⟩ ⟨rfl, rfl⟩ hK hP (fun _ h9 => h9) rfl rfl (Nat.le_of_ble_eq_true rfl) dX6_changes_50 ⟨Nat.zero_le _, Nat.zero_le _⟩ (fun S_50 H locs pS_50 hP hS => ?_)
              obtain ⟨hS_50, pS_50⟩ := pS_50
              rw [optP_over] at hS_50
              refine z_aload_n C dX6_changes_53 hl 0 rfl ?_
              refine z_iconst C dX6_changes_54 ?_
              refine m_ml C vX6_398 (mcX6_allNow l g h ad _ _ hS_50 _ (optP_wf hW (b := k) (o := o) ⟨by omega, by omega⟩ ⟨by omega, by omega⟩) (by omega)) hS hl ⟨Nat.le_of_ble_eq_true rfl, Nat.le_of_ble_eq_true rfl⟩ ⟨rfl, rfl⟩ hK hP (fun _ h9 => h9) rfl rfl (Nat.le_of_ble_eq_true rfl) dX6_changes_55 ⟨Nat.zero_le _, Nat.zero_le _⟩ (fun v_55 S_55 H locs pS_55 hP hS => ?_)
              obtain ⟨e_55, pS_55⟩ := pS_55
              subst e_55
              have hS_55 : per S_55 = _ := (pS_55.pr rfl hS_50)
              refine z_lstore C dX6_changes_58 hl (by decide) rfl (fun ls hl => ?_)
              have hl : lv_has ls 10 [(8, _), (0, _), (1, _), (3, _), (4, _), (5, _), (6, _), (7, _)] := hl
              have q6 := allOf_in (optP_wf hW (b := k) (o := o) ⟨by omega, by omega⟩ ⟨by omega, by omega⟩) 2
              refine z_lload C dX6_changes_60 hl 0 rfl ?_
              refine z_lload_n C dX6_changes_62 hl 2 rfl ?_
              refine z_lcmp_lt C 70 dX6_changes_63 dX6_changes_64 (by decide) (by omega) (by omega) (fun c_63 => ?_) (fun c_63 => ?_)
              · refine z_lload C dX6_changes_70 hl 0 rfl ?_
                refine z_lstore_n C dX6_changes_72 rfl hl (by decide) rfl (fun ls hl => ?_)
                have hl : lv_has ls 10 [(1, _), (8, _), (0, _), (3, _), (4, _), (5, _), (6, _), (7, _)] := hl
                refine z_iload C dX6_changes_73 hl 5 rfl ?_
                refine z_istore_n C dX6_changes_75 rfl hl (by decide) rfl (fun ls hl => ?_)
                have hl : lv_has ls 10 [(3, _), (1, _), (8, _), (0, _), (4, _), (5, _), (6, _), (7, _)] := hl
                refine z_iload C dX6_changes_76 hl 7 rfl ?_
                refine z_istore C dX6_changes_78 hl (by decide) rfl (fun ls hl => ?_)
                have hl : lv_has ls 10 [(4, _), (3, _), (1, _), (8, _), (0, _), (5, _), (6, _), (7, _)] := hl
                refine z_iinc C dX6_changes_80 hl (by decide) 7 rfl rfl (fun ls hl => ?_)
                have hl : lv_has ls 10 [(7, _), (4, _), (3, _), (1, _), (8, _), (0, _), (5, _), (6, _)] := hl
                refine z_goto C 36 dX6_changes_83 (by decide) ?_
                exact hL_36 (o + 1) (allOf (optP P k o) 2, (k : Int), (o : Int)) _ _ _ _ ls (by omega) (by omega) (by rw [chgO, ← jS, chgS, if_pos (by omega)]) ⟨_, rfl⟩ (((jF.le (by decide)).tr (pS_50.le (by decide))).tr (pS_55.le (by decide))) hS_55 hP hS (lv_sub hl [5, 3, 2, 1, 6, 7, 0] rfl)
              · refine z_goto C 80 dX6_changes_67 (by decide) ?_
                refine z_iinc C dX6_changes_80 hl (by decide) 7 rfl rfl (fun ls hl => ?_)
                have hl : lv_has ls 10 [(7, _), (8, _), (0, _), (1, _), (3, _), (4, _), (5, _), (6, _)] := hl
                refine z_goto C 36 dX6_changes_83 (by decide) ?_
                exact hL_36 (o + 1) s2 _ _ _ _ ls (by omega) (by omega) (by rw [chgO, ← jS, chgS, if_neg (by omega)]) ⟨_, rfl⟩ (((jF.le (by decide)).tr (pS_50.le (by decide))).tr (pS_55.le (by decide))) hS_55 hP hS (lv_sub hl [2, 3, 4, 5, 6, 7, 0] rfl)
        exact hL_36 _ 0 st _ _ _ _ ls (Nat.lt_succ_self _) (by omega) rfl ⟨optOf P k, (optP_self q2.2.2.2.2).symm⟩ iF hPS_14 hP hS (lv_sub hl [2, 3, 4, 5, 6, 1, 0] rfl)
  exact hL_14 _ 0 (chgB P 0) _ _ _ ls (Nat.lt_succ_self _) (by omega) rfl (pS_2.le (by decide)) hS_2 hP hS (lv_sub hl [4, 3, 2, 1, 0] rfl)
theorem mcX6_betters (l : Launch) (g : mG) (h : Nat) (ad : Nat → Nat) (P S : zS) (hPS : per S = P) (n : Int) (hW : WfR P 0) (hn : 0 ≤ n ∧ n ≤ 60) : mMI l g h ad yX6_betters cX6_betters 3 .int (k2_rm 7 172) [.int (iZ n)] S (fun z1 S1 => z1 = (betN n.toNat P : Int) ∧ per S1 = betP n.toNat P ∧ Fr [24, 33, 34, 35, 36, 37, 38, 39] S S1) := by
  refine z_start (own := RX6) (by decide) rfl (Nat.le_of_ble_eq_true rfl) ?_
  intro prg env s mid blw mth cod ls Q C hQ hret hlk hnm hK hH hl
  have hP : MP g h ad S s.heap := hH
  have hS : va_S (MA h ad) s.heap s.heap [] := va_S.rf
  have hl : lv_has ls 3 [(0, .ref h), (1, .int (iZ n))] := hl
  refine z_iconst C dX6_betters_0 ?_
  refine z_istore_n C dX6_betters_1 rfl hl (by decide) rfl (fun ls hl => ?_)
  have hl : lv_has ls 3 [(2, _), (0, _), (1, _)] := hl
  have hL_2 : ∀ (fuel : Nat) (k : Nat) (S1 : zS) (Pk : zS) (H : Heap) (locs : List Loc) (ls : Array Slot), n.toNat - k < fuel → ((k : Int) ≤ n) → (WfR Pk 0) → (k + betN (n.toNat - k) Pk = betN n.toNat P) → (betP (n.toNat - k) Pk = betP n.toNat P) → (Fr [24, 33, 34, 35, 36, 37, 38, 39] S S1) → per S1 = Pk → MP g h ad S1 H → va_S (MA h ad) s.heap H locs → lv_has ls 3 [(0, .ref h), (1, .int (iZ n)), (2, .int (iZ (k : Int)))] → W prg l env (k2_rm 7 172) s mid ([.ref h, .int (iZ n)] : List Value).toArray blw mth cod H locs 0 0 Q (F0 mid 2 ls []) := by
    intro fuel
    induction fuel with
    | zero => intro k S1 Pk  H locs ls hm; exact absurd hm (Nat.not_lt_zero _)
    | succ fuel hL_2 =>
      intro k S1 Pk  H locs ls hm ik iW iN iP iF hPS_2 hP  hS hl
      refine z_iload_n C dX6_betters_2 hl 2 rfl ?_
      refine z_iload_n C dX6_betters_3 hl 1 rfl ?_
      refine z_icmp_ge C 20 dX6_betters_4 (by decide) (by omega) (by omega) (fun c_4 => ?_) (fun c_4 => ?_)
      · rw [show n.toNat - k = 0 by omega] at iN iP
        refine z_iload_n C dX6_betters_20 hl 2 rfl ?_
        exact m_mret_i C hQ hret hlk hS hP ⟨by rw [← iN]; rfl, hPS_2.trans iP, by first | exact iF | exact ((iF.le (by decide)).tr (pS_8.le (by decide)))⟩ dX6_betters_21
      · have q1 : n.toNat - k = (n.toNat - (k + 1)) + 1 := by omega
        refine z_aload_n C dX6_betters_7 hl 0 rfl ?_
        refine m_mi C vX6_444 (mcX6_changes l g h ad _ _ hPS_2 (by assumption)) hS hl ⟨Nat.le_of_ble_eq_true rfl, Nat.le_of_ble_eq_true rfl⟩ ⟨rfl, rfl⟩ hK hP (fun _ h9 => h9) rfl rfl (Nat.le_of_ble_eq_true rfl) dX6_betters_8 ⟨Nat.zero_le _, Nat.zero_le _⟩ (fun v_8 S_8 H locs pS_8 hP hS => ?_)
        obtain ⟨e_8, pS_8⟩ := pS_8
        subst e_8
        obtain ⟨hS_8, pS_8⟩ := pS_8
        have q2 : chgC Pk = 0 ∨ chgC Pk = 1 := by unfold chgC; split; exact Or.inl rfl; exact Or.inr rfl
        refine z_if_eq C 20 dX6_betters_11 (by decide) (by omega) (fun c_11 => ?_) (fun c_11 => ?_)
        · rw [q1] at iN iP
          simp only [betN, betP, if_pos c_11] at iN iP
          refine z_iload_n C dX6_betters_20 hl 2 rfl ?_
          exact m_mret_i C hQ hret hlk hS hP ⟨by rw [← iN]; rfl, hS_8.trans iP, by first | exact iF | exact ((iF.le (by decide)).tr (pS_8.le (by decide)))⟩ dX6_betters_21
        · refine z_iinc C dX6_betters_14 hl (by decide) 2 rfl rfl (fun ls hl => ?_)
          have hl : lv_has ls 3 [(2, _), (0, _), (1, _)] := hl
          refine z_goto C 2 dX6_betters_17 (by decide) ?_
          exact hL_2 (k + 1) _ _ _ _ ls (by omega) (by omega) (chgP_ok iW).1 (by rw [q1] at iN; simp only [betN, if_neg c_11] at iN; omega) (by rw [q1] at iP; simp only [betP, if_neg c_11] at iP; exact iP) ((iF.le (by decide)).tr (pS_8.le (by decide))) hS_8 hP hS (lv_sub hl [1, 2, 0] rfl)
  exact hL_2 _ 0 _ _ _ _ ls (Nat.lt_succ_self _) (by omega) hW (Nat.zero_add _) rfl Fr.rf hPS hP hS (lv_sub hl [1, 2, 0] rfl)
theorem mcX6_better (l : Launch) (g : mG) (h : Nat) (ad : Nat → Nat) (P S : zS) (hPS : per S = P) (n : Int) (hW : WfR P 0) (hn : I32 n) : mMI l g h ad yX6_better cX6_better 2 .int (k2_rm 8 194) [.int (iZ n)] S (fun z1 S1 => z1 = aBetter P n ∧ per S1 = pBetter P n) := by
  refine z_start (own := RX6) (by decide) rfl (Nat.le_of_ble_eq_true rfl) ?_
  intro prg env s mid blw mth cod ls Q C hQ hret hlk hnm hK hH hl
  have hP : MP g h ad S s.heap := hH
  have hS : va_S (MA h ad) s.heap s.heap [] := va_S.rf
  have hl : lv_has ls 2 [(0, .ref h), (1, .int (iZ n))] := hl
  have w2 := hW.places
  refine z_aload_n C dX6_better_0 hl 0 rfl ?_
  refine z_iconst C dX6_better_1 ?_
  refine m_puti C hK hP hS 0 (by decide) q1749 rfl rfl (by omega) dX6_better_2 (fun S_2 eS_2 H locs hP hS => ?_)
  have hS_2 := per_s rfl hPS eS_2
  refine z_aload_n C dX6_better_5 hl 0 rfl ?_
  refine m_pi C vX6_354 (mcX6_isRail l g h ad _ _ hS_2 (by assumption)) hS hl ⟨Nat.le_of_ble_eq_true rfl, Nat.le_of_ble_eq_true rfl⟩ ⟨rfl, rfl⟩ hK hP rfl rfl (Nat.le_of_ble_eq_true rfl) dX6_better_6 ⟨Nat.zero_le _, Nat.zero_le _⟩ (fun locs hS => ?_)
  refine z_if_eq C 32 dX6_better_9 (by decide) z01_in (fun c_9 => ?_) (fun c_9 => ?_)
  · replace c_9 := z01_f c_9
    refine z_bipush C dX6_better_32 rfl ?_
    exact m_mret_i C hQ hret hlk hS hP ⟨by unfold aBetter; split <;> first | rfl | omega, by unfold pBetter; first | rw [if_pos ⟨c_9, c_21⟩]; exact hS_2 | rw [if_neg (by omega)]; exact hS_2⟩ dX6_better_34
  · replace c_9 := z01_t c_9
    refine z_iload_n C dX6_better_12 hl 1 rfl ?_
    refine z_i2l C dX6_better_13 (by omega) ?_
    refine z_lconst (v := 0) C dX6_better_14 rfl ?_
    refine z_ldc2 (v := 60) C q2296 dX6_better_15 rfl ?_
    refine s_pi C vX6_119 (mcX6_in l _ _ _ (by omega) (by omega) (by omega)) hS hl ⟨Nat.le_of_ble_eq_true rfl, Nat.le_of_ble_eq_true rfl⟩ ⟨rfl, rfl⟩ rfl rfl (Nat.le_of_ble_eq_true rfl) dX6_better_18 ⟨Nat.zero_le _, Nat.zero_le _⟩ (fun locs hS => ?_)
    refine z_if_eq C 32 dX6_better_21 (by decide) z01_in (fun c_21 => ?_) (fun c_21 => ?_)
    · replace c_21 := z01_f c_21
      refine z_bipush C dX6_better_32 rfl ?_
      exact m_mret_i C hQ hret hlk hS hP ⟨by unfold aBetter; split <;> first | rfl | omega, by unfold pBetter; first | rw [if_pos ⟨c_9, c_21⟩]; exact hS_2 | rw [if_neg (by omega)]; exact hS_2⟩ dX6_better_34
    · replace c_21 := z01_t c_21
      refine z_aload_n C dX6_better_24 hl 0 rfl ?_
      refine z_iload_n C dX6_better_25 hl 1 rfl ?_
      refine m_mi C vX6_449 (mcX6_betters l g h ad _ _ hS_2 _ (by assumption) (by omega)) hS hl ⟨Nat.le_of_ble_eq_true rfl, Nat.le_of_ble_eq_true rfl⟩ ⟨rfl, rfl⟩ hK hP (fun _ h9 => h9) rfl rfl (Nat.le_of_ble_eq_true rfl) dX6_better_26 ⟨Nat.zero_le _, Nat.zero_le _⟩ (fun v_26 S_26 H locs pS_26 hP hS => ?_)
      obtain ⟨e_26, pS_26⟩ := pS_26
      subst e_26
      obtain ⟨hS_26, pS_26⟩ := pS_26
      refine z_goto C 34 dX6_better_29 (by decide) ?_
      exact m_mret_i C hQ hret hlk hS hP ⟨by unfold aBetter; split <;> first | rfl | omega, by unfold pBetter; first | rw [if_pos ⟨c_9, c_21⟩]; exact hS_26 | rw [if_neg (by omega)]; exact hS_26⟩ dX6_better_34
theorem mcX6_good (l : Launch) (g : mG) (h : Nat) (ad : Nat → Nat) (P S : zS) (hPS : per S = P)  (hW : WfR P 0) : mML l g h ad yX6_good cX6_good 3 (k2_rm 8 194) [] S (fun z1 S1 => z1 = aGood P ∧ per S1 = P) := by
  refine z_start (own := RX6) (by decide) rfl (Nat.le_of_ble_eq_true rfl) ?_
  intro prg env s mid blw mth cod ls Q C hQ hret hlk hnm hK hH hl
  have hP : MP g h ad S s.heap := hH
  have hS : va_S (MA h ad) s.heap s.heap [] := va_S.rf
  have hl : lv_has ls 3 [(0, .ref h)] := hl
  have w2 := hW.places
  refine z_aload_n C dX6_good_0 hl 0 rfl ?_
  refine z_iconst C dX6_good_1 ?_
  refine m_puti C hK hP hS 0 (by decide) q1749 rfl rfl (by omega) dX6_good_2 (fun S_2 eS_2 H locs hP hS => ?_)
  have hS_2 := per_s rfl hPS eS_2
  refine z_aload_n C dX6_good_5 hl 0 rfl ?_
  refine m_pi C vX6_354 (mcX6_isRail l g h ad _ _ hS_2 (by assumption)) hS hl ⟨Nat.le_of_ble_eq_true rfl, Nat.le_of_ble_eq_true rfl⟩ ⟨rfl, rfl⟩ hK hP rfl rfl (Nat.le_of_ble_eq_true rfl) dX6_good_6 ⟨Nat.zero_le _, Nat.zero_le _⟩ (fun locs hS => ?_)
  refine z_if_ne C 16 dX6_good_9 (by decide) z01_in (fun c_9 => ?_) (fun c_9 => ?_)
  · replace c_9 := z01_t c_9
    refine z_aload_n C dX6_good_16 hl 0 rfl ?_
    refine m_mv C vX6_438 (mcX6_laysAside l g h ad _ _ hS_2 (by assumption)) hS hl ⟨Nat.le_of_ble_eq_true rfl, Nat.le_of_ble_eq_true rfl⟩ ⟨rfl, rfl⟩ hK hP (fun _ h9 => h9) rfl rfl (Nat.le_of_ble_eq_true rfl) dX6_good_17 ⟨Nat.zero_le _, Nat.zero_le _⟩ (fun S_17 H locs pS_17 hP hS => ?_)
    have hS_17 : per S_17 = P := (pS_17.1.pr rfl hS_2)
    refine z_aload_n C dX6_good_20 hl 0 rfl ?_
    refine z_bipush C dX6_good_21 rfl ?_
    refine m_mi C vX6_449 (mcX6_betters l g h ad _ _ hS_17 _ (by assumption) (by omega)) hS hl ⟨Nat.le_of_ble_eq_true rfl, Nat.le_of_ble_eq_true rfl⟩ ⟨rfl, rfl⟩ hK hP (fun _ h9 => h9) rfl rfl (Nat.le_of_ble_eq_true rfl) dX6_good_23 ⟨Nat.zero_le _, Nat.zero_le _⟩ (fun v_23 S_23 H locs pS_23 hP hS => ?_)
    obtain ⟨e_23, pS_23⟩ := pS_23
    subst e_23
    obtain ⟨hS_23, pS_23⟩ := pS_23
    refine z_pop C dX6_good_26 rfl ?_
    refine z_aload_n C dX6_good_27 hl 0 rfl ?_
    refine z_iconst C dX6_good_28 ?_
    refine m_ml C vX6_398 (mcX6_allNow l g h ad _ _ hS_23 _ (bet_ok _ hW).1 (by omega)) hS hl ⟨Nat.le_of_ble_eq_true rfl, Nat.le_of_ble_eq_true rfl⟩ ⟨rfl, rfl⟩ hK hP (fun _ h9 => h9) rfl rfl (Nat.le_of_ble_eq_true rfl) dX6_good_29 ⟨Nat.zero_le _, Nat.zero_le _⟩ (fun v_29 S_29 H locs pS_29 hP hS => ?_)
    obtain ⟨e_29, pS_29⟩ := pS_29
    subst e_29
    have hS_29 : per S_29 = _ := (pS_29.pr rfl hS_23)
    refine z_lstore_n C dX6_good_32 rfl hl (by decide) rfl (fun ls hl => ?_)
    have hl : lv_has ls 3 [(1, _), (0, _)] := hl
    refine z_aload_n C dX6_good_33 hl 1 rfl ?_
    refine m_mv C vX6_441 (mcX6_takesBack l g h ad _ _ hS_29 P hW (bet_ok _ hW).2 (fun b hb => by rw [pS_29 40 (by decide), pS_23 40 (by decide)]; exact pS_17.2 b hb)) hS hl ⟨Nat.le_of_ble_eq_true rfl, Nat.le_of_ble_eq_true rfl⟩ ⟨rfl, rfl⟩ hK hP (fun _ h9 => h9) rfl rfl (Nat.le_of_ble_eq_true rfl) dX6_good_34 ⟨Nat.zero_le _, Nat.zero_le _⟩ (fun S_34 H locs pS_34 hP hS => ?_)
    obtain ⟨hS_34, pS_34⟩ := pS_34
    refine z_lload_n C dX6_good_37 hl 0 rfl ?_
    exact m_mret_l C hQ hret hlk hS hP ⟨(if_pos c_9).symm, hS_34⟩ dX6_good_38
  · replace c_9 := z01_f c_9
    refine z_ldc2 (v := -2) C q2155 dX6_good_12 rfl ?_
    exact m_mret_l C hQ hret hlk hS hP ⟨(if_neg (by assumption)).symm, hS_2⟩ dX6_good_15
