theorem vX6_323 : zT RX6 323 yX6_at cX6_at 2 (some .int) 2 := ⟨lw_S q2095 q2096 q149 q2097, by decide +kernel⟩
theorem vX6_312 : zV RX6 312 RX6 yX6_isPlace cX6_isPlace 2 (some .boolean) 1 := ⟨lw_V q2072 q2074 qs85 q149 q2075, rfl, by decide +kernel⟩
theorem vX6_315 : zV RX6 315 RX6 yX6_lightOf cX6_lightOf 6 (some .int) 2 := ⟨lw_V q2076 q2078 qs86 q149 q2079, rfl, by decide +kernel⟩
theorem vX6_318 : zV RX6 318 RX6 yX6_isBike cX6_isBike 2 (some .boolean) 1 := ⟨lw_V q2090 q2092 qs87 q149 q2093, rfl, by decide +kernel⟩
theorem vX6_327 : zV RX6 327 RX6 yX6_markedOn cX6_markedOn 4 (some .int) 1 := ⟨lw_V q2119 q2121 qs91 q149 q2122, rfl, by decide +kernel⟩
theorem vX6_330 : zV RX6 330 RX6 yX6_isThief cX6_isThief 2 (some .boolean) 1 := ⟨lw_V q2102 q2104 qs88 q149 q2105, rfl, by decide +kernel⟩
theorem vX6_333 : zV RX6 333 RX6 yX6_troubleOf cX6_troubleOf 7 (some .int) 3 := ⟨lw_V q2106 q2108 qs89 q149 q2109, rfl, by decide +kernel⟩
theorem vX6_337 : zV RX6 337 RX6 yX6_gainOf cX6_gainOf 5 (some .int) 2 := ⟨lw_V q2115 q2117 qs90 q149 q2118, rfl, by decide +kernel⟩
theorem mcX6_isRail (l : Launch) (g : mG) (h : Nat) (ad : Nat → Nat) (P S : zS) (hPS : per S = P)  (hW : WfR P 0) : mPI l g h ad yX6_isRail cX6_isRail 1 .boolean (k2_rm 0 0) [] S (if 0 < P 17 0 then 1 else 0) := by
  intro H0 hP
  refine z_start (own := RX6) (by decide) rfl (Nat.le_of_ble_eq_true rfl) ?_
  intro prg env s mid blw mth cod ls Q C hQ hret hlk hnm hK hH hl
  subst hH
  have hS : va_S nA s.heap s.heap [] := va_S.rf
  have hl : lv_has ls 1 [(0, .ref h)] := hl
  have w2 := hW.places
  refine z_aload_n C dX6_isRail_0 hl 0 rfl ?_
  refine m_geta C hK hP 17 (by decide) q1766 rfl (by decide) dX6_isRail_1 ?_
  refine z_iconst C dX6_isRail_4 ?_
  refine m_iald C hK hP 17 (by decide) rfl (by have h9 : mlen 17 = 5 := rfl; omega) (pe hPS rfl) dX6_isRail_5 (fun r_5 => ?_)
  refine z_if_le C 13 dX6_isRail_6 (by decide) (by omega) (fun c_6 => ?_) (fun c_6 => ?_)
  · refine z_iconst C dX6_isRail_13 ?_
    exact z_pret_z C hQ hret hlk hS z01_any (by split <;> omega) dX6_isRail_14
  · refine z_iconst C dX6_isRail_9 ?_
    refine z_goto C 14 dX6_isRail_10 (by decide) ?_
    exact z_pret_z C hQ hret hlk hS z01_any (by split <;> omega) dX6_isRail_14
theorem mcX6_isPlace (l : Launch) (g : mG) (h : Nat) (ad : Nat → Nat) (P S : zS) (hPS : per S = P) (v : Int) (hW : WfR P 0) (hv : I32 v) : mPI l g h ad yX6_isPlace cX6_isPlace 2 .boolean (k2_rm 1 25) [.int (iZ v)] S (if isPl P v then 1 else 0) := by
  intro H0 hP
  refine z_start (own := RX6) (by decide) rfl (Nat.le_of_ble_eq_true rfl) ?_
  intro prg env s mid blw mth cod ls Q C hQ hret hlk hnm hK hH hl
  subst hH
  have hS : va_S nA s.heap s.heap [] := va_S.rf
  have hl : lv_has ls 2 [(0, .ref h), (1, .int (iZ v))] := hl
  have w2 := hW.places
  refine z_iload_n C dX6_isPlace_0 hl 1 rfl ?_
  refine z_i2l C dX6_isPlace_1 (by omega) ?_
  refine z_lconst (v := 0) C dX6_isPlace_2 rfl ?_
  refine z_aload_n C dX6_isPlace_3 hl 0 rfl ?_
  refine m_geta C hK hP 17 (by decide) q1766 rfl (by decide) dX6_isPlace_4 ?_
  refine z_iconst C dX6_isPlace_7 ?_
  refine m_iald C hK hP 17 (by decide) rfl (by have h9 : mlen 17 = 5 := rfl; omega) (pe hPS rfl) dX6_isPlace_8 (fun r_8 => ?_)
  refine z_iconst C dX6_isPlace_9 ?_
  refine z_isub C dX6_isPlace_10 ?_
  refine z_i2l C dX6_isPlace_11 (by omega) ?_
  refine s_pi C vX6_119 (mcX6_in l _ _ _ (by omega) (by omega) (by omega)) hS hl ⟨Nat.le_of_ble_eq_true rfl, Nat.le_of_ble_eq_true rfl⟩ ⟨rfl, rfl⟩ rfl rfl (Nat.le_of_ble_eq_true rfl) dX6_isPlace_12 ⟨Nat.zero_le _, Nat.zero_le _⟩ (fun locs hS => ?_)
  exact z_pret_z C hQ hret hlk hS z01_any rfl dX6_isPlace_15
theorem mcX6_isBike (l : Launch) (g : mG) (h : Nat) (ad : Nat → Nat) (P S : zS) (hPS : per S = P) (b : Int) (hW : WfR P 0) (hv : I32 b) : mPI l g h ad yX6_isBike cX6_isBike 2 .boolean (k2_rm 1 25) [.int (iZ b)] S (if isBk P b then 1 else 0) := by
  intro H0 hP
  refine z_start (own := RX6) (by decide) rfl (Nat.le_of_ble_eq_true rfl) ?_
  intro prg env s mid blw mth cod ls Q C hQ hret hlk hnm hK hH hl
  subst hH
  have hS : va_S nA s.heap s.heap [] := va_S.rf
  have hl : lv_has ls 2 [(0, .ref h), (1, .int (iZ b))] := hl
  have w1 := hW.bikes
  refine z_iload_n C dX6_isBike_0 hl 1 rfl ?_
  refine z_i2l C dX6_isBike_1 (by omega) ?_
  refine z_lconst (v := 0) C dX6_isBike_2 rfl ?_
  refine z_aload_n C dX6_isBike_3 hl 0 rfl ?_
  refine m_geta C hK hP 23 (by decide) q1772 rfl (by decide) dX6_isBike_4 ?_
  refine z_iconst C dX6_isBike_7 ?_
  refine m_iald C hK hP 23 (by decide) rfl (by have h9 : mlen 23 = 5 := rfl; omega) (pe hPS rfl) dX6_isBike_8 (fun r_8 => ?_)
  refine z_iconst C dX6_isBike_9 ?_
  refine z_isub C dX6_isBike_10 ?_
  refine z_i2l C dX6_isBike_11 (by omega) ?_
  refine s_pi C vX6_119 (mcX6_in l _ _ _ (by omega) (by omega) (by omega)) hS hl ⟨Nat.le_of_ble_eq_true rfl, Nat.le_of_ble_eq_true rfl⟩ ⟨rfl, rfl⟩ rfl rfl (Nat.le_of_ble_eq_true rfl) dX6_isBike_12 ⟨Nat.zero_le _, Nat.zero_le _⟩ (fun locs hS => ?_)
  exact z_pret_z C hQ hret hlk hS z01_any rfl dX6_isBike_15
theorem mcX6_isThief (l : Launch) (g : mG) (h : Nat) (ad : Nat → Nat) (P S : zS) (hPS : per S = P) (t : Int) (hW : WfR P 0) (hv : I32 t) : mPI l g h ad yX6_isThief cX6_isThief 2 .boolean (k2_rm 1 25) [.int (iZ t)] S (if isTh P t then 1 else 0) := by
  intro H0 hP
  refine z_start (own := RX6) (by decide) rfl (Nat.le_of_ble_eq_true rfl) ?_
  intro prg env s mid blw mth cod ls Q C hQ hret hlk hnm hK hH hl
  subst hH
  have hS : va_S nA s.heap s.heap [] := va_S.rf
  have hl : lv_has ls 2 [(0, .ref h), (1, .int (iZ t))] := hl
  have w3 := hW.thieves
  refine z_iload_n C dX6_isThief_0 hl 1 rfl ?_
  refine z_i2l C dX6_isThief_1 (by omega) ?_
  refine z_lconst (v := 0) C dX6_isThief_2 rfl ?_
  refine z_aload_n C dX6_isThief_3 hl 0 rfl ?_
  refine m_geta C hK hP 25 (by decide) q1774 rfl (by decide) dX6_isThief_4 ?_
  refine z_iconst C dX6_isThief_7 ?_
  refine m_iald C hK hP 25 (by decide) rfl (by have h9 : mlen 25 = 5 := rfl; omega) (pe hPS rfl) dX6_isThief_8 (fun r_8 => ?_)
  refine z_iconst C dX6_isThief_9 ?_
  refine z_isub C dX6_isThief_10 ?_
  refine z_i2l C dX6_isThief_11 (by omega) ?_
  refine s_pi C vX6_119 (mcX6_in l _ _ _ (by omega) (by omega) (by omega)) hS hl ⟨Nat.le_of_ble_eq_true rfl, Nat.le_of_ble_eq_true rfl⟩ ⟨rfl, rfl⟩ rfl rfl (Nat.le_of_ble_eq_true rfl) dX6_isThief_12 ⟨Nat.zero_le _, Nat.zero_le _⟩ (fun locs hS => ?_)
  exact z_pret_z C hQ hret hlk hS z01_any rfl dX6_isThief_15
theorem mcX6_light (l : Launch) (g : mG) (h : Nat) (ad : Nat → Nat) (P S : zS) (hPS : per S = P) (v : Int) (hW : WfR P 0) (hv : I32 v) : mMI l g h ad yX6_light cX6_light 2 .int (k2_rm 2 46) [.int (iZ v)] S (fun z1 S1 => z1 = aLight P v ∧ per S1 = P) := by
  refine z_start (own := RX6) (by decide) rfl (Nat.le_of_ble_eq_true rfl) ?_
  intro prg env s mid blw mth cod ls Q C hQ hret hlk hnm hK hH hl
  have hP : MP g h ad S s.heap := hH
  have hS : va_S (MA h ad) s.heap s.heap [] := va_S.rf
  have hl : lv_has ls 2 [(0, .ref h), (1, .int (iZ v))] := hl
  have w2 := hW.places
  refine z_aload_n C dX6_light_0 hl 0 rfl ?_
  refine z_iconst C dX6_light_1 ?_
  refine m_puti C hK hP hS 0 (by decide) q1749 rfl rfl (by omega) dX6_light_2 (fun S_2 eS_2 H locs hP hS => ?_)
  have hS_2 := per_s rfl hPS eS_2
  refine z_aload_n C dX6_light_5 hl 0 rfl ?_
  refine z_iload_n C dX6_light_6 hl 1 rfl ?_
  refine m_pi C vX6_312 (mcX6_isPlace l g h ad _ _ hS_2 _ (by assumption) (by omega)) hS hl ⟨Nat.le_of_ble_eq_true rfl, Nat.le_of_ble_eq_true rfl⟩ ⟨rfl, rfl⟩ hK hP rfl rfl (Nat.le_of_ble_eq_true rfl) dX6_light_7 ⟨Nat.zero_le _, Nat.zero_le _⟩ (fun locs hS => ?_)
  refine z_if_eq C 22 dX6_light_10 (by decide) z01_in (fun c_10 => ?_) (fun c_10 => ?_)
  · replace c_10 := z01_f c_10
    refine z_bipush C dX6_light_22 rfl ?_
    exact m_mret_i C hQ hret hlk hS hP ⟨by unfold aLight; split <;> first | rfl | omega, hS_2⟩ dX6_light_24
  · replace c_10 := z01_t c_10
    refine z_aload_n C dX6_light_13 hl 0 rfl ?_
    refine z_iconst C dX6_light_14 ?_
    refine z_iload_n C dX6_light_15 hl 1 rfl ?_
    refine m_pi C vX6_315 (mcX6_lightOf l g h ad _ _ hS_2 _ _ (by omega) (by omega) (by assumption)) hS hl ⟨Nat.le_of_ble_eq_true rfl, Nat.le_of_ble_eq_true rfl⟩ ⟨rfl, rfl⟩ hK hP rfl rfl (Nat.le_of_ble_eq_true rfl) dX6_light_16 ⟨Nat.zero_le _, Nat.zero_le _⟩ (fun locs hS => ?_)
    refine z_goto C 24 dX6_light_19 (by decide) ?_
    exact m_mret_i C hQ hret hlk hS hP ⟨by unfold aLight; split <;> first | rfl | omega, hS_2⟩ dX6_light_24
theorem mcX6_bike (l : Launch) (g : mG) (h : Nat) (ad : Nat → Nat) (P S : zS) (hPS : per S = P) (b w : Int) (hW : WfR P 0) (hv : I32 b) (hw : I32 w) : mMI l g h ad yX6_bike cX6_bike 3 .int (k2_rm 2 46) [.int (iZ b), .int (iZ w)] S (fun z1 S1 => z1 = aBike P b w ∧ per S1 = P) := by
  refine z_start (own := RX6) (by decide) rfl (Nat.le_of_ble_eq_true rfl) ?_
  intro prg env s mid blw mth cod ls Q C hQ hret hlk hnm hK hH hl
  have hP : MP g h ad S s.heap := hH
  have hS : va_S (MA h ad) s.heap s.heap [] := va_S.rf
  have hl : lv_has ls 3 [(0, .ref h), (1, .int (iZ b)), (2, .int (iZ w))] := hl
  have w1 := hW.bikes
  refine z_aload_n C dX6_bike_0 hl 0 rfl ?_
  refine z_iconst C dX6_bike_1 ?_
  refine m_puti C hK hP hS 0 (by decide) q1749 rfl rfl (by omega) dX6_bike_2 (fun S_2 eS_2 H locs hP hS => ?_)
  have hS_2 := per_s rfl hPS eS_2
  refine z_aload_n C dX6_bike_5 hl 0 rfl ?_
  refine z_iload_n C dX6_bike_6 hl 1 rfl ?_
  refine m_pi C vX6_318 (mcX6_isBike l g h ad _ _ hS_2 _ (by assumption) (by omega)) hS hl ⟨Nat.le_of_ble_eq_true rfl, Nat.le_of_ble_eq_true rfl⟩ ⟨rfl, rfl⟩ hK hP rfl rfl (Nat.le_of_ble_eq_true rfl) dX6_bike_7 ⟨Nat.zero_le _, Nat.zero_le _⟩ (fun locs hS => ?_)
  refine z_if_eq C 40 dX6_bike_10 (by decide) z01_in (fun c_10 => ?_) (fun c_10 => ?_)
  · replace c_10 := z01_f c_10
    refine z_bipush C dX6_bike_40 rfl ?_
    exact m_mret_i C hQ hret hlk hS hP ⟨by unfold aBike; split <;> first | rfl | omega, hS_2⟩ dX6_bike_42
  · replace c_10 := z01_t c_10
    refine z_iload_n C dX6_bike_13 hl 2 rfl ?_
    refine z_i2l C dX6_bike_14 (by omega) ?_
    refine z_lconst (v := 0) C dX6_bike_15 rfl ?_
    refine z_ldc2 (v := 4) C q2094 dX6_bike_16 rfl ?_
    refine s_pi C vX6_119 (mcX6_in l _ _ _ (by omega) (by omega) (by omega)) hS hl ⟨Nat.le_of_ble_eq_true rfl, Nat.le_of_ble_eq_true rfl⟩ ⟨rfl, rfl⟩ rfl rfl (Nat.le_of_ble_eq_true rfl) dX6_bike_19 ⟨Nat.zero_le _, Nat.zero_le _⟩ (fun locs hS => ?_)
    refine z_if_eq C 40 dX6_bike_22 (by decide) z01_in (fun c_22 => ?_) (fun c_22 => ?_)
    · replace c_22 := z01_f c_22
      refine z_bipush C dX6_bike_40 rfl ?_
      exact m_mret_i C hQ hret hlk hS hP ⟨by unfold aBike; split <;> first | rfl | omega, hS_2⟩ dX6_bike_42
    · replace c_22 := z01_t c_22
      refine z_aload_n C dX6_bike_25 hl 0 rfl ?_
      refine m_geta C hK hP 24 (by decide) q1773 rfl (by decide) dX6_bike_26 ?_
      refine z_iconst C dX6_bike_29 ?_
      refine z_iload_n C dX6_bike_30 hl 1 rfl ?_
      refine s_pi C vX6_323 (mcX6_at l _ _) hS hl ⟨Nat.le_of_ble_eq_true rfl, Nat.le_of_ble_eq_true rfl⟩ ⟨rfl, rfl⟩ rfl rfl (Nat.le_of_ble_eq_true rfl) dX6_bike_31 ⟨Nat.zero_le _, Nat.zero_le _⟩ (fun locs hS => ?_)
      refine z_iload_n C dX6_bike_34 hl 2 rfl ?_
      refine z_iadd C dX6_bike_35 ?_
      refine m_iald C hK hP 24 (by decide) rfl (by have h9 : mlen 24 = 250 := rfl; omega) (pe hS_2 rfl) dX6_bike_36 (fun r_36 => ?_)
      refine z_goto C 42 dX6_bike_37 (by decide) ?_
      exact m_mret_i C hQ hret hlk hS hP ⟨by unfold aBike; split <;> first | rfl | omega, hS_2⟩ dX6_bike_42
theorem mcX6_troubleOf (l : Launch) (g : mG) (h : Nat) (ad : Nat → Nat) (P S : zS) (hPS : per S = P) (t r b : Int) (hr : 0 ≤ r ∧ r ≤ 4) (hWr : WfR P r) (hW : WfR P 0) (ht : 0 ≤ t ∧ t < P 25 0) (hb : 0 ≤ b ∧ b < P 23 r) : mPI l g h ad yX6_troubleOf cX6_troubleOf 7 .int (k2_rm 2 46) [.int (iZ t), .int (iZ r), .int (iZ b)] S (trouble P t r b) := by
  intro H0 hP
  refine z_start (own := RX6) (by decide) rfl (Nat.le_of_ble_eq_true rfl) ?_
  intro prg env s mid blw mth cod ls Q C hQ hret hlk hnm hK hH hl
  subst hH
  have hS : va_S nA s.heap s.heap [] := va_S.rf
  have hl : lv_has ls 7 [(0, .ref h), (1, .int (iZ t)), (2, .int (iZ r)), (3, .int (iZ b))] := hl
  have w1 := hWr.bikes
  have w2 := hWr.bike hb
  have w3 := hW.thieves
  have w4 := hW.thief0 ht
  have w5 := hWr.locks
  have w6 := light_in hWr w2.2.2.1
  refine z_iload_n C dX6_troubleOf_0 hl 2 rfl ?_
  refine z_iload_n C dX6_troubleOf_1 hl 3 rfl ?_
  refine s_pi C vX6_323 (mcX6_at l _ _) hS hl ⟨Nat.le_of_ble_eq_true rfl, Nat.le_of_ble_eq_true rfl⟩ ⟨rfl, rfl⟩ rfl rfl (Nat.le_of_ble_eq_true rfl) dX6_troubleOf_2 ⟨Nat.zero_le _, Nat.zero_le _⟩ (fun locs hS => ?_)
  refine z_istore C dX6_troubleOf_5 hl (by decide) rfl (fun ls hl => ?_)
  have hl : lv_has ls 7 [(4, _), (0, _), (1, _), (2, _), (3, _)] := hl
  refine z_aload_n C dX6_troubleOf_7 hl 1 rfl ?_
  refine m_geta C hK hP 24 (by decide) q1773 rfl (by decide) dX6_troubleOf_8 ?_
  refine z_iload C dX6_troubleOf_11 hl 0 rfl ?_
  refine z_iconst C dX6_troubleOf_13 ?_
  refine z_iadd C dX6_troubleOf_14 ?_
  refine m_iald C hK hP 24 (by decide) rfl (by have h9 : mlen 24 = 250 := rfl; omega) (pe hPS rfl) dX6_troubleOf_15 (fun r_15 => ?_)
  refine z_iconst C dX6_troubleOf_16 ?_
  refine z_icmp_ne C 22 dX6_troubleOf_17 (by decide) (by omega) (by omega) (fun c_17 => ?_) (fun c_17 => ?_)
  · have w7 := hWr.cut (i := P 24 (5 * (10 * r + b) + 3)) (t := P 26 (5 * t)) (by omega) w4.1
    have w8 := zmul_in (A := 999) (B := 99) (by omega : 0 ≤ P 22 (4 * (5 * r + P 24 (5 * (10 * r + b) + 3)) + 1 + P 26 (5 * t)) ∧ _) w4.2.2.1
    have w9 := zmul_in (B := 595) w8 (by omega : 0 ≤ 1 + light P r (P 24 (5 * (10 * r + b) + 2)) ∧ _)
    refine z_aload_n C dX6_troubleOf_22 hl 1 rfl ?_
    refine m_geta C hK hP 22 (by decide) q1771 rfl (by decide) dX6_troubleOf_23 ?_
    refine z_iconst C dX6_troubleOf_26 ?_
    refine z_iconst C dX6_troubleOf_27 ?_
    refine z_iload_n C dX6_troubleOf_28 hl 3 rfl ?_
    refine z_imul C dX6_troubleOf_29 ?_
    refine z_aload_n C dX6_troubleOf_30 hl 1 rfl ?_
    refine m_geta C hK hP 24 (by decide) q1773 rfl (by decide) dX6_troubleOf_31 ?_
    refine z_iload C dX6_troubleOf_34 hl 0 rfl ?_
    refine z_iconst C dX6_troubleOf_36 ?_
    refine z_iadd C dX6_troubleOf_37 ?_
    refine m_iald C hK hP 24 (by decide) rfl (by have h9 : mlen 24 = 250 := rfl; omega) (pe hPS rfl) dX6_troubleOf_38 (fun r_38 => ?_)
    refine z_iadd C dX6_troubleOf_39 ?_
    refine z_imul C dX6_troubleOf_40 ?_
    refine z_iconst C dX6_troubleOf_41 ?_
    refine z_iadd C dX6_troubleOf_42 ?_
    refine z_aload_n C dX6_troubleOf_43 hl 1 rfl ?_
    refine m_geta C hK hP 26 (by decide) q1775 rfl (by decide) dX6_troubleOf_44 ?_
    refine z_iconst C dX6_troubleOf_47 ?_
    refine z_iload_n C dX6_troubleOf_48 hl 2 rfl ?_
    refine z_imul C dX6_troubleOf_49 ?_
    refine m_iald C hK hP 26 (by decide) rfl (by have h9 : mlen 26 = 150 := rfl; omega) (pe hPS rfl) dX6_troubleOf_50 (fun r_50 => ?_)
    refine z_iadd C dX6_troubleOf_51 ?_
    refine m_iald C hK hP 22 (by decide) rfl (by have h9 : mlen 22 = 100 := rfl; omega) (pe hPS rfl) dX6_troubleOf_52 (fun r_52 => ?_)
    refine z_i2l C dX6_troubleOf_53 (by omega) ?_
    refine z_aload_n C dX6_troubleOf_54 hl 1 rfl ?_
    refine m_geta C hK hP 26 (by decide) q1775 rfl (by decide) dX6_troubleOf_55 ?_
    refine z_iconst C dX6_troubleOf_58 ?_
    refine z_iload_n C dX6_troubleOf_59 hl 2 rfl ?_
    refine z_imul C dX6_troubleOf_60 ?_
    refine z_iconst C dX6_troubleOf_61 ?_
    refine z_iadd C dX6_troubleOf_62 ?_
    refine m_iald C hK hP 26 (by decide) rfl (by have h9 : mlen 26 = 150 := rfl; omega) (pe hPS rfl) dX6_troubleOf_63 (fun r_63 => ?_)
    refine z_i2l C dX6_troubleOf_64 (by omega) ?_
    refine z_lmul C dX6_troubleOf_65 ?_
    refine z_iconst C dX6_troubleOf_66 ?_
    refine z_aload_n C dX6_troubleOf_67 hl 1 rfl ?_
    refine z_iload_n C dX6_troubleOf_68 hl 3 rfl ?_
    refine z_aload_n C dX6_troubleOf_69 hl 1 rfl ?_
    refine m_geta C hK hP 24 (by decide) q1773 rfl (by decide) dX6_troubleOf_70 ?_
    refine z_iload C dX6_troubleOf_73 hl 0 rfl ?_
    refine z_iconst C dX6_troubleOf_75 ?_
    refine z_iadd C dX6_troubleOf_76 ?_
    refine m_iald C hK hP 24 (by decide) rfl (by have h9 : mlen 24 = 250 := rfl; omega) (pe hPS rfl) dX6_troubleOf_77 (fun r_77 => ?_)
    refine m_pi C vX6_315 (mcX6_lightOf l g h ad _ _ hPS _ _ (by omega) (by omega) (by assumption)) hS hl ⟨Nat.le_of_ble_eq_true rfl, Nat.le_of_ble_eq_true rfl⟩ ⟨rfl, rfl⟩ hK hP rfl rfl (Nat.le_of_ble_eq_true rfl) dX6_troubleOf_78 ⟨Nat.zero_le _, Nat.zero_le _⟩ (fun locs hS => ?_)
    refine z_iadd C dX6_troubleOf_81 ?_
    refine z_i2l C dX6_troubleOf_82 (by omega) ?_
    refine z_lmul C dX6_troubleOf_83 ?_
    refine z_lstore C dX6_troubleOf_84 hl (by decide) rfl (fun ls hl => ?_)
    have hl : lv_has ls 7 [(5, _), (4, _), (0, _), (1, _), (2, _), (3, _)] := hl
    refine z_lload C dX6_troubleOf_86 hl 0 rfl ?_
    refine z_ldc2 (v := 100) C q2110 dX6_troubleOf_88 rfl ?_
    refine z_ldiv C dX6_troubleOf_91 (by omega) (by omega) ?_
    refine z_l2i C dX6_troubleOf_92 ?_
    exact z_pret_i C hQ hret hlk hS (by rw [trouble, if_neg (by assumption)]) dX6_troubleOf_93
  · refine z_iconst C dX6_troubleOf_20 ?_
    exact z_pret_i C hQ hret hlk hS (by rw [trouble, if_pos (by assumption)]) dX6_troubleOf_21
theorem mcX6_markedOn (l : Launch) (g : mG) (h : Nat) (ad : Nat → Nat) (P S : zS) (hPS : per S = P) (r : Int) (hr : 0 ≤ r ∧ r ≤ 4) (hWr : WfR P r) : mPI l g h ad yX6_markedOn cX6_markedOn 4 .int (k2_rm 1 21) [.int (iZ r)] S (marked P r) := by
  intro H0 hP
  refine z_start (own := RX6) (by decide) rfl (Nat.le_of_ble_eq_true rfl) ?_
  intro prg env s mid blw mth cod ls Q C hQ hret hlk hnm hK hH hl
  subst hH
  have hS : va_S nA s.heap s.heap [] := va_S.rf
  have hl : lv_has ls 4 [(0, .ref h), (1, .int (iZ r))] := hl
  have w1 := hWr.bikes
  refine z_iconst C dX6_markedOn_0 ?_
  refine z_istore_n C dX6_markedOn_1 rfl hl (by decide) rfl (fun ls hl => ?_)
  have hl : lv_has ls 4 [(2, _), (0, _), (1, _)] := hl
  refine z_iconst C dX6_markedOn_2 ?_
  refine z_istore_n C dX6_markedOn_3 rfl hl (by decide) rfl (fun ls hl => ?_)
  have hl : lv_has ls 4 [(3, _), (2, _), (0, _), (1, _)] := hl
  have hL_4 : ∀ (fuel : Nat) (k : Nat) (n : Int) (locs : List Loc) (ls : Array Slot), (P 23 r).toNat - k < fuel → ((k : Int) ≤ P 23 r) → (n = zsm (fun b => P 24 (5 * (10 * r + (b : Int)) + 4)) k) → va_S nA s.heap s.heap locs → lv_has ls 4 [(0, .ref h), (1, .int (iZ r)), (2, .int (iZ n)), (3, .int (iZ (k : Int)))] → W prg l env (k2_rm 1 21) s mid ([.ref h, .int (iZ r)] : List Value).toArray blw mth cod s.heap locs 0 0 Q (F0 mid 4 ls []) := by
    intro fuel
    induction fuel with
    | zero => intro k n  locs ls hm; exact absurd hm (Nat.not_lt_zero _)
    | succ fuel hL_4 =>
      intro k n  locs ls hm ik iN  hS hl
      refine z_iload_n C dX6_markedOn_4 hl 3 rfl ?_
      refine z_aload_n C dX6_markedOn_5 hl 0 rfl ?_
      refine m_geta C hK hP 23 (by decide) q1772 rfl (by decide) dX6_markedOn_6 ?_
      refine z_iload_n C dX6_markedOn_9 hl 1 rfl ?_
      refine m_iald C hK hP 23 (by decide) rfl (by have h9 : mlen 23 = 5 := rfl; omega) (pe hPS rfl) dX6_markedOn_10 (fun r_10 => ?_)
      refine z_icmp_ge C 35 dX6_markedOn_11 (by decide) (by omega) (by omega) (fun c_11 => ?_) (fun c_11 => ?_)
      · refine z_iload_n C dX6_markedOn_35 hl 2 rfl ?_
        exact z_pret_i C hQ hret hlk hS (by rw [marked, iN]; congr 1; omega) dX6_markedOn_36
      · have w2 := hWr.bike (b := k) ⟨by omega, by omega⟩
        refine z_iload_n C dX6_markedOn_14 hl 2 rfl ?_
        refine z_aload_n C dX6_markedOn_15 hl 0 rfl ?_
        refine m_geta C hK hP 24 (by decide) q1773 rfl (by decide) dX6_markedOn_16 ?_
        refine z_iload_n C dX6_markedOn_19 hl 1 rfl ?_
        refine z_iload_n C dX6_markedOn_20 hl 3 rfl ?_
        refine s_pi C vX6_323 (mcX6_at l _ _) hS hl ⟨Nat.le_of_ble_eq_true rfl, Nat.le_of_ble_eq_true rfl⟩ ⟨rfl, rfl⟩ rfl rfl (Nat.le_of_ble_eq_true rfl) dX6_markedOn_21 ⟨Nat.zero_le _, Nat.zero_le _⟩ (fun locs hS => ?_)
        refine z_iconst C dX6_markedOn_24 ?_
        refine z_iadd C dX6_markedOn_25 ?_
        refine m_iald C hK hP 24 (by decide) rfl (by have h9 : mlen 24 = 250 := rfl; omega) (pe hPS rfl) dX6_markedOn_26 (fun r_26 => ?_)
        refine z_iadd C dX6_markedOn_27 ?_
        refine z_istore_n C dX6_markedOn_28 rfl hl (by decide) rfl (fun ls hl => ?_)
        have hl : lv_has ls 4 [(2, _), (0, _), (1, _), (3, _)] := hl
        refine z_iinc C dX6_markedOn_29 hl (by decide) 3 rfl rfl (fun ls hl => ?_)
        have hl : lv_has ls 4 [(3, _), (2, _), (0, _), (1, _)] := hl
        refine z_goto C 4 dX6_markedOn_32 (by decide) ?_
        exact hL_4 (k + 1) _ _ ls (by omega) (by omega) (by rw [zsm_s, ← iN])  hS (lv_sub hl [2, 3, 1, 0] rfl)
  exact hL_4 _ 0 _ _ ls (Nat.lt_succ_self _) (by omega) rfl  hS (lv_sub hl [2, 3, 1, 0] rfl)
theorem mcX6_gainOf (l : Launch) (g : mG) (h : Nat) (ad : Nat → Nat) (P S : zS) (hPS : per S = P) (r b : Int) (hr : 0 ≤ r ∧ r ≤ 4) (hWr : WfR P r) (hb : 0 ≤ b ∧ b < P 23 r) : mPI l g h ad yX6_gainOf cX6_gainOf 5 .int (k2_rm 2 44) [.int (iZ r), .int (iZ b)] S (gain P r b) := by
  intro H0 hP
  refine z_start (own := RX6) (by decide) rfl (Nat.le_of_ble_eq_true rfl) ?_
  intro prg env s mid blw mth cod ls Q C hQ hret hlk hnm hK hH hl
  subst hH
  have hS : va_S nA s.heap s.heap [] := va_S.rf
  have hl : lv_has ls 5 [(0, .ref h), (1, .int (iZ r)), (2, .int (iZ b))] := hl
  have w1 := hWr.bikes
  have w2 := hWr.bike hb
  have w3 := hWr.set
  have w4 := gain_pos hWr hb
  have w5 := marked_in hWr
  refine z_iload_n C dX6_gainOf_0 hl 1 rfl ?_
  refine z_iload_n C dX6_gainOf_1 hl 2 rfl ?_
  refine s_pi C vX6_323 (mcX6_at l _ _) hS hl ⟨Nat.le_of_ble_eq_true rfl, Nat.le_of_ble_eq_true rfl⟩ ⟨rfl, rfl⟩ rfl rfl (Nat.le_of_ble_eq_true rfl) dX6_gainOf_2 ⟨Nat.zero_le _, Nat.zero_le _⟩ (fun locs hS => ?_)
  refine z_istore_n C dX6_gainOf_5 rfl hl (by decide) rfl (fun ls hl => ?_)
  have hl : lv_has ls 5 [(3, _), (0, _), (1, _), (2, _)] := hl
  refine z_aload_n C dX6_gainOf_6 hl 1 rfl ?_
  refine m_geta C hK hP 27 (by decide) q1776 rfl (by decide) dX6_gainOf_7 ?_
  refine z_bipush C dX6_gainOf_10 rfl ?_
  refine z_iload_n C dX6_gainOf_12 hl 2 rfl ?_
  refine z_imul C dX6_gainOf_13 ?_
  refine z_iconst C dX6_gainOf_14 ?_
  refine z_iadd C dX6_gainOf_15 ?_
  refine m_iald C hK hP 27 (by decide) rfl (by have h9 : mlen 27 = 35 := rfl; omega) (pe hPS rfl) dX6_gainOf_16 (fun r_16 => ?_)
  refine z_istore C dX6_gainOf_17 hl (by decide) rfl (fun ls hl => ?_)
  have hl : lv_has ls 5 [(4, _), (3, _), (0, _), (1, _), (2, _)] := hl
  refine z_aload_n C dX6_gainOf_19 hl 2 rfl ?_
  refine m_geta C hK hP 27 (by decide) q1776 rfl (by decide) dX6_gainOf_20 ?_
  refine z_bipush C dX6_gainOf_23 rfl ?_
  refine z_iload_n C dX6_gainOf_25 hl 3 rfl ?_
  refine z_imul C dX6_gainOf_26 ?_
  refine z_iconst C dX6_gainOf_27 ?_
  refine z_iadd C dX6_gainOf_28 ?_
  refine m_iald C hK hP 27 (by decide) rfl (by have h9 : mlen 27 = 35 := rfl; omega) (pe hPS rfl) dX6_gainOf_29 (fun r_29 => ?_)
  refine z_iconst C dX6_gainOf_30 ?_
  refine z_icmp_ne C 76 dX6_gainOf_31 (by decide) (by omega) (by omega) (fun c_31 => ?_) (fun c_31 => ?_)
  · refine z_aload_n C dX6_gainOf_76 hl 2 rfl ?_
    refine m_geta C hK hP 24 (by decide) q1773 rfl (by decide) dX6_gainOf_77 ?_
    refine z_iload_n C dX6_gainOf_80 hl 1 rfl ?_
    refine z_iconst C dX6_gainOf_81 ?_
    refine z_iadd C dX6_gainOf_82 ?_
    refine m_iald C hK hP 24 (by decide) rfl (by have h9 : mlen 24 = 250 := rfl; omega) (pe hPS rfl) dX6_gainOf_83 (fun r_83 => ?_)
    refine z_iconst C dX6_gainOf_84 ?_
    refine z_icmp_ne C 108 dX6_gainOf_85 (by decide) (by omega) (by omega) (fun c_85 => ?_) (fun c_85 => ?_)
    · refine z_aload_n C dX6_gainOf_108 hl 2 rfl ?_
      refine m_geta C hK hP 24 (by decide) q1773 rfl (by decide) dX6_gainOf_109 ?_
      refine z_iload_n C dX6_gainOf_112 hl 1 rfl ?_
      refine z_iconst C dX6_gainOf_113 ?_
      refine z_iadd C dX6_gainOf_114 ?_
      refine m_iald C hK hP 24 (by decide) rfl (by have h9 : mlen 24 = 250 := rfl; omega) (pe hPS rfl) dX6_gainOf_115 (fun r_115 => ?_)
      exact z_pret_i C hQ hret hlk hS (by rw [gain, if_neg (by assumption)]; first | rw [if_pos (by assumption)] | rw [if_neg (by assumption)]) dX6_gainOf_116
    · have w7 := zmul_in (B := 100) w2.2.1 (by omega : 0 ≤ 100 - P 27 (7 * r + 1) ∧ _)
      refine z_aload_n C dX6_gainOf_88 hl 2 rfl ?_
      refine m_geta C hK hP 24 (by decide) q1773 rfl (by decide) dX6_gainOf_89 ?_
      refine z_iload_n C dX6_gainOf_92 hl 1 rfl ?_
      refine z_iconst C dX6_gainOf_93 ?_
      refine z_iadd C dX6_gainOf_94 ?_
      refine m_iald C hK hP 24 (by decide) rfl (by have h9 : mlen 24 = 250 := rfl; omega) (pe hPS rfl) dX6_gainOf_95 (fun r_95 => ?_)
      refine z_bipush C dX6_gainOf_96 rfl ?_
      refine z_iload C dX6_gainOf_98 hl 0 rfl ?_
      refine z_isub C dX6_gainOf_100 ?_
      refine z_imul C dX6_gainOf_101 ?_
      refine z_bipush C dX6_gainOf_102 rfl ?_
      refine z_idiv C dX6_gainOf_104 (by omega) (by omega) ?_
      refine z_goto C 116 dX6_gainOf_105 (by decide) ?_
      exact z_pret_i C hQ hret hlk hS (by rw [gain, if_neg (by assumption)]; first | rw [if_pos (by assumption)] | rw [if_neg (by assumption)]) dX6_gainOf_116
  · have w6 := zmul_in w2.2.1 w4
    refine z_aload_n C dX6_gainOf_34 hl 2 rfl ?_
    refine m_geta C hK hP 24 (by decide) q1773 rfl (by decide) dX6_gainOf_35 ?_
    refine z_iload_n C dX6_gainOf_38 hl 1 rfl ?_
    refine z_iconst C dX6_gainOf_39 ?_
    refine z_iadd C dX6_gainOf_40 ?_
    refine m_iald C hK hP 24 (by decide) rfl (by have h9 : mlen 24 = 250 := rfl; omega) (pe hPS rfl) dX6_gainOf_41 (fun r_41 => ?_)
    refine z_i2l C dX6_gainOf_42 (by omega) ?_
    refine z_bipush C dX6_gainOf_43 rfl ?_
    refine z_aload_n C dX6_gainOf_45 hl 2 rfl ?_
    refine m_geta C hK hP 23 (by decide) q1772 rfl (by decide) dX6_gainOf_46 ?_
    refine z_iload_n C dX6_gainOf_49 hl 3 rfl ?_
    refine m_iald C hK hP 23 (by decide) rfl (by have h9 : mlen 23 = 5 := rfl; omega) (pe hPS rfl) dX6_gainOf_50 (fun r_50 => ?_)
    refine z_imul C dX6_gainOf_51 ?_
    refine z_iload C dX6_gainOf_52 hl 0 rfl ?_
    refine z_aload_n C dX6_gainOf_54 hl 2 rfl ?_
    refine z_iload_n C dX6_gainOf_55 hl 3 rfl ?_
    refine m_pi C vX6_327 (mcX6_markedOn l g h ad _ _ hPS _ (by omega) (by assumption)) hS hl ⟨Nat.le_of_ble_eq_true rfl, Nat.le_of_ble_eq_true rfl⟩ ⟨rfl, rfl⟩ hK hP rfl rfl (Nat.le_of_ble_eq_true rfl) dX6_gainOf_56 ⟨Nat.zero_le _, Nat.zero_le _⟩ (fun locs hS => ?_)
    refine z_imul C dX6_gainOf_59 ?_
    refine z_isub C dX6_gainOf_60 ?_
    refine z_i2l C dX6_gainOf_61 (by omega) ?_
    refine z_lmul C dX6_gainOf_62 ?_
    refine z_bipush C dX6_gainOf_63 rfl ?_
    refine z_aload_n C dX6_gainOf_65 hl 2 rfl ?_
    refine m_geta C hK hP 23 (by decide) q1772 rfl (by decide) dX6_gainOf_66 ?_
    refine z_iload_n C dX6_gainOf_69 hl 3 rfl ?_
    refine m_iald C hK hP 23 (by decide) rfl (by have h9 : mlen 23 = 5 := rfl; omega) (pe hPS rfl) dX6_gainOf_70 (fun r_70 => ?_)
    refine z_imul C dX6_gainOf_71 ?_
    refine z_i2l C dX6_gainOf_72 (by omega) ?_
    refine z_ldiv C dX6_gainOf_73 (by have h9 : P 24 (5 * (10 * r + b) + 1) * (100 * P 23 r - P 27 (7 * r + 1) * marked P r) ≤ 9999 * 1000 := Int.le_trans w6.2 (Int.mul_le_mul_of_nonneg_left (by omega) (by decide)); omega) (by omega) ?_
    refine z_l2i C dX6_gainOf_74 ?_
    exact z_pret_i C hQ hret hlk hS (by rw [gain, if_pos (by assumption)]) dX6_gainOf_75
theorem mcX6_trouble (l : Launch) (g : mG) (h : Nat) (ad : Nat → Nat) (P S : zS) (hPS : per S = P) (t b : Int) (hW : WfR P 0) (ht : I32 t) (hb : I32 b) : mMI l g h ad yX6_trouble cX6_trouble 3 .int (k2_rm 3 72) [.int (iZ t), .int (iZ b)] S (fun z1 S1 => z1 = aTrouble P t b ∧ per S1 = P) := by
  refine z_start (own := RX6) (by decide) rfl (Nat.le_of_ble_eq_true rfl) ?_
  intro prg env s mid blw mth cod ls Q C hQ hret hlk hnm hK hH hl
  have hP : MP g h ad S s.heap := hH
  have hS : va_S (MA h ad) s.heap s.heap [] := va_S.rf
  have hl : lv_has ls 3 [(0, .ref h), (1, .int (iZ t)), (2, .int (iZ b))] := hl
  have w1 := hW.bikes
  have w3 := hW.thieves
  refine z_aload_n C dX6_trouble_0 hl 0 rfl ?_
  refine z_iconst C dX6_trouble_1 ?_
  refine m_puti C hK hP hS 0 (by decide) q1749 rfl rfl (by omega) dX6_trouble_2 (fun S_2 eS_2 H locs hP hS => ?_)
  have hS_2 := per_s rfl hPS eS_2
  refine z_aload_n C dX6_trouble_5 hl 0 rfl ?_
  refine z_iload_n C dX6_trouble_6 hl 1 rfl ?_
  refine m_pi C vX6_330 (mcX6_isThief l g h ad _ _ hS_2 _ (by assumption) (by omega)) hS hl ⟨Nat.le_of_ble_eq_true rfl, Nat.le_of_ble_eq_true rfl⟩ ⟨rfl, rfl⟩ hK hP rfl rfl (Nat.le_of_ble_eq_true rfl) dX6_trouble_7 ⟨Nat.zero_le _, Nat.zero_le _⟩ (fun locs hS => ?_)
  refine z_if_eq C 31 dX6_trouble_10 (by decide) z01_in (fun c_10 => ?_) (fun c_10 => ?_)
  · replace c_10 := z01_f c_10
    refine z_bipush C dX6_trouble_31 rfl ?_
    exact m_mret_i C hQ hret hlk hS hP ⟨by unfold aTrouble; split <;> first | rfl | omega, hS_2⟩ dX6_trouble_33
  · replace c_10 := z01_t c_10
    refine z_aload_n C dX6_trouble_13 hl 0 rfl ?_
    refine z_iload_n C dX6_trouble_14 hl 2 rfl ?_
    refine m_pi C vX6_318 (mcX6_isBike l g h ad _ _ hS_2 _ (by assumption) (by omega)) hS hl ⟨Nat.le_of_ble_eq_true rfl, Nat.le_of_ble_eq_true rfl⟩ ⟨rfl, rfl⟩ hK hP rfl rfl (Nat.le_of_ble_eq_true rfl) dX6_trouble_15 ⟨Nat.zero_le _, Nat.zero_le _⟩ (fun locs hS => ?_)
    refine z_if_eq C 31 dX6_trouble_18 (by decide) z01_in (fun c_18 => ?_) (fun c_18 => ?_)
    · replace c_18 := z01_f c_18
      refine z_bipush C dX6_trouble_31 rfl ?_
      exact m_mret_i C hQ hret hlk hS hP ⟨by unfold aTrouble; split <;> first | rfl | omega, hS_2⟩ dX6_trouble_33
    · replace c_18 := z01_t c_18
      refine z_aload_n C dX6_trouble_21 hl 0 rfl ?_
      refine z_iload_n C dX6_trouble_22 hl 1 rfl ?_
      refine z_iconst C dX6_trouble_23 ?_
      refine z_iload_n C dX6_trouble_24 hl 2 rfl ?_
      refine m_pi C vX6_333 (mcX6_troubleOf l g h ad _ _ hS_2 _ _ _ (by omega) (by assumption) (by assumption) (by omega) (by omega)) hS hl ⟨Nat.le_of_ble_eq_true rfl, Nat.le_of_ble_eq_true rfl⟩ ⟨rfl, rfl⟩ hK hP rfl rfl (Nat.le_of_ble_eq_true rfl) dX6_trouble_25 ⟨Nat.zero_le _, Nat.zero_le _⟩ (fun locs hS => ?_)
      refine z_goto C 33 dX6_trouble_28 (by decide) ?_
      exact m_mret_i C hQ hret hlk hS hP ⟨by unfold aTrouble; split <;> first | rfl | omega, hS_2⟩ dX6_trouble_33
theorem mcX6_gain (l : Launch) (g : mG) (h : Nat) (ad : Nat → Nat) (P S : zS) (hPS : per S = P) (b : Int) (hW : WfR P 0) (hb : I32 b) : mMI l g h ad yX6_gain cX6_gain 2 .int (k2_rm 3 68) [.int (iZ b)] S (fun z1 S1 => z1 = aGain P b ∧ per S1 = P) := by
  refine z_start (own := RX6) (by decide) rfl (Nat.le_of_ble_eq_true rfl) ?_
  intro prg env s mid blw mth cod ls Q C hQ hret hlk hnm hK hH hl
  have hP : MP g h ad S s.heap := hH
  have hS : va_S (MA h ad) s.heap s.heap [] := va_S.rf
  have hl : lv_has ls 2 [(0, .ref h), (1, .int (iZ b))] := hl
  have w1 := hW.bikes
  refine z_aload_n C dX6_gain_0 hl 0 rfl ?_
  refine z_iconst C dX6_gain_1 ?_
  refine m_puti C hK hP hS 0 (by decide) q1749 rfl rfl (by omega) dX6_gain_2 (fun S_2 eS_2 H locs hP hS => ?_)
  have hS_2 := per_s rfl hPS eS_2
  refine z_aload_n C dX6_gain_5 hl 0 rfl ?_
  refine z_iload_n C dX6_gain_6 hl 1 rfl ?_
  refine m_pi C vX6_318 (mcX6_isBike l g h ad _ _ hS_2 _ (by assumption) (by omega)) hS hl ⟨Nat.le_of_ble_eq_true rfl, Nat.le_of_ble_eq_true rfl⟩ ⟨rfl, rfl⟩ hK hP rfl rfl (Nat.le_of_ble_eq_true rfl) dX6_gain_7 ⟨Nat.zero_le _, Nat.zero_le _⟩ (fun locs hS => ?_)
  refine z_if_eq C 22 dX6_gain_10 (by decide) z01_in (fun c_10 => ?_) (fun c_10 => ?_)
  · replace c_10 := z01_f c_10
    refine z_bipush C dX6_gain_22 rfl ?_
    exact m_mret_i C hQ hret hlk hS hP ⟨by unfold aGain; split <;> first | rfl | omega, hS_2⟩ dX6_gain_24
  · replace c_10 := z01_t c_10
    refine z_aload_n C dX6_gain_13 hl 0 rfl ?_
    refine z_iconst C dX6_gain_14 ?_
    refine z_iload_n C dX6_gain_15 hl 1 rfl ?_
    refine m_pi C vX6_337 (mcX6_gainOf l g h ad _ _ hS_2 _ _ (by omega) (by assumption) (by omega)) hS hl ⟨Nat.le_of_ble_eq_true rfl, Nat.le_of_ble_eq_true rfl⟩ ⟨rfl, rfl⟩ hK hP rfl rfl (Nat.le_of_ble_eq_true rfl) dX6_gain_16 ⟨Nat.zero_le _, Nat.zero_le _⟩ (fun locs hS => ?_)
    refine z_goto C 24 dX6_gain_19 (by decide) ?_
    exact m_mret_i C hQ hret hlk hS hP ⟨by unfold aGain; split <;> first | rfl | omega, hS_2⟩ dX6_gain_24
