theorem vX6_466 : zT RX6 466 yX6_isBright cX6_isBright 1 (some .boolean) 1 := ⟨lw_S q2358 q2359 q149 q2360, by decide +kernel⟩
theorem vX6_452 : zV RX6 452 RX6 yX6_areTwo cX6_areTwo 3 (some .boolean) 2 := ⟨lw_V q2313 q2315 qs119 q149 q2316, rfl, by decide +kernel⟩
theorem vX6_458 : zV RX6 458 RX6 yX6_laysGrowth cX6_laysGrowth 5 none 2 := ⟨lw_V q2326 q2328 qs120 q149 q2329, rfl, by decide +kernel⟩
theorem vX6_461 : zV RX6 461 RX6 yX6_standsAt cX6_standsAt 3 (some .int) 1 := ⟨lw_V q2342 q2344 qs121 q149 q2345, rfl, by decide +kernel⟩
theorem vX6_469 : zV RX6 469 RX6 yX6_litBy cX6_litBy 5 (some .long) 2 := ⟨lw_V q2362 q2364 qs122 q149 q2365, rfl, by decide +kernel⟩
theorem vX6_472 : zV RX6 472 RX6 yX6_laysWatch cX6_laysWatch 3 none 0 := ⟨lw_V q2378 q2380 qs123 q149 q2381, rfl, by decide +kernel⟩
theorem vX6_475 : zV RX6 475 RX6 yX6_marksSet cX6_marksSet 3 none 1 := ⟨lw_V q2390 q2392 qs124 q149 q2393, rfl, by decide +kernel⟩
theorem vX6_478 : zV RX6 478 RX6 yX6_isWanted cX6_isWanted 2 (some .boolean) 0 := ⟨lw_V q2394 q2396 qs125 q149 q2397, rfl, by decide +kernel⟩
theorem mcX6_areTwo (l : Launch) (g : mG) (h : Nat) (ad : Nat → Nat) (P S : zS) (hPS : per S = P) (a b : Int) (hW : WfR P 0) (ha : I32 a) (hb : I32 b) : mPI l g h ad yX6_areTwo cX6_areTwo 3 .boolean (k2_rm 2 46) [.int (iZ a), .int (iZ b)] S (if isTwo P a b then 1 else 0) := by
  intro H0 hP
  refine z_start (own := RX6) (by decide) rfl (Nat.le_of_ble_eq_true rfl) ?_
  intro prg env s mid blw mth cod ls Q C hQ hret hlk hnm hK hH hl
  subst hH
  have hS : va_S nA s.heap s.heap [] := va_S.rf
  have hl : lv_has ls 3 [(0, .ref h), (1, .int (iZ a)), (2, .int (iZ b))] := hl
  refine z_aload_n C dX6_areTwo_0 hl 0 rfl ?_
  refine z_iload_n C dX6_areTwo_1 hl 1 rfl ?_
  refine m_pi C vX6_318 (mcX6_isBike l g h ad _ _ hPS _ (by assumption) (by omega)) hS hl ⟨Nat.le_of_ble_eq_true rfl, Nat.le_of_ble_eq_true rfl⟩ ⟨rfl, rfl⟩ hK hP rfl rfl (Nat.le_of_ble_eq_true rfl) dX6_areTwo_2 ⟨Nat.zero_le _, Nat.zero_le _⟩ (fun locs hS => ?_)
  refine z_if_eq C 25 dX6_areTwo_5 (by decide) z01_in (fun c_5 => ?_) (fun c_5 => ?_)
  · replace c_5 := z01_f c_5
    refine z_iconst C dX6_areTwo_25 ?_
    exact z_pret_z C hQ hret hlk hS z01_any (by split <;> omega) dX6_areTwo_26
  · replace c_5 := z01_t c_5
    refine z_aload_n C dX6_areTwo_8 hl 0 rfl ?_
    refine z_iload_n C dX6_areTwo_9 hl 2 rfl ?_
    refine m_pi C vX6_318 (mcX6_isBike l g h ad _ _ hPS _ (by assumption) (by omega)) hS hl ⟨Nat.le_of_ble_eq_true rfl, Nat.le_of_ble_eq_true rfl⟩ ⟨rfl, rfl⟩ hK hP rfl rfl (Nat.le_of_ble_eq_true rfl) dX6_areTwo_10 ⟨Nat.zero_le _, Nat.zero_le _⟩ (fun locs hS => ?_)
    refine z_if_eq C 25 dX6_areTwo_13 (by decide) z01_in (fun c_13 => ?_) (fun c_13 => ?_)
    · replace c_13 := z01_f c_13
      refine z_iconst C dX6_areTwo_25 ?_
      exact z_pret_z C hQ hret hlk hS z01_any (by split <;> omega) dX6_areTwo_26
    · replace c_13 := z01_t c_13
      refine z_iload_n C dX6_areTwo_16 hl 1 rfl ?_
      refine z_iload_n C dX6_areTwo_17 hl 2 rfl ?_
      refine z_icmp_eq C 25 dX6_areTwo_18 (by decide) (by omega) (by omega) (fun c_18 => ?_) (fun c_18 => ?_)
      · refine z_iconst C dX6_areTwo_25 ?_
        exact z_pret_z C hQ hret hlk hS z01_any (by split <;> omega) dX6_areTwo_26
      · refine z_iconst C dX6_areTwo_21 ?_
        refine z_goto C 26 dX6_areTwo_22 (by decide) ?_
        exact z_pret_z C hQ hret hlk hS z01_any (by split <;> omega) dX6_areTwo_26
theorem mcX6_pair (l : Launch) (g : mG) (h : Nat) (ad : Nat → Nat) (P S : zS) (hPS : per S = P) (a b : Int) (hW : WfR P 0) (hia : I32 a) (hib : I32 b) : mMI l g h ad yX6_pair cX6_pair 12 .int (k2_rm 5 119) [.int (iZ a), .int (iZ b)] S (fun z1 S1 => z1 = aPair P a b ∧ per S1 = P) := by
  refine z_start (own := RX6) (by decide) rfl (Nat.le_of_ble_eq_true rfl) ?_
  intro prg env s mid blw mth cod ls Q C hQ hret hlk hnm hK hH hl
  have hP : MP g h ad S s.heap := hH
  have hS : va_S (MA h ad) s.heap s.heap [] := va_S.rf
  have hl : lv_has ls 12 [(0, .ref h), (1, .int (iZ a)), (2, .int (iZ b))] := hl
  have w1 := hW.bikes
  have w7 := nO_in hW
  refine z_aload_n C dX6_pair_0 hl 0 rfl ?_
  refine z_iconst C dX6_pair_1 ?_
  refine m_puti C hK hP hS 0 (by decide) q1749 rfl rfl (by omega) dX6_pair_2 (fun S_2 eS_2 H locs hP hS => ?_)
  have hS_2 := per_s rfl hPS eS_2
  refine z_aload_n C dX6_pair_5 hl 0 rfl ?_
  refine z_iload_n C dX6_pair_6 hl 1 rfl ?_
  refine z_iload_n C dX6_pair_7 hl 2 rfl ?_
  refine m_pi C vX6_452 (mcX6_areTwo l g h ad _ _ hS_2 _ _ (by assumption) (by omega) (by omega)) hS hl ⟨Nat.le_of_ble_eq_true rfl, Nat.le_of_ble_eq_true rfl⟩ ⟨rfl, rfl⟩ hK hP rfl rfl (Nat.le_of_ble_eq_true rfl) dX6_pair_8 ⟨Nat.zero_le _, Nat.zero_le _⟩ (fun locs hS => ?_)
  refine z_if_ne C 17 dX6_pair_11 (by decide) z01_in (fun c_11 => ?_) (fun c_11 => ?_)
  · replace c_11 := z01_t c_11
    have c_110 := c_11
    obtain ⟨ha, hb, hab⟩ := c_11
    have ha : 0 ≤ a ∧ a < P 23 0 := by omega
    have hb : 0 ≤ b ∧ b < P 23 0 := by omega
    have g1 := optOf_in hW ha
    have g2 := optOf_in hW hb
    refine z_aload_n C dX6_pair_17 hl 0 rfl ?_
    refine z_iload_n C dX6_pair_18 hl 1 rfl ?_
    refine m_pi C vX6_408 (mcX6_optionOf l g h ad _ _ hS_2 _ (by omega)) hS hl ⟨Nat.le_of_ble_eq_true rfl, Nat.le_of_ble_eq_true rfl⟩ ⟨rfl, rfl⟩ hK hP rfl rfl (Nat.le_of_ble_eq_true rfl) dX6_pair_19 ⟨Nat.zero_le _, Nat.zero_le _⟩ (fun locs hS => ?_)
    refine z_istore_n C dX6_pair_22 rfl hl (by decide) rfl (fun ls hl => ?_)
    have hl : lv_has ls 12 [(3, _), (0, _), (1, _), (2, _)] := hl
    refine z_aload_n C dX6_pair_23 hl 1 rfl ?_
    refine z_iload_n C dX6_pair_24 hl 3 rfl ?_
    refine m_pi C vX6_408 (mcX6_optionOf l g h ad _ _ hS_2 _ (by omega)) hS hl ⟨Nat.le_of_ble_eq_true rfl, Nat.le_of_ble_eq_true rfl⟩ ⟨rfl, rfl⟩ hK hP rfl rfl (Nat.le_of_ble_eq_true rfl) dX6_pair_25 ⟨Nat.zero_le _, Nat.zero_le _⟩ (fun locs hS => ?_)
    refine z_istore C dX6_pair_28 hl (by decide) rfl (fun ls hl => ?_)
    have hl : lv_has ls 12 [(4, _), (3, _), (0, _), (1, _), (2, _)] := hl
    refine z_iconst C dX6_pair_30 ?_
    refine z_istore C dX6_pair_31 hl (by decide) rfl (fun ls hl => ?_)
    have hl : lv_has ls 12 [(5, _), (4, _), (3, _), (0, _), (1, _), (2, _)] := hl
    refine z_lconst (v := 0) C dX6_pair_33 rfl ?_
    refine z_lstore C dX6_pair_34 hl (by decide) rfl (fun ls hl => ?_)
    have hl : lv_has ls 12 [(6, _), (5, _), (4, _), (3, _), (0, _), (1, _), (2, _)] := hl
    refine z_iconst C dX6_pair_36 ?_
    refine z_istore C dX6_pair_37 hl (by decide) rfl (fun ls hl => ?_)
    have hl : lv_has ls 12 [(8, _), (6, _), (5, _), (4, _), (3, _), (0, _), (1, _), (2, _)] := hl
    have hL_39 : ∀ (fuel : Nat) (i : Nat) (st : Int × Int) (S1 : zS) (Q1 : zS) (H : Heap) (locs : List Loc) (ls : Array Slot), (nO P).toNat - i < fuel → ((i : Int) ≤ nO P) → (st = prI P a b i) → (∃ x y, Q1 = pairP P a b x y) → per S1 = Q1 → MP g h ad S1 H → va_S (MA h ad) s.heap H locs → lv_has ls 12 [(0, .ref h), (1, .int (iZ a)), (2, .int (iZ b)), (3, .int (iZ (optOf P a))), (4, .int (iZ (optOf P b))), (5, .int (iZ st.1)), (6, .long (lZ st.2)), (8, .int (iZ (i : Int)))] → W prg l env (k2_rm 5 119) s mid ([.ref h, .int (iZ a), .int (iZ b)] : List Value).toArray blw mth cod H locs 0 0 Q (F0 mid 39 ls []) := by
      intro fuel
      induction fuel with
      | zero => intro i st S1 Q1  H locs ls hm; exact absurd hm (Nat.not_lt_zero _)
      | succ fuel hL_39 =>
        intro i st S1 Q1  H locs ls hm ii iS iQ hPS_39 hP  hS hl
        obtain ⟨x, y, iQ⟩ := iQ
        subst iQ
        have q4 : nO (pairP P a b x y) = nO P := by unfold nO; rw [pairP_21]
        have q3 : scOk 1323756000 st := by rw [iS]; exact prI_ok hW ha hb i ii
        have q30 := q3
        unfold scOk at q30
        refine z_iload C dX6_pair_39 hl 7 rfl ?_
        refine z_aload_n C dX6_pair_41 hl 0 rfl ?_
        refine m_pi C vX6_401 (mcX6_optionMany l g h ad _ _ hPS_39 ) hS hl ⟨Nat.le_of_ble_eq_true rfl, Nat.le_of_ble_eq_true rfl⟩ ⟨rfl, rfl⟩ hK hP rfl rfl (Nat.le_of_ble_eq_true rfl) dX6_pair_42 ⟨Nat.zero_le _, Nat.zero_le _⟩ (fun locs hS => ?_)
        refine z_icmp_ge C 134 dX6_pair_45 (by decide) (by omega) (by omega) (fun c_45 => ?_) (fun c_45 => ?_)
        · rw [q4] at c_45
          refine z_aload_n C dX6_pair_134 hl 0 rfl ?_
          refine z_iload_n C dX6_pair_135 hl 1 rfl ?_
          refine z_iload_n C dX6_pair_136 hl 3 rfl ?_
          refine m_mv C vX6_411 (mcX6_hasOption l g h ad _ _ hPS_39 _ _ (by omega) (by omega)) hS hl ⟨Nat.le_of_ble_eq_true rfl, Nat.le_of_ble_eq_true rfl⟩ ⟨rfl, rfl⟩ hK hP (fun _ h9 => h9) rfl rfl (Nat.le_of_ble_eq_true rfl) dX6_pair_137 ⟨Nat.zero_le _, Nat.zero_le _⟩ (fun S_137 H locs pS_137 hP hS => ?_)
          obtain ⟨hS_137, pS_137⟩ := pS_137
          refine z_aload_n C dX6_pair_140 hl 0 rfl ?_
          refine z_iload_n C dX6_pair_141 hl 2 rfl ?_
          refine z_iload C dX6_pair_142 hl 4 rfl ?_
          refine m_mv C vX6_411 (mcX6_hasOption l g h ad _ _ hS_137 _ _ (by omega) (by omega)) hS hl ⟨Nat.le_of_ble_eq_true rfl, Nat.le_of_ble_eq_true rfl⟩ ⟨rfl, rfl⟩ hK hP (fun _ h9 => h9) rfl rfl (Nat.le_of_ble_eq_true rfl) dX6_pair_144 ⟨Nat.zero_le _, Nat.zero_le _⟩ (fun S_144 H locs pS_144 hP hS => ?_)
          obtain ⟨hS_144, pS_144⟩ := pS_144
          refine z_iload C dX6_pair_147 hl 5 rfl ?_
          exact m_mret_i C hQ hret hlk hS hP ⟨by rw [aPair, if_pos c_110, iS, show i = (nO P).toNat by omega], by rw [hS_144]; exact (pairP_over hab x y _ _).trans (pairP_self hW ha hb)⟩ dX6_pair_149
        · rw [q4] at c_45
          refine z_iconst C dX6_pair_48 ?_
          refine z_istore C dX6_pair_49 hl (by decide) rfl (fun ls hl => ?_)
          have hl : lv_has ls 12 [(9, _), (0, _), (1, _), (2, _), (3, _), (4, _), (5, _), (6, _), (8, _)] := hl
          have hL_51 : ∀ (fuel : Nat) (j : Nat) (s2 : Int × Int) (S2 : zS) (Q2 : zS) (H : Heap) (locs : List Loc) (ls : Array Slot), (nO P).toNat - j < fuel → ((j : Int) ≤ nO P) → (s2 = prJ P a b i st j) → (∃ x y, Q2 = pairP P a b x y) → per S2 = Q2 → MP g h ad S2 H → va_S (MA h ad) s.heap H locs → lv_has ls 12 [(0, .ref h), (1, .int (iZ a)), (2, .int (iZ b)), (3, .int (iZ (optOf P a))), (4, .int (iZ (optOf P b))), (5, .int (iZ s2.1)), (6, .long (lZ s2.2)), (8, .int (iZ (i : Int))), (9, .int (iZ (j : Int)))] → W prg l env (k2_rm 5 119) s mid ([.ref h, .int (iZ a), .int (iZ b)] : List Value).toArray blw mth cod H locs 0 0 Q (F0 mid 51 ls []) := by
            intro fuel
            induction fuel with
            | zero => intro j s2 S2 Q2  H locs ls hm; exact absurd hm (Nat.not_lt_zero _)
            | succ fuel hL_51 =>
              intro j s2 S2 Q2  H locs ls hm ij jS jQ hPS_51 hP  hS hl
              have jQ0 := jQ
              obtain ⟨x2, y2, jQ⟩ := jQ
              subst jQ
              have jQ := jQ0
              have q8 : nO (pairP P a b x2 y2) = nO P := by unfold nO; rw [pairP_21]
              have q6 : scOk 1323756000 s2 := by rw [jS]; exact prJ_ok hW ha hb ⟨by omega, by omega⟩ q3 j ij
              have q60 := q6
              unfold scOk at q60
              refine z_iload C dX6_pair_51 hl 8 rfl ?_
              refine z_aload_n C dX6_pair_53 hl 0 rfl ?_
              refine m_pi C vX6_401 (mcX6_optionMany l g h ad _ _ hPS_51 ) hS hl ⟨Nat.le_of_ble_eq_true rfl, Nat.le_of_ble_eq_true rfl⟩ ⟨rfl, rfl⟩ hK hP rfl rfl (Nat.le_of_ble_eq_true rfl) dX6_pair_54 ⟨Nat.zero_le _, Nat.zero_le _⟩ (fun locs hS => ?_)
              refine z_icmp_ge C 128 dX6_pair_57 (by decide) (by omega) (by omega) (fun c_57 => ?_) (fun c_57 => ?_)
              · rw [q8] at c_57
                refine z_iinc C dX6_pair_128 hl (by decide) 7 rfl rfl (fun ls hl => ?_)
                have hl : lv_has ls 12 [(8, _), (0, _), (1, _), (2, _), (3, _), (4, _), (5, _), (6, _), (9, _)] := hl
                refine z_goto C 39 dX6_pair_131 (by decide) ?_
                exact hL_39 (i + 1) s2 _ _ _ _ ls (by omega) (by omega) (by rw [jS, show j = (nO P).toNat by omega, iS]; rfl) jQ hPS_51 hP hS (lv_sub hl [1, 2, 3, 4, 5, 6, 7, 0] rfl)
              · rw [q8] at c_57
                refine z_aload_n C dX6_pair_60 hl 0 rfl ?_
                refine z_iload_n C dX6_pair_61 hl 1 rfl ?_
                refine z_iload C dX6_pair_62 hl 7 rfl ?_
                refine m_mv C vX6_411 (mcX6_hasOption l g h ad _ _ hPS_51 _ _ (by omega) (by omega)) hS hl ⟨Nat.le_of_ble_eq_true rfl, Nat.le_of_ble_eq_true rfl⟩ ⟨rfl, rfl⟩ hK hP (fun _ h9 => h9) rfl rfl (Nat.le_of_ble_eq_true rfl) dX6_pair_64 ⟨Nat.zero_le _, Nat.zero_le _⟩ (fun S_64 H locs pS_64 hP hS => ?_)
                obtain ⟨hS_64, pS_64⟩ := pS_64
                refine z_aload_n C dX6_pair_67 hl 0 rfl ?_
                refine z_iload_n C dX6_pair_68 hl 2 rfl ?_
                refine z_iload C dX6_pair_69 hl 8 rfl ?_
                refine m_mv C vX6_411 (mcX6_hasOption l g h ad _ _ hS_64 _ _ (by omega) (by omega)) hS hl ⟨Nat.le_of_ble_eq_true rfl, Nat.le_of_ble_eq_true rfl⟩ ⟨rfl, rfl⟩ hK hP (fun _ h9 => h9) rfl rfl (Nat.le_of_ble_eq_true rfl) dX6_pair_71 ⟨Nat.zero_le _, Nat.zero_le _⟩ (fun S_71 H locs pS_71 hP hS => ?_)
                obtain ⟨hS_71, pS_71⟩ := pS_71
                rw [show optP (optP (pairP P a b x2 y2) a (i : Int)) b (j : Int) = optP (optP P a (i : Int)) b (j : Int) from pairP_over hab x2 y2 i j] at hS_71
                have hw1 : WfR (optP (optP P a (i : Int)) b (j : Int)) 0 := pairP_wf hW ha hb ⟨by omega, by omega⟩ ⟨by omega, by omega⟩
                refine z_aload_n C dX6_pair_74 hl 0 rfl ?_
                refine m_mv C vX6_362 (mcX6_night l g h ad _ _ hS_71 hw1) hS hl ⟨Nat.le_of_ble_eq_true rfl, Nat.le_of_ble_eq_true rfl⟩ ⟨rfl, rfl⟩ hK hP (fun _ h9 => h9) rfl rfl (Nat.le_of_ble_eq_true rfl) dX6_pair_75 ⟨Nat.zero_le _, Nat.zero_le _⟩ (fun S_75 H locs pS_75 hP hS => ?_)
                have hS_75 : per S_75 = _ := (pS_75.1.pr rfl hS_71)
                refine z_aload_n C dX6_pair_78 hl 0 rfl ?_
                refine z_iload_n C dX6_pair_79 hl 1 rfl ?_
                refine m_pl C vX6_389 (mcX6_costOf l g h ad _ _ hS_75 _ hw1 pS_75.2 (by rw [optP_k _ _ _ (by decide), optP_k _ _ _ (by decide)]; exact ha)) hS hl ⟨Nat.le_of_ble_eq_true rfl, Nat.le_of_ble_eq_true rfl⟩ ⟨rfl, rfl⟩ hK hP rfl rfl (Nat.le_of_ble_eq_true rfl) dX6_pair_80 ⟨Nat.zero_le _, Nat.zero_le _⟩ (fun locs hS => ?_)
                refine z_aload_n C dX6_pair_83 hl 0 rfl ?_
                refine z_iload_n C dX6_pair_84 hl 2 rfl ?_
                refine m_pl C vX6_389 (mcX6_costOf l g h ad _ _ hS_75 _ hw1 pS_75.2 (by rw [optP_k _ _ _ (by decide), optP_k _ _ _ (by decide)]; exact hb)) hS hl ⟨Nat.le_of_ble_eq_true rfl, Nat.le_of_ble_eq_true rfl⟩ ⟨rfl, rfl⟩ hK hP rfl rfl (Nat.le_of_ble_eq_true rfl) dX6_pair_85 ⟨Nat.zero_le _, Nat.zero_le _⟩ (fun locs hS => ?_)
                refine z_ladd C dX6_pair_88 ?_
                have q7 : 0 ≤ cost (optP (optP P a (i : Int)) b (j : Int)) a + cost (optP (optP P a (i : Int)) b (j : Int)) b ∧ cost (optP (optP P a (i : Int)) b (j : Int)) a + cost (optP (optP P a (i : Int)) b (j : Int)) b ≤ 1323756000 := pairV_in hW ha hb (i := (i : Int)) (j := (j : Int)) ⟨by omega, by omega⟩ ⟨by omega, by omega⟩
                refine z_lstore C dX6_pair_89 hl (by decide) rfl (fun ls hl => ?_)
                have hl : lv_has ls 12 [(10, _), (0, _), (1, _), (2, _), (3, _), (4, _), (5, _), (6, _), (8, _), (9, _)] := hl
                refine z_iload C dX6_pair_91 hl 6 rfl ?_
                refine z_iconst C dX6_pair_93 ?_
                refine z_icmp_eq C 108 dX6_pair_94 (by decide) (by omega) (by omega) (fun c_94 => ?_) (fun c_94 => ?_)
                · refine z_bipush C dX6_pair_108 rfl ?_
                  refine z_iload C dX6_pair_110 hl 8 rfl ?_
                  refine z_imul C dX6_pair_112 ?_
                  refine z_iload C dX6_pair_113 hl 9 rfl ?_
                  refine z_iadd C dX6_pair_115 ?_
                  refine z_istore C dX6_pair_116 hl (by decide) rfl (fun ls hl => ?_)
                  have hl : lv_has ls 12 [(5, _), (10, _), (0, _), (1, _), (2, _), (3, _), (4, _), (6, _), (8, _), (9, _)] := hl
                  refine z_lload C dX6_pair_118 hl 1 rfl ?_
                  refine z_lstore C dX6_pair_120 hl (by decide) rfl (fun ls hl => ?_)
                  have hl : lv_has ls 12 [(6, _), (5, _), (10, _), (0, _), (1, _), (2, _), (3, _), (4, _), (8, _), (9, _)] := hl
                  refine z_iinc C dX6_pair_122 hl (by decide) 9 rfl rfl (fun ls hl => ?_)
                  have hl : lv_has ls 12 [(9, _), (6, _), (5, _), (10, _), (0, _), (1, _), (2, _), (3, _), (4, _), (8, _)] := hl
                  refine z_goto C 51 dX6_pair_125 (by decide) ?_
                  exact hL_51 (j + 1) (100 * (i : Int) + (j : Int), (cost (optP (optP P a i) b j) a + cost (optP (optP P a i) b j) b)) _ _ _ _ ls (by omega) (by omega) (by rw [prJ, ← jS, scS, if_neg (fun z => z.1 c_94)]; rfl) ⟨_, _, rfl⟩ hS_75 hP hS (lv_sub hl [4, 5, 6, 7, 8, 2, 1, 9, 0] rfl)
                · refine z_lload C dX6_pair_97 hl 0 rfl ?_
                  refine z_lload C dX6_pair_99 hl 7 rfl ?_
                  refine z_lcmp_lt C 108 dX6_pair_101 dX6_pair_102 (by decide) (by omega) (by omega) (fun c_101 => ?_) (fun c_101 => ?_)
                  · refine z_bipush C dX6_pair_108 rfl ?_
                    refine z_iload C dX6_pair_110 hl 8 rfl ?_
                    refine z_imul C dX6_pair_112 ?_
                    refine z_iload C dX6_pair_113 hl 9 rfl ?_
                    refine z_iadd C dX6_pair_115 ?_
                    refine z_istore C dX6_pair_116 hl (by decide) rfl (fun ls hl => ?_)
                    have hl : lv_has ls 12 [(5, _), (10, _), (0, _), (1, _), (2, _), (3, _), (4, _), (6, _), (8, _), (9, _)] := hl
                    refine z_lload C dX6_pair_118 hl 1 rfl ?_
                    refine z_lstore C dX6_pair_120 hl (by decide) rfl (fun ls hl => ?_)
                    have hl : lv_has ls 12 [(6, _), (5, _), (10, _), (0, _), (1, _), (2, _), (3, _), (4, _), (8, _), (9, _)] := hl
                    refine z_iinc C dX6_pair_122 hl (by decide) 9 rfl rfl (fun ls hl => ?_)
                    have hl : lv_has ls 12 [(9, _), (6, _), (5, _), (10, _), (0, _), (1, _), (2, _), (3, _), (4, _), (8, _)] := hl
                    refine z_goto C 51 dX6_pair_125 (by decide) ?_
                    exact hL_51 (j + 1) (100 * (i : Int) + (j : Int), (cost (optP (optP P a i) b j) a + cost (optP (optP P a i) b j) b)) _ _ _ _ ls (by omega) (by omega) (by rw [prJ, ← jS, scS, if_neg (fun z => absurd z.2 (by show ¬ s2.2 ≤ pairV P a b i j; exact Int.not_le.mpr c_101))]; rfl) ⟨_, _, rfl⟩ hS_75 hP hS (lv_sub hl [4, 5, 6, 7, 8, 2, 1, 9, 0] rfl)
                  · refine z_goto C 122 dX6_pair_105 (by decide) ?_
                    refine z_iinc C dX6_pair_122 hl (by decide) 9 rfl rfl (fun ls hl => ?_)
                    have hl : lv_has ls 12 [(9, _), (10, _), (0, _), (1, _), (2, _), (3, _), (4, _), (5, _), (6, _), (8, _)] := hl
                    refine z_goto C 51 dX6_pair_125 (by decide) ?_
                    exact hL_51 (j + 1) s2 _ _ _ _ ls (by omega) (by omega) (by rw [prJ, ← jS, scS, if_pos ⟨c_94, c_101⟩]) ⟨_, _, rfl⟩ hS_75 hP hS (lv_sub hl [2, 3, 4, 5, 6, 7, 8, 9, 0] rfl)
          exact hL_51 _ 0 st _ _ _ _ ls (Nat.lt_succ_self _) (by omega) rfl ⟨x, y, rfl⟩ hPS_39 hP hS (lv_sub hl [1, 2, 3, 4, 5, 6, 7, 8, 0] rfl)
    exact hL_39 _ 0 (-1, 0) _ _ _ _ ls (Nat.lt_succ_self _) (by omega) rfl ⟨optOf P a, optOf P b, (pairP_self hW ha hb).symm⟩ hS_2 hP hS (lv_sub hl [5, 6, 7, 4, 3, 2, 1, 0] rfl)
  · replace c_11 := z01_f c_11
    refine z_bipush C dX6_pair_14 rfl ?_
    exact m_mret_i C hQ hret hlk hS hP ⟨(if_neg c_11).symm, hS_2⟩ dX6_pair_16
theorem mcX6_wasted (l : Launch) (g : mG) (h : Nat) (ad : Nat → Nat) (P S : zS) (hPS : per S = P)  (hW : WfR P 0) : mML l g h ad yX6_wasted cX6_wasted 5 (k2_rm 6 143) [] S (fun z1 S1 => z1 = aWasted P ∧ per S1 = P) := by
  refine z_start (own := RX6) (by decide) rfl (Nat.le_of_ble_eq_true rfl) ?_
  intro prg env s mid blw mth cod ls Q C hQ hret hlk hnm hK hH hl
  have hP : MP g h ad S s.heap := hH
  have hS : va_S (MA h ad) s.heap s.heap [] := va_S.rf
  have hl : lv_has ls 5 [(0, .ref h)] := hl
  have w1 := hW.bikes
  have w2 := hW.places
  refine z_aload_n C dX6_wasted_0 hl 0 rfl ?_
  refine z_iconst C dX6_wasted_1 ?_
  refine m_puti C hK hP hS 0 (by decide) q1749 rfl rfl (by omega) dX6_wasted_2 (fun S_2 eS_2 H locs hP hS => ?_)
  have hS_2 := per_s rfl hPS eS_2
  refine z_aload_n C dX6_wasted_5 hl 0 rfl ?_
  refine m_pi C vX6_354 (mcX6_isRail l g h ad _ _ hS_2 (by assumption)) hS hl ⟨Nat.le_of_ble_eq_true rfl, Nat.le_of_ble_eq_true rfl⟩ ⟨rfl, rfl⟩ hK hP rfl rfl (Nat.le_of_ble_eq_true rfl) dX6_wasted_6 ⟨Nat.zero_le _, Nat.zero_le _⟩ (fun locs hS => ?_)
  refine z_if_ne C 16 dX6_wasted_9 (by decide) z01_in (fun c_9 => ?_) (fun c_9 => ?_)
  · replace c_9 := z01_t c_9
    refine z_aload_n C dX6_wasted_16 hl 0 rfl ?_
    refine z_iconst C dX6_wasted_17 ?_
    refine m_ml C vX6_398 (mcX6_allNow l g h ad _ _ hS_2 _ (by assumption) (by omega)) hS hl ⟨Nat.le_of_ble_eq_true rfl, Nat.le_of_ble_eq_true rfl⟩ ⟨rfl, rfl⟩ hK hP (fun _ h9 => h9) rfl rfl (Nat.le_of_ble_eq_true rfl) dX6_wasted_18 ⟨Nat.zero_le _, Nat.zero_le _⟩ (fun v_18 S_18 H locs pS_18 hP hS => ?_)
    obtain ⟨e_18, pS_18⟩ := pS_18
    subst e_18
    have hS_18 : per S_18 = P := (pS_18.pr rfl hS_2)
    refine z_lstore_n C dX6_wasted_21 rfl hl (by decide) rfl (fun ls hl => ?_)
    have hl : lv_has ls 5 [(1, _), (0, _)] := hl
    refine z_aload_n C dX6_wasted_22 hl 1 rfl ?_
    refine m_mv C vX6_438 (mcX6_laysAside l g h ad _ _ hS_18 (by assumption)) hS hl ⟨Nat.le_of_ble_eq_true rfl, Nat.le_of_ble_eq_true rfl⟩ ⟨rfl, rfl⟩ hK hP (fun _ h9 => h9) rfl rfl (Nat.le_of_ble_eq_true rfl) dX6_wasted_23 ⟨Nat.zero_le _, Nat.zero_le _⟩ (fun S_23 H locs pS_23 hP hS => ?_)
    have hS_23 : per S_23 = P := (pS_23.1.pr rfl hS_18)
    refine z_iconst C dX6_wasted_26 ?_
    refine z_istore_n C dX6_wasted_27 rfl hl (by decide) rfl (fun ls hl => ?_)
    have hl : lv_has ls 5 [(3, _), (1, _), (0, _)] := hl
    have hL_28 : ∀ (fuel : Nat) (k : Nat) (S1 : zS) (H : Heap) (locs : List Loc) (ls : Array Slot), (P 23 0).toNat - k < fuel → ((k : Int) ≤ P 23 0) → (∀ b : Nat, b < (P 23 0).toNat → S1 40 (b : Int) = optOf P b) → per S1 = bareP P k → MP g h ad S1 H → va_S (MA h ad) s.heap H locs → lv_has ls 5 [(0, .ref h), (1, .long (lZ (allOf P 2))), (3, .int (iZ (k : Int)))] → W prg l env (k2_rm 6 143) s mid ([.ref h] : List Value).toArray blw mth cod H locs 0 0 Q (F0 mid 28 ls []) := by
      intro fuel
      induction fuel with
      | zero => intro k S1  H locs ls hm; exact absurd hm (Nat.not_lt_zero _)
      | succ fuel hL_28 =>
        intro k S1  H locs ls hm ik iA hPS_28 hP  hS hl
        have q0 := bare_ok hW k ik
        have q1 : bareP P k 23 0 = P 23 0 := by rw [q0.2.1 23 (by decide)]
        refine z_iload_n C dX6_wasted_28 hl 2 rfl ?_
        refine z_aload_n C dX6_wasted_29 hl 0 rfl ?_
        refine m_geta C hK hP 23 (by decide) q1772 rfl (by decide) dX6_wasted_30 ?_
        refine z_iconst C dX6_wasted_33 ?_
        refine m_iald C hK hP 23 (by decide) rfl (by have h9 : mlen 23 = 5 := rfl; omega) (pe hPS_28 rfl) dX6_wasted_34 (fun r_34 => ?_)
        refine z_icmp_ge C 50 dX6_wasted_35 (by decide) (by omega) (by omega) (fun c_35 => ?_) (fun c_35 => ?_)
        · refine z_lload_n C dX6_wasted_50 hl 1 rfl ?_
          refine z_aload_n C dX6_wasted_51 hl 0 rfl ?_
          refine z_iconst C dX6_wasted_52 ?_
          refine m_ml C vX6_398 (mcX6_allNow l g h ad _ _ hPS_28 _ q0.1 (by omega)) hS hl ⟨Nat.le_of_ble_eq_true rfl, Nat.le_of_ble_eq_true rfl⟩ ⟨rfl, rfl⟩ hK hP (fun _ h9 => h9) rfl rfl (Nat.le_of_ble_eq_true rfl) dX6_wasted_53 ⟨Nat.zero_le _, Nat.zero_le _⟩ (fun v_53 S_53 H locs pS_53 hP hS => ?_)
          obtain ⟨e_53, pS_53⟩ := pS_53
          subst e_53
          have hS_53 : per S_53 = _ := (pS_53.pr rfl hPS_28)
          refine z_lsub C dX6_wasted_56 ?_
          refine z_lstore_n C dX6_wasted_57 rfl hl (by decide) rfl (fun ls hl => ?_)
          have hl : lv_has ls 5 [(3, _), (0, _), (1, _)] := hl
          refine z_aload_n C dX6_wasted_58 hl 1 rfl ?_
          refine m_mv C vX6_441 (mcX6_takesBack l g h ad _ _ hS_53 P hW q0.2 (fun b hb => by rw [pS_53 40 (by decide)]; exact iA b hb)) hS hl ⟨Nat.le_of_ble_eq_true rfl, Nat.le_of_ble_eq_true rfl⟩ ⟨rfl, rfl⟩ hK hP (fun _ h9 => h9) rfl rfl (Nat.le_of_ble_eq_true rfl) dX6_wasted_59 ⟨Nat.zero_le _, Nat.zero_le _⟩ (fun S_59 H locs pS_59 hP hS => ?_)
          obtain ⟨hS_59, pS_59⟩ := pS_59
          refine z_lload_n C dX6_wasted_62 hl 0 rfl ?_
          exact m_mret_l C hQ hret hlk hS hP ⟨by rw [aWasted, if_pos (by assumption), show (P 23 0).toNat = k by omega], hS_59⟩ dX6_wasted_63
        · refine z_aload_n C dX6_wasted_38 hl 0 rfl ?_
          refine z_iload_n C dX6_wasted_39 hl 2 rfl ?_
          refine z_iconst C dX6_wasted_40 ?_
          refine m_mv C vX6_411 (mcX6_hasOption l g h ad _ _ hPS_28 _ _ (by omega) (by omega)) hS hl ⟨Nat.le_of_ble_eq_true rfl, Nat.le_of_ble_eq_true rfl⟩ ⟨rfl, rfl⟩ hK hP (fun _ h9 => h9) rfl rfl (Nat.le_of_ble_eq_true rfl) dX6_wasted_41 ⟨Nat.zero_le _, Nat.zero_le _⟩ (fun S_41 H locs pS_41 hP hS => ?_)
          obtain ⟨hS_41, pS_41⟩ := pS_41
          refine z_iinc C dX6_wasted_44 hl (by decide) 2 rfl rfl (fun ls hl => ?_)
          have hl : lv_has ls 5 [(3, _), (0, _), (1, _)] := hl
          refine z_goto C 28 dX6_wasted_47 (by decide) ?_
          exact hL_28 (k + 1) _ _ _ ls (by omega) (by omega) (fun b hb => by rw [pS_41 40 (by decide)]; exact iA b hb) hS_41 hP hS (lv_sub hl [1, 2, 0] rfl)
    exact hL_28 _ 0 _ _ _ ls (Nat.lt_succ_self _) (by omega) pS_23.2 hS_23 hP hS (lv_sub hl [2, 1, 0] rfl)
  · replace c_9 := z01_f c_9
    refine z_ldc2 (v := -1000000000000) C q2321 dX6_wasted_12 rfl ?_
    exact m_mret_l C hQ hret hlk hS hP ⟨(if_neg (by assumption)).symm, hS_2⟩ dX6_wasted_15
theorem mcX6_laysGrowth (l : Launch) (g : mG) (h : Nat) (ad : Nat → Nat) (P S : zS) (hPS : per S = P) (b o : Int) (hW : WfR P 0) (hb : 0 ≤ b ∧ b < P 23 0) (ho : 0 ≤ o ∧ o < nO P) : mMV l g h ad yX6_laysGrowth cX6_laysGrowth 5 (k2_rm 5 119) [.int (iZ b), .int (iZ o)] S (fun S1 => (∀ k : Nat, k < (P 23 0).toNat → S1 42 (k : Int) = growF P b o k) ∧ Fr [33, 34, 35, 36, 37, 38, 42] S S1) := by
  refine z_start (own := RX6) (by decide) rfl (Nat.le_of_ble_eq_true rfl) ?_
  intro prg env s mid blw mth cod ls Q C hQ hret hlk hnm hK hH hl
  have hP : MP g h ad S s.heap := hH
  have hS : va_S (MA h ad) s.heap s.heap [] := va_S.rf
  have hl : lv_has ls 5 [(0, .ref h), (1, .int (iZ b)), (2, .int (iZ o))] := hl
  have w1 := hW.bikes
  have w7 := nO_in hW
  have w2 := hW.bike hb
  have w3 := optOf_in hW hb
  have w4 := optP_wf hW hb ho
  have w9 : optP P b o 23 0 = P 23 0 := by rw [optP_k _ _ _ (by decide)]
  refine z_aload_n C dX6_laysGrowth_0 hl 0 rfl ?_
  refine m_mv C vX6_362 (mcX6_night l g h ad _ _ hPS (by assumption)) hS hl ⟨Nat.le_of_ble_eq_true rfl, Nat.le_of_ble_eq_true rfl⟩ ⟨rfl, rfl⟩ hK hP (fun _ h9 => h9) rfl rfl (Nat.le_of_ble_eq_true rfl) dX6_laysGrowth_1 ⟨Nat.zero_le _, Nat.zero_le _⟩ (fun S_1 H locs pS_1 hP hS => ?_)
  have hS_1 : per S_1 = P := (pS_1.1.pr rfl hPS)
  refine z_iconst C dX6_laysGrowth_4 ?_
  refine z_istore_n C dX6_laysGrowth_5 rfl hl (by decide) rfl (fun ls hl => ?_)
  have hl : lv_has ls 5 [(3, _), (0, _), (1, _), (2, _)] := hl
  have hL_6 : ∀ (fuel : Nat) (k : Nat) (S1 : zS) (H : Heap) (locs : List Loc) (ls : Array Slot), (P 23 0).toNat - k < fuel → ((k : Int) ≤ P 23 0) → (Fr [33, 34, 35, 36, 37, 38, 42] S S1) → (NightIs P S1) → (∀ s : Nat, s < k → S1 42 (s : Int) = -risk P s) → per S1 = P → MP g h ad S1 H → va_S (MA h ad) s.heap H locs → lv_has ls 5 [(0, .ref h), (1, .int (iZ b)), (2, .int (iZ o)), (3, .int (iZ (k : Int)))] → W prg l env (k2_rm 5 119) s mid ([.ref h, .int (iZ b), .int (iZ o)] : List Value).toArray blw mth cod H locs 0 0 Q (F0 mid 6 ls []) := by
    intro fuel
    induction fuel with
    | zero => intro k S1  H locs ls hm; exact absurd hm (Nat.not_lt_zero _)
    | succ fuel hL_6 =>
      intro k S1  H locs ls hm ik iF iN iG hPS_6 hP  hS hl
      refine z_iload_n C dX6_laysGrowth_6 hl 3 rfl ?_
      refine z_aload_n C dX6_laysGrowth_7 hl 0 rfl ?_
      refine m_geta C hK hP 23 (by decide) q1772 rfl (by decide) dX6_laysGrowth_8 ?_
      refine z_iconst C dX6_laysGrowth_11 ?_
      refine m_iald C hK hP 23 (by decide) rfl (by have h9 : mlen 23 = 5 := rfl; omega) (pe hPS_6 rfl) dX6_laysGrowth_12 (fun r_12 => ?_)
      refine z_icmp_ge C 34 dX6_laysGrowth_13 (by decide) (by omega) (by omega) (fun c_13 => ?_) (fun c_13 => ?_)
      · refine z_aload_n C dX6_laysGrowth_34 hl 0 rfl ?_
        refine z_iload_n C dX6_laysGrowth_35 hl 1 rfl ?_
        refine m_pi C vX6_408 (mcX6_optionOf l g h ad _ _ hPS_6 _ (by omega)) hS hl ⟨Nat.le_of_ble_eq_true rfl, Nat.le_of_ble_eq_true rfl⟩ ⟨rfl, rfl⟩ hK hP rfl rfl (Nat.le_of_ble_eq_true rfl) dX6_laysGrowth_36 ⟨Nat.zero_le _, Nat.zero_le _⟩ (fun locs hS => ?_)
        refine z_istore_n C dX6_laysGrowth_39 rfl hl (by decide) rfl (fun ls hl => ?_)
        have hl : lv_has ls 5 [(3, _), (0, _), (1, _), (2, _)] := hl
        refine z_aload_n C dX6_laysGrowth_40 hl 1 rfl ?_
        refine z_iload_n C dX6_laysGrowth_41 hl 2 rfl ?_
        refine z_iload_n C dX6_laysGrowth_42 hl 3 rfl ?_
        refine m_mv C vX6_411 (mcX6_hasOption l g h ad _ _ hPS_6 _ _ (by omega) (by omega)) hS hl ⟨Nat.le_of_ble_eq_true rfl, Nat.le_of_ble_eq_true rfl⟩ ⟨rfl, rfl⟩ hK hP (fun _ h9 => h9) rfl rfl (Nat.le_of_ble_eq_true rfl) dX6_laysGrowth_43 ⟨Nat.zero_le _, Nat.zero_le _⟩ (fun S_43 H locs pS_43 hP hS => ?_)
        obtain ⟨hS_43, pS_43⟩ := pS_43
        refine z_aload_n C dX6_laysGrowth_46 hl 1 rfl ?_
        refine m_mv C vX6_362 (mcX6_night l g h ad _ _ hS_43 w4) hS hl ⟨Nat.le_of_ble_eq_true rfl, Nat.le_of_ble_eq_true rfl⟩ ⟨rfl, rfl⟩ hK hP (fun _ h9 => h9) rfl rfl (Nat.le_of_ble_eq_true rfl) dX6_laysGrowth_47 ⟨Nat.zero_le _, Nat.zero_le _⟩ (fun S_47 H locs pS_47 hP hS => ?_)
        have hS_47 : per S_47 = _ := (pS_47.1.pr rfl hS_43)
        refine z_iconst C dX6_laysGrowth_50 ?_
        refine z_istore C dX6_laysGrowth_51 hl (by decide) rfl (fun ls hl => ?_)
        have hl : lv_has ls 5 [(4, _), (3, _), (0, _), (1, _), (2, _)] := hl
        have hL_53 : ∀ (fuel : Nat) (k : Nat) (S2 : zS) (H : Heap) (locs : List Loc) (ls : Array Slot), (P 23 0).toNat - k < fuel → ((k : Int) ≤ P 23 0) → (Fr (24 :: [33, 34, 35, 36, 37, 38, 42]) S S2) → (NightIs (optP P b o) S2) → (∀ s : Nat, s < k → S2 42 (s : Int) = growF P b o s) → (∀ s : Nat, k ≤ s → s < (P 23 0).toNat → S2 42 (s : Int) = -risk P s) → per S2 = optP P b o → MP g h ad S2 H → va_S (MA h ad) s.heap H locs → lv_has ls 5 [(0, .ref h), (1, .int (iZ b)), (2, .int (iZ o)), (3, .int (iZ (optOf P b))), (4, .int (iZ (k : Int)))] → W prg l env (k2_rm 5 119) s mid ([.ref h, .int (iZ b), .int (iZ o)] : List Value).toArray blw mth cod H locs 0 0 Q (F0 mid 53 ls []) := by
          intro fuel
          induction fuel with
          | zero => intro k S2  H locs ls hm; exact absurd hm (Nat.not_lt_zero _)
          | succ fuel hL_53 =>
            intro k S2  H locs ls hm jk jF jN jG jH hPS_53 hP  hS hl
            refine z_iload C dX6_laysGrowth_53 hl 4 rfl ?_
            refine z_aload_n C dX6_laysGrowth_55 hl 0 rfl ?_
            refine m_geta C hK hP 23 (by decide) q1772 rfl (by decide) dX6_laysGrowth_56 ?_
            refine z_iconst C dX6_laysGrowth_59 ?_
            refine m_iald C hK hP 23 (by decide) rfl (by have h9 : mlen 23 = 5 := rfl; omega) (pe hPS_53 rfl) dX6_laysGrowth_60 (fun r_60 => ?_)
            refine z_icmp_ge C 86 dX6_laysGrowth_61 (by decide) (by omega) (by omega) (fun c_61 => ?_) (fun c_61 => ?_)
            · rw [w9] at c_61
              refine z_aload_n C dX6_laysGrowth_86 hl 0 rfl ?_
              refine z_iload_n C dX6_laysGrowth_87 hl 1 rfl ?_
              refine z_iload_n C dX6_laysGrowth_88 hl 3 rfl ?_
              refine m_mv C vX6_411 (mcX6_hasOption l g h ad _ _ hPS_53 _ _ (by omega) (by omega)) hS hl ⟨Nat.le_of_ble_eq_true rfl, Nat.le_of_ble_eq_true rfl⟩ ⟨rfl, rfl⟩ hK hP (fun _ h9 => h9) rfl rfl (Nat.le_of_ble_eq_true rfl) dX6_laysGrowth_89 ⟨Nat.zero_le _, Nat.zero_le _⟩ (fun S_89 H locs pS_89 hP hS => ?_)
              obtain ⟨hS_89, pS_89⟩ := pS_89
              exact m_mret_v C hQ hret hlk hS hP ⟨fun s hs => by rw [pS_89 42 (by decide)]; exact jG s (by omega), Fr.back (q := 24) ((jF.le (by decide)).tr (pS_89.le (by decide))) rfl hPS (by rw [hS_89, optP_back b o w2.2.2.2.2])⟩ dX6_laysGrowth_92
            · rw [w9] at c_61
              have q2 := jH k (Nat.le_refl _) (by omega)
              have q3 := risk_in hW (k : Int)
              have q4 := risk_in w4 (k : Int)
              refine z_aload_n C dX6_laysGrowth_64 hl 0 rfl ?_
              refine m_geta C hK hP 42 (by decide) q1791 rfl (by decide) dX6_laysGrowth_65 ?_
              refine z_iload C dX6_laysGrowth_68 hl 4 rfl ?_
              refine z_dup2_11 C dX6_laysGrowth_70 rfl rfl ?_
              refine m_lald C hK hP 42 (by decide) rfl (by have h9 : mlen 42 = 10 := rfl; omega) rfl dX6_laysGrowth_71 (fun r_71 => ?_)
              refine z_aload_n C dX6_laysGrowth_72 hl 0 rfl ?_
              refine z_iload C dX6_laysGrowth_73 hl 4 rfl ?_
              refine m_pl C vX6_368 (mcX6_riskOf l g h ad _ _ hPS_53 _ w4 jN ⟨by omega, by rw [w9]; omega⟩) hS hl ⟨Nat.le_of_ble_eq_true rfl, Nat.le_of_ble_eq_true rfl⟩ ⟨rfl, rfl⟩ hK hP rfl rfl (Nat.le_of_ble_eq_true rfl) dX6_laysGrowth_75 ⟨Nat.zero_le _, Nat.zero_le _⟩ (fun locs hS => ?_)
              refine z_ladd C dX6_laysGrowth_78 ?_
              refine m_last C hK hP hS 42 (by decide) rfl (by have h9 : mlen 42 = 10 := rfl; omega) (by omega) dX6_laysGrowth_79 (fun S_79 eS_79 H locs hP hS => ?_)
              have hS_79 := per_s rfl hPS_53 eS_79
              refine z_iinc C dX6_laysGrowth_80 hl (by decide) 4 rfl rfl (fun ls hl => ?_)
              have hl : lv_has ls 5 [(4, _), (0, _), (1, _), (2, _), (3, _)] := hl
              refine z_goto C 53 dX6_laysGrowth_83 (by decide) ?_
              exact hL_53 (k + 1) _ _ _ ls (by omega) (by omega) (Fr.up jF eS_79 (by decide)) (NightIs.mv jN (Fr.up Fr.rf eS_79 (by decide : 42 ∈ [42])) (by decide) (by decide)) (zfill jG eS_79 (by rw [q2]; unfold growF; omega)) (fun s h1 h2 => by rw [eS_79, zup_n _ _ _ _ (by omega)]; exact jH s (by omega) h2) hS_79 hP hS (lv_sub hl [1, 2, 3, 4, 0] rfl)
        exact hL_53 _ 0 _ _ _ ls (Nat.lt_succ_self _) (by omega) (((iF.le (by decide)).tr (pS_43.le (by decide))).tr (pS_47.1.le (by decide))) pS_47.2 (fun s hs => absurd hs (Nat.not_lt_zero _)) (fun s h1 h2 => by rw [pS_47.1 42 (by decide), pS_43 42 (by decide)]; exact iG s (by omega)) hS_47 hP hS (lv_sub hl [2, 3, 4, 1, 0] rfl)
      · refine z_aload_n C dX6_laysGrowth_16 hl 0 rfl ?_
        refine m_geta C hK hP 42 (by decide) q1791 rfl (by decide) dX6_laysGrowth_17 ?_
        refine z_iload_n C dX6_laysGrowth_20 hl 3 rfl ?_
        refine z_aload_n C dX6_laysGrowth_21 hl 0 rfl ?_
        refine z_iload_n C dX6_laysGrowth_22 hl 3 rfl ?_
        refine m_pl C vX6_368 (mcX6_riskOf l g h ad _ _ hPS_6 _ (by assumption) iN ⟨by omega, by omega⟩) hS hl ⟨Nat.le_of_ble_eq_true rfl, Nat.le_of_ble_eq_true rfl⟩ ⟨rfl, rfl⟩ hK hP rfl rfl (Nat.le_of_ble_eq_true rfl) dX6_laysGrowth_23 ⟨Nat.zero_le _, Nat.zero_le _⟩ (fun locs hS => ?_)
        have q1 := risk_in hW (k : Int)
        refine z_lneg C dX6_laysGrowth_26 ?_
        refine m_last C hK hP hS 42 (by decide) rfl (by have h9 : mlen 42 = 10 := rfl; omega) (by omega) dX6_laysGrowth_27 (fun S_27 eS_27 H locs hP hS => ?_)
        have hS_27 := per_s rfl hPS_6 eS_27
        refine z_iinc C dX6_laysGrowth_28 hl (by decide) 3 rfl rfl (fun ls hl => ?_)
        have hl : lv_has ls 5 [(3, _), (0, _), (1, _), (2, _)] := hl
        refine z_goto C 6 dX6_laysGrowth_31 (by decide) ?_
        exact hL_6 (k + 1) _ _ _ ls (by omega) (by omega) (Fr.up iF eS_27 (by decide)) (NightIs.mv iN (Fr.up Fr.rf eS_27 (by decide : 42 ∈ [42])) (by decide) (by decide)) (zfill iG eS_27 rfl) hS_27 hP hS (lv_sub hl [1, 2, 3, 0] rfl)
  exact hL_6 _ 0 _ _ _ ls (Nat.lt_succ_self _) (by omega) (pS_1.1.le (by decide)) pS_1.2 (fun s hs => absurd hs (Nat.not_lt_zero _)) hS_1 hP hS (lv_sub hl [1, 2, 3, 0] rfl)
theorem mcX6_beside (l : Launch) (g : mG) (h : Nat) (ad : Nat → Nat) (P S : zS) (hPS : per S = P) (b o d : Int) (hW : WfR P 0) (hib : I32 b) (hio : I32 o) (hid : I32 d) : mML l g h ad yX6_beside cX6_beside 4 (k2_rm 6 143) [.int (iZ b), .int (iZ o), .int (iZ d)] S (fun z1 S1 => z1 = aBeside P b o d ∧ per S1 = P) := by
  refine z_start (own := RX6) (by decide) rfl (Nat.le_of_ble_eq_true rfl) ?_
  intro prg env s mid blw mth cod ls Q C hQ hret hlk hnm hK hH hl
  have hP : MP g h ad S s.heap := hH
  have hS : va_S (MA h ad) s.heap s.heap [] := va_S.rf
  have hl : lv_has ls 4 [(0, .ref h), (1, .int (iZ b)), (2, .int (iZ o)), (3, .int (iZ d))] := hl
  have w1 := hW.bikes
  have w7 := nO_in hW
  refine z_aload_n C dX6_beside_0 hl 0 rfl ?_
  refine z_iconst C dX6_beside_1 ?_
  refine m_puti C hK hP hS 0 (by decide) q1749 rfl rfl (by omega) dX6_beside_2 (fun S_2 eS_2 H locs hP hS => ?_)
  have hS_2 := per_s rfl hPS eS_2
  refine z_aload_n C dX6_beside_5 hl 0 rfl ?_
  refine z_iload_n C dX6_beside_6 hl 1 rfl ?_
  refine z_iload_n C dX6_beside_7 hl 3 rfl ?_
  refine m_pi C vX6_452 (mcX6_areTwo l g h ad _ _ hS_2 _ _ (by assumption) (by omega) (by omega)) hS hl ⟨Nat.le_of_ble_eq_true rfl, Nat.le_of_ble_eq_true rfl⟩ ⟨rfl, rfl⟩ hK hP rfl rfl (Nat.le_of_ble_eq_true rfl) dX6_beside_8 ⟨Nat.zero_le _, Nat.zero_le _⟩ (fun locs hS => ?_)
  refine z_if_eq C 22 dX6_beside_11 (by decide) z01_in (fun c_11 => ?_) (fun c_11 => ?_)
  · replace c_11 := z01_f c_11
    refine z_ldc2 (v := -1000000000000) C q2321 dX6_beside_22 rfl ?_
    exact m_mret_l C hQ hret hlk hS hP ⟨(if_neg (by omega)).symm, hS_2⟩ dX6_beside_25
  · replace c_11 := z01_t c_11
    refine z_aload_n C dX6_beside_14 hl 0 rfl ?_
    refine z_iload_n C dX6_beside_15 hl 2 rfl ?_
    refine m_pi C vX6_405 (mcX6_isOption l g h ad _ _ hS_2 _ (by assumption) (by omega)) hS hl ⟨Nat.le_of_ble_eq_true rfl, Nat.le_of_ble_eq_true rfl⟩ ⟨rfl, rfl⟩ hK hP rfl rfl (Nat.le_of_ble_eq_true rfl) dX6_beside_16 ⟨Nat.zero_le _, Nat.zero_le _⟩ (fun locs hS => ?_)
    refine z_if_ne C 26 dX6_beside_19 (by decide) z01_in (fun c_19 => ?_) (fun c_19 => ?_)
    · replace c_19 := z01_t c_19
      refine z_aload_n C dX6_beside_26 hl 0 rfl ?_
      refine z_iload_n C dX6_beside_27 hl 1 rfl ?_
      refine z_iload_n C dX6_beside_28 hl 2 rfl ?_
      refine m_mv C vX6_458 (mcX6_laysGrowth l g h ad _ _ hS_2 _ _ (by assumption) (by omega) (by omega)) hS hl ⟨Nat.le_of_ble_eq_true rfl, Nat.le_of_ble_eq_true rfl⟩ ⟨rfl, rfl⟩ hK hP (fun _ h9 => h9) rfl rfl (Nat.le_of_ble_eq_true rfl) dX6_beside_29 ⟨Nat.zero_le _, Nat.zero_le _⟩ (fun S_29 H locs pS_29 hP hS => ?_)
      have hS_29 : per S_29 = P := (pS_29.2.pr rfl hS_2)
      refine z_aload_n C dX6_beside_32 hl 0 rfl ?_
      refine m_geta C hK hP 42 (by decide) q1791 rfl (by decide) dX6_beside_33 ?_
      refine z_iload_n C dX6_beside_36 hl 3 rfl ?_
      refine m_lald C hK hP 42 (by decide) rfl (by have h9 : mlen 42 = 10 := rfl; omega) rfl dX6_beside_37 (fun r_37 => ?_)
      exact m_mret_l C hQ hret hlk hS hP ⟨by rw [aBeside, if_pos ⟨c_11, c_19⟩, show d = ((d.toNat : Nat) : Int) by omega]; exact pS_29.1 d.toNat (by omega), hS_29⟩ dX6_beside_38
    · replace c_19 := z01_f c_19
      refine z_ldc2 (v := -1000000000000) C q2321 dX6_beside_22 rfl ?_
      exact m_mret_l C hQ hret hlk hS hP ⟨(if_neg (by omega)).symm, hS_2⟩ dX6_beside_25
theorem mcX6_worse (l : Launch) (g : mG) (h : Nat) (ad : Nat → Nat) (P S : zS) (hPS : per S = P) (b o : Int) (hW : WfR P 0) (hib : I32 b) (hio : I32 o) : mMI l g h ad yX6_worse cX6_worse 5 .int (k2_rm 6 143) [.int (iZ b), .int (iZ o)] S (fun z1 S1 => z1 = aWorse P b o ∧ per S1 = P) := by
  refine z_start (own := RX6) (by decide) rfl (Nat.le_of_ble_eq_true rfl) ?_
  intro prg env s mid blw mth cod ls Q C hQ hret hlk hnm hK hH hl
  have hP : MP g h ad S s.heap := hH
  have hS : va_S (MA h ad) s.heap s.heap [] := va_S.rf
  have hl : lv_has ls 5 [(0, .ref h), (1, .int (iZ b)), (2, .int (iZ o))] := hl
  have w1 := hW.bikes
  have w7 := nO_in hW
  refine z_aload_n C dX6_worse_0 hl 0 rfl ?_
  refine z_iconst C dX6_worse_1 ?_
  refine m_puti C hK hP hS 0 (by decide) q1749 rfl rfl (by omega) dX6_worse_2 (fun S_2 eS_2 H locs hP hS => ?_)
  have hS_2 := per_s rfl hPS eS_2
  refine z_aload_n C dX6_worse_5 hl 0 rfl ?_
  refine z_iload_n C dX6_worse_6 hl 1 rfl ?_
  refine m_pi C vX6_318 (mcX6_isBike l g h ad _ _ hS_2 _ (by assumption) (by omega)) hS hl ⟨Nat.le_of_ble_eq_true rfl, Nat.le_of_ble_eq_true rfl⟩ ⟨rfl, rfl⟩ hK hP rfl rfl (Nat.le_of_ble_eq_true rfl) dX6_worse_7 ⟨Nat.zero_le _, Nat.zero_le _⟩ (fun locs hS => ?_)
  refine z_if_eq C 21 dX6_worse_10 (by decide) z01_in (fun c_10 => ?_) (fun c_10 => ?_)
  · replace c_10 := z01_f c_10
    refine z_bipush C dX6_worse_21 rfl ?_
    exact m_mret_i C hQ hret hlk hS hP ⟨(if_neg (by omega)).symm, hS_2⟩ dX6_worse_23
  · replace c_10 := z01_t c_10
    refine z_aload_n C dX6_worse_13 hl 0 rfl ?_
    refine z_iload_n C dX6_worse_14 hl 2 rfl ?_
    refine m_pi C vX6_405 (mcX6_isOption l g h ad _ _ hS_2 _ (by assumption) (by omega)) hS hl ⟨Nat.le_of_ble_eq_true rfl, Nat.le_of_ble_eq_true rfl⟩ ⟨rfl, rfl⟩ hK hP rfl rfl (Nat.le_of_ble_eq_true rfl) dX6_worse_15 ⟨Nat.zero_le _, Nat.zero_le _⟩ (fun locs hS => ?_)
    refine z_if_ne C 24 dX6_worse_18 (by decide) z01_in (fun c_18 => ?_) (fun c_18 => ?_)
    · replace c_18 := z01_t c_18
      refine z_aload_n C dX6_worse_24 hl 0 rfl ?_
      refine z_iload_n C dX6_worse_25 hl 1 rfl ?_
      refine z_iload_n C dX6_worse_26 hl 2 rfl ?_
      refine m_mv C vX6_458 (mcX6_laysGrowth l g h ad _ _ hS_2 _ _ (by assumption) (by omega) (by omega)) hS hl ⟨Nat.le_of_ble_eq_true rfl, Nat.le_of_ble_eq_true rfl⟩ ⟨rfl, rfl⟩ hK hP (fun _ h9 => h9) rfl rfl (Nat.le_of_ble_eq_true rfl) dX6_worse_27 ⟨Nat.zero_le _, Nat.zero_le _⟩ (fun S_27 H locs pS_27 hP hS => ?_)
      have hS_27 : per S_27 = P := (pS_27.2.pr rfl hS_2)
      refine z_iconst C dX6_worse_30 ?_
      refine z_istore_n C dX6_worse_31 rfl hl (by decide) rfl (fun ls hl => ?_)
      have hl : lv_has ls 5 [(3, _), (0, _), (1, _), (2, _)] := hl
      refine z_iconst C dX6_worse_32 ?_
      refine z_istore C dX6_worse_33 hl (by decide) rfl (fun ls hl => ?_)
      have hl : lv_has ls 5 [(4, _), (3, _), (0, _), (1, _), (2, _)] := hl
      have hL_35 : ∀ (fuel : Nat) (k : Nat) (n : Int) (H : Heap) (locs : List Loc) (ls : Array Slot), (P 23 0).toNat - k < fuel → ((k : Int) ≤ P 23 0) → (n = worseTo P b o k) → MP g h ad S_27 H → va_S (MA h ad) s.heap H locs → lv_has ls 5 [(0, .ref h), (1, .int (iZ b)), (2, .int (iZ o)), (3, .int (iZ n)), (4, .int (iZ (k : Int)))] → W prg l env (k2_rm 6 143) s mid ([.ref h, .int (iZ b), .int (iZ o)] : List Value).toArray blw mth cod H locs 0 0 Q (F0 mid 35 ls []) := by
        intro fuel
        induction fuel with
        | zero => intro k n  H locs ls hm; exact absurd hm (Nat.not_lt_zero _)
        | succ fuel hL_35 =>
          intro k n  H locs ls hm ik iN hP  hS hl
          refine z_iload C dX6_worse_35 hl 4 rfl ?_
          refine z_aload_n C dX6_worse_37 hl 0 rfl ?_
          refine m_geta C hK hP 23 (by decide) q1772 rfl (by decide) dX6_worse_38 ?_
          refine z_iconst C dX6_worse_41 ?_
          refine m_iald C hK hP 23 (by decide) rfl (by have h9 : mlen 23 = 5 := rfl; omega) (pe hS_27 rfl) dX6_worse_42 (fun r_42 => ?_)
          refine z_icmp_ge C 78 dX6_worse_43 (by decide) (by omega) (by omega) (fun c_43 => ?_) (fun c_43 => ?_)
          · refine z_iload_n C dX6_worse_78 hl 3 rfl ?_
            exact m_mret_i C hQ hret hlk hS hP ⟨by rw [aWorse, if_pos ⟨c_10, c_18⟩, iN, show (P 23 0).toNat = k by omega], hS_27⟩ dX6_worse_79
          · refine z_iload_n C dX6_worse_46 hl 3 rfl ?_
            refine z_iload C dX6_worse_47 hl 4 rfl ?_
            refine z_iload_n C dX6_worse_49 hl 1 rfl ?_
            refine z_icmp_eq C 69 dX6_worse_50 (by decide) (by omega) (by omega) (fun c_50 => ?_) (fun c_50 => ?_)
            · refine z_iconst C dX6_worse_69 ?_
              refine z_iadd C dX6_worse_70 ?_
              refine z_istore_n C dX6_worse_71 rfl hl (by decide) rfl (fun ls hl => ?_)
              have hl : lv_has ls 5 [(3, _), (0, _), (1, _), (2, _), (4, _)] := hl
              refine z_iinc C dX6_worse_72 hl (by decide) 4 rfl rfl (fun ls hl => ?_)
              have hl : lv_has ls 5 [(4, _), (3, _), (0, _), (1, _), (2, _)] := hl
              refine z_goto C 35 dX6_worse_75 (by decide) ?_
              exact hL_35 (k + 1) _ _ _ ls (by omega) (by omega) (by rw [worseTo, zsm_s, if_neg (by omega), iN]; rfl) hP hS (lv_sub hl [2, 3, 4, 1, 0] rfl)
            · have q1 := pS_27.1 k (by omega)
              refine z_aload_n C dX6_worse_53 hl 0 rfl ?_
              refine m_geta C hK hP 42 (by decide) q1791 rfl (by decide) dX6_worse_54 ?_
              refine z_iload C dX6_worse_57 hl 4 rfl ?_
              refine m_lald C hK hP 42 (by decide) rfl (by have h9 : mlen 42 = 10 := rfl; omega) rfl dX6_worse_59 (fun r_59 => ?_)
              refine z_lconst (v := 0) C dX6_worse_60 rfl ?_
              refine z_lcmp_le C 69 dX6_worse_61 dX6_worse_62 (by decide) (by omega) (by omega) (fun c_61 => ?_) (fun c_61 => ?_)
              · refine z_iconst C dX6_worse_69 ?_
                refine z_iadd C dX6_worse_70 ?_
                refine z_istore_n C dX6_worse_71 rfl hl (by decide) rfl (fun ls hl => ?_)
                have hl : lv_has ls 5 [(3, _), (0, _), (1, _), (2, _), (4, _)] := hl
                refine z_iinc C dX6_worse_72 hl (by decide) 4 rfl rfl (fun ls hl => ?_)
                have hl : lv_has ls 5 [(4, _), (3, _), (0, _), (1, _), (2, _)] := hl
                refine z_goto C 35 dX6_worse_75 (by decide) ?_
                exact hL_35 (k + 1) _ _ _ ls (by omega) (by omega) (by rw [worseTo, zsm_s, if_neg (by omega), iN]; rfl) hP hS (lv_sub hl [2, 3, 4, 1, 0] rfl)
              · refine z_iconst C dX6_worse_65 ?_
                refine z_goto C 70 dX6_worse_66 (by decide) ?_
                refine z_iadd C dX6_worse_70 ?_
                refine z_istore_n C dX6_worse_71 rfl hl (by decide) rfl (fun ls hl => ?_)
                have hl : lv_has ls 5 [(3, _), (0, _), (1, _), (2, _), (4, _)] := hl
                refine z_iinc C dX6_worse_72 hl (by decide) 4 rfl rfl (fun ls hl => ?_)
                have hl : lv_has ls 5 [(4, _), (3, _), (0, _), (1, _), (2, _)] := hl
                refine z_goto C 35 dX6_worse_75 (by decide) ?_
                exact hL_35 (k + 1) _ _ _ ls (by omega) (by omega) (by rw [worseTo, zsm_s, if_pos (by omega), iN]; rfl) hP hS (lv_sub hl [2, 3, 4, 1, 0] rfl)
      exact hL_35 _ 0 0 _ _ ls (Nat.lt_succ_self _) (by omega) rfl hP hS (lv_sub hl [2, 3, 4, 1, 0] rfl)
    · replace c_18 := z01_f c_18
      refine z_bipush C dX6_worse_21 rfl ?_
      exact m_mret_i C hQ hret hlk hS hP ⟨(if_neg (by omega)).symm, hS_2⟩ dX6_worse_23
theorem mcX6_next_2 (l : Launch) (g : mG) (h : Nat) (ad : Nat → Nat) (P S : zS) (hPS : per S = P) (b o : Int) (hW : WfR P 0) (hib : I32 b) (hio : I32 o) : mMI l g h ad yX6_next_2 cX6_next_2 7 .int (k2_rm 6 143) [.int (iZ b), .int (iZ o)] S (fun z1 S1 => z1 = aNext P b o ∧ per S1 = P) := by
  refine z_start (own := RX6) (by decide) rfl (Nat.le_of_ble_eq_true rfl) ?_
  intro prg env s mid blw mth cod ls Q C hQ hret hlk hnm hK hH hl
  have hP : MP g h ad S s.heap := hH
  have hS : va_S (MA h ad) s.heap s.heap [] := va_S.rf
  have hl : lv_has ls 7 [(0, .ref h), (1, .int (iZ b)), (2, .int (iZ o))] := hl
  have w1 := hW.bikes
  have w7 := nO_in hW
  refine z_aload_n C dX6_next_2_0 hl 0 rfl ?_
  refine z_iconst C dX6_next_2_1 ?_
  refine m_puti C hK hP hS 0 (by decide) q1749 rfl rfl (by omega) dX6_next_2_2 (fun S_2 eS_2 H locs hP hS => ?_)
  have hS_2 := per_s rfl hPS eS_2
  refine z_aload_n C dX6_next_2_5 hl 0 rfl ?_
  refine z_iload_n C dX6_next_2_6 hl 1 rfl ?_
  refine m_pi C vX6_318 (mcX6_isBike l g h ad _ _ hS_2 _ (by assumption) (by omega)) hS hl ⟨Nat.le_of_ble_eq_true rfl, Nat.le_of_ble_eq_true rfl⟩ ⟨rfl, rfl⟩ hK hP rfl rfl (Nat.le_of_ble_eq_true rfl) dX6_next_2_7 ⟨Nat.zero_le _, Nat.zero_le _⟩ (fun locs hS => ?_)
  refine z_if_eq C 21 dX6_next_2_10 (by decide) z01_in (fun c_10 => ?_) (fun c_10 => ?_)
  · replace c_10 := z01_f c_10
    refine z_bipush C dX6_next_2_21 rfl ?_
    exact m_mret_i C hQ hret hlk hS hP ⟨(if_neg (by omega)).symm, hS_2⟩ dX6_next_2_23
  · replace c_10 := z01_t c_10
    refine z_aload_n C dX6_next_2_13 hl 0 rfl ?_
    refine z_iload_n C dX6_next_2_14 hl 2 rfl ?_
    refine m_pi C vX6_405 (mcX6_isOption l g h ad _ _ hS_2 _ (by assumption) (by omega)) hS hl ⟨Nat.le_of_ble_eq_true rfl, Nat.le_of_ble_eq_true rfl⟩ ⟨rfl, rfl⟩ hK hP rfl rfl (Nat.le_of_ble_eq_true rfl) dX6_next_2_15 ⟨Nat.zero_le _, Nat.zero_le _⟩ (fun locs hS => ?_)
    refine z_if_ne C 24 dX6_next_2_18 (by decide) z01_in (fun c_18 => ?_) (fun c_18 => ?_)
    · replace c_18 := z01_t c_18
      refine z_aload_n C dX6_next_2_24 hl 0 rfl ?_
      refine z_iload_n C dX6_next_2_25 hl 1 rfl ?_
      refine z_iload_n C dX6_next_2_26 hl 2 rfl ?_
      refine m_mv C vX6_458 (mcX6_laysGrowth l g h ad _ _ hS_2 _ _ (by assumption) (by omega) (by omega)) hS hl ⟨Nat.le_of_ble_eq_true rfl, Nat.le_of_ble_eq_true rfl⟩ ⟨rfl, rfl⟩ hK hP (fun _ h9 => h9) rfl rfl (Nat.le_of_ble_eq_true rfl) dX6_next_2_27 ⟨Nat.zero_le _, Nat.zero_le _⟩ (fun S_27 H locs pS_27 hP hS => ?_)
      have hS_27 : per S_27 = P := (pS_27.2.pr rfl hS_2)
      refine z_iconst C dX6_next_2_30 ?_
      refine z_istore_n C dX6_next_2_31 rfl hl (by decide) rfl (fun ls hl => ?_)
      have hl : lv_has ls 7 [(3, _), (0, _), (1, _), (2, _)] := hl
      refine z_lconst (v := 0) C dX6_next_2_32 rfl ?_
      refine z_lstore C dX6_next_2_33 hl (by decide) rfl (fun ls hl => ?_)
      have hl : lv_has ls 7 [(4, _), (3, _), (0, _), (1, _), (2, _)] := hl
      refine z_iconst C dX6_next_2_35 ?_
      refine z_istore C dX6_next_2_36 hl (by decide) rfl (fun ls hl => ?_)
      have hl : lv_has ls 7 [(6, _), (4, _), (3, _), (0, _), (1, _), (2, _)] := hl
      have hL_38 : ∀ (fuel : Nat) (k : Nat) (st : Int × Int) (H : Heap) (locs : List Loc) (ls : Array Slot), (P 23 0).toNat - k < fuel → ((k : Int) ≤ P 23 0) → (st = nxF (growF P b o) b k) → (I64 st.2) → MP g h ad S_27 H → va_S (MA h ad) s.heap H locs → lv_has ls 7 [(0, .ref h), (1, .int (iZ b)), (2, .int (iZ o)), (3, .int (iZ st.1)), (4, .long (lZ st.2)), (6, .int (iZ (k : Int)))] → W prg l env (k2_rm 6 143) s mid ([.ref h, .int (iZ b), .int (iZ o)] : List Value).toArray blw mth cod H locs 0 0 Q (F0 mid 38 ls []) := by
        intro fuel
        induction fuel with
        | zero => intro k st  H locs ls hm; exact absurd hm (Nat.not_lt_zero _)
        | succ fuel hL_38 =>
          intro k st  H locs ls hm ik iN iR hP  hS hl
          refine z_iload C dX6_next_2_38 hl 5 rfl ?_
          refine z_aload_n C dX6_next_2_40 hl 0 rfl ?_
          refine m_geta C hK hP 23 (by decide) q1772 rfl (by decide) dX6_next_2_41 ?_
          refine z_iconst C dX6_next_2_44 ?_
          refine m_iald C hK hP 23 (by decide) rfl (by have h9 : mlen 23 = 5 := rfl; omega) (pe hS_27 rfl) dX6_next_2_45 (fun r_45 => ?_)
          refine z_icmp_ge C 89 dX6_next_2_46 (by decide) (by omega) (by omega) (fun c_46 => ?_) (fun c_46 => ?_)
          · refine z_iload_n C dX6_next_2_89 hl 3 rfl ?_
            exact m_mret_i C hQ hret hlk hS hP ⟨by rw [aNext, if_pos ⟨c_10, c_18⟩, iN, show (P 23 0).toNat = k by omega], hS_27⟩ dX6_next_2_90
          · refine z_iload C dX6_next_2_49 hl 5 rfl ?_
            refine z_iload_n C dX6_next_2_51 hl 1 rfl ?_
            refine z_icmp_eq C 83 dX6_next_2_52 (by decide) (by omega) (by omega) (fun c_52 => ?_) (fun c_52 => ?_)
            · refine z_iinc C dX6_next_2_83 hl (by decide) 5 rfl rfl (fun ls hl => ?_)
              have hl : lv_has ls 7 [(6, _), (0, _), (1, _), (2, _), (3, _), (4, _)] := hl
              refine z_goto C 38 dX6_next_2_86 (by decide) ?_
              exact hL_38 (k + 1) st _ _ ls (by omega) (by omega) (by rw [nxF, if_pos (Or.inl c_52), ← iN]) iR hP hS (lv_sub hl [1, 2, 3, 4, 5, 0] rfl)
            · have q1 := pS_27.1 k (by omega)
              refine z_aload_n C dX6_next_2_55 hl 0 rfl ?_
              refine m_geta C hK hP 42 (by decide) q1791 rfl (by decide) dX6_next_2_56 ?_
              refine z_iload C dX6_next_2_59 hl 5 rfl ?_
              refine m_lald C hK hP 42 (by decide) rfl (by have h9 : mlen 42 = 10 := rfl; omega) rfl dX6_next_2_61 (fun r_61 => ?_)
              refine z_lload C dX6_next_2_62 hl 4 rfl ?_
              refine z_lcmp_gt C 71 dX6_next_2_64 dX6_next_2_65 (by decide) (by omega) (by omega) (fun c_64 => ?_) (fun c_64 => ?_)
              · refine z_iload C dX6_next_2_71 hl 5 rfl ?_
                refine z_istore_n C dX6_next_2_73 rfl hl (by decide) rfl (fun ls hl => ?_)
                have hl : lv_has ls 7 [(3, _), (0, _), (1, _), (2, _), (4, _), (6, _)] := hl
                refine z_aload_n C dX6_next_2_74 hl 1 rfl ?_
                refine m_geta C hK hP 42 (by decide) q1791 rfl (by decide) dX6_next_2_75 ?_
                refine z_iload C dX6_next_2_78 hl 5 rfl ?_
                refine m_lald C hK hP 42 (by decide) rfl (by have h9 : mlen 42 = 10 := rfl; omega) rfl dX6_next_2_80 (fun r_80 => ?_)
                refine z_lstore C dX6_next_2_81 hl (by decide) rfl (fun ls hl => ?_)
                have hl : lv_has ls 7 [(4, _), (3, _), (0, _), (1, _), (2, _), (6, _)] := hl
                refine z_iinc C dX6_next_2_83 hl (by decide) 5 rfl rfl (fun ls hl => ?_)
                have hl : lv_has ls 7 [(6, _), (4, _), (3, _), (0, _), (1, _), (2, _)] := hl
                refine z_goto C 38 dX6_next_2_86 (by decide) ?_
                exact hL_38 (k + 1) ((k : Int), S_27 42 (k : Int)) _ _ ls (by omega) (by omega) (by rw [nxF, ← iN, if_neg (by omega), q1]) r_61 hP hS (lv_sub hl [3, 4, 5, 2, 1, 0] rfl)
              · refine z_goto C 83 dX6_next_2_68 (by decide) ?_
                refine z_iinc C dX6_next_2_83 hl (by decide) 5 rfl rfl (fun ls hl => ?_)
                have hl : lv_has ls 7 [(6, _), (0, _), (1, _), (2, _), (3, _), (4, _)] := hl
                refine z_goto C 38 dX6_next_2_86 (by decide) ?_
                exact hL_38 (k + 1) st _ _ ls (by omega) (by omega) (by rw [nxF, ← iN, if_pos (Or.inr (by omega))]) iR hP hS (lv_sub hl [1, 2, 3, 4, 5, 0] rfl)
      exact hL_38 _ 0 (-1, 0) _ _ ls (Nat.lt_succ_self _) (by omega) rfl (by decide) hP hS (lv_sub hl [3, 4, 5, 2, 1, 0] rfl)
    · replace c_18 := z01_f c_18
      refine z_bipush C dX6_next_2_21 rfl ?_
      exact m_mret_i C hQ hret hlk hS hP ⟨(if_neg (by omega)).symm, hS_2⟩ dX6_next_2_23
theorem mcX6_standsAt (l : Launch) (g : mG) (h : Nat) (ad : Nat → Nat) (P S : zS) (hPS : per S = P) (pl : Int) (hW : WfR P 0) (hpl : I32 pl) : mPI l g h ad yX6_standsAt cX6_standsAt 3 .int (k2_rm 1 21) [.int (iZ pl)] S (stands P pl) := by
  intro H0 hP
  refine z_start (own := RX6) (by decide) rfl (Nat.le_of_ble_eq_true rfl) ?_
  intro prg env s mid blw mth cod ls Q C hQ hret hlk hnm hK hH hl
  subst hH
  have hS : va_S nA s.heap s.heap [] := va_S.rf
  have hl : lv_has ls 3 [(0, .ref h), (1, .int (iZ pl))] := hl
  have w1 := hW.bikes
  refine z_iconst C dX6_standsAt_0 ?_
  refine z_istore_n C dX6_standsAt_1 rfl hl (by decide) rfl (fun ls hl => ?_)
  have hl : lv_has ls 3 [(2, _), (0, _), (1, _)] := hl
  have hL_2 : ∀ (fuel : Nat) (k : Nat) (locs : List Loc) (ls : Array Slot), (P 23 0).toNat - k < fuel → ((k : Int) ≤ P 23 0) → (stN P pl ((P 23 0).toNat - k) k = stands P pl) → va_S nA s.heap s.heap locs → lv_has ls 3 [(0, .ref h), (1, .int (iZ pl)), (2, .int (iZ (k : Int)))] → W prg l env (k2_rm 1 21) s mid ([.ref h, .int (iZ pl)] : List Value).toArray blw mth cod s.heap locs 0 0 Q (F0 mid 2 ls []) := by
    intro fuel
    induction fuel with
    | zero => intro k  locs ls hm; exact absurd hm (Nat.not_lt_zero _)
    | succ fuel hL_2 =>
      intro k  locs ls hm ik iN  hS hl
      refine z_iload_n C dX6_standsAt_2 hl 2 rfl ?_
      refine z_aload_n C dX6_standsAt_3 hl 0 rfl ?_
      refine m_geta C hK hP 23 (by decide) q1772 rfl (by decide) dX6_standsAt_4 ?_
      refine z_iconst C dX6_standsAt_7 ?_
      refine m_iald C hK hP 23 (by decide) rfl (by have h9 : mlen 23 = 5 := rfl; omega) (pe hPS rfl) dX6_standsAt_8 (fun r_8 => ?_)
      refine z_icmp_ge C 36 dX6_standsAt_9 (by decide) (by omega) (by omega) (fun c_9 => ?_) (fun c_9 => ?_)
      · have q1 : (P 23 0).toNat - k = 0 := by omega
        refine z_iconst C dX6_standsAt_36 ?_
        exact z_pret_i C hQ hret hlk hS (by rw [← iN, q1]; rfl) dX6_standsAt_37
      · have q1 : (P 23 0).toNat - k = ((P 23 0).toNat - (k + 1)) + 1 := by omega
        refine z_aload_n C dX6_standsAt_12 hl 0 rfl ?_
        refine m_geta C hK hP 24 (by decide) q1773 rfl (by decide) dX6_standsAt_13 ?_
        refine z_iconst C dX6_standsAt_16 ?_
        refine z_iload_n C dX6_standsAt_17 hl 2 rfl ?_
        refine s_pi C vX6_323 (mcX6_at l _ _) hS hl ⟨Nat.le_of_ble_eq_true rfl, Nat.le_of_ble_eq_true rfl⟩ ⟨rfl, rfl⟩ rfl rfl (Nat.le_of_ble_eq_true rfl) dX6_standsAt_18 ⟨Nat.zero_le _, Nat.zero_le _⟩ (fun locs hS => ?_)
        refine z_iconst C dX6_standsAt_21 ?_
        refine z_iadd C dX6_standsAt_22 ?_
        refine m_iald C hK hP 24 (by decide) rfl (by have h9 : mlen 24 = 250 := rfl; omega) (pe hPS rfl) dX6_standsAt_23 (fun r_23 => ?_)
        refine z_iload_n C dX6_standsAt_24 hl 1 rfl ?_
        refine z_icmp_ne C 30 dX6_standsAt_25 (by decide) (by omega) (by omega) (fun c_25 => ?_) (fun c_25 => ?_)
        · refine z_iinc C dX6_standsAt_30 hl (by decide) 2 rfl rfl (fun ls hl => ?_)
          have hl : lv_has ls 3 [(2, _), (0, _), (1, _)] := hl
          refine z_goto C 2 dX6_standsAt_33 (by decide) ?_
          exact hL_2 (k + 1) _ ls (by omega) (by omega) (by rw [q1, stN, if_neg c_25] at iN; exact iN)  hS (lv_sub hl [1, 2, 0] rfl)
        · refine z_iload_n C dX6_standsAt_28 hl 2 rfl ?_
          exact z_pret_i C hQ hret hlk hS (by rw [← iN, q1, stN, if_pos c_25]) dX6_standsAt_29
  exact hL_2 _ 0 _ ls (Nat.lt_succ_self _) (by omega) rfl  hS (lv_sub hl [1, 2, 0] rfl)
theorem mcX6_move (l : Launch) (g : mG) (h : Nat) (ad : Nat → Nat) (P S : zS) (hPS : per S = P) (b pl : Int) (hW : WfR P 0) (hib : I32 b) (hip : I32 pl) : mMI l g h ad yX6_move cX6_move 5 .int (k2_rm 2 46) [.int (iZ b), .int (iZ pl)] S (fun z1 S1 => z1 = aMove P b pl ∧ per S1 = pMove P b pl) := by
  refine z_start (own := RX6) (by decide) rfl (Nat.le_of_ble_eq_true rfl) ?_
  intro prg env s mid blw mth cod ls Q C hQ hret hlk hnm hK hH hl
  have hP : MP g h ad S s.heap := hH
  have hS : va_S (MA h ad) s.heap s.heap [] := va_S.rf
  have hl : lv_has ls 5 [(0, .ref h), (1, .int (iZ b)), (2, .int (iZ pl))] := hl
  have w1 := hW.bikes
  have w2 := hW.places
  refine z_aload_n C dX6_move_0 hl 0 rfl ?_
  refine z_iconst C dX6_move_1 ?_
  refine m_puti C hK hP hS 0 (by decide) q1749 rfl rfl (by omega) dX6_move_2 (fun S_2 eS_2 H locs hP hS => ?_)
  have hS_2 := per_s rfl hPS eS_2
  refine z_aload_n C dX6_move_5 hl 0 rfl ?_
  refine z_iload_n C dX6_move_6 hl 1 rfl ?_
  refine m_pi C vX6_318 (mcX6_isBike l g h ad _ _ hS_2 _ (by assumption) (by omega)) hS hl ⟨Nat.le_of_ble_eq_true rfl, Nat.le_of_ble_eq_true rfl⟩ ⟨rfl, rfl⟩ hK hP rfl rfl (Nat.le_of_ble_eq_true rfl) dX6_move_7 ⟨Nat.zero_le _, Nat.zero_le _⟩ (fun locs hS => ?_)
  refine z_if_eq C 21 dX6_move_10 (by decide) z01_in (fun c_10 => ?_) (fun c_10 => ?_)
  · replace c_10 := z01_f c_10
    refine z_bipush C dX6_move_21 rfl ?_
    exact m_mret_i C hQ hret hlk hS hP ⟨(if_neg (by omega)).symm, by rw [pMove, if_neg (by omega)]; exact hS_2⟩ dX6_move_23
  · replace c_10 := z01_t c_10
    refine z_aload_n C dX6_move_13 hl 0 rfl ?_
    refine z_iload_n C dX6_move_14 hl 2 rfl ?_
    refine m_pi C vX6_312 (mcX6_isPlace l g h ad _ _ hS_2 _ (by assumption) (by omega)) hS hl ⟨Nat.le_of_ble_eq_true rfl, Nat.le_of_ble_eq_true rfl⟩ ⟨rfl, rfl⟩ hK hP rfl rfl (Nat.le_of_ble_eq_true rfl) dX6_move_15 ⟨Nat.zero_le _, Nat.zero_le _⟩ (fun locs hS => ?_)
    refine z_if_ne C 24 dX6_move_18 (by decide) z01_in (fun c_18 => ?_) (fun c_18 => ?_)
    · replace c_18 := z01_t c_18
      refine z_aload_n C dX6_move_24 hl 0 rfl ?_
      refine z_iload_n C dX6_move_25 hl 2 rfl ?_
      refine m_pi C vX6_461 (mcX6_standsAt l g h ad _ _ hS_2 _ (by assumption) (by omega)) hS hl ⟨Nat.le_of_ble_eq_true rfl, Nat.le_of_ble_eq_true rfl⟩ ⟨rfl, rfl⟩ hK hP rfl rfl (Nat.le_of_ble_eq_true rfl) dX6_move_26 ⟨Nat.zero_le _, Nat.zero_le _⟩ (fun locs hS => ?_)
      have q1 := stands_ok hW pl
      refine z_istore_n C dX6_move_29 rfl hl (by decide) rfl (fun ls hl => ?_)
      have hl : lv_has ls 5 [(3, _), (0, _), (1, _), (2, _)] := hl
      refine z_iload_n C dX6_move_30 hl 0 rfl ?_
      refine z_iconst C dX6_move_31 ?_
      refine z_icmp_eq C 43 dX6_move_32 (by decide) (by omega) (by omega) (fun c_32 => ?_) (fun c_32 => ?_)
      · refine z_aload_n C dX6_move_43 hl 1 rfl ?_
        refine m_geta C hK hP 24 (by decide) q1773 rfl (by decide) dX6_move_44 ?_
        refine z_iconst C dX6_move_47 ?_
        refine z_iload_n C dX6_move_48 hl 2 rfl ?_
        refine s_pi C vX6_323 (mcX6_at l _ _) hS hl ⟨Nat.le_of_ble_eq_true rfl, Nat.le_of_ble_eq_true rfl⟩ ⟨rfl, rfl⟩ rfl rfl (Nat.le_of_ble_eq_true rfl) dX6_move_49 ⟨Nat.zero_le _, Nat.zero_le _⟩ (fun locs hS => ?_)
        refine z_iconst C dX6_move_52 ?_
        refine z_iadd C dX6_move_53 ?_
        refine m_iald C hK hP 24 (by decide) rfl (by have h9 : mlen 24 = 250 := rfl; omega) (pe hS_2 rfl) dX6_move_54 (fun r_54 => ?_)
        refine z_istore C dX6_move_55 hl (by decide) rfl (fun ls hl => ?_)
        have hl : lv_has ls 5 [(4, _), (3, _), (0, _), (1, _), (2, _)] := hl
        refine z_aload_n C dX6_move_57 hl 2 rfl ?_
        refine m_geta C hK hP 24 (by decide) q1773 rfl (by decide) dX6_move_58 ?_
        refine z_iconst C dX6_move_61 ?_
        refine z_iload_n C dX6_move_62 hl 3 rfl ?_
        refine s_pi C vX6_323 (mcX6_at l _ _) hS hl ⟨Nat.le_of_ble_eq_true rfl, Nat.le_of_ble_eq_true rfl⟩ ⟨rfl, rfl⟩ rfl rfl (Nat.le_of_ble_eq_true rfl) dX6_move_63 ⟨Nat.zero_le _, Nat.zero_le _⟩ (fun locs hS => ?_)
        refine z_iconst C dX6_move_66 ?_
        refine z_iadd C dX6_move_67 ?_
        refine z_iload_n C dX6_move_68 hl 4 rfl ?_
        refine m_iast C hK hP hS 24 (by decide) rfl (by have h9 : mlen 24 = 250 := rfl; omega) (by omega) dX6_move_69 (fun S_69 eS_69 H locs hP hS => ?_)
        have hS_69 := per_w2 rfl hS_2 eS_69
        refine z_iload C dX6_move_70 hl 0 rfl ?_
        exact m_mret_i C hQ hret hlk hS hP ⟨by rw [aMove, if_pos ⟨c_10, c_18⟩, if_neg (by omega)], by rw [pMove, if_pos ⟨⟨c_10, c_18⟩, by omega⟩]; exact hS_69⟩ dX6_move_72
      · refine z_iload_n C dX6_move_35 hl 0 rfl ?_
        refine z_iload_n C dX6_move_36 hl 2 rfl ?_
        refine z_icmp_eq C 43 dX6_move_37 (by decide) (by omega) (by omega) (fun c_37 => ?_) (fun c_37 => ?_)
        · refine z_aload_n C dX6_move_43 hl 1 rfl ?_
          refine m_geta C hK hP 24 (by decide) q1773 rfl (by decide) dX6_move_44 ?_
          refine z_iconst C dX6_move_47 ?_
          refine z_iload_n C dX6_move_48 hl 2 rfl ?_
          refine s_pi C vX6_323 (mcX6_at l _ _) hS hl ⟨Nat.le_of_ble_eq_true rfl, Nat.le_of_ble_eq_true rfl⟩ ⟨rfl, rfl⟩ rfl rfl (Nat.le_of_ble_eq_true rfl) dX6_move_49 ⟨Nat.zero_le _, Nat.zero_le _⟩ (fun locs hS => ?_)
          refine z_iconst C dX6_move_52 ?_
          refine z_iadd C dX6_move_53 ?_
          refine m_iald C hK hP 24 (by decide) rfl (by have h9 : mlen 24 = 250 := rfl; omega) (pe hS_2 rfl) dX6_move_54 (fun r_54 => ?_)
          refine z_istore C dX6_move_55 hl (by decide) rfl (fun ls hl => ?_)
          have hl : lv_has ls 5 [(4, _), (3, _), (0, _), (1, _), (2, _)] := hl
          refine z_aload_n C dX6_move_57 hl 2 rfl ?_
          refine m_geta C hK hP 24 (by decide) q1773 rfl (by decide) dX6_move_58 ?_
          refine z_iconst C dX6_move_61 ?_
          refine z_iload_n C dX6_move_62 hl 3 rfl ?_
          refine s_pi C vX6_323 (mcX6_at l _ _) hS hl ⟨Nat.le_of_ble_eq_true rfl, Nat.le_of_ble_eq_true rfl⟩ ⟨rfl, rfl⟩ rfl rfl (Nat.le_of_ble_eq_true rfl) dX6_move_63 ⟨Nat.zero_le _, Nat.zero_le _⟩ (fun locs hS => ?_)
          refine z_iconst C dX6_move_66 ?_
          refine z_iadd C dX6_move_67 ?_
          refine z_iload_n C dX6_move_68 hl 4 rfl ?_
          refine m_iast C hK hP hS 24 (by decide) rfl (by have h9 : mlen 24 = 250 := rfl; omega) (by omega) dX6_move_69 (fun S_69 eS_69 H locs hP hS => ?_)
          have hS_69 := per_w2 rfl hS_2 eS_69
          refine z_iload C dX6_move_70 hl 0 rfl ?_
          exact m_mret_i C hQ hret hlk hS hP ⟨by rw [aMove, if_pos ⟨c_10, c_18⟩, if_neg (by omega)], by rw [pMove, if_pos ⟨⟨c_10, c_18⟩, by omega⟩]; exact hS_69⟩ dX6_move_72
        · refine z_bipush C dX6_move_40 rfl ?_
          exact m_mret_i C hQ hret hlk hS hP ⟨by rw [aMove, if_pos ⟨c_10, c_18⟩, if_pos ⟨c_32, c_37⟩], by rw [pMove, if_neg (by omega)]; exact hS_2⟩ dX6_move_42
    · replace c_18 := z01_f c_18
      refine z_bipush C dX6_move_21 rfl ?_
      exact m_mret_i C hQ hret hlk hS hP ⟨(if_neg (by omega)).symm, by rw [pMove, if_neg (by omega)]; exact hS_2⟩ dX6_move_23
theorem mcX6_swap (l : Launch) (g : mG) (h : Nat) (ad : Nat → Nat) (P S : zS) (hPS : per S = P) (a b : Int) (hW : WfR P 0) (hia : I32 a) (hib : I32 b) : mMI l g h ad yX6_swap cX6_swap 6 .int (k2_rm 6 143) [.int (iZ a), .int (iZ b)] S (fun z1 S1 => z1 = aSwap P a b ∧ per S1 = pSwap P a b) := by
  refine z_start (own := RX6) (by decide) rfl (Nat.le_of_ble_eq_true rfl) ?_
  intro prg env s mid blw mth cod ls Q C hQ hret hlk hnm hK hH hl
  have hP : MP g h ad S s.heap := hH
  have hS : va_S (MA h ad) s.heap s.heap [] := va_S.rf
  have hl : lv_has ls 6 [(0, .ref h), (1, .int (iZ a)), (2, .int (iZ b))] := hl
  have w1 := hW.bikes
  refine z_aload_n C dX6_swap_0 hl 0 rfl ?_
  refine z_iconst C dX6_swap_1 ?_
  refine m_puti C hK hP hS 0 (by decide) q1749 rfl rfl (by omega) dX6_swap_2 (fun S_2 eS_2 H locs hP hS => ?_)
  have hS_2 := per_s rfl hPS eS_2
  refine z_aload_n C dX6_swap_5 hl 0 rfl ?_
  refine z_iload_n C dX6_swap_6 hl 1 rfl ?_
  refine z_iload_n C dX6_swap_7 hl 2 rfl ?_
  refine m_pi C vX6_452 (mcX6_areTwo l g h ad _ _ hS_2 _ _ (by assumption) (by omega) (by omega)) hS hl ⟨Nat.le_of_ble_eq_true rfl, Nat.le_of_ble_eq_true rfl⟩ ⟨rfl, rfl⟩ hK hP rfl rfl (Nat.le_of_ble_eq_true rfl) dX6_swap_8 ⟨Nat.zero_le _, Nat.zero_le _⟩ (fun locs hS => ?_)
  refine z_if_ne C 17 dX6_swap_11 (by decide) z01_in (fun c_11 => ?_) (fun c_11 => ?_)
  · replace c_11 := z01_t c_11
    have c_110 := c_11
    obtain ⟨ha, hb, hab⟩ := c_11
    have ha : 0 ≤ a ∧ a < P 23 0 := by omega
    have hb : 0 ≤ b ∧ b < P 23 0 := by omega
    have w4 := swapP_wf hW ha hb hab
    have q1 := allOf_in hW 1
    have q2 := allOf_in w4 1
    have q5 := hW.bike ha
    have q6 := hW.bike hb
    refine z_aload_n C dX6_swap_17 hl 0 rfl ?_
    refine z_iconst C dX6_swap_18 ?_
    refine m_ml C vX6_398 (mcX6_allNow l g h ad _ _ hS_2 _ (by assumption) (by omega)) hS hl ⟨Nat.le_of_ble_eq_true rfl, Nat.le_of_ble_eq_true rfl⟩ ⟨rfl, rfl⟩ hK hP (fun _ h9 => h9) rfl rfl (Nat.le_of_ble_eq_true rfl) dX6_swap_19 ⟨Nat.zero_le _, Nat.zero_le _⟩ (fun v_19 S_19 H locs pS_19 hP hS => ?_)
    obtain ⟨e_19, pS_19⟩ := pS_19
    subst e_19
    have hS_19 : per S_19 = P := (pS_19.pr rfl hS_2)
    refine z_lstore_n C dX6_swap_22 rfl hl (by decide) rfl (fun ls hl => ?_)
    have hl : lv_has ls 6 [(3, _), (0, _), (1, _), (2, _)] := hl
    refine z_aload_n C dX6_swap_23 hl 1 rfl ?_
    refine m_geta C hK hP 24 (by decide) q1773 rfl (by decide) dX6_swap_24 ?_
    refine z_iconst C dX6_swap_27 ?_
    refine z_iload_n C dX6_swap_28 hl 2 rfl ?_
    refine s_pi C vX6_323 (mcX6_at l _ _) hS hl ⟨Nat.le_of_ble_eq_true rfl, Nat.le_of_ble_eq_true rfl⟩ ⟨rfl, rfl⟩ rfl rfl (Nat.le_of_ble_eq_true rfl) dX6_swap_29 ⟨Nat.zero_le _, Nat.zero_le _⟩ (fun locs hS => ?_)
    refine z_iconst C dX6_swap_32 ?_
    refine z_iadd C dX6_swap_33 ?_
    refine m_iald C hK hP 24 (by decide) rfl (by have h9 : mlen 24 = 250 := rfl; omega) (pe hS_19 rfl) dX6_swap_34 (fun r_34 => ?_)
    refine z_istore C dX6_swap_35 hl (by decide) rfl (fun ls hl => ?_)
    have hl : lv_has ls 6 [(5, _), (3, _), (0, _), (1, _), (2, _)] := hl
    refine z_aload_n C dX6_swap_37 hl 2 rfl ?_
    refine m_geta C hK hP 24 (by decide) q1773 rfl (by decide) dX6_swap_38 ?_
    refine z_iconst C dX6_swap_41 ?_
    refine z_iload_n C dX6_swap_42 hl 3 rfl ?_
    refine s_pi C vX6_323 (mcX6_at l _ _) hS hl ⟨Nat.le_of_ble_eq_true rfl, Nat.le_of_ble_eq_true rfl⟩ ⟨rfl, rfl⟩ rfl rfl (Nat.le_of_ble_eq_true rfl) dX6_swap_43 ⟨Nat.zero_le _, Nat.zero_le _⟩ (fun locs hS => ?_)
    refine z_iconst C dX6_swap_46 ?_
    refine z_iadd C dX6_swap_47 ?_
    refine z_aload_n C dX6_swap_48 hl 2 rfl ?_
    refine m_geta C hK hP 24 (by decide) q1773 rfl (by decide) dX6_swap_49 ?_
    refine z_iconst C dX6_swap_52 ?_
    refine z_iload_n C dX6_swap_53 hl 4 rfl ?_
    refine s_pi C vX6_323 (mcX6_at l _ _) hS hl ⟨Nat.le_of_ble_eq_true rfl, Nat.le_of_ble_eq_true rfl⟩ ⟨rfl, rfl⟩ rfl rfl (Nat.le_of_ble_eq_true rfl) dX6_swap_54 ⟨Nat.zero_le _, Nat.zero_le _⟩ (fun locs hS => ?_)
    refine z_iconst C dX6_swap_57 ?_
    refine z_iadd C dX6_swap_58 ?_
    refine m_iald C hK hP 24 (by decide) rfl (by have h9 : mlen 24 = 250 := rfl; omega) (pe hS_19 rfl) dX6_swap_59 (fun r_59 => ?_)
    refine m_iast C hK hP hS 24 (by decide) rfl (by have h9 : mlen 24 = 250 := rfl; omega) (by omega) dX6_swap_60 (fun S_60 eS_60 H locs hP hS => ?_)
    have hS_60 := per_w2 rfl hS_19 eS_60
    refine z_aload_n C dX6_swap_61 hl 2 rfl ?_
    refine m_geta C hK hP 24 (by decide) q1773 rfl (by decide) dX6_swap_62 ?_
    refine z_iconst C dX6_swap_65 ?_
    refine z_iload_n C dX6_swap_66 hl 4 rfl ?_
    refine s_pi C vX6_323 (mcX6_at l _ _) hS hl ⟨Nat.le_of_ble_eq_true rfl, Nat.le_of_ble_eq_true rfl⟩ ⟨rfl, rfl⟩ rfl rfl (Nat.le_of_ble_eq_true rfl) dX6_swap_67 ⟨Nat.zero_le _, Nat.zero_le _⟩ (fun locs hS => ?_)
    refine z_iconst C dX6_swap_70 ?_
    refine z_iadd C dX6_swap_71 ?_
    refine z_iload C dX6_swap_72 hl 0 rfl ?_
    refine m_iast C hK hP hS 24 (by decide) rfl (by have h9 : mlen 24 = 250 := rfl; omega) (by omega) dX6_swap_74 (fun S_74 eS_74 H locs hP hS => ?_)
    have hS_74 := per_w2 rfl hS_60 eS_74
    have hS_74 : per S_74 = swapP P a b := hS_74
    refine z_aload_n C dX6_swap_75 hl 2 rfl ?_
    refine z_iconst C dX6_swap_76 ?_
    refine m_ml C vX6_398 (mcX6_allNow l g h ad _ _ hS_74 _ w4 (by omega)) hS hl ⟨Nat.le_of_ble_eq_true rfl, Nat.le_of_ble_eq_true rfl⟩ ⟨rfl, rfl⟩ hK hP (fun _ h9 => h9) rfl rfl (Nat.le_of_ble_eq_true rfl) dX6_swap_77 ⟨Nat.zero_le _, Nat.zero_le _⟩ (fun v_77 S_77 H locs pS_77 hP hS => ?_)
    obtain ⟨e_77, pS_77⟩ := pS_77
    subst e_77
    have hS_77 : per S_77 = _ := (pS_77.pr rfl hS_74)
    refine z_lload_n C dX6_swap_80 hl 1 rfl ?_
    refine z_lcmp_ge C 89 dX6_swap_81 dX6_swap_82 (by decide) (by omega) (by omega) (fun c_81 => ?_) (fun c_81 => ?_)
    · refine z_iconst C dX6_swap_89 ?_
      exact m_mret_i C hQ hret hlk hS hP ⟨by rw [aSwap, if_pos c_110]; first | rw [if_pos (by omega)] | rw [if_neg (by omega)], by rw [pSwap, if_pos c_110]; exact hS_77⟩ dX6_swap_90
    · refine z_iconst C dX6_swap_85 ?_
      refine z_goto C 90 dX6_swap_86 (by decide) ?_
      exact m_mret_i C hQ hret hlk hS hP ⟨by rw [aSwap, if_pos c_110]; first | rw [if_pos (by omega)] | rw [if_neg (by omega)], by rw [pSwap, if_pos c_110]; exact hS_77⟩ dX6_swap_90
  · replace c_11 := z01_f c_11
    refine z_bipush C dX6_swap_14 rfl ?_
    exact m_mret_i C hQ hret hlk hS hP ⟨(if_neg c_11).symm, by rw [pSwap, if_neg c_11]; exact hS_2⟩ dX6_swap_16
theorem mcX6_where (l : Launch) (g : mG) (h : Nat) (ad : Nat → Nat) (P S : zS) (hPS : per S = P) (b : Int) (hW : WfR P 0) (hib : I32 b) : mMI l g h ad yX6_where cX6_where 10 .int (k2_rm 6 140) [.int (iZ b)] S (fun z1 S1 => z1 = aWhere P b ∧ per S1 = P) := by
  refine z_start (own := RX6) (by decide) rfl (Nat.le_of_ble_eq_true rfl) ?_
  intro prg env s mid blw mth cod ls Q C hQ hret hlk hnm hK hH hl
  have hP : MP g h ad S s.heap := hH
  have hS : va_S (MA h ad) s.heap s.heap [] := va_S.rf
  have hl : lv_has ls 10 [(0, .ref h), (1, .int (iZ b))] := hl
  have w1 := hW.bikes
  have w2 := hW.places
  refine z_aload_n C dX6_where_0 hl 0 rfl ?_
  refine z_iconst C dX6_where_1 ?_
  refine m_puti C hK hP hS 0 (by decide) q1749 rfl rfl (by omega) dX6_where_2 (fun S_2 eS_2 H locs hP hS => ?_)
  have hS_2 := per_s rfl hPS eS_2
  refine z_aload_n C dX6_where_5 hl 0 rfl ?_
  refine z_iload_n C dX6_where_6 hl 1 rfl ?_
  refine m_pi C vX6_318 (mcX6_isBike l g h ad _ _ hS_2 _ (by assumption) (by omega)) hS hl ⟨Nat.le_of_ble_eq_true rfl, Nat.le_of_ble_eq_true rfl⟩ ⟨rfl, rfl⟩ hK hP rfl rfl (Nat.le_of_ble_eq_true rfl) dX6_where_7 ⟨Nat.zero_le _, Nat.zero_le _⟩ (fun locs hS => ?_)
  refine z_if_ne C 16 dX6_where_10 (by decide) z01_in (fun c_10 => ?_) (fun c_10 => ?_)
  · replace c_10 := z01_t c_10
    have hb : 0 ≤ b ∧ b < P 23 0 := by omega
    have q5 := hW.bike hb
    refine z_aload_n C dX6_where_16 hl 0 rfl ?_
    refine m_geta C hK hP 24 (by decide) q1773 rfl (by decide) dX6_where_17 ?_
    refine z_iconst C dX6_where_20 ?_
    refine z_iload_n C dX6_where_21 hl 1 rfl ?_
    refine s_pi C vX6_323 (mcX6_at l _ _) hS hl ⟨Nat.le_of_ble_eq_true rfl, Nat.le_of_ble_eq_true rfl⟩ ⟨rfl, rfl⟩ rfl rfl (Nat.le_of_ble_eq_true rfl) dX6_where_22 ⟨Nat.zero_le _, Nat.zero_le _⟩ (fun locs hS => ?_)
    refine z_iconst C dX6_where_25 ?_
    refine z_iadd C dX6_where_26 ?_
    refine m_iald C hK hP 24 (by decide) rfl (by have h9 : mlen 24 = 250 := rfl; omega) (pe hS_2 rfl) dX6_where_27 (fun r_27 => ?_)
    refine z_istore_n C dX6_where_28 rfl hl (by decide) rfl (fun ls hl => ?_)
    have hl : lv_has ls 10 [(2, _), (0, _), (1, _)] := hl
    refine z_iconst C dX6_where_29 ?_
    refine z_istore_n C dX6_where_30 rfl hl (by decide) rfl (fun ls hl => ?_)
    have hl : lv_has ls 10 [(3, _), (2, _), (0, _), (1, _)] := hl
    refine z_lconst (v := 0) C dX6_where_31 rfl ?_
    refine z_lstore C dX6_where_32 hl (by decide) rfl (fun ls hl => ?_)
    have hl : lv_has ls 10 [(4, _), (3, _), (2, _), (0, _), (1, _)] := hl
    refine z_iconst C dX6_where_34 ?_
    refine z_istore C dX6_where_35 hl (by decide) rfl (fun ls hl => ?_)
    have hl : lv_has ls 10 [(6, _), (4, _), (3, _), (2, _), (0, _), (1, _)] := hl
    have hL_37 : ∀ (fuel : Nat) (k : Nat) (st : Int × Int) (S1 : zS) (Q1 : zS) (H : Heap) (locs : List Loc) (ls : Array Slot), (P 17 0).toNat - k < fuel → ((k : Int) ≤ P 17 0) → (st = whF P b k) → (∃ x, Q1 = plP P b x) → per S1 = Q1 → MP g h ad S1 H → va_S (MA h ad) s.heap H locs → lv_has ls 10 [(0, .ref h), (1, .int (iZ b)), (2, .int (iZ (P 24 (5 * (10 * 0 + b) + 2)))), (3, .int (iZ st.1)), (4, .long (lZ st.2)), (6, .int (iZ (k : Int)))] → W prg l env (k2_rm 6 140) s mid ([.ref h, .int (iZ b)] : List Value).toArray blw mth cod H locs 0 0 Q (F0 mid 37 ls []) := by
      intro fuel
      induction fuel with
      | zero => intro k st S1 Q1  H locs ls hm; exact absurd hm (Nat.not_lt_zero _)
      | succ fuel hL_37 =>
        intro k st S1 Q1  H locs ls hm ik iS iQ hPS_37 hP  hS hl
        obtain ⟨x, iQ⟩ := iQ
        subst iQ
        have q4 : plP P b x 17 0 = P 17 0 := by rw [plP_k _ _ _ (by decide)]
        have q3 : scOk 661878000 st := by rw [iS]; exact whF_ok hW hb k ik
        unfold scOk at q3
        refine z_iload C dX6_where_37 hl 5 rfl ?_
        refine z_aload_n C dX6_where_39 hl 0 rfl ?_
        refine m_geta C hK hP 17 (by decide) q1766 rfl (by decide) dX6_where_40 ?_
        refine z_iconst C dX6_where_43 ?_
        refine m_iald C hK hP 17 (by decide) rfl (by have h9 : mlen 17 = 5 := rfl; omega) (pe hPS_37 rfl) dX6_where_44 (fun r_44 => ?_)
        refine z_icmp_ge C 134 dX6_where_45 (by decide) (by omega) (by omega) (fun c_45 => ?_) (fun c_45 => ?_)
        · rw [q4] at c_45
          refine z_aload_n C dX6_where_134 hl 0 rfl ?_
          refine m_geta C hK hP 24 (by decide) q1773 rfl (by decide) dX6_where_135 ?_
          refine z_iconst C dX6_where_138 ?_
          refine z_iload_n C dX6_where_139 hl 1 rfl ?_
          refine s_pi C vX6_323 (mcX6_at l _ _) hS hl ⟨Nat.le_of_ble_eq_true rfl, Nat.le_of_ble_eq_true rfl⟩ ⟨rfl, rfl⟩ rfl rfl (Nat.le_of_ble_eq_true rfl) dX6_where_140 ⟨Nat.zero_le _, Nat.zero_le _⟩ (fun locs hS => ?_)
          refine z_iconst C dX6_where_143 ?_
          refine z_iadd C dX6_where_144 ?_
          refine z_iload_n C dX6_where_145 hl 2 rfl ?_
          refine m_iast C hK hP hS 24 (by decide) rfl (by have h9 : mlen 24 = 250 := rfl; omega) (by omega) dX6_where_146 (fun S_146 eS_146 H locs hP hS => ?_)
          have hS_146 := per_w2 rfl hPS_37 eS_146
          refine z_iload_n C dX6_where_147 hl 3 rfl ?_
          exact m_mret_i C hQ hret hlk hS hP ⟨by rw [aWhere, if_pos c_10, iS, show (P 17 0).toNat = k by omega], by rw [hS_146]; exact (plP_over P b x _).trans (plP_self P b)⟩ dX6_where_148
        · rw [q4] at c_45
          refine z_aload_n C dX6_where_48 hl 0 rfl ?_
          refine m_geta C hK hP 24 (by decide) q1773 rfl (by decide) dX6_where_49 ?_
          refine z_iconst C dX6_where_52 ?_
          refine z_iload_n C dX6_where_53 hl 1 rfl ?_
          refine s_pi C vX6_323 (mcX6_at l _ _) hS hl ⟨Nat.le_of_ble_eq_true rfl, Nat.le_of_ble_eq_true rfl⟩ ⟨rfl, rfl⟩ rfl rfl (Nat.le_of_ble_eq_true rfl) dX6_where_54 ⟨Nat.zero_le _, Nat.zero_le _⟩ (fun locs hS => ?_)
          refine z_iconst C dX6_where_57 ?_
          refine z_iadd C dX6_where_58 ?_
          refine z_iload_n C dX6_where_59 hl 2 rfl ?_
          refine m_iast C hK hP hS 24 (by decide) rfl (by have h9 : mlen 24 = 250 := rfl; omega) (by omega) dX6_where_60 (fun S_60 eS_60 H locs hP hS => ?_)
          have hS_60 := per_w2 rfl hPS_37 eS_60
          have hS_60 : per S_60 = P := by rw [hS_60]; exact (plP_over P b x _).trans (plP_self P b)
          refine z_aload_n C dX6_where_61 hl 0 rfl ?_
          refine z_iload C dX6_where_62 hl 5 rfl ?_
          refine m_pi C vX6_461 (mcX6_standsAt l g h ad _ _ hS_60 _ (by assumption) (by omega)) hS hl ⟨Nat.le_of_ble_eq_true rfl, Nat.le_of_ble_eq_true rfl⟩ ⟨rfl, rfl⟩ hK hP rfl rfl (Nat.le_of_ble_eq_true rfl) dX6_where_64 ⟨Nat.zero_le _, Nat.zero_le _⟩ (fun locs hS => ?_)
          have q6 := stands_ok hW k
          refine z_istore C dX6_where_67 hl (by decide) rfl (fun ls hl => ?_)
          have hl : lv_has ls 10 [(7, _), (0, _), (1, _), (2, _), (3, _), (4, _), (6, _)] := hl
          refine z_iload C dX6_where_69 hl 0 rfl ?_
          refine z_iconst C dX6_where_71 ?_
          refine z_icmp_eq C 84 dX6_where_72 (by decide) (by omega) (by omega) (fun c_72 => ?_) (fun c_72 => ?_)
          · have q8 : ¬ (¬ stands P (k : Int) = -1 ∧ ¬ stands P (k : Int) = b) := by omega
            have q7 := plP_wf hW hb (pl := k) (by omega) (plOk_free hW (by unfold plOk; omega))
            have q9 := cost_in q7 (b := b) (by rw [plP_k _ _ _ (by decide)]; exact hb)
            refine z_aload_n C dX6_where_84 hl 1 rfl ?_
            refine m_geta C hK hP 24 (by decide) q1773 rfl (by decide) dX6_where_85 ?_
            refine z_iconst C dX6_where_88 ?_
            refine z_iload_n C dX6_where_89 hl 2 rfl ?_
            refine s_pi C vX6_323 (mcX6_at l _ _) hS hl ⟨Nat.le_of_ble_eq_true rfl, Nat.le_of_ble_eq_true rfl⟩ ⟨rfl, rfl⟩ rfl rfl (Nat.le_of_ble_eq_true rfl) dX6_where_90 ⟨Nat.zero_le _, Nat.zero_le _⟩ (fun locs hS => ?_)
            refine z_iconst C dX6_where_93 ?_
            refine z_iadd C dX6_where_94 ?_
            refine z_iload C dX6_where_95 hl 6 rfl ?_
            refine m_iast C hK hP hS 24 (by decide) rfl (by have h9 : mlen 24 = 250 := rfl; omega) (by omega) dX6_where_97 (fun S_97 eS_97 H locs hP hS => ?_)
            have hS_97 := per_w2 rfl hS_60 eS_97
            have hS_97 : per S_97 = plP P b k := hS_97
            refine z_aload_n C dX6_where_98 hl 1 rfl ?_
            refine z_iload_n C dX6_where_99 hl 2 rfl ?_
            refine m_ml C vX6_414 (mcX6_costNow l g h ad _ _ hS_97 _ q7 (by rw [plP_k _ _ _ (by decide)]; exact hb)) hS hl ⟨Nat.le_of_ble_eq_true rfl, Nat.le_of_ble_eq_true rfl⟩ ⟨rfl, rfl⟩ hK hP (fun _ h9 => h9) rfl rfl (Nat.le_of_ble_eq_true rfl) dX6_where_100 ⟨Nat.zero_le _, Nat.zero_le _⟩ (fun v_100 S_100 H locs pS_100 hP hS => ?_)
            obtain ⟨e_100, pS_100⟩ := pS_100
            subst e_100
            have hS_100 : per S_100 = _ := (pS_100.pr rfl hS_97)
            refine z_lstore C dX6_where_103 hl (by decide) rfl (fun ls hl => ?_)
            have hl : lv_has ls 10 [(8, _), (7, _), (0, _), (1, _), (2, _), (3, _), (4, _), (6, _)] := hl
            refine z_iload_n C dX6_where_105 hl 5 rfl ?_
            refine z_iconst C dX6_where_106 ?_
            refine z_icmp_eq C 121 dX6_where_107 (by decide) (by omega) (by omega) (fun c_107 => ?_) (fun c_107 => ?_)
            · refine z_iload C dX6_where_121 hl 7 rfl ?_
              refine z_istore_n C dX6_where_123 rfl hl (by decide) rfl (fun ls hl => ?_)
              have hl : lv_has ls 10 [(3, _), (8, _), (7, _), (0, _), (1, _), (2, _), (4, _), (6, _)] := hl
              refine z_lload C dX6_where_124 hl 1 rfl ?_
              refine z_lstore C dX6_where_126 hl (by decide) rfl (fun ls hl => ?_)
              have hl : lv_has ls 10 [(4, _), (3, _), (8, _), (7, _), (0, _), (1, _), (2, _), (6, _)] := hl
              refine z_iinc C dX6_where_128 hl (by decide) 7 rfl rfl (fun ls hl => ?_)
              have hl : lv_has ls 10 [(6, _), (4, _), (3, _), (8, _), (7, _), (0, _), (1, _), (2, _)] := hl
              refine z_goto C 37 dX6_where_131 (by decide) ?_
              exact hL_37 (k + 1) ((k : Int), cost (plP P b k) b) _ _ _ _ ls (by omega) (by omega) (by rw [whF, if_neg q8, ← iS, scS, if_neg (fun z => z.1 c_107)]) ⟨_, rfl⟩ hS_100 hP hS (lv_sub hl [5, 6, 7, 2, 1, 0] rfl)
            · refine z_lload C dX6_where_110 hl 0 rfl ?_
              refine z_lload C dX6_where_112 hl 6 rfl ?_
              refine z_lcmp_lt C 121 dX6_where_114 dX6_where_115 (by decide) (by omega) (by omega) (fun c_114 => ?_) (fun c_114 => ?_)
              · refine z_iload C dX6_where_121 hl 7 rfl ?_
                refine z_istore_n C dX6_where_123 rfl hl (by decide) rfl (fun ls hl => ?_)
                have hl : lv_has ls 10 [(3, _), (8, _), (7, _), (0, _), (1, _), (2, _), (4, _), (6, _)] := hl
                refine z_lload C dX6_where_124 hl 1 rfl ?_
                refine z_lstore C dX6_where_126 hl (by decide) rfl (fun ls hl => ?_)
                have hl : lv_has ls 10 [(4, _), (3, _), (8, _), (7, _), (0, _), (1, _), (2, _), (6, _)] := hl
                refine z_iinc C dX6_where_128 hl (by decide) 7 rfl rfl (fun ls hl => ?_)
                have hl : lv_has ls 10 [(6, _), (4, _), (3, _), (8, _), (7, _), (0, _), (1, _), (2, _)] := hl
                refine z_goto C 37 dX6_where_131 (by decide) ?_
                exact hL_37 (k + 1) ((k : Int), cost (plP P b k) b) _ _ _ _ ls (by omega) (by omega) (by rw [whF, if_neg q8, ← iS, scS, if_neg (fun z => absurd z.2 (Int.not_le.mpr c_114))]) ⟨_, rfl⟩ hS_100 hP hS (lv_sub hl [5, 6, 7, 2, 1, 0] rfl)
              · refine z_goto C 128 dX6_where_118 (by decide) ?_
                refine z_iinc C dX6_where_128 hl (by decide) 7 rfl rfl (fun ls hl => ?_)
                have hl : lv_has ls 10 [(6, _), (8, _), (7, _), (0, _), (1, _), (2, _), (3, _), (4, _)] := hl
                refine z_goto C 37 dX6_where_131 (by decide) ?_
                exact hL_37 (k + 1) st _ _ _ _ ls (by omega) (by omega) (by rw [whF, if_neg q8, ← iS, scS, if_pos ⟨c_107, c_114⟩]) ⟨_, rfl⟩ hS_100 hP hS (lv_sub hl [3, 4, 5, 6, 7, 0] rfl)
          · refine z_iload C dX6_where_75 hl 0 rfl ?_
            refine z_iload_n C dX6_where_77 hl 2 rfl ?_
            refine z_icmp_eq C 84 dX6_where_78 (by decide) (by omega) (by omega) (fun c_78 => ?_) (fun c_78 => ?_)
            · have q8 : ¬ (¬ stands P (k : Int) = -1 ∧ ¬ stands P (k : Int) = b) := by omega
              have q7 := plP_wf hW hb (pl := k) (by omega) (plOk_free hW (by unfold plOk; omega))
              have q9 := cost_in q7 (b := b) (by rw [plP_k _ _ _ (by decide)]; exact hb)
              refine z_aload_n C dX6_where_84 hl 1 rfl ?_
              refine m_geta C hK hP 24 (by decide) q1773 rfl (by decide) dX6_where_85 ?_
              refine z_iconst C dX6_where_88 ?_
              refine z_iload_n C dX6_where_89 hl 2 rfl ?_
              refine s_pi C vX6_323 (mcX6_at l _ _) hS hl ⟨Nat.le_of_ble_eq_true rfl, Nat.le_of_ble_eq_true rfl⟩ ⟨rfl, rfl⟩ rfl rfl (Nat.le_of_ble_eq_true rfl) dX6_where_90 ⟨Nat.zero_le _, Nat.zero_le _⟩ (fun locs hS => ?_)
              refine z_iconst C dX6_where_93 ?_
              refine z_iadd C dX6_where_94 ?_
              refine z_iload C dX6_where_95 hl 6 rfl ?_
              refine m_iast C hK hP hS 24 (by decide) rfl (by have h9 : mlen 24 = 250 := rfl; omega) (by omega) dX6_where_97 (fun S_97 eS_97 H locs hP hS => ?_)
              have hS_97 := per_w2 rfl hS_60 eS_97
              have hS_97 : per S_97 = plP P b k := hS_97
              refine z_aload_n C dX6_where_98 hl 1 rfl ?_
              refine z_iload_n C dX6_where_99 hl 2 rfl ?_
              refine m_ml C vX6_414 (mcX6_costNow l g h ad _ _ hS_97 _ q7 (by rw [plP_k _ _ _ (by decide)]; exact hb)) hS hl ⟨Nat.le_of_ble_eq_true rfl, Nat.le_of_ble_eq_true rfl⟩ ⟨rfl, rfl⟩ hK hP (fun _ h9 => h9) rfl rfl (Nat.le_of_ble_eq_true rfl) dX6_where_100 ⟨Nat.zero_le _, Nat.zero_le _⟩ (fun v_100 S_100 H locs pS_100 hP hS => ?_)
              obtain ⟨e_100, pS_100⟩ := pS_100
              subst e_100
              have hS_100 : per S_100 = _ := (pS_100.pr rfl hS_97)
              refine z_lstore C dX6_where_103 hl (by decide) rfl (fun ls hl => ?_)
              have hl : lv_has ls 10 [(8, _), (7, _), (0, _), (1, _), (2, _), (3, _), (4, _), (6, _)] := hl
              refine z_iload_n C dX6_where_105 hl 5 rfl ?_
              refine z_iconst C dX6_where_106 ?_
              refine z_icmp_eq C 121 dX6_where_107 (by decide) (by omega) (by omega) (fun c_107 => ?_) (fun c_107 => ?_)
              · refine z_iload C dX6_where_121 hl 7 rfl ?_
                refine z_istore_n C dX6_where_123 rfl hl (by decide) rfl (fun ls hl => ?_)
                have hl : lv_has ls 10 [(3, _), (8, _), (7, _), (0, _), (1, _), (2, _), (4, _), (6, _)] := hl
                refine z_lload C dX6_where_124 hl 1 rfl ?_
                refine z_lstore C dX6_where_126 hl (by decide) rfl (fun ls hl => ?_)
                have hl : lv_has ls 10 [(4, _), (3, _), (8, _), (7, _), (0, _), (1, _), (2, _), (6, _)] := hl
                refine z_iinc C dX6_where_128 hl (by decide) 7 rfl rfl (fun ls hl => ?_)
                have hl : lv_has ls 10 [(6, _), (4, _), (3, _), (8, _), (7, _), (0, _), (1, _), (2, _)] := hl
                refine z_goto C 37 dX6_where_131 (by decide) ?_
                exact hL_37 (k + 1) ((k : Int), cost (plP P b k) b) _ _ _ _ ls (by omega) (by omega) (by rw [whF, if_neg q8, ← iS, scS, if_neg (fun z => z.1 c_107)]) ⟨_, rfl⟩ hS_100 hP hS (lv_sub hl [5, 6, 7, 2, 1, 0] rfl)
              · refine z_lload C dX6_where_110 hl 0 rfl ?_
                refine z_lload C dX6_where_112 hl 6 rfl ?_
                refine z_lcmp_lt C 121 dX6_where_114 dX6_where_115 (by decide) (by omega) (by omega) (fun c_114 => ?_) (fun c_114 => ?_)
                · refine z_iload C dX6_where_121 hl 7 rfl ?_
                  refine z_istore_n C dX6_where_123 rfl hl (by decide) rfl (fun ls hl => ?_)
                  have hl : lv_has ls 10 [(3, _), (8, _), (7, _), (0, _), (1, _), (2, _), (4, _), (6, _)] := hl
                  refine z_lload C dX6_where_124 hl 1 rfl ?_
                  refine z_lstore C dX6_where_126 hl (by decide) rfl (fun ls hl => ?_)
                  have hl : lv_has ls 10 [(4, _), (3, _), (8, _), (7, _), (0, _), (1, _), (2, _), (6, _)] := hl
                  refine z_iinc C dX6_where_128 hl (by decide) 7 rfl rfl (fun ls hl => ?_)
                  have hl : lv_has ls 10 [(6, _), (4, _), (3, _), (8, _), (7, _), (0, _), (1, _), (2, _)] := hl
                  refine z_goto C 37 dX6_where_131 (by decide) ?_
                  exact hL_37 (k + 1) ((k : Int), cost (plP P b k) b) _ _ _ _ ls (by omega) (by omega) (by rw [whF, if_neg q8, ← iS, scS, if_neg (fun z => absurd z.2 (Int.not_le.mpr c_114))]) ⟨_, rfl⟩ hS_100 hP hS (lv_sub hl [5, 6, 7, 2, 1, 0] rfl)
                · refine z_goto C 128 dX6_where_118 (by decide) ?_
                  refine z_iinc C dX6_where_128 hl (by decide) 7 rfl rfl (fun ls hl => ?_)
                  have hl : lv_has ls 10 [(6, _), (8, _), (7, _), (0, _), (1, _), (2, _), (3, _), (4, _)] := hl
                  refine z_goto C 37 dX6_where_131 (by decide) ?_
                  exact hL_37 (k + 1) st _ _ _ _ ls (by omega) (by omega) (by rw [whF, if_neg q8, ← iS, scS, if_pos ⟨c_107, c_114⟩]) ⟨_, rfl⟩ hS_100 hP hS (lv_sub hl [3, 4, 5, 6, 7, 0] rfl)
            · refine z_goto C 128 dX6_where_81 (by decide) ?_
              refine z_iinc C dX6_where_128 hl (by decide) 6 rfl rfl (fun ls hl => ?_)
              have hl : lv_has ls 10 [(6, _), (7, _), (0, _), (1, _), (2, _), (3, _), (4, _)] := hl
              refine z_goto C 37 dX6_where_131 (by decide) ?_
              exact hL_37 (k + 1) st _ _ _ _ ls (by omega) (by omega) (by rw [whF, if_pos ⟨c_72, c_78⟩, iS]) ⟨_, (plP_self P b).symm⟩ hS_60 hP hS (lv_sub hl [2, 3, 4, 5, 6, 0] rfl)
    exact hL_37 _ 0 (-1, 0) _ _ _ _ ls (Nat.lt_succ_self _) (by omega) rfl ⟨_, (plP_self P b).symm⟩ hS_2 hP hS (lv_sub hl [4, 5, 3, 2, 1, 0] rfl)
  · replace c_10 := z01_f c_10
    refine z_bipush C dX6_where_13 rfl ?_
    exact m_mret_i C hQ hret hlk hS hP ⟨(if_neg (by assumption)).symm, hS_2⟩ dX6_where_15
theorem mcX6_litBy (l : Launch) (g : mG) (h : Nat) (ad : Nat → Nat) (P S : zS) (hPS : per S = P) (pl br : Int) (hW : WfR P 0) (h31 : P 31 0 = 0) (h32 : P 32 0 = 0) (hp : 0 ≤ pl ∧ pl < P 17 0) (hbr : 0 ≤ br ∧ br ≤ 99) : mML l g h ad yX6_litBy cX6_litBy 5 (k2_rm 6 143) [.int (iZ pl), .int (iZ br)] S (fun z1 S1 => z1 = litV P pl br ∧ per S1 = P) := by
  refine z_start (own := RX6) (by decide) rfl (Nat.le_of_ble_eq_true rfl) ?_
  intro prg env s mid blw mth cod ls Q C hQ hret hlk hnm hK hH hl
  have hP : MP g h ad S s.heap := hH
  have hS : va_S (MA h ad) s.heap s.heap [] := va_S.rf
  have hl : lv_has ls 5 [(0, .ref h), (1, .int (iZ pl)), (2, .int (iZ br))] := hl
  have w2 := hW.places
  refine z_aload_n C dX6_litBy_0 hl 0 rfl ?_
  refine z_iload_n C dX6_litBy_1 hl 1 rfl ?_
  refine m_puti C hK hP hS 31 (by decide) q1780 rfl rfl (by omega) dX6_litBy_2 (fun S_2 eS_2 H locs hP hS => ?_)
  have hS_2 := per_w2 rfl hPS eS_2
  refine z_aload_n C dX6_litBy_5 hl 0 rfl ?_
  refine z_iload_n C dX6_litBy_6 hl 2 rfl ?_
  refine m_puti C hK hP hS 32 (by decide) q1781 rfl rfl (by omega) dX6_litBy_7 (fun S_7 eS_7 H locs hP hS => ?_)
  have hS_7 := per_w2 rfl hS_2 eS_7
  have hS_7 : per S_7 = litP P pl br := hS_7
  refine z_aload_n C dX6_litBy_10 hl 0 rfl ?_
  refine z_iconst C dX6_litBy_11 ?_
  refine m_ml C vX6_398 (mcX6_allNow l g h ad _ _ hS_7 _ (litP_wf hW ⟨by omega, by omega⟩ hbr) (by omega)) hS hl ⟨Nat.le_of_ble_eq_true rfl, Nat.le_of_ble_eq_true rfl⟩ ⟨rfl, rfl⟩ hK hP (fun _ h9 => h9) rfl rfl (Nat.le_of_ble_eq_true rfl) dX6_litBy_12 ⟨Nat.zero_le _, Nat.zero_le _⟩ (fun v_12 S_12 H locs pS_12 hP hS => ?_)
  obtain ⟨e_12, pS_12⟩ := pS_12
  subst e_12
  have hS_12 : per S_12 = _ := (pS_12.pr rfl hS_7)
  refine z_lstore_n C dX6_litBy_15 rfl hl (by decide) rfl (fun ls hl => ?_)
  have hl : lv_has ls 5 [(3, _), (0, _), (1, _), (2, _)] := hl
  refine z_aload_n C dX6_litBy_16 hl 1 rfl ?_
  refine z_iconst C dX6_litBy_17 ?_
  refine m_puti C hK hP hS 32 (by decide) q1781 rfl rfl (by omega) dX6_litBy_18 (fun S_18 eS_18 H locs hP hS => ?_)
  have hS_18 := per_w2 rfl hS_12 eS_18
  refine z_aload_n C dX6_litBy_21 hl 1 rfl ?_
  refine z_iconst C dX6_litBy_22 ?_
  refine m_puti C hK hP hS 31 (by decide) q1780 rfl rfl (by omega) dX6_litBy_23 (fun S_23 eS_23 H locs hP hS => ?_)
  have hS_23 := per_w2 rfl hS_18 eS_23
  refine z_lload_n C dX6_litBy_26 hl 0 rfl ?_
  exact m_mret_l C hQ hret hlk hS hP ⟨rfl, by rw [hS_23, litP_back pl br h31 h32]⟩ dX6_litBy_27
theorem mcX6_isBright (l : Launch) (n : Int) (hn : I32 n) : sPI l yX6_isBright cX6_isBright 1 .boolean (k2_rm 1 25) [.int (iZ n)] (if 0 ≤ n ∧ n ≤ 99 then 1 else 0) := by
  intro H0
  refine z_start (own := RX6) (by decide) rfl (Nat.le_of_ble_eq_true rfl) ?_
  intro prg env s mid blw mth cod ls Q C hQ hret hlk hnm hK hH hl
  subst hH
  have hS : va_S nA s.heap s.heap [] := va_S.rf
  have hl : lv_has ls 1 [(0, .int (iZ n))] := hl
  refine z_iload_n C dX6_isBright_0 hl 0 rfl ?_
  refine z_i2l C dX6_isBright_1 (by omega) ?_
  refine z_lconst (v := 0) C dX6_isBright_2 rfl ?_
  refine z_ldc2 (v := 99) C q2361 dX6_isBright_3 rfl ?_
  refine s_pi C vX6_119 (mcX6_in l _ _ _ (by omega) (by omega) (by omega)) hS hl ⟨Nat.le_of_ble_eq_true rfl, Nat.le_of_ble_eq_true rfl⟩ ⟨rfl, rfl⟩ rfl rfl (Nat.le_of_ble_eq_true rfl) dX6_isBright_6 ⟨Nat.zero_le _, Nat.zero_le _⟩ (fun locs hS => ?_)
  exact z_pret_z C hQ hret hlk hS z01_any rfl dX6_isBright_9
theorem mcX6_lamp (l : Launch) (g : mG) (h : Nat) (ad : Nat → Nat) (P S : zS) (hPS : per S = P) (br : Int) (hW : WfR P 0) (h31 : P 31 0 = 0) (h32 : P 32 0 = 0) (hbr : I32 br) : mMI l g h ad yX6_lamp cX6_lamp 8 .int (k2_rm 7 167) [.int (iZ br)] S (fun z1 S1 => z1 = aLamp P br ∧ per S1 = P) := by
  refine z_start (own := RX6) (by decide) rfl (Nat.le_of_ble_eq_true rfl) ?_
  intro prg env s mid blw mth cod ls Q C hQ hret hlk hnm hK hH hl
  have hP : MP g h ad S s.heap := hH
  have hS : va_S (MA h ad) s.heap s.heap [] := va_S.rf
  have hl : lv_has ls 8 [(0, .ref h), (1, .int (iZ br))] := hl
  have w2 := hW.places
  refine z_aload_n C dX6_lamp_0 hl 0 rfl ?_
  refine z_iconst C dX6_lamp_1 ?_
  refine m_puti C hK hP hS 0 (by decide) q1749 rfl rfl (by omega) dX6_lamp_2 (fun S_2 eS_2 H locs hP hS => ?_)
  have hS_2 := per_s rfl hPS eS_2
  refine z_aload_n C dX6_lamp_5 hl 0 rfl ?_
  refine m_pi C vX6_354 (mcX6_isRail l g h ad _ _ hS_2 (by assumption)) hS hl ⟨Nat.le_of_ble_eq_true rfl, Nat.le_of_ble_eq_true rfl⟩ ⟨rfl, rfl⟩ hK hP rfl rfl (Nat.le_of_ble_eq_true rfl) dX6_lamp_6 ⟨Nat.zero_le _, Nat.zero_le _⟩ (fun locs hS => ?_)
  refine z_if_eq C 19 dX6_lamp_9 (by decide) z01_in (fun c_9 => ?_) (fun c_9 => ?_)
  · replace c_9 := z01_f c_9
    refine z_bipush C dX6_lamp_19 rfl ?_
    exact m_mret_i C hQ hret hlk hS hP ⟨(if_neg (by omega)).symm, hS_2⟩ dX6_lamp_21
  · replace c_9 := z01_t c_9
    refine z_iload_n C dX6_lamp_12 hl 1 rfl ?_
    refine s_pi C vX6_466 (mcX6_isBright l _ (by omega)) hS hl ⟨Nat.le_of_ble_eq_true rfl, Nat.le_of_ble_eq_true rfl⟩ ⟨rfl, rfl⟩ rfl rfl (Nat.le_of_ble_eq_true rfl) dX6_lamp_13 ⟨Nat.zero_le _, Nat.zero_le _⟩ (fun locs hS => ?_)
    refine z_if_ne C 22 dX6_lamp_16 (by decide) z01_in (fun c_16 => ?_) (fun c_16 => ?_)
    · replace c_16 := z01_t c_16
      refine z_iconst C dX6_lamp_22 ?_
      refine z_istore_n C dX6_lamp_23 rfl hl (by decide) rfl (fun ls hl => ?_)
      have hl : lv_has ls 8 [(2, _), (0, _), (1, _)] := hl
      refine z_lconst (v := 0) C dX6_lamp_24 rfl ?_
      refine z_lstore_n C dX6_lamp_25 rfl hl (by decide) rfl (fun ls hl => ?_)
      have hl : lv_has ls 8 [(3, _), (2, _), (0, _), (1, _)] := hl
      refine z_iconst C dX6_lamp_26 ?_
      refine z_istore C dX6_lamp_27 hl (by decide) rfl (fun ls hl => ?_)
      have hl : lv_has ls 8 [(5, _), (3, _), (2, _), (0, _), (1, _)] := hl
      have hL_29 : ∀ (fuel : Nat) (k : Nat) (bst ls_ : Int) (S1 : zS) (H : Heap) (locs : List Loc) (ls : Array Slot), (P 17 0).toNat - k < fuel → ((k : Int) ≤ P 17 0) → ((k = 0 ∧ bst = -1 ∧ ls_ = 0) ∨ (1 ≤ k ∧ bst = (amin (fun p => litV P p br) (k - 1) : Int) ∧ ls_ = litV P (amin (fun p => litV P p br) (k - 1)) br)) → per S1 = P → MP g h ad S1 H → va_S (MA h ad) s.heap H locs → lv_has ls 8 [(0, .ref h), (1, .int (iZ br)), (2, .int (iZ bst)), (3, .long (lZ ls_)), (5, .int (iZ (k : Int)))] → W prg l env (k2_rm 7 167) s mid ([.ref h, .int (iZ br)] : List Value).toArray blw mth cod H locs 0 0 Q (F0 mid 29 ls []) := by
        intro fuel
        induction fuel with
        | zero => intro k bst ls_ S1  H locs ls hm; exact absurd hm (Nat.not_lt_zero _)
        | succ fuel hL_29 =>
          intro k bst ls_ S1  H locs ls hm ik iS hPS_29 hP  hS hl
          refine z_iload C dX6_lamp_29 hl 4 rfl ?_
          refine z_aload_n C dX6_lamp_31 hl 0 rfl ?_
          refine m_geta C hK hP 17 (by decide) q1766 rfl (by decide) dX6_lamp_32 ?_
          refine z_iconst C dX6_lamp_35 ?_
          refine m_iald C hK hP 17 (by decide) rfl (by have h9 : mlen 17 = 5 := rfl; omega) (pe hPS_29 rfl) dX6_lamp_36 (fun r_36 => ?_)
          refine z_icmp_ge C 76 dX6_lamp_37 (by decide) (by omega) (by omega) (fun c_37 => ?_) (fun c_37 => ?_)
          · refine z_iload_n C dX6_lamp_76 hl 2 rfl ?_
            exact m_mret_i C hQ hret hlk hS hP ⟨by rw [aLamp, if_pos ⟨c_9, c_16⟩, lampAt, show (P 17 0).toNat - 1 = k - 1 by omega]; rcases iS with z | z; omega; exact z.2.1, hPS_29⟩ dX6_lamp_77
          · have q1 := allOf_in (litP_wf hW (pl := k) (br := br) ⟨by omega, by omega⟩ (by omega)) 1
            have q10 : 0 ≤ litV P k br ∧ litV P k br ≤ 6618780000 := q1
            refine z_aload_n C dX6_lamp_40 hl 0 rfl ?_
            refine z_iload C dX6_lamp_41 hl 4 rfl ?_
            refine z_iload_n C dX6_lamp_43 hl 1 rfl ?_
            refine m_ml C vX6_469 (mcX6_litBy l g h ad _ _ hPS_29 _ _ (by assumption) (by omega) (by omega) (by omega) (by omega)) hS hl ⟨Nat.le_of_ble_eq_true rfl, Nat.le_of_ble_eq_true rfl⟩ ⟨rfl, rfl⟩ hK hP (fun _ h9 => h9) rfl rfl (Nat.le_of_ble_eq_true rfl) dX6_lamp_44 ⟨Nat.zero_le _, Nat.zero_le _⟩ (fun v_44 S_44 H locs pS_44 hP hS => ?_)
            obtain ⟨e_44, pS_44⟩ := pS_44
            subst e_44
            have hS_44 : per S_44 = P := pS_44
            refine z_lstore C dX6_lamp_47 hl (by decide) rfl (fun ls hl => ?_)
            have hl : lv_has ls 8 [(6, _), (0, _), (1, _), (2, _), (3, _), (5, _)] := hl
            have q7 := amin_le (fun p => litV P p br) (k - 1)
            refine z_iload_n C dX6_lamp_49 hl 3 rfl ?_
            refine z_iconst C dX6_lamp_50 ?_
            refine z_icmp_eq C 64 dX6_lamp_51 (by decide) (by omega) (by omega) (fun c_51 => ?_) (fun c_51 => ?_)
            · have q4 : k = 0 := by rcases iS with z | z; exact z.1; omega
              refine z_iload C dX6_lamp_64 hl 5 rfl ?_
              refine z_istore_n C dX6_lamp_66 rfl hl (by decide) rfl (fun ls hl => ?_)
              have hl : lv_has ls 8 [(2, _), (6, _), (0, _), (1, _), (3, _), (5, _)] := hl
              refine z_lload C dX6_lamp_67 hl 1 rfl ?_
              refine z_lstore_n C dX6_lamp_69 rfl hl (by decide) rfl (fun ls hl => ?_)
              have hl : lv_has ls 8 [(3, _), (2, _), (6, _), (0, _), (1, _), (5, _)] := hl
              refine z_iinc C dX6_lamp_70 hl (by decide) 5 rfl rfl (fun ls hl => ?_)
              have hl : lv_has ls 8 [(5, _), (3, _), (2, _), (6, _), (0, _), (1, _)] := hl
              refine z_goto C 29 dX6_lamp_73 (by decide) ?_
              exact hL_29 (k + 1) _ _ _ _ _ ls (by omega) (by omega) (Or.inr ⟨by omega, by rw [show k + 1 - 1 = 0 by omega, show k = 0 by omega]; rfl, by rw [show k + 1 - 1 = 0 by omega, show k = 0 by omega]; rfl⟩) hS_44 hP hS (lv_sub hl [4, 5, 2, 1, 0] rfl)
            · have q4 : 1 ≤ k ∧ bst = (amin (fun p => litV P p br) (k - 1) : Int) ∧ ls_ = litV P (amin (fun p => litV P p br) (k - 1)) br := by rcases iS with z | z; omega; exact z
              have q2 : k + 1 - 1 = (k - 1) + 1 := by omega
              have q3 : k - 1 + 1 = k := by omega
              have q5 := amin_le (fun p => litV P p br) (k - 1)
              have q6 : 0 ≤ litV P (amin (fun p => litV P p br) (k - 1)) br ∧ litV P (amin (fun p => litV P p br) (k - 1)) br ≤ 6618780000 := allOf_in (litP_wf hW ⟨by omega, by omega⟩ (by omega)) 1
              refine z_lload C dX6_lamp_54 hl 0 rfl ?_
              refine z_lload_n C dX6_lamp_56 hl 4 rfl ?_
              refine z_lcmp_lt C 64 dX6_lamp_57 dX6_lamp_58 (by decide) (by omega) (by omega) (fun c_57 => ?_) (fun c_57 => ?_)
              · refine z_iload C dX6_lamp_64 hl 5 rfl ?_
                refine z_istore_n C dX6_lamp_66 rfl hl (by decide) rfl (fun ls hl => ?_)
                have hl : lv_has ls 8 [(2, _), (6, _), (0, _), (1, _), (3, _), (5, _)] := hl
                refine z_lload C dX6_lamp_67 hl 1 rfl ?_
                refine z_lstore_n C dX6_lamp_69 rfl hl (by decide) rfl (fun ls hl => ?_)
                have hl : lv_has ls 8 [(3, _), (2, _), (6, _), (0, _), (1, _), (5, _)] := hl
                refine z_iinc C dX6_lamp_70 hl (by decide) 5 rfl rfl (fun ls hl => ?_)
                have hl : lv_has ls 8 [(5, _), (3, _), (2, _), (6, _), (0, _), (1, _)] := hl
                refine z_goto C 29 dX6_lamp_73 (by decide) ?_
                exact hL_29 (k + 1) _ _ _ _ _ ls (by omega) (by omega) (Or.inr ⟨by omega, by rw [q2, amin_s, q3, if_pos (by omega)], by rw [q2, amin_s, q3, if_pos (by omega)]⟩) hS_44 hP hS (lv_sub hl [4, 5, 2, 1, 0] rfl)
              · refine z_goto C 70 dX6_lamp_61 (by decide) ?_
                refine z_iinc C dX6_lamp_70 hl (by decide) 5 rfl rfl (fun ls hl => ?_)
                have hl : lv_has ls 8 [(5, _), (6, _), (0, _), (1, _), (2, _), (3, _)] := hl
                refine z_goto C 29 dX6_lamp_73 (by decide) ?_
                exact hL_29 (k + 1) _ _ _ _ _ ls (by omega) (by omega) (Or.inr ⟨by omega, by rw [q2, amin_s, q3, if_neg (by omega)]; exact q4.2.1, by rw [q2, amin_s, q3, if_neg (by omega)]; exact q4.2.2⟩) hS_44 hP hS (lv_sub hl [2, 3, 4, 5, 0] rfl)
      exact hL_29 _ 0 (-1) 0 _ _ _ ls (Nat.lt_succ_self _) (by omega) (Or.inl ⟨rfl, rfl, rfl⟩) hS_2 hP hS (lv_sub hl [3, 4, 2, 1, 0] rfl)
    · replace c_16 := z01_f c_16
      refine z_bipush C dX6_lamp_19 rfl ?_
      exact m_mret_i C hQ hret hlk hS hP ⟨(if_neg (by omega)).symm, hS_2⟩ dX6_lamp_21
theorem mcX6_lit (l : Launch) (g : mG) (h : Nat) (ad : Nat → Nat) (P S : zS) (hPS : per S = P) (pl br : Int) (hW : WfR P 0) (h31 : P 31 0 = 0) (h32 : P 32 0 = 0) (hip : I32 pl) (hib : I32 br) : mML l g h ad yX6_lit cX6_lit 3 (k2_rm 7 167) [.int (iZ pl), .int (iZ br)] S (fun z1 S1 => z1 = aLit P pl br ∧ per S1 = P) := by
  refine z_start (own := RX6) (by decide) rfl (Nat.le_of_ble_eq_true rfl) ?_
  intro prg env s mid blw mth cod ls Q C hQ hret hlk hnm hK hH hl
  have hP : MP g h ad S s.heap := hH
  have hS : va_S (MA h ad) s.heap s.heap [] := va_S.rf
  have hl : lv_has ls 3 [(0, .ref h), (1, .int (iZ pl)), (2, .int (iZ br))] := hl
  have w2 := hW.places
  refine z_aload_n C dX6_lit_0 hl 0 rfl ?_
  refine z_iconst C dX6_lit_1 ?_
  refine m_puti C hK hP hS 0 (by decide) q1749 rfl rfl (by omega) dX6_lit_2 (fun S_2 eS_2 H locs hP hS => ?_)
  have hS_2 := per_s rfl hPS eS_2
  refine z_aload_n C dX6_lit_5 hl 0 rfl ?_
  refine z_iload_n C dX6_lit_6 hl 1 rfl ?_
  refine m_pi C vX6_312 (mcX6_isPlace l g h ad _ _ hS_2 _ (by assumption) (by omega)) hS hl ⟨Nat.le_of_ble_eq_true rfl, Nat.le_of_ble_eq_true rfl⟩ ⟨rfl, rfl⟩ hK hP rfl rfl (Nat.le_of_ble_eq_true rfl) dX6_lit_7 ⟨Nat.zero_le _, Nat.zero_le _⟩ (fun locs hS => ?_)
  refine z_if_eq C 29 dX6_lit_10 (by decide) z01_in (fun c_10 => ?_) (fun c_10 => ?_)
  · replace c_10 := z01_f c_10
    refine z_ldc2 (v := -2) C q2155 dX6_lit_29 rfl ?_
    exact m_mret_l C hQ hret hlk hS hP ⟨by unfold aLit; split <;> first | rfl | omega, hS_2⟩ dX6_lit_32
  · replace c_10 := z01_t c_10
    refine z_iload_n C dX6_lit_13 hl 2 rfl ?_
    refine s_pi C vX6_466 (mcX6_isBright l _ (by omega)) hS hl ⟨Nat.le_of_ble_eq_true rfl, Nat.le_of_ble_eq_true rfl⟩ ⟨rfl, rfl⟩ rfl rfl (Nat.le_of_ble_eq_true rfl) dX6_lit_14 ⟨Nat.zero_le _, Nat.zero_le _⟩ (fun locs hS => ?_)
    refine z_if_eq C 29 dX6_lit_17 (by decide) z01_in (fun c_17 => ?_) (fun c_17 => ?_)
    · replace c_17 := z01_f c_17
      refine z_ldc2 (v := -2) C q2155 dX6_lit_29 rfl ?_
      exact m_mret_l C hQ hret hlk hS hP ⟨by unfold aLit; split <;> first | rfl | omega, hS_2⟩ dX6_lit_32
    · replace c_17 := z01_t c_17
      refine z_aload_n C dX6_lit_20 hl 0 rfl ?_
      refine z_iload_n C dX6_lit_21 hl 1 rfl ?_
      refine z_iload_n C dX6_lit_22 hl 2 rfl ?_
      refine m_ml C vX6_469 (mcX6_litBy l g h ad _ _ hS_2 _ _ (by assumption) (by omega) (by omega) (by omega) (by omega)) hS hl ⟨Nat.le_of_ble_eq_true rfl, Nat.le_of_ble_eq_true rfl⟩ ⟨rfl, rfl⟩ hK hP (fun _ h9 => h9) rfl rfl (Nat.le_of_ble_eq_true rfl) dX6_lit_23 ⟨Nat.zero_le _, Nat.zero_le _⟩ (fun v_23 S_23 H locs pS_23 hP hS => ?_)
      obtain ⟨e_23, pS_23⟩ := pS_23
      subst e_23
      have hS_23 : per S_23 = P := pS_23
      refine z_goto C 32 dX6_lit_26 (by decide) ?_
      exact m_mret_l C hQ hret hlk hS hP ⟨by unfold aLit; split <;> first | rfl | omega, hS_23⟩ dX6_lit_32
theorem mcX6_watch (l : Launch) (g : mG) (h : Nat) (ad : Nat → Nat) (P S : zS) (hPS : per S = P) (w : Int) (hW : WfR P 0) (hw : w = 0 ∨ w = 1) : mMI l g h ad yX6_watch cX6_watch 3 .int (k2_rm 0 0) [.int (iZ w)] S (fun z1 S1 => z1 = aWatch P ∧ per S1 = pWatch P w) := by
  refine z_start (own := RX6) (by decide) rfl (Nat.le_of_ble_eq_true rfl) ?_
  intro prg env s mid blw mth cod ls Q C hQ hret hlk hnm hK hH hl
  have hP : MP g h ad S s.heap := hH
  have hS : va_S (MA h ad) s.heap s.heap [] := va_S.rf
  have hl : lv_has ls 3 [(0, .ref h), (1, .int (iZ w))] := hl
  refine z_aload_n C dX6_watch_0 hl 0 rfl ?_
  refine z_iconst C dX6_watch_1 ?_
  refine m_puti C hK hP hS 0 (by decide) q1749 rfl rfl (by omega) dX6_watch_2 (fun S_2 eS_2 H locs hP hS => ?_)
  have hS_2 := per_s rfl hPS eS_2
  refine z_aload_n C dX6_watch_5 hl 0 rfl ?_
  refine m_geta C hK hP 27 (by decide) q1776 rfl (by decide) dX6_watch_6 ?_
  refine z_iconst C dX6_watch_9 ?_
  refine m_iald C hK hP 27 (by decide) rfl (by have h9 : mlen 27 = 35 := rfl; omega) (pe hS_2 rfl) dX6_watch_10 (fun r_10 => ?_)
  refine z_if_ne C 17 dX6_watch_11 (by decide) (by omega) (fun c_11 => ?_) (fun c_11 => ?_)
  · refine z_aload_n C dX6_watch_17 hl 0 rfl ?_
    refine m_geta C hK hP 27 (by decide) q1776 rfl (by decide) dX6_watch_18 ?_
    refine z_bipush C dX6_watch_21 rfl ?_
    refine m_iald C hK hP 27 (by decide) rfl (by have h9 : mlen 27 = 35 := rfl; omega) (pe hS_2 rfl) dX6_watch_23 (fun r_23 => ?_)
    refine z_istore_n C dX6_watch_24 rfl hl (by decide) rfl (fun ls hl => ?_)
    have hl : lv_has ls 3 [(2, _), (0, _), (1, _)] := hl
    refine z_aload_n C dX6_watch_25 hl 1 rfl ?_
    refine m_geta C hK hP 27 (by decide) q1776 rfl (by decide) dX6_watch_26 ?_
    refine z_bipush C dX6_watch_29 rfl ?_
    refine z_iload_n C dX6_watch_31 hl 2 rfl ?_
    refine z_if_eq C 39 dX6_watch_32 (by decide) (by omega) (fun c_32 => ?_) (fun c_32 => ?_)
    · refine z_iconst C dX6_watch_39 ?_
      refine m_iast C hK hP hS 27 (by decide) rfl (by have h9 : mlen 27 = 35 := rfl; omega) (by omega) dX6_watch_40 (fun S_40 eS_40 H locs hP hS => ?_)
      have hS_40 := per_w2 rfl hS_2 eS_40
      refine z_iload_n C dX6_watch_41 hl 0 rfl ?_
      exact m_mret_i C hQ hret hlk hS hP ⟨(if_neg (by assumption)).symm, by rw [pWatch, if_neg (by assumption), hS_40, wtP]; congr 1; omega⟩ dX6_watch_42
    · refine z_iconst C dX6_watch_35 ?_
      refine z_goto C 40 dX6_watch_36 (by decide) ?_
      refine m_iast C hK hP hS 27 (by decide) rfl (by have h9 : mlen 27 = 35 := rfl; omega) (by omega) dX6_watch_40 (fun S_40 eS_40 H locs hP hS => ?_)
      have hS_40 := per_w2 rfl hS_2 eS_40
      refine z_iload_n C dX6_watch_41 hl 0 rfl ?_
      exact m_mret_i C hQ hret hlk hS hP ⟨(if_neg (by assumption)).symm, by rw [pWatch, if_neg (by assumption), hS_40, wtP]; congr 1; omega⟩ dX6_watch_42
  · refine z_bipush C dX6_watch_14 rfl ?_
    exact m_mret_i C hQ hret hlk hS hP ⟨(if_pos (by assumption)).symm, by rw [pWatch, if_pos (by assumption)]; exact hS_2⟩ dX6_watch_16
theorem mcX6_laysWatch (l : Launch) (g : mG) (h : Nat) (ad : Nat → Nat) (P S : zS) (hPS : per S = P)  (hW : WfR P 0) : mMV l g h ad yX6_laysWatch cX6_laysWatch 3 (k2_rm 5 119) [] S (fun S1 => per S1 = P ∧ ∀ k : Nat, k < (P 23 0).toNat → S1 43 (k : Int) = saveF P k) := by
  refine z_start (own := RX6) (by decide) rfl (Nat.le_of_ble_eq_true rfl) ?_
  intro prg env s mid blw mth cod ls Q C hQ hret hlk hnm hK hH hl
  have hP : MP g h ad S s.heap := hH
  have hS : va_S (MA h ad) s.heap s.heap [] := va_S.rf
  have hl : lv_has ls 3 [(0, .ref h)] := hl
  have w1 := hW.bikes
  have w4 : 0 ≤ P 27 6 ∧ P 27 6 ≤ 1 := hW.set.2.2.2.2.2.2
  have w5 := wtP_wf hW (w := 0) (by decide)
  have w6 := wtP_wf hW (w := 1) (by decide)
  have w7 : ∀ x, wtP P x 23 0 = P 23 0 := fun x => by rw [wtP_k _ _ (by decide)]
  refine z_aload_n C dX6_laysWatch_0 hl 0 rfl ?_
  refine m_geta C hK hP 27 (by decide) q1776 rfl (by decide) dX6_laysWatch_1 ?_
  refine z_bipush C dX6_laysWatch_4 rfl ?_
  refine m_iald C hK hP 27 (by decide) rfl (by have h9 : mlen 27 = 35 := rfl; omega) (pe hPS rfl) dX6_laysWatch_6 (fun r_6 => ?_)
  refine z_istore_n C dX6_laysWatch_7 rfl hl (by decide) rfl (fun ls hl => ?_)
  have hl : lv_has ls 3 [(1, _), (0, _)] := hl
  refine z_aload_n C dX6_laysWatch_8 hl 1 rfl ?_
  refine m_geta C hK hP 27 (by decide) q1776 rfl (by decide) dX6_laysWatch_9 ?_
  refine z_bipush C dX6_laysWatch_12 rfl ?_
  refine z_iconst C dX6_laysWatch_14 ?_
  refine m_iast C hK hP hS 27 (by decide) rfl (by have h9 : mlen 27 = 35 := rfl; omega) (by omega) dX6_laysWatch_15 (fun S_15 eS_15 H locs hP hS => ?_)
  have hS_15 := per_w2 rfl hPS eS_15
  have hS_15 : per S_15 = wtP P 0 := hS_15
  refine z_aload_n C dX6_laysWatch_16 hl 1 rfl ?_
  refine m_mv C vX6_362 (mcX6_night l g h ad _ _ hS_15 w5) hS hl ⟨Nat.le_of_ble_eq_true rfl, Nat.le_of_ble_eq_true rfl⟩ ⟨rfl, rfl⟩ hK hP (fun _ h9 => h9) rfl rfl (Nat.le_of_ble_eq_true rfl) dX6_laysWatch_17 ⟨Nat.zero_le _, Nat.zero_le _⟩ (fun S_17 H locs pS_17 hP hS => ?_)
  have hS_17 : per S_17 = _ := (pS_17.1.pr rfl hS_15)
  refine z_iconst C dX6_laysWatch_20 ?_
  refine z_istore_n C dX6_laysWatch_21 rfl hl (by decide) rfl (fun ls hl => ?_)
  have hl : lv_has ls 3 [(2, _), (1, _), (0, _)] := hl
  have hL_22 : ∀ (fuel : Nat) (k : Nat) (S1 : zS) (H : Heap) (locs : List Loc) (ls : Array Slot), (P 23 0).toNat - k < fuel → ((k : Int) ≤ P 23 0) → (NightIs (wtP P 0) S1) → (∀ s : Nat, s < k → S1 43 (s : Int) = loss (wtP P 0) s) → per S1 = wtP P 0 → MP g h ad S1 H → va_S (MA h ad) s.heap H locs → lv_has ls 3 [(0, .ref h), (1, .int (iZ (P 27 6))), (2, .int (iZ (k : Int)))] → W prg l env (k2_rm 5 119) s mid ([.ref h] : List Value).toArray blw mth cod H locs 0 0 Q (F0 mid 22 ls []) := by
    intro fuel
    induction fuel with
    | zero => intro k S1  H locs ls hm; exact absurd hm (Nat.not_lt_zero _)
    | succ fuel hL_22 =>
      intro k S1  H locs ls hm ik iN iG hPS_22 hP  hS hl
      refine z_iload_n C dX6_laysWatch_22 hl 2 rfl ?_
      refine z_aload_n C dX6_laysWatch_23 hl 0 rfl ?_
      refine m_geta C hK hP 23 (by decide) q1772 rfl (by decide) dX6_laysWatch_24 ?_
      refine z_iconst C dX6_laysWatch_27 ?_
      refine m_iald C hK hP 23 (by decide) rfl (by have h9 : mlen 23 = 5 := rfl; omega) (pe hPS_22 rfl) dX6_laysWatch_28 (fun r_28 => ?_)
      refine z_icmp_ge C 49 dX6_laysWatch_29 (by decide) (by omega) (by have := w7 0; omega) (fun c_29 => ?_) (fun c_29 => ?_)
      · rw [w7] at c_29
        refine z_aload_n C dX6_laysWatch_49 hl 0 rfl ?_
        refine m_geta C hK hP 27 (by decide) q1776 rfl (by decide) dX6_laysWatch_50 ?_
        refine z_bipush C dX6_laysWatch_53 rfl ?_
        refine z_iconst C dX6_laysWatch_55 ?_
        refine m_iast C hK hP hS 27 (by decide) rfl (by have h9 : mlen 27 = 35 := rfl; omega) (by omega) dX6_laysWatch_56 (fun S_56 eS_56 H locs hP hS => ?_)
        have hS_56 := per_w2 rfl hPS_22 eS_56
        have hS_56 : per S_56 = wtP P 1 := hS_56.trans (wtP_over P 0 1)
        refine z_aload_n C dX6_laysWatch_57 hl 0 rfl ?_
        refine m_mv C vX6_362 (mcX6_night l g h ad _ _ hS_56 w6) hS hl ⟨Nat.le_of_ble_eq_true rfl, Nat.le_of_ble_eq_true rfl⟩ ⟨rfl, rfl⟩ hK hP (fun _ h9 => h9) rfl rfl (Nat.le_of_ble_eq_true rfl) dX6_laysWatch_58 ⟨Nat.zero_le _, Nat.zero_le _⟩ (fun S_58 H locs pS_58 hP hS => ?_)
        have hS_58 : per S_58 = _ := (pS_58.1.pr rfl hS_56)
        refine z_iconst C dX6_laysWatch_61 ?_
        refine z_istore_n C dX6_laysWatch_62 rfl hl (by decide) rfl (fun ls hl => ?_)
        have hl : lv_has ls 3 [(2, _), (0, _), (1, _)] := hl
        have hL_63 : ∀ (fuel : Nat) (k : Nat) (S2 : zS) (H : Heap) (locs : List Loc) (ls : Array Slot), (P 23 0).toNat - k < fuel → ((k : Int) ≤ P 23 0) → (NightIs (wtP P 1) S2) → (∀ s : Nat, s < k → S2 43 (s : Int) = saveF P s) → (∀ s : Nat, k ≤ s → s < (P 23 0).toNat → S2 43 (s : Int) = loss (wtP P 0) s) → per S2 = wtP P 1 → MP g h ad S2 H → va_S (MA h ad) s.heap H locs → lv_has ls 3 [(0, .ref h), (1, .int (iZ (P 27 6))), (2, .int (iZ (k : Int)))] → W prg l env (k2_rm 5 119) s mid ([.ref h] : List Value).toArray blw mth cod H locs 0 0 Q (F0 mid 63 ls []) := by
          intro fuel
          induction fuel with
          | zero => intro k S2  H locs ls hm; exact absurd hm (Nat.not_lt_zero _)
          | succ fuel hL_63 =>
            intro k S2  H locs ls hm jk jN jG jH hPS_63 hP  hS hl
            refine z_iload_n C dX6_laysWatch_63 hl 2 rfl ?_
            refine z_aload_n C dX6_laysWatch_64 hl 0 rfl ?_
            refine m_geta C hK hP 23 (by decide) q1772 rfl (by decide) dX6_laysWatch_65 ?_
            refine z_iconst C dX6_laysWatch_68 ?_
            refine m_iald C hK hP 23 (by decide) rfl (by have h9 : mlen 23 = 5 := rfl; omega) (pe hPS_63 rfl) dX6_laysWatch_69 (fun r_69 => ?_)
            refine z_icmp_ge C 93 dX6_laysWatch_70 (by decide) (by omega) (by have := w7 1; omega) (fun c_70 => ?_) (fun c_70 => ?_)
            · rw [w7] at c_70
              refine z_aload_n C dX6_laysWatch_93 hl 0 rfl ?_
              refine m_geta C hK hP 27 (by decide) q1776 rfl (by decide) dX6_laysWatch_94 ?_
              refine z_bipush C dX6_laysWatch_97 rfl ?_
              refine z_iload_n C dX6_laysWatch_99 hl 1 rfl ?_
              refine m_iast C hK hP hS 27 (by decide) rfl (by have h9 : mlen 27 = 35 := rfl; omega) (by omega) dX6_laysWatch_100 (fun S_100 eS_100 H locs hP hS => ?_)
              have hS_100 := per_w2 rfl hPS_63 eS_100
              exact m_mret_v C hQ hret hlk hS hP ⟨by rw [hS_100]; exact (wtP_over P 1 _).trans (wtP_self P), fun s hs => by rw [eS_100, zup_k _ _ _ (by decide)]; exact jG s (by omega)⟩ dX6_laysWatch_101
            · rw [w7] at c_70
              have q2 := jH k (Nat.le_refl _) (by omega)
              have q3 := loss_in w5 (b := k) ⟨by omega, by rw [w7]; omega⟩
              have q4 := loss_in w6 (b := k) ⟨by omega, by rw [w7]; omega⟩
              refine z_aload_n C dX6_laysWatch_73 hl 0 rfl ?_
              refine m_geta C hK hP 43 (by decide) q1792 rfl (by decide) dX6_laysWatch_74 ?_
              refine z_iload_n C dX6_laysWatch_77 hl 2 rfl ?_
              refine z_dup2_11 C dX6_laysWatch_78 rfl rfl ?_
              refine m_lald C hK hP 43 (by decide) rfl (by have h9 : mlen 43 = 10 := rfl; omega) rfl dX6_laysWatch_79 (fun r_79 => ?_)
              refine z_aload_n C dX6_laysWatch_80 hl 0 rfl ?_
              refine z_iload_n C dX6_laysWatch_81 hl 2 rfl ?_
              refine m_pl C vX6_382 (mcX6_lossOf l g h ad _ _ hPS_63 _ w6 jN ⟨by omega, by rw [w7]; omega⟩) hS hl ⟨Nat.le_of_ble_eq_true rfl, Nat.le_of_ble_eq_true rfl⟩ ⟨rfl, rfl⟩ hK hP rfl rfl (Nat.le_of_ble_eq_true rfl) dX6_laysWatch_82 ⟨Nat.zero_le _, Nat.zero_le _⟩ (fun locs hS => ?_)
              refine z_lsub C dX6_laysWatch_85 ?_
              refine m_last C hK hP hS 43 (by decide) rfl (by have h9 : mlen 43 = 10 := rfl; omega) (by omega) dX6_laysWatch_86 (fun S_86 eS_86 H locs hP hS => ?_)
              have hS_86 := per_s rfl hPS_63 eS_86
              refine z_iinc C dX6_laysWatch_87 hl (by decide) 2 rfl rfl (fun ls hl => ?_)
              have hl : lv_has ls 3 [(2, _), (0, _), (1, _)] := hl
              refine z_goto C 63 dX6_laysWatch_90 (by decide) ?_
              exact hL_63 (k + 1) _ _ _ ls (by omega) (by omega) (NightIs.mv jN (Fr.up Fr.rf eS_86 (by decide : 43 ∈ [43])) (by decide) (by decide)) (zfill jG eS_86 (by rw [q2]; rfl)) (fun s h1 h2 => by rw [eS_86, zup_n _ _ _ _ (by omega)]; exact jH s (by omega) h2) hS_86 hP hS (lv_sub hl [1, 2, 0] rfl)
        exact hL_63 _ 0 _ _ _ ls (Nat.lt_succ_self _) (by omega) pS_58.2 (fun s hs => absurd hs (Nat.not_lt_zero _)) (fun s h1 h2 => by rw [pS_58.1 43 (by decide), eS_56, zup_k _ _ _ (by decide)]; exact iG s (by omega)) hS_58 hP hS (lv_sub hl [1, 2, 0] rfl)
      · rw [w7] at c_29
        have q1 := loss_in w5 (b := k) ⟨by omega, by rw [w7]; omega⟩
        refine z_aload_n C dX6_laysWatch_32 hl 0 rfl ?_
        refine m_geta C hK hP 43 (by decide) q1792 rfl (by decide) dX6_laysWatch_33 ?_
        refine z_iload_n C dX6_laysWatch_36 hl 2 rfl ?_
        refine z_aload_n C dX6_laysWatch_37 hl 0 rfl ?_
        refine z_iload_n C dX6_laysWatch_38 hl 2 rfl ?_
        refine m_pl C vX6_382 (mcX6_lossOf l g h ad _ _ hPS_22 _ w5 iN ⟨by omega, by rw [w7]; omega⟩) hS hl ⟨Nat.le_of_ble_eq_true rfl, Nat.le_of_ble_eq_true rfl⟩ ⟨rfl, rfl⟩ hK hP rfl rfl (Nat.le_of_ble_eq_true rfl) dX6_laysWatch_39 ⟨Nat.zero_le _, Nat.zero_le _⟩ (fun locs hS => ?_)
        refine m_last C hK hP hS 43 (by decide) rfl (by have h9 : mlen 43 = 10 := rfl; omega) (by omega) dX6_laysWatch_42 (fun S_42 eS_42 H locs hP hS => ?_)
        have hS_42 := per_s rfl hPS_22 eS_42
        refine z_iinc C dX6_laysWatch_43 hl (by decide) 2 rfl rfl (fun ls hl => ?_)
        have hl : lv_has ls 3 [(2, _), (0, _), (1, _)] := hl
        refine z_goto C 22 dX6_laysWatch_46 (by decide) ?_
        exact hL_22 (k + 1) _ _ _ ls (by omega) (by omega) (NightIs.mv iN (Fr.up Fr.rf eS_42 (by decide : 43 ∈ [43])) (by decide) (by decide)) (zfill iG eS_42 rfl) hS_42 hP hS (lv_sub hl [1, 2, 0] rfl)
  exact hL_22 _ 0 _ _ _ ls (Nat.lt_succ_self _) (by omega) pS_17.2 (fun s hs => absurd hs (Nat.not_lt_zero _)) hS_17 hP hS (lv_sub hl [2, 1, 0] rfl)
theorem mcX6_penny (l : Launch) (g : mG) (h : Nat) (ad : Nat → Nat) (P S : zS) (hPS : per S = P)  (hW : WfR P 0) : mML l g h ad yX6_penny cX6_penny 4 (k2_rm 6 141) [] S (fun z1 S1 => z1 = aPenny P ∧ per S1 = P) := by
  refine z_start (own := RX6) (by decide) rfl (Nat.le_of_ble_eq_true rfl) ?_
  intro prg env s mid blw mth cod ls Q C hQ hret hlk hnm hK hH hl
  have hP : MP g h ad S s.heap := hH
  have hS : va_S (MA h ad) s.heap s.heap [] := va_S.rf
  have hl : lv_has ls 4 [(0, .ref h)] := hl
  have w1 := hW.bikes
  refine z_aload_n C dX6_penny_0 hl 0 rfl ?_
  refine z_iconst C dX6_penny_1 ?_
  refine m_puti C hK hP hS 0 (by decide) q1749 rfl rfl (by omega) dX6_penny_2 (fun S_2 eS_2 H locs hP hS => ?_)
  have hS_2 := per_s rfl hPS eS_2
  refine z_aload_n C dX6_penny_5 hl 0 rfl ?_
  refine m_geta C hK hP 27 (by decide) q1776 rfl (by decide) dX6_penny_6 ?_
  refine z_iconst C dX6_penny_9 ?_
  refine m_iald C hK hP 27 (by decide) rfl (by have h9 : mlen 27 = 35 := rfl; omega) (pe hS_2 rfl) dX6_penny_10 (fun r_10 => ?_)
  refine z_if_ne C 18 dX6_penny_11 (by decide) (by omega) (fun c_11 => ?_) (fun c_11 => ?_)
  · refine z_aload_n C dX6_penny_18 hl 0 rfl ?_
    refine m_mv C vX6_472 (mcX6_laysWatch l g h ad _ _ hS_2 (by assumption)) hS hl ⟨Nat.le_of_ble_eq_true rfl, Nat.le_of_ble_eq_true rfl⟩ ⟨rfl, rfl⟩ hK hP (fun _ h9 => h9) rfl rfl (Nat.le_of_ble_eq_true rfl) dX6_penny_19 ⟨Nat.zero_le _, Nat.zero_le _⟩ (fun S_19 H locs pS_19 hP hS => ?_)
    have hS_19 : per S_19 = P := pS_19.1
    refine z_aload_n C dX6_penny_22 hl 0 rfl ?_
    refine m_pl C vX6_385 (mcX6_wages l g h ad _ _ hS_19 (by assumption)) hS hl ⟨Nat.le_of_ble_eq_true rfl, Nat.le_of_ble_eq_true rfl⟩ ⟨rfl, rfl⟩ hK hP rfl rfl (Nat.le_of_ble_eq_true rfl) dX6_penny_23 ⟨Nat.zero_le _, Nat.zero_le _⟩ (fun locs hS => ?_)
    refine z_lneg C dX6_penny_26 ?_
    refine z_lstore_n C dX6_penny_27 rfl hl (by decide) rfl (fun ls hl => ?_)
    have hl : lv_has ls 4 [(1, _), (0, _)] := hl
    refine z_iconst C dX6_penny_28 ?_
    refine z_istore_n C dX6_penny_29 rfl hl (by decide) rfl (fun ls hl => ?_)
    have hl : lv_has ls 4 [(3, _), (1, _), (0, _)] := hl
    have hL_30 : ∀ (fuel : Nat) (k : Nat) (n : Int) (H : Heap) (locs : List Loc) (ls : Array Slot), (P 23 0).toNat - k < fuel → ((k : Int) ≤ P 23 0) → (n = -(wages P) + zsm (fun b => saveF P b) k) → MP g h ad S_19 H → va_S (MA h ad) s.heap H locs → lv_has ls 4 [(0, .ref h), (1, .long (lZ n)), (3, .int (iZ (k : Int)))] → W prg l env (k2_rm 6 141) s mid ([.ref h] : List Value).toArray blw mth cod H locs 0 0 Q (F0 mid 30 ls []) := by
      intro fuel
      induction fuel with
      | zero => intro k n  H locs ls hm; exact absurd hm (Nat.not_lt_zero _)
      | succ fuel hL_30 =>
        intro k n  H locs ls hm ik iN hP  hS hl
        refine z_iload_n C dX6_penny_30 hl 2 rfl ?_
        refine z_aload_n C dX6_penny_31 hl 0 rfl ?_
        refine m_geta C hK hP 23 (by decide) q1772 rfl (by decide) dX6_penny_32 ?_
        refine z_iconst C dX6_penny_35 ?_
        refine m_iald C hK hP 23 (by decide) rfl (by have h9 : mlen 23 = 5 := rfl; omega) (pe hS_19 rfl) dX6_penny_36 (fun r_36 => ?_)
        refine z_icmp_ge C 55 dX6_penny_37 (by decide) (by omega) (by omega) (fun c_37 => ?_) (fun c_37 => ?_)
        · refine z_lload_n C dX6_penny_55 hl 1 rfl ?_
          exact m_mret_l C hQ hret hlk hS hP ⟨by rw [aPenny, if_neg (by assumption), iN, show (P 23 0).toNat = k by omega], hS_19⟩ dX6_penny_56
        · refine z_lload_n C dX6_penny_40 hl 1 rfl ?_
          refine z_aload_n C dX6_penny_41 hl 0 rfl ?_
          refine m_geta C hK hP 43 (by decide) q1792 rfl (by decide) dX6_penny_42 ?_
          refine z_iload_n C dX6_penny_45 hl 2 rfl ?_
          refine m_lald C hK hP 43 (by decide) rfl (by have h9 : mlen 43 = 10 := rfl; omega) rfl dX6_penny_46 (fun r_46 => ?_)
          refine z_ladd C dX6_penny_47 ?_
          refine z_lstore_n C dX6_penny_48 rfl hl (by decide) rfl (fun ls hl => ?_)
          have hl : lv_has ls 4 [(1, _), (0, _), (3, _)] := hl
          refine z_iinc C dX6_penny_49 hl (by decide) 2 rfl rfl (fun ls hl => ?_)
          have hl : lv_has ls 4 [(3, _), (1, _), (0, _)] := hl
          refine z_goto C 30 dX6_penny_52 (by decide) ?_
          exact hL_30 (k + 1) _ _ _ ls (by omega) (by omega) (by rw [zsm_s, iN, pS_19.2 k (by omega)]; omega) hP hS (lv_sub hl [2, 1, 0] rfl)
    exact hL_30 _ 0 _ _ _ ls (Nat.lt_succ_self _) (by omega) (by rw [zsm_0]; omega) hP hS (lv_sub hl [2, 1, 0] rfl)
  · refine z_ldc2 (v := -1000000000000) C q2321 dX6_penny_14 rfl ?_
    exact m_mret_l C hQ hret hlk hS hP ⟨(if_pos (by assumption)).symm, hS_2⟩ dX6_penny_17
theorem mcX6_enough (l : Launch) (g : mG) (h : Nat) (ad : Nat → Nat) (P S : zS) (hPS : per S = P)  (hW : WfR P 0) : mMI l g h ad yX6_enough cX6_enough 7 .int (k2_rm 6 141) [] S (fun z1 S1 => z1 = aEnough P ∧ per S1 = P) := by
  refine z_start (own := RX6) (by decide) rfl (Nat.le_of_ble_eq_true rfl) ?_
  intro prg env s mid blw mth cod ls Q C hQ hret hlk hnm hK hH hl
  have hP : MP g h ad S s.heap := hH
  have hS : va_S (MA h ad) s.heap s.heap [] := va_S.rf
  have hl : lv_has ls 7 [(0, .ref h)] := hl
  have w1 := hW.bikes
  have w2 := wages_in hW
  refine z_aload_n C dX6_enough_0 hl 0 rfl ?_
  refine z_iconst C dX6_enough_1 ?_
  refine m_puti C hK hP hS 0 (by decide) q1749 rfl rfl (by omega) dX6_enough_2 (fun S_2 eS_2 H locs hP hS => ?_)
  have hS_2 := per_s rfl hPS eS_2
  refine z_aload_n C dX6_enough_5 hl 0 rfl ?_
  refine m_geta C hK hP 27 (by decide) q1776 rfl (by decide) dX6_enough_6 ?_
  refine z_iconst C dX6_enough_9 ?_
  refine m_iald C hK hP 27 (by decide) rfl (by have h9 : mlen 27 = 35 := rfl; omega) (pe hS_2 rfl) dX6_enough_10 (fun r_10 => ?_)
  refine z_if_ne C 17 dX6_enough_11 (by decide) (by omega) (fun c_11 => ?_) (fun c_11 => ?_)
  · refine z_aload_n C dX6_enough_17 hl 0 rfl ?_
    refine m_mv C vX6_472 (mcX6_laysWatch l g h ad _ _ hS_2 (by assumption)) hS hl ⟨Nat.le_of_ble_eq_true rfl, Nat.le_of_ble_eq_true rfl⟩ ⟨rfl, rfl⟩ hK hP (fun _ h9 => h9) rfl rfl (Nat.le_of_ble_eq_true rfl) dX6_enough_18 ⟨Nat.zero_le _, Nat.zero_le _⟩ (fun S_18 H locs pS_18 hP hS => ?_)
    have hS_18 : per S_18 = P := pS_18.1
    refine z_aload_n C dX6_enough_21 hl 0 rfl ?_
    refine m_pl C vX6_385 (mcX6_wages l g h ad _ _ hS_18 (by assumption)) hS hl ⟨Nat.le_of_ble_eq_true rfl, Nat.le_of_ble_eq_true rfl⟩ ⟨rfl, rfl⟩ hK hP rfl rfl (Nat.le_of_ble_eq_true rfl) dX6_enough_22 ⟨Nat.zero_le _, Nat.zero_le _⟩ (fun locs hS => ?_)
    refine z_lstore_n C dX6_enough_25 rfl hl (by decide) rfl (fun ls hl => ?_)
    have hl : lv_has ls 7 [(1, _), (0, _)] := hl
    refine z_iconst C dX6_enough_26 ?_
    refine z_istore_n C dX6_enough_27 rfl hl (by decide) rfl (fun ls hl => ?_)
    have hl : lv_has ls 7 [(3, _), (1, _), (0, _)] := hl
    refine z_iconst C dX6_enough_28 ?_
    refine z_istore C dX6_enough_29 hl (by decide) rfl (fun ls hl => ?_)
    have hl : lv_has ls 7 [(4, _), (3, _), (1, _), (0, _)] := hl
    have hL_31 : ∀ (fuel : Nat) (n u : Nat) (left : Int) (H : Heap) (locs : List Loc) (ls : Array Slot), (P 23 0).toNat + 1 - n < fuel → ((n : Int) ≤ P 23 0 + 1) → (u < 1024) → (-(59940000 + 599940000 * (n : Int)) ≤ left ∧ left ≤ 59940000 + 599940000 * (n : Int)) → (enG (saveF P) (P 23 0).toNat ((P 23 0).toNat + 1 - n) n left u = enG (saveF P) (P 23 0).toNat ((P 23 0).toNat + 1) 0 (wages P) 0) → MP g h ad S_18 H → va_S (MA h ad) s.heap H locs → lv_has ls 7 [(0, .ref h), (1, .long (lZ left)), (3, .int (iZ (u : Int))), (4, .int (iZ (n : Int)))] → W prg l env (k2_rm 6 141) s mid ([.ref h] : List Value).toArray blw mth cod H locs 0 0 Q (F0 mid 31 ls []) := by
      intro fuel
      induction fuel with
      | zero => intro n u left  H locs ls hm; exact absurd hm (Nat.not_lt_zero _)
      | succ fuel hL_31 =>
        intro n u left  H locs ls hm in1 iu iL iE hP  hS hl
        refine z_iload C dX6_enough_31 hl 3 rfl ?_
        refine z_aload_n C dX6_enough_33 hl 0 rfl ?_
        refine m_geta C hK hP 23 (by decide) q1772 rfl (by decide) dX6_enough_34 ?_
        refine z_iconst C dX6_enough_37 ?_
        refine m_iald C hK hP 23 (by decide) rfl (by have h9 : mlen 23 = 5 := rfl; omega) (pe hS_18 rfl) dX6_enough_38 (fun r_38 => ?_)
        refine z_icmp_gt C 142 dX6_enough_39 (by decide) (by omega) (by omega) (fun c_39 => ?_) (fun c_39 => ?_)
        · have q1 : (P 23 0).toNat + 1 - n = 0 := by omega
          refine z_iconst C dX6_enough_142 ?_
          exact m_mret_i C hQ hret hlk hS hP ⟨by rw [aEnough, if_neg (by assumption), ← iE, q1]; rfl, hS_18⟩ dX6_enough_143
        · have q1 : (P 23 0).toNat + 1 - n = ((P 23 0).toNat + 1 - (n + 1)) + 1 := by omega
          refine z_lload_n C dX6_enough_42 hl 1 rfl ?_
          refine z_lconst (v := 0) C dX6_enough_43 rfl ?_
          refine z_lcmp_gt C 51 dX6_enough_44 dX6_enough_45 (by decide) (by omega) (by omega) (fun c_44 => ?_) (fun c_44 => ?_)
          · refine z_iconst C dX6_enough_51 ?_
            refine z_istore C dX6_enough_52 hl (by decide) rfl (fun ls hl => ?_)
            have hl : lv_has ls 7 [(5, _), (0, _), (1, _), (3, _), (4, _)] := hl
            refine z_iconst C dX6_enough_54 ?_
            refine z_istore C dX6_enough_55 hl (by decide) rfl (fun ls hl => ?_)
            have hl : lv_has ls 7 [(6, _), (5, _), (0, _), (1, _), (3, _), (4, _)] := hl
            have hL_57 : ∀ (fuel : Nat) (k : Nat) (bst : Int) (H : Heap) (locs : List Loc) (ls : Array Slot), (P 23 0).toNat - k < fuel → ((k : Int) ≤ P 23 0) → (bst = bsF (saveF P) u k) → MP g h ad S_18 H → va_S (MA h ad) s.heap H locs → lv_has ls 7 [(0, .ref h), (1, .long (lZ left)), (3, .int (iZ (u : Int))), (4, .int (iZ (n : Int))), (5, .int (iZ bst)), (6, .int (iZ (k : Int)))] → W prg l env (k2_rm 6 141) s mid ([.ref h] : List Value).toArray blw mth cod H locs 0 0 Q (F0 mid 57 ls []) := by
              intro fuel
              induction fuel with
              | zero => intro k bst  H locs ls hm; exact absurd hm (Nat.not_lt_zero _)
              | succ fuel hL_57 =>
                intro k bst  H locs ls hm jk jB hP  hS hl
                have q2 := bsF_in (saveF P) u k
                refine z_iload C dX6_enough_57 hl 5 rfl ?_
                refine z_aload_n C dX6_enough_59 hl 0 rfl ?_
                refine m_geta C hK hP 23 (by decide) q1772 rfl (by decide) dX6_enough_60 ?_
                refine z_iconst C dX6_enough_63 ?_
                refine m_iald C hK hP 23 (by decide) rfl (by have h9 : mlen 23 = 5 := rfl; omega) (pe hS_18 rfl) dX6_enough_64 (fun r_64 => ?_)
                refine z_icmp_ge C 111 dX6_enough_65 (by decide) (by omega) (by omega) (fun c_65 => ?_) (fun c_65 => ?_)
                · have q8 : (P 23 0).toNat = k := by omega
                  refine z_iload C dX6_enough_111 hl 4 rfl ?_
                  refine z_iconst C dX6_enough_113 ?_
                  refine z_icmp_ne C 119 dX6_enough_114 (by decide) (by omega) (by omega) (fun c_114 => ?_) (fun c_114 => ?_)
                  · have q3 : ¬ bsF (saveF P) u (P 23 0).toNat = -1 := by rw [q8, ← jB]; exact c_114
                    have q4 := pS_18.2 bst.toNat (by omega)
                    rw [show ((bst.toNat : Nat) : Int) = bst by omega] at q4
                    have q5 := saveF_in hW (b := bst) ⟨by omega, by omega⟩
                    have q6 : left - saveF P (bsF (saveF P) u (P 23 0).toNat) = left - S_18 43 bst := by rw [q8, ← jB, q4]
                    have q70 : 2 ^ bst.toNat < 2 ^ 10 := Nat.pow_lt_pow_right (by decide) (by omega)
                    have q7 : 2 ^ (bsF (saveF P) u (P 23 0).toNat).toNat < 2 ^ 10 := Nat.pow_lt_pow_right (by decide) (by rw [q8, ← jB]; omega)
                    have q9 : bsF (saveF P) u (P 23 0).toNat = bst := by rw [q8, ← jB]
                    refine z_iload_n C dX6_enough_119 hl 2 rfl ?_
                    refine z_iconst C dX6_enough_120 ?_
                    refine z_iload C dX6_enough_121 hl 4 rfl ?_
                    refine z_ishl C dX6_enough_123 (zshl1 (by omega)) ?_
                    refine z_ior C dX6_enough_124 (iZ_or _ _ (by omega) (by omega)) ?_
                    refine z_istore_n C dX6_enough_125 rfl hl (by decide) rfl (fun ls hl => ?_)
                    have hl : lv_has ls 7 [(3, _), (0, _), (1, _), (4, _), (5, _), (6, _)] := hl
                    refine z_lload_n C dX6_enough_126 hl 2 rfl ?_
                    refine z_aload_n C dX6_enough_127 hl 1 rfl ?_
                    refine m_geta C hK hP 43 (by decide) q1792 rfl (by decide) dX6_enough_128 ?_
                    refine z_iload C dX6_enough_131 hl 4 rfl ?_
                    refine m_lald C hK hP 43 (by decide) rfl (by have h9 : mlen 43 = 10 := rfl; omega) rfl dX6_enough_133 (fun r_133 => ?_)
                    refine z_lsub C dX6_enough_134 ?_
                    refine z_lstore_n C dX6_enough_135 rfl hl (by decide) rfl (fun ls hl => ?_)
                    have hl : lv_has ls 7 [(1, _), (3, _), (0, _), (4, _), (5, _), (6, _)] := hl
                    refine z_iinc C dX6_enough_136 hl (by decide) 3 rfl rfl (fun ls hl => ?_)
                    have hl : lv_has ls 7 [(4, _), (1, _), (3, _), (0, _), (5, _), (6, _)] := hl
                    refine z_goto C 31 dX6_enough_139 (by decide) ?_
                    exact hL_31 (n + 1) (u ||| 2 ^ bst.toNat) _ _ _ ls (by omega) (by omega) (Nat.or_lt_two_pow (n := 10) iu q70) (by omega) (by rw [q1] at iE; rw [enG, if_neg (by omega), if_neg q3, q6, q9] at iE; exact iE) hP hS (lv_sub hl [3, 1, 2, 0] rfl)
                  · refine z_iconst C dX6_enough_117 ?_
                    exact m_mret_i C hQ hret hlk hS hP ⟨by rw [aEnough, if_neg (by assumption), ← iE, q1, enG, if_neg (by omega), if_pos (by rw [q8, ← jB]; exact c_114)], hS_18⟩ dX6_enough_118
                · refine z_iload_n C dX6_enough_68 hl 2 rfl ?_
                  refine z_iload C dX6_enough_69 hl 5 rfl ?_
                  refine z_ishr C dX6_enough_71 (iZ_shr (by omega) (by omega)) ?_
                  refine z_iconst C dX6_enough_72 ?_
                  refine z_iand C dX6_enough_73 (iZ_and1 _) ?_
                  refine z_if_ne C 105 dX6_enough_74 (by decide) (by omega) (fun c_74 => ?_) (fun c_74 => ?_)
                  · refine z_iinc C dX6_enough_105 hl (by decide) 5 rfl rfl (fun ls hl => ?_)
                    have hl : lv_has ls 7 [(6, _), (0, _), (1, _), (3, _), (4, _), (5, _)] := hl
                    refine z_goto C 57 dX6_enough_108 (by decide) ?_
                    exact hL_57 (k + 1) _ _ _ ls (by omega) (by omega) (by rw [bsF, if_pos (by omega)]; exact jB) hP hS (lv_sub hl [1, 2, 3, 4, 5, 0] rfl)
                  · refine z_iload C dX6_enough_77 hl 4 rfl ?_
                    refine z_iconst C dX6_enough_79 ?_
                    refine z_icmp_eq C 101 dX6_enough_80 (by decide) (by omega) (by omega) (fun c_80 => ?_) (fun c_80 => ?_)
                    · refine z_iload C dX6_enough_101 hl 5 rfl ?_
                      refine z_istore C dX6_enough_103 hl (by decide) rfl (fun ls hl => ?_)
                      have hl : lv_has ls 7 [(5, _), (0, _), (1, _), (3, _), (4, _), (6, _)] := hl
                      refine z_iinc C dX6_enough_105 hl (by decide) 5 rfl rfl (fun ls hl => ?_)
                      have hl : lv_has ls 7 [(6, _), (5, _), (0, _), (1, _), (3, _), (4, _)] := hl
                      refine z_goto C 57 dX6_enough_108 (by decide) ?_
                      exact hL_57 (k + 1) _ _ _ ls (by omega) (by omega) (by rw [bsF, if_neg (by omega), if_pos (by rw [← jB]; exact Or.inl c_80)]) hP hS (lv_sub hl [2, 3, 4, 5, 1, 0] rfl)
                    · have q3 := pS_18.2 k (by omega)
                      have q4 := pS_18.2 bst.toNat (by omega)
                      rw [show ((bst.toNat : Nat) : Int) = bst by omega] at q4
                      refine z_aload_n C dX6_enough_83 hl 0 rfl ?_
                      refine m_geta C hK hP 43 (by decide) q1792 rfl (by decide) dX6_enough_84 ?_
                      refine z_iload C dX6_enough_87 hl 5 rfl ?_
                      refine m_lald C hK hP 43 (by decide) rfl (by have h9 : mlen 43 = 10 := rfl; omega) rfl dX6_enough_89 (fun r_89 => ?_)
                      refine z_aload_n C dX6_enough_90 hl 0 rfl ?_
                      refine m_geta C hK hP 43 (by decide) q1792 rfl (by decide) dX6_enough_91 ?_
                      refine z_iload C dX6_enough_94 hl 4 rfl ?_
                      refine m_lald C hK hP 43 (by decide) rfl (by have h9 : mlen 43 = 10 := rfl; omega) rfl dX6_enough_96 (fun r_96 => ?_)
                      refine z_lcmp_le C 105 dX6_enough_97 dX6_enough_98 (by decide) (by omega) (by omega) (fun c_97 => ?_) (fun c_97 => ?_)
                      · refine z_iinc C dX6_enough_105 hl (by decide) 5 rfl rfl (fun ls hl => ?_)
                        have hl : lv_has ls 7 [(6, _), (0, _), (1, _), (3, _), (4, _), (5, _)] := hl
                        refine z_goto C 57 dX6_enough_108 (by decide) ?_
                        exact hL_57 (k + 1) _ _ _ ls (by omega) (by omega) (by rw [bsF, if_neg (by omega), if_neg (by rw [← jB]; omega)]; exact jB) hP hS (lv_sub hl [1, 2, 3, 4, 5, 0] rfl)
                      · refine z_iload C dX6_enough_101 hl 5 rfl ?_
                        refine z_istore C dX6_enough_103 hl (by decide) rfl (fun ls hl => ?_)
                        have hl : lv_has ls 7 [(5, _), (0, _), (1, _), (3, _), (4, _), (6, _)] := hl
                        refine z_iinc C dX6_enough_105 hl (by decide) 5 rfl rfl (fun ls hl => ?_)
                        have hl : lv_has ls 7 [(6, _), (5, _), (0, _), (1, _), (3, _), (4, _)] := hl
                        refine z_goto C 57 dX6_enough_108 (by decide) ?_
                        exact hL_57 (k + 1) _ _ _ ls (by omega) (by omega) (by rw [bsF, if_neg (by omega), if_pos (by rw [← jB]; omega)]) hP hS (lv_sub hl [2, 3, 4, 5, 1, 0] rfl)
            exact hL_57 _ 0 (-1) _ _ ls (Nat.lt_succ_self _) (by omega) rfl hP hS (lv_sub hl [2, 3, 4, 5, 1, 0] rfl)
          · refine z_iload C dX6_enough_48 hl 3 rfl ?_
            exact m_mret_i C hQ hret hlk hS hP ⟨by rw [aEnough, if_neg (by assumption), ← iE, q1, enG, if_pos (by omega)], hS_18⟩ dX6_enough_50
    exact hL_31 _ 0 0 (wages P) _ _ ls (Nat.lt_succ_self _) (by omega) (by omega) (by omega) rfl hP hS (lv_sub hl [3, 2, 1, 0] rfl)
  · refine z_bipush C dX6_enough_14 rfl ?_
    exact m_mret_i C hQ hret hlk hS hP ⟨(if_pos (by assumption)).symm, hS_2⟩ dX6_enough_16
theorem mcX6_marksSet (l : Launch) (g : mG) (h : Nat) (ad : Nat → Nat) (P S : zS) (hPS : per S = P) (mk : Int) (f : Nat → Int) (hW : WfR P 0) (hm : 0 ≤ mk ∧ mk ≤ 2047) (hf : ∀ k : Nat, (k : Int) < P 23 0 → mk / 2 ^ k % 2 = f k) : mMV l g h ad yX6_marksSet cX6_marksSet 3 (k2_rm 1 21) [.int (iZ mk)] S (fun S1 => per S1 = mkF P f (P 23 0).toNat ∧ Fr [24] S S1) := by
  refine z_start (own := RX6) (by decide) rfl (Nat.le_of_ble_eq_true rfl) ?_
  intro prg env s mid blw mth cod ls Q C hQ hret hlk hnm hK hH hl
  have hP : MP g h ad S s.heap := hH
  have hS : va_S (MA h ad) s.heap s.heap [] := va_S.rf
  have hl : lv_has ls 3 [(0, .ref h), (1, .int (iZ mk))] := hl
  have w1 := hW.bikes
  refine z_iconst C dX6_marksSet_0 ?_
  refine z_istore_n C dX6_marksSet_1 rfl hl (by decide) rfl (fun ls hl => ?_)
  have hl : lv_has ls 3 [(2, _), (0, _), (1, _)] := hl
  have hL_2 : ∀ (fuel : Nat) (k : Nat) (S1 : zS) (H : Heap) (locs : List Loc) (ls : Array Slot), (P 23 0).toNat - k < fuel → ((k : Int) ≤ P 23 0) → (Fr [24] S S1) → per S1 = mkF P f k → MP g h ad S1 H → va_S (MA h ad) s.heap H locs → lv_has ls 3 [(0, .ref h), (1, .int (iZ mk)), (2, .int (iZ (k : Int)))] → W prg l env (k2_rm 1 21) s mid ([.ref h, .int (iZ mk)] : List Value).toArray blw mth cod H locs 0 0 Q (F0 mid 2 ls []) := by
    intro fuel
    induction fuel with
    | zero => intro k S1  H locs ls hm; exact absurd hm (Nat.not_lt_zero _)
    | succ fuel hL_2 =>
      intro k S1  H locs ls hm ik iF hPS_2 hP  hS hl
      have q1 : mkF P f k 23 0 = P 23 0 := by rw [mkF_k _ _ _ (by decide)]
      refine z_iload_n C dX6_marksSet_2 hl 2 rfl ?_
      refine z_aload_n C dX6_marksSet_3 hl 0 rfl ?_
      refine m_geta C hK hP 23 (by decide) q1772 rfl (by decide) dX6_marksSet_4 ?_
      refine z_iconst C dX6_marksSet_7 ?_
      refine m_iald C hK hP 23 (by decide) rfl (by have h9 : mlen 23 = 5 := rfl; omega) (pe hPS_2 rfl) dX6_marksSet_8 (fun r_8 => ?_)
      refine z_icmp_ge C 35 dX6_marksSet_9 (by decide) (by omega) (by omega) (fun c_9 => ?_) (fun c_9 => ?_)
      · exact m_mret_v C hQ hret hlk hS hP ⟨by rw [hPS_2, show (P 23 0).toNat = k by omega], iF⟩ dX6_marksSet_35
      · refine z_aload_n C dX6_marksSet_12 hl 0 rfl ?_
        refine m_geta C hK hP 24 (by decide) q1773 rfl (by decide) dX6_marksSet_13 ?_
        refine z_iconst C dX6_marksSet_16 ?_
        refine z_iload_n C dX6_marksSet_17 hl 2 rfl ?_
        refine s_pi C vX6_323 (mcX6_at l _ _) hS hl ⟨Nat.le_of_ble_eq_true rfl, Nat.le_of_ble_eq_true rfl⟩ ⟨rfl, rfl⟩ rfl rfl (Nat.le_of_ble_eq_true rfl) dX6_marksSet_18 ⟨Nat.zero_le _, Nat.zero_le _⟩ (fun locs hS => ?_)
        refine z_iconst C dX6_marksSet_21 ?_
        refine z_iadd C dX6_marksSet_22 ?_
        refine z_iload_n C dX6_marksSet_23 hl 1 rfl ?_
        refine z_iload_n C dX6_marksSet_24 hl 2 rfl ?_
        refine z_ishr C dX6_marksSet_25 (iZ_shr (by omega) (by omega)) ?_
        refine z_iconst C dX6_marksSet_26 ?_
        refine z_iand C dX6_marksSet_27 (iZ_and1 _) ?_
        refine m_iast C hK hP hS 24 (by decide) rfl (by have h9 : mlen 24 = 250 := rfl; omega) (by omega) dX6_marksSet_28 (fun S_28 eS_28 H locs hP hS => ?_)
        have hS_28 := per_w2 rfl hPS_2 eS_28
        refine z_iinc C dX6_marksSet_29 hl (by decide) 2 rfl rfl (fun ls hl => ?_)
        have hl : lv_has ls 3 [(2, _), (0, _), (1, _)] := hl
        refine z_goto C 2 dX6_marksSet_32 (by decide) ?_
        exact hL_2 (k + 1) _ _ _ ls (by omega) (by omega) (Fr.up iF eS_28 (by decide)) (by rw [hS_28, hf k (by omega)]; rfl) hP hS (lv_sub hl [1, 2, 0] rfl)
  exact hL_2 _ 0 _ _ _ ls (Nat.lt_succ_self _) (by omega) Fr.rf hPS hP hS (lv_sub hl [1, 2, 0] rfl)
theorem mcX6_isWanted (l : Launch) (g : mG) (h : Nat) (ad : Nat → Nat) (P S : zS) (hPS : per S = P)  (hW : WfR P 0) : mMI l g h ad yX6_isWanted cX6_isWanted 2 .boolean (k2_rm 4 95) [] S (fun z1 S1 => z1 = wanted P ∧ Fr [33, 34, 35] S S1) := by
  refine z_start (own := RX6) (by decide) rfl (Nat.le_of_ble_eq_true rfl) ?_
  intro prg env s mid blw mth cod ls Q C hQ hret hlk hnm hK hH hl
  have hP : MP g h ad S s.heap := hH
  have hS : va_S (MA h ad) s.heap s.heap [] := va_S.rf
  have hl : lv_has ls 2 [(0, .ref h)] := hl
  have w3 := hW.thieves
  have w1 := hW.bikes
  refine z_aload_n C dX6_isWanted_0 hl 0 rfl ?_
  refine z_iconst C dX6_isWanted_1 ?_
  refine m_mv C vX6_343 (mcX6_lays l g h ad _ _ hPS _ (by assumption) (by omega)) hS hl ⟨Nat.le_of_ble_eq_true rfl, Nat.le_of_ble_eq_true rfl⟩ ⟨rfl, rfl⟩ hK hP (fun _ h9 => h9) rfl rfl (Nat.le_of_ble_eq_true rfl) dX6_isWanted_2 ⟨Nat.zero_le _, Nat.zero_le _⟩ (fun S_2 H locs pS_2 hP hS => ?_)
  have hS_2 : per S_2 = P := (pS_2.1.pr rfl hPS)
  refine z_iconst C dX6_isWanted_5 ?_
  refine z_istore_n C dX6_isWanted_6 rfl hl (by decide) rfl (fun ls hl => ?_)
  have hl : lv_has ls 2 [(1, _), (0, _)] := hl
  have hL_7 : ∀ (fuel : Nat) (k : Nat) (H : Heap) (locs : List Loc) (ls : Array Slot), (P 25 0).toNat - k < fuel → ((k : Int) ≤ P 25 0) → (wtN P ((P 25 0).toNat - k) k = wanted P) → MP g h ad S_2 H → va_S (MA h ad) s.heap H locs → lv_has ls 2 [(0, .ref h), (1, .int (iZ (k : Int)))] → W prg l env (k2_rm 4 95) s mid ([.ref h] : List Value).toArray blw mth cod H locs 0 0 Q (F0 mid 7 ls []) := by
    intro fuel
    induction fuel with
    | zero => intro k  H locs ls hm; exact absurd hm (Nat.not_lt_zero _)
    | succ fuel hL_7 =>
      intro k  H locs ls hm ik iN hP  hS hl
      refine z_iload_n C dX6_isWanted_7 hl 1 rfl ?_
      refine z_aload_n C dX6_isWanted_8 hl 0 rfl ?_
      refine m_geta C hK hP 25 (by decide) q1774 rfl (by decide) dX6_isWanted_9 ?_
      refine z_iconst C dX6_isWanted_12 ?_
      refine m_iald C hK hP 25 (by decide) rfl (by have h9 : mlen 25 = 5 := rfl; omega) (pe hS_2 rfl) dX6_isWanted_13 (fun r_13 => ?_)
      refine z_icmp_ge C 33 dX6_isWanted_14 (by decide) (by omega) (by omega) (fun c_14 => ?_) (fun c_14 => ?_)
      · have q1 : (P 25 0).toNat - k = 0 := by omega
        refine z_iconst C dX6_isWanted_33 ?_
        exact m_mret_z C hQ hret hlk hS hP (Or.inl rfl) ⟨by rw [← iN, q1]; rfl, pS_2.1⟩ dX6_isWanted_34
      · have q1 : (P 25 0).toNat - k = ((P 25 0).toNat - (k + 1)) + 1 := by omega
        refine z_aload_n C dX6_isWanted_17 hl 0 rfl ?_
        refine z_iload_n C dX6_isWanted_18 hl 1 rfl ?_
        refine m_pi C vX6_349 (mcX6_wantsOf l g h ad _ _ hS_2 (-1) _ (by assumption) pS_2.2 (by omega)) hS hl ⟨Nat.le_of_ble_eq_true rfl, Nat.le_of_ble_eq_true rfl⟩ ⟨rfl, rfl⟩ hK hP rfl rfl (Nat.le_of_ble_eq_true rfl) dX6_isWanted_19 ⟨Nat.zero_le _, Nat.zero_le _⟩ (fun locs hS => ?_)
        have q2 : 0 ≤ wants P k ∧ wants P k ≤ ((P 23 0).toNat : Int) * 1 := zsm_in (fun j hj => by split <;> omega)
        refine z_if_le C 27 dX6_isWanted_22 (by decide) (by omega) (fun c_22 => ?_) (fun c_22 => ?_)
        · refine z_iinc C dX6_isWanted_27 hl (by decide) 1 rfl rfl (fun ls hl => ?_)
          have hl : lv_has ls 2 [(1, _), (0, _)] := hl
          refine z_goto C 7 dX6_isWanted_30 (by decide) ?_
          exact hL_7 (k + 1) _ _ ls (by omega) (by omega) (by rw [q1, wtN, if_neg (by omega)] at iN; exact iN) hP hS (lv_sub hl [1, 0] rfl)
        · refine z_iconst C dX6_isWanted_25 ?_
          exact m_mret_z C hQ hret hlk hS hP (Or.inr rfl) ⟨by rw [← iN, q1, wtN, if_pos c_22], pS_2.1⟩ dX6_isWanted_26
  exact hL_7 _ 0 _ _ ls (Nat.lt_succ_self _) (by omega) rfl hP hS (lv_sub hl [1, 0] rfl)
theorem mcX6_marks (l : Launch) (g : mG) (h : Nat) (ad : Nat → Nat) (P S : zS) (hPS : per S = P)  (hW : WfR P 0) : mMI l g h ad yX6_marks cX6_marks 3 .int (k2_rm 5 116) [] S (fun z1 S1 => z1 = aMarks P ∧ per S1 = P) := by
  refine z_start (own := RX6) (by decide) rfl (Nat.le_of_ble_eq_true rfl) ?_
  intro prg env s mid blw mth cod ls Q C hQ hret hlk hnm hK hH hl
  have hP : MP g h ad S s.heap := hH
  have hS : va_S (MA h ad) s.heap s.heap [] := va_S.rf
  have hl : lv_has ls 3 [(0, .ref h)] := hl
  have w1 := hW.bikes
  have w2 := hW.places
  refine z_aload_n C dX6_marks_0 hl 0 rfl ?_
  refine z_iconst C dX6_marks_1 ?_
  refine m_puti C hK hP hS 0 (by decide) q1749 rfl rfl (by omega) dX6_marks_2 (fun S_2 eS_2 H locs hP hS => ?_)
  have hS_2 := per_s rfl hPS eS_2
  refine z_aload_n C dX6_marks_5 hl 0 rfl ?_
  refine m_pi C vX6_354 (mcX6_isRail l g h ad _ _ hS_2 (by assumption)) hS hl ⟨Nat.le_of_ble_eq_true rfl, Nat.le_of_ble_eq_true rfl⟩ ⟨rfl, rfl⟩ hK hP rfl rfl (Nat.le_of_ble_eq_true rfl) dX6_marks_6 ⟨Nat.zero_le _, Nat.zero_le _⟩ (fun locs hS => ?_)
  refine z_if_ne C 15 dX6_marks_9 (by decide) z01_in (fun c_9 => ?_) (fun c_9 => ?_)
  · replace c_9 := z01_t c_9
    refine z_aload_n C dX6_marks_15 hl 0 rfl ?_
    refine m_mv C vX6_438 (mcX6_laysAside l g h ad _ _ hS_2 (by assumption)) hS hl ⟨Nat.le_of_ble_eq_true rfl, Nat.le_of_ble_eq_true rfl⟩ ⟨rfl, rfl⟩ hK hP (fun _ h9 => h9) rfl rfl (Nat.le_of_ble_eq_true rfl) dX6_marks_16 ⟨Nat.zero_le _, Nat.zero_le _⟩ (fun S_16 H locs pS_16 hP hS => ?_)
    have hS_16 : per S_16 = P := (pS_16.1.pr rfl hS_2)
    refine z_iconst C dX6_marks_19 ?_
    refine z_istore_n C dX6_marks_20 rfl hl (by decide) rfl (fun ls hl => ?_)
    have hl : lv_has ls 3 [(1, _), (0, _)] := hl
    refine z_iconst C dX6_marks_21 ?_
    refine z_istore_n C dX6_marks_22 rfl hl (by decide) rfl (fun ls hl => ?_)
    have hl : lv_has ls 3 [(2, _), (1, _), (0, _)] := hl
    have hL_23 : ∀ (fuel : Nat) (k : Nat) (fd : Int) (S1 : zS) (Q1 : zS) (H : Heap) (locs : List Loc) (ls : Array Slot), (P 23 0).toNat + 1 - k < fuel → ((k : Int) ≤ P 23 0 + 1) → (∀ b : Nat, b < (P 23 0).toNat → S1 40 (b : Int) = optOf P b) → (WfR Q1 0) → (OptEq P Q1) → (Q1 = P ∨ ∃ f, Q1 = mkF P f (P 23 0).toNat) → ((fd = -1 ∧ mrN P ((P 23 0).toNat + 1 - k) k = mrN P ((P 23 0).toNat + 1) 0) ∨ (0 ≤ fd ∧ fd ≤ 10 ∧ fd = mrN P ((P 23 0).toNat + 1) 0)) → per S1 = Q1 → MP g h ad S1 H → va_S (MA h ad) s.heap H locs → lv_has ls 3 [(0, .ref h), (1, .int (iZ fd)), (2, .int (iZ (k : Int)))] → W prg l env (k2_rm 5 116) s mid ([.ref h] : List Value).toArray blw mth cod H locs 0 0 Q (F0 mid 23 ls []) := by
      intro fuel
      induction fuel with
      | zero => intro k fd S1 Q1  H locs ls hm; exact absurd hm (Nat.not_lt_zero _)
      | succ fuel hL_23 =>
        intro k fd S1 Q1  H locs ls hm ik iA iW iO iM iE hPS_23 hP  hS hl
        have q0 : Q1 23 0 = P 23 0 := by rw [iO.1 23 (by decide)]
        refine z_iload_n C dX6_marks_23 hl 2 rfl ?_
        refine z_aload_n C dX6_marks_24 hl 0 rfl ?_
        refine m_geta C hK hP 23 (by decide) q1772 rfl (by decide) dX6_marks_25 ?_
        refine z_iconst C dX6_marks_28 ?_
        refine m_iald C hK hP 23 (by decide) rfl (by have h9 : mlen 23 = 5 := rfl; omega) (pe hPS_23 rfl) dX6_marks_29 (fun r_29 => ?_)
        refine z_icmp_gt C 66 dX6_marks_30 (by decide) (by omega) (by omega) (fun c_30 => ?_) (fun c_30 => ?_)
        · refine z_aload_n C dX6_marks_66 hl 0 rfl ?_
          refine m_mv C vX6_441 (mcX6_takesBack l g h ad _ _ hPS_23 P hW iO iA) hS hl ⟨Nat.le_of_ble_eq_true rfl, Nat.le_of_ble_eq_true rfl⟩ ⟨rfl, rfl⟩ hK hP (fun _ h9 => h9) rfl rfl (Nat.le_of_ble_eq_true rfl) dX6_marks_67 ⟨Nat.zero_le _, Nat.zero_le _⟩ (fun S_67 H locs pS_67 hP hS => ?_)
          obtain ⟨hS_67, pS_67⟩ := pS_67
          refine z_iload_n C dX6_marks_70 hl 1 rfl ?_
          exact m_mret_i C hQ hret hlk hS hP ⟨by rw [aMarks, if_pos c_9]; rcases iE with z | z; rw [show (P 23 0).toNat + 1 - k = 0 by omega] at z; rw [z.1, ← z.2]; rfl; exact z.2.2, hS_67⟩ dX6_marks_71
        · have q1 : (P 23 0).toNat + 1 - k = ((P 23 0).toNat + 1 - (k + 1)) + 1 := by omega
          have q2 := zpow_in (k := (k : Int)) (M := 10) (by omega)
          have q4 := mkF_ok hW (firstM_01 k) (n := (P 23 0).toNat) (by omega)
          have q3 := firstM_bits k (by omega)
          rw [show ((k : Int)).toNat = k by omega] at q2
          refine z_iload_n C dX6_marks_33 hl 1 rfl ?_
          refine z_iconst C dX6_marks_34 ?_
          refine z_icmp_ne C 66 dX6_marks_35 (by decide) (by omega) (by omega) (fun c_35 => ?_) (fun c_35 => ?_)
          · refine z_aload_n C dX6_marks_66 hl 0 rfl ?_
            refine m_mv C vX6_441 (mcX6_takesBack l g h ad _ _ hPS_23 P hW iO iA) hS hl ⟨Nat.le_of_ble_eq_true rfl, Nat.le_of_ble_eq_true rfl⟩ ⟨rfl, rfl⟩ hK hP (fun _ h9 => h9) rfl rfl (Nat.le_of_ble_eq_true rfl) dX6_marks_67 ⟨Nat.zero_le _, Nat.zero_le _⟩ (fun S_67 H locs pS_67 hP hS => ?_)
            obtain ⟨hS_67, pS_67⟩ := pS_67
            refine z_iload_n C dX6_marks_70 hl 1 rfl ?_
            exact m_mret_i C hQ hret hlk hS hP ⟨by rw [aMarks, if_pos c_9]; rcases iE with z | z; rw [show (P 23 0).toNat + 1 - k = 0 by omega] at z; rw [z.1, ← z.2]; rfl; exact z.2.2, hS_67⟩ dX6_marks_71
          · have q5 : mrN P ((P 23 0).toNat + 1 - k) k = mrN P ((P 23 0).toNat + 1) 0 := by rcases iE with z | z; exact z.2; omega
            refine z_aload_n C dX6_marks_38 hl 0 rfl ?_
            refine z_iconst C dX6_marks_39 ?_
            refine z_iload_n C dX6_marks_40 hl 2 rfl ?_
            refine z_ishl C dX6_marks_41 (zshl1 (by omega)) ?_
            refine z_iconst C dX6_marks_42 ?_
            refine z_isub C dX6_marks_43 ?_
            refine m_mv C vX6_475 (mcX6_marksSet l g h ad _ _ hPS_23 _ (firstM k) iW (by rw [show ((k : Int)).toNat = k by omega]; omega) (fun j hj => by rw [show ((k : Int)).toNat = k by omega]; exact q3 j (by omega))) hS hl ⟨Nat.le_of_ble_eq_true rfl, Nat.le_of_ble_eq_true rfl⟩ ⟨rfl, rfl⟩ hK hP (fun _ h9 => h9) rfl rfl (Nat.le_of_ble_eq_true rfl) dX6_marks_44 ⟨Nat.zero_le _, Nat.zero_le _⟩ (fun S_44 H locs pS_44 hP hS => ?_)
            obtain ⟨hS_44, pS_44⟩ := pS_44
            rw [show Q1 23 = P 23 from iO.1 23 (by decide)] at hS_44
            rw [show mkF Q1 (firstM k) (P 23 0).toNat = mkF P (firstM k) (P 23 0).toNat by rcases iM with z | ⟨f, z⟩; rw [z]; rw [z, mkF_over]] at hS_44
            refine z_aload_n C dX6_marks_47 hl 0 rfl ?_
            refine m_mi C vX6_478 (mcX6_isWanted l g h ad _ _ hS_44 q4.1) hS hl ⟨Nat.le_of_ble_eq_true rfl, Nat.le_of_ble_eq_true rfl⟩ ⟨rfl, rfl⟩ hK hP (fun _ h9 => h9) rfl rfl (Nat.le_of_ble_eq_true rfl) dX6_marks_48 ⟨Nat.zero_le _, Nat.zero_le _⟩ (fun v_48 S_48 H locs pS_48 hP hS => ?_)
            obtain ⟨e_48, pS_48⟩ := pS_48
            subst e_48
            have hS_48 : per S_48 = _ := (pS_48.pr rfl hS_44)
            have q6 : wanted (mkF P (firstM k) (P 23 0).toNat) = 0 ∨ wanted (mkF P (firstM k) (P 23 0).toNat) = 1 := wtN_01 _ _ _
            refine z_if_eq C 58 dX6_marks_51 (by decide) (by omega) (fun c_51 => ?_) (fun c_51 => ?_)
            · refine z_iload_n C dX6_marks_58 hl 2 rfl ?_
              refine z_istore_n C dX6_marks_59 rfl hl (by decide) rfl (fun ls hl => ?_)
              have hl : lv_has ls 3 [(1, _), (0, _), (2, _)] := hl
              refine z_iinc C dX6_marks_60 hl (by decide) 2 rfl rfl (fun ls hl => ?_)
              have hl : lv_has ls 3 [(2, _), (1, _), (0, _)] := hl
              refine z_goto C 23 dX6_marks_63 (by decide) ?_
              exact hL_23 (k + 1) _ _ _ _ _ ls (by omega) (by omega) (fun b hb => by rw [pS_48 40 (by decide), pS_44 40 (by decide)]; exact iA b hb) q4.1 q4.2 (Or.inr ⟨_, rfl⟩) (Or.inr ⟨by omega, by omega, by rw [q1, mrN, if_pos c_51] at q5; exact q5⟩) hS_48 hP hS (lv_sub hl [2, 1, 0] rfl)
            · refine z_iconst C dX6_marks_54 ?_
              refine z_goto C 59 dX6_marks_55 (by decide) ?_
              refine z_istore_n C dX6_marks_59 rfl hl (by decide) rfl (fun ls hl => ?_)
              have hl : lv_has ls 3 [(1, _), (0, _), (2, _)] := hl
              refine z_iinc C dX6_marks_60 hl (by decide) 2 rfl rfl (fun ls hl => ?_)
              have hl : lv_has ls 3 [(2, _), (1, _), (0, _)] := hl
              refine z_goto C 23 dX6_marks_63 (by decide) ?_
              exact hL_23 (k + 1) _ _ _ _ _ ls (by omega) (by omega) (fun b hb => by rw [pS_48 40 (by decide), pS_44 40 (by decide)]; exact iA b hb) q4.1 q4.2 (Or.inr ⟨_, rfl⟩) (Or.inl ⟨rfl, by rw [q1, mrN, if_neg c_51] at q5; exact q5⟩) hS_48 hP hS (lv_sub hl [2, 1, 0] rfl)
    exact hL_23 _ 0 (-1) _ _ _ _ ls (Nat.lt_succ_self _) (by omega) pS_16.2 hW (OptEq.rf P) (Or.inl rfl) (Or.inl ⟨rfl, rfl⟩) hS_16 hP hS (lv_sub hl [2, 1, 0] rfl)
  · replace c_9 := z01_f c_9
    refine z_bipush C dX6_marks_12 rfl ?_
    exact m_mret_i C hQ hret hlk hS hP ⟨(if_neg (by assumption)).symm, hS_2⟩ dX6_marks_14
theorem mcX6_hides (l : Launch) (g : mG) (h : Nat) (ad : Nat → Nat) (P S : zS) (hPS : per S = P) (b : Int) (hW : WfR P 0) (hib : I32 b) : mML l g h ad yX6_hides cX6_hides 4 (k2_rm 5 119) [.int (iZ b)] S (fun z1 S1 => z1 = aHides P b ∧ per S1 = P) := by
  refine z_start (own := RX6) (by decide) rfl (Nat.le_of_ble_eq_true rfl) ?_
  intro prg env s mid blw mth cod ls Q C hQ hret hlk hnm hK hH hl
  have hP : MP g h ad S s.heap := hH
  have hS : va_S (MA h ad) s.heap s.heap [] := va_S.rf
  have hl : lv_has ls 4 [(0, .ref h), (1, .int (iZ b))] := hl
  have w1 := hW.bikes
  refine z_aload_n C dX6_hides_0 hl 0 rfl ?_
  refine z_iconst C dX6_hides_1 ?_
  refine m_puti C hK hP hS 0 (by decide) q1749 rfl rfl (by omega) dX6_hides_2 (fun S_2 eS_2 H locs hP hS => ?_)
  have hS_2 := per_s rfl hPS eS_2
  refine z_aload_n C dX6_hides_5 hl 0 rfl ?_
  refine z_iload_n C dX6_hides_6 hl 1 rfl ?_
  refine m_pi C vX6_318 (mcX6_isBike l g h ad _ _ hS_2 _ (by assumption) (by omega)) hS hl ⟨Nat.le_of_ble_eq_true rfl, Nat.le_of_ble_eq_true rfl⟩ ⟨rfl, rfl⟩ hK hP rfl rfl (Nat.le_of_ble_eq_true rfl) dX6_hides_7 ⟨Nat.zero_le _, Nat.zero_le _⟩ (fun locs hS => ?_)
  refine z_if_ne C 17 dX6_hides_10 (by decide) z01_in (fun c_10 => ?_) (fun c_10 => ?_)
  · replace c_10 := z01_t c_10
    have hb : 0 ≤ b ∧ b < P 23 0 := by omega
    have q1 := mkF_ok hW (f := fun _ => 0) (fun _ => by decide) (n := (P 23 0).toNat) (by omega)
    have q2 := mkF_ok hW (butM_01 b.toNat) (n := (P 23 0).toNat) (by omega)
    have q3 := butM_bits (P 23 0).toNat (by omega) b.toNat (by omega)
    have q4 := zpow_in (k := P 23 0) (M := 10) (by omega)
    have q6 := zpow_in (k := b) (M := 10) (by omega)
    have q5 : ∀ f, mkF P f (P 23 0).toNat 23 0 = P 23 0 := fun f => by rw [mkF_k _ _ _ (by decide)]
    refine z_aload_n C dX6_hides_17 hl 0 rfl ?_
    refine m_mv C vX6_438 (mcX6_laysAside l g h ad _ _ hS_2 (by assumption)) hS hl ⟨Nat.le_of_ble_eq_true rfl, Nat.le_of_ble_eq_true rfl⟩ ⟨rfl, rfl⟩ hK hP (fun _ h9 => h9) rfl rfl (Nat.le_of_ble_eq_true rfl) dX6_hides_18 ⟨Nat.zero_le _, Nat.zero_le _⟩ (fun S_18 H locs pS_18 hP hS => ?_)
    have hS_18 : per S_18 = P := (pS_18.1.pr rfl hS_2)
    refine z_aload_n C dX6_hides_21 hl 0 rfl ?_
    refine z_iconst C dX6_hides_22 ?_
    refine m_mv C vX6_475 (mcX6_marksSet l g h ad _ _ hS_18 _ (fun _ => 0) (by assumption) (by omega) (fun k _ => by simp)) hS hl ⟨Nat.le_of_ble_eq_true rfl, Nat.le_of_ble_eq_true rfl⟩ ⟨rfl, rfl⟩ hK hP (fun _ h9 => h9) rfl rfl (Nat.le_of_ble_eq_true rfl) dX6_hides_23 ⟨Nat.zero_le _, Nat.zero_le _⟩ (fun S_23 H locs pS_23 hP hS => ?_)
    obtain ⟨hS_23, pS_23⟩ := pS_23
    refine z_aload_n C dX6_hides_26 hl 0 rfl ?_
    refine m_mv C vX6_362 (mcX6_night l g h ad _ _ hS_23 q1.1) hS hl ⟨Nat.le_of_ble_eq_true rfl, Nat.le_of_ble_eq_true rfl⟩ ⟨rfl, rfl⟩ hK hP (fun _ h9 => h9) rfl rfl (Nat.le_of_ble_eq_true rfl) dX6_hides_27 ⟨Nat.zero_le _, Nat.zero_le _⟩ (fun S_27 H locs pS_27 hP hS => ?_)
    have hS_27 : per S_27 = _ := (pS_27.1.pr rfl hS_23)
    refine z_aload_n C dX6_hides_30 hl 0 rfl ?_
    refine z_iload_n C dX6_hides_31 hl 1 rfl ?_
    refine m_pl C vX6_382 (mcX6_lossOf l g h ad _ _ hS_27 _ q1.1 pS_27.2 ⟨by omega, by rw [q5]; omega⟩) hS hl ⟨Nat.le_of_ble_eq_true rfl, Nat.le_of_ble_eq_true rfl⟩ ⟨rfl, rfl⟩ hK hP rfl rfl (Nat.le_of_ble_eq_true rfl) dX6_hides_32 ⟨Nat.zero_le _, Nat.zero_le _⟩ (fun locs hS => ?_)
    refine z_lstore_n C dX6_hides_35 rfl hl (by decide) rfl (fun ls hl => ?_)
    have hl : lv_has ls 4 [(2, _), (0, _), (1, _)] := hl
    refine z_aload_n C dX6_hides_36 hl 1 rfl ?_
    refine z_iconst C dX6_hides_37 ?_
    refine z_aload_n C dX6_hides_38 hl 1 rfl ?_
    refine m_geta C hK hP 23 (by decide) q1772 rfl (by decide) dX6_hides_39 ?_
    refine z_iconst C dX6_hides_42 ?_
    refine m_iald C hK hP 23 (by decide) rfl (by have h9 : mlen 23 = 5 := rfl; omega) (pe hS_27 rfl) dX6_hides_43 (fun r_43 => ?_)
    refine z_ishl C dX6_hides_44 (by rw [q5]; exact zshl1 (by omega)) ?_
    refine z_iconst C dX6_hides_45 ?_
    refine z_isub C dX6_hides_46 ?_
    refine z_iconst C dX6_hides_47 ?_
    refine z_iload_n C dX6_hides_48 hl 2 rfl ?_
    refine z_ishl C dX6_hides_49 (zshl1 (by omega)) ?_
    refine z_iconst C dX6_hides_50 ?_
    refine z_ixor C dX6_hides_51 (butM_not b.toNat (by omega)) ?_
    refine z_iand C dX6_hides_52 (butM_and (P 23 0).toNat (by omega) b.toNat (by omega)) ?_
    refine m_mv C vX6_475 (mcX6_marksSet l g h ad _ _ hS_27 _ (butM b.toNat) q1.1 (by omega) (fun k hk => q3 k (by rw [q5] at hk; omega))) hS hl ⟨Nat.le_of_ble_eq_true rfl, Nat.le_of_ble_eq_true rfl⟩ ⟨rfl, rfl⟩ hK hP (fun _ h9 => h9) rfl rfl (Nat.le_of_ble_eq_true rfl) dX6_hides_53 ⟨Nat.zero_le _, Nat.zero_le _⟩ (fun S_53 H locs pS_53 hP hS => ?_)
    obtain ⟨hS_53, pS_53⟩ := pS_53
    rw [show mkF P (fun _ => 0) (P 23 0).toNat 23 = P 23 from mkF_k _ _ _ (by decide), mkF_over] at hS_53
    refine z_aload_n C dX6_hides_56 hl 1 rfl ?_
    refine m_mv C vX6_362 (mcX6_night l g h ad _ _ hS_53 q2.1) hS hl ⟨Nat.le_of_ble_eq_true rfl, Nat.le_of_ble_eq_true rfl⟩ ⟨rfl, rfl⟩ hK hP (fun _ h9 => h9) rfl rfl (Nat.le_of_ble_eq_true rfl) dX6_hides_57 ⟨Nat.zero_le _, Nat.zero_le _⟩ (fun S_57 H locs pS_57 hP hS => ?_)
    have hS_57 : per S_57 = _ := (pS_57.1.pr rfl hS_53)
    refine z_lload_n C dX6_hides_60 hl 0 rfl ?_
    refine z_aload_n C dX6_hides_61 hl 1 rfl ?_
    refine z_iload_n C dX6_hides_62 hl 2 rfl ?_
    refine m_pl C vX6_382 (mcX6_lossOf l g h ad _ _ hS_57 _ q2.1 pS_57.2 ⟨by omega, by rw [q5]; omega⟩) hS hl ⟨Nat.le_of_ble_eq_true rfl, Nat.le_of_ble_eq_true rfl⟩ ⟨rfl, rfl⟩ hK hP rfl rfl (Nat.le_of_ble_eq_true rfl) dX6_hides_63 ⟨Nat.zero_le _, Nat.zero_le _⟩ (fun locs hS => ?_)
    refine z_lsub C dX6_hides_66 ?_
    refine z_lstore_n C dX6_hides_67 rfl hl (by decide) rfl (fun ls hl => ?_)
    have hl : lv_has ls 4 [(2, _), (0, _), (1, _)] := hl
    refine z_aload_n C dX6_hides_68 hl 1 rfl ?_
    refine m_mv C vX6_441 (mcX6_takesBack l g h ad _ _ hS_57 P hW q2.2 (fun k hk => by rw [pS_57.1 40 (by decide), pS_53 40 (by decide), pS_27.1 40 (by decide), pS_23 40 (by decide)]; exact pS_18.2 k hk)) hS hl ⟨Nat.le_of_ble_eq_true rfl, Nat.le_of_ble_eq_true rfl⟩ ⟨rfl, rfl⟩ hK hP (fun _ h9 => h9) rfl rfl (Nat.le_of_ble_eq_true rfl) dX6_hides_69 ⟨Nat.zero_le _, Nat.zero_le _⟩ (fun S_69 H locs pS_69 hP hS => ?_)
    obtain ⟨hS_69, pS_69⟩ := pS_69
    refine z_lload_n C dX6_hides_72 hl 0 rfl ?_
    exact m_mret_l C hQ hret hlk hS hP ⟨(if_pos c_10).symm, hS_69⟩ dX6_hides_73
  · replace c_10 := z01_f c_10
    refine z_ldc2 (v := -1000000000000) C q2321 dX6_hides_13 rfl ?_
    exact m_mret_l C hQ hret hlk hS hP ⟨(if_neg (by assumption)).symm, hS_2⟩ dX6_hides_16
