theorem vX6_123 : zT RX6 123 yX6_isSlot cX6_isSlot 1 (some .boolean) 1 := ⟨lw_S q1908 q1909 q149 q1910, by decide +kernel⟩
theorem vX6_539 : zT RX6 539 yX6_isSeed cX6_isSeed 1 (some .boolean) 1 := ⟨lw_S q2470 q2471 q149 q2472, by decide +kernel⟩
theorem vX6_502 : zV RX6 502 RX6 yX6_isCover cX6_isCover 4 (some .boolean) 3 := ⟨lw_V q2434 q2436 qs129 q149 q2437, rfl, by decide +kernel⟩
theorem vX6_505 : zV RX6 505 RX6 yX6_covers cX6_covers 9 (some .int) 3 := ⟨lw_V q2438 q2440 qs130 q149 q2441, rfl, by decide +kernel⟩
theorem vX6_508 : zV RX6 508 RX6 yX6_byLaw cX6_byLaw 4 (some .long) 1 := ⟨lw_V q2450 q2452 qs131 q149 q2453, rfl, by decide +kernel⟩
theorem vX6_511 : zV RX6 511 RX6 yX6_netOn cX6_netOn 9 (some .int) 2 := ⟨lw_V q2462 q2464 qs132 q149 q2465, rfl, by decide +kernel⟩
theorem vX6_525 : zV RX6 525 RX6 yX6_newYear cX6_newYear 2 none 0 := ⟨lw_V q2478 q2480 qs134 q149 q2481, rfl, by decide +kernel⟩
theorem vX6_528 : zV RX6 528 RX6 yX6_draw cX6_draw 1 (some .int) 0 := ⟨lw_V q2482 q2484 qs135 q149 q2485, rfl, by decide +kernel⟩
theorem vX6_531 : zV RX6 531 RX6 yX6_comes cX6_comes 4 (some .int) 2 := ⟨lw_V q2490 q2492 qs136 q149 q2493, rfl, by decide +kernel⟩
theorem vX6_534 : zV RX6 534 RX6 yX6_drawnAll cX6_drawnAll 3 (some .int) 0 := ⟨lw_V q2498 q2500 qs138 q149 q2501, rfl, by decide +kernel⟩
theorem vX6_542 : zV RX6 542 RX6 yX6_draws cX6_draws 6 none 1 := ⟨lw_V q2474 q2476 qs133 q149 q2477, rfl, by decide +kernel⟩
theorem vX6_545 : zV RX6 545 RX6 yX6_tellsYear cX6_tellsYear 2 (some .int) 0 := ⟨lw_V q2494 q2496 qs137 q149 q2497, rfl, by decide +kernel⟩
theorem mcX6_covers (l : Launch) (g : mG) (h : Nat) (ad : Nat → Nat) (P S : zS) (hPS : per S = P) (b pr py : Int) (hW : WfR P 0) (hb : 0 ≤ b ∧ b < P 23 0) (hpr : 0 ≤ pr ∧ pr ≤ 9999) (hpy : 0 ≤ py ∧ py ≤ 100) : mMI l g h ad yX6_covers cX6_covers 9 .int (k2_rm 5 119) [.int (iZ b), .int (iZ pr), .int (iZ py)] S (fun z1 S1 => z1 = (covAt P b pr py : Int) ∧ per S1 = P ∧ S1 48 0 = covV P b pr py (covAt P b pr py)) := by
  refine z_start (own := RX6) (by decide) rfl (Nat.le_of_ble_eq_true rfl) ?_
  intro prg env s mid blw mth cod ls Q C hQ hret hlk hnm hK hH hl
  have hP : MP g h ad S s.heap := hH
  have hS : va_S (MA h ad) s.heap s.heap [] := va_S.rf
  have hl : lv_has ls 9 [(0, .ref h), (1, .int (iZ b)), (2, .int (iZ pr)), (3, .int (iZ py))] := hl
  have w1 := hW.bikes
  have w7 := nO_in hW
  have w2 := hW.bike hb
  have w3 := optOf_in hW hb
  refine z_aload_n C dX6_covers_0 hl 0 rfl ?_
  refine z_iload_n C dX6_covers_1 hl 1 rfl ?_
  refine m_pi C vX6_408 (mcX6_optionOf l g h ad _ _ hPS _ (by omega)) hS hl ⟨Nat.le_of_ble_eq_true rfl, Nat.le_of_ble_eq_true rfl⟩ ⟨rfl, rfl⟩ hK hP rfl rfl (Nat.le_of_ble_eq_true rfl) dX6_covers_2 ⟨Nat.zero_le _, Nat.zero_le _⟩ (fun locs hS => ?_)
  refine z_istore C dX6_covers_5 hl (by decide) rfl (fun ls hl => ?_)
  have hl : lv_has ls 9 [(4, _), (0, _), (1, _), (2, _), (3, _)] := hl
  refine z_iconst C dX6_covers_7 ?_
  refine z_istore C dX6_covers_8 hl (by decide) rfl (fun ls hl => ?_)
  have hl : lv_has ls 9 [(5, _), (4, _), (0, _), (1, _), (2, _), (3, _)] := hl
  refine z_iconst C dX6_covers_10 ?_
  refine z_istore C dX6_covers_11 hl (by decide) rfl (fun ls hl => ?_)
  have hl : lv_has ls 9 [(6, _), (5, _), (4, _), (0, _), (1, _), (2, _), (3, _)] := hl
  have hL_13 : ∀ (fuel : Nat) (k : Nat) (bst : Int) (S1 : zS) (Q1 : zS) (H : Heap) (locs : List Loc) (ls : Array Slot), (nO P).toNat - k < fuel → ((k : Int) ≤ nO P) → (∃ x, Q1 = optP P b x) → ((k = 0 ∧ bst = -1) ∨ (1 ≤ k ∧ bst = (amin (fun o => covV P b pr py o) (k - 1) : Int) ∧ S1 48 0 = covV P b pr py (amin (fun o => covV P b pr py o) (k - 1)))) → per S1 = Q1 → MP g h ad S1 H → va_S (MA h ad) s.heap H locs → lv_has ls 9 [(0, .ref h), (1, .int (iZ b)), (2, .int (iZ pr)), (3, .int (iZ py)), (4, .int (iZ (optOf P b))), (5, .int (iZ bst)), (6, .int (iZ (k : Int)))] → W prg l env (k2_rm 5 119) s mid ([.ref h, .int (iZ b), .int (iZ pr), .int (iZ py)] : List Value).toArray blw mth cod H locs 0 0 Q (F0 mid 13 ls []) := by
    intro fuel
    induction fuel with
    | zero => intro k bst S1 Q1  H locs ls hm; exact absurd hm (Nat.not_lt_zero _)
    | succ fuel hL_13 =>
      intro k bst S1 Q1  H locs ls hm ik iQ iS hPS_13 hP  hS hl
      obtain ⟨x, iQ⟩ := iQ
      subst iQ
      have q4 : nO (optP P b x) = nO P := by unfold nO; rw [optP_k _ _ _ (by decide)]
      refine z_iload C dX6_covers_13 hl 6 rfl ?_
      refine z_aload_n C dX6_covers_15 hl 0 rfl ?_
      refine m_pi C vX6_401 (mcX6_optionMany l g h ad _ _ hPS_13 ) hS hl ⟨Nat.le_of_ble_eq_true rfl, Nat.le_of_ble_eq_true rfl⟩ ⟨rfl, rfl⟩ hK hP rfl rfl (Nat.le_of_ble_eq_true rfl) dX6_covers_16 ⟨Nat.zero_le _, Nat.zero_le _⟩ (fun locs hS => ?_)
      refine z_icmp_ge C 98 dX6_covers_19 (by decide) (by omega) (by omega) (fun c_19 => ?_) (fun c_19 => ?_)
      · rw [q4] at c_19
        refine z_aload_n C dX6_covers_98 hl 0 rfl ?_
        refine z_iload_n C dX6_covers_99 hl 1 rfl ?_
        refine z_iload C dX6_covers_100 hl 4 rfl ?_
        refine m_mv C vX6_411 (mcX6_hasOption l g h ad _ _ hPS_13 _ _ (by omega) (by omega)) hS hl ⟨Nat.le_of_ble_eq_true rfl, Nat.le_of_ble_eq_true rfl⟩ ⟨rfl, rfl⟩ hK hP (fun _ h9 => h9) rfl rfl (Nat.le_of_ble_eq_true rfl) dX6_covers_102 ⟨Nat.zero_le _, Nat.zero_le _⟩ (fun S_102 H locs pS_102 hP hS => ?_)
        obtain ⟨hS_102, pS_102⟩ := pS_102
        refine z_iload C dX6_covers_105 hl 5 rfl ?_
        exact m_mret_i C hQ hret hlk hS hP ⟨by rw [covAt, show (nO P).toNat - 1 = k - 1 by omega]; rcases iS with z | z; omega; exact z.2.1, by rw [hS_102]; exact optP_back b x w2.2.2.2.2, by rw [pS_102 48 (by decide), covAt, show (nO P).toNat - 1 = k - 1 by omega]; rcases iS with z | z; omega; exact z.2.2⟩ dX6_covers_107
      · rw [q4] at c_19
        have q5 := covM_in hW hb hpy (o := (k : Int)) ⟨by omega, by omega⟩
        have q6 : 0 ≤ covV P b pr py k ∧ covV P b pr py k ≤ 70000000000 := covV_in hW hb hpr hpy ⟨by omega, by omega⟩
        have q7 := optP_wf hW hb (o := (k : Int)) ⟨by omega, by omega⟩
        have q8 : optP P b (k : Int) 23 0 = P 23 0 := by rw [optP_k _ _ _ (by decide)]
        refine z_aload_n C dX6_covers_22 hl 0 rfl ?_
        refine z_iload_n C dX6_covers_23 hl 1 rfl ?_
        refine z_iload C dX6_covers_24 hl 6 rfl ?_
        refine m_mv C vX6_411 (mcX6_hasOption l g h ad _ _ hPS_13 _ _ (by omega) (by omega)) hS hl ⟨Nat.le_of_ble_eq_true rfl, Nat.le_of_ble_eq_true rfl⟩ ⟨rfl, rfl⟩ hK hP (fun _ h9 => h9) rfl rfl (Nat.le_of_ble_eq_true rfl) dX6_covers_26 ⟨Nat.zero_le _, Nat.zero_le _⟩ (fun S_26 H locs pS_26 hP hS => ?_)
        obtain ⟨hS_26, pS_26⟩ := pS_26
        rw [optP_over] at hS_26
        refine z_aload_n C dX6_covers_29 hl 0 rfl ?_
        refine m_mv C vX6_362 (mcX6_night l g h ad _ _ hS_26 q7) hS hl ⟨Nat.le_of_ble_eq_true rfl, Nat.le_of_ble_eq_true rfl⟩ ⟨rfl, rfl⟩ hK hP (fun _ h9 => h9) rfl rfl (Nat.le_of_ble_eq_true rfl) dX6_covers_30 ⟨Nat.zero_le _, Nat.zero_le _⟩ (fun S_30 H locs pS_30 hP hS => ?_)
        have hS_30 : per S_30 = _ := (pS_30.1.pr rfl hS_26)
        refine z_ldc2 (v := 1000) C q2197 dX6_covers_33 rfl ?_
        refine z_iload_n C dX6_covers_36 hl 2 rfl ?_
        refine z_i2l C dX6_covers_37 (by omega) ?_
        refine z_lmul C dX6_covers_38 ?_
        refine z_aload_n C dX6_covers_39 hl 0 rfl ?_
        refine z_iload_n C dX6_covers_40 hl 1 rfl ?_
        refine m_pl C vX6_379 (mcX6_paidOf l g h ad _ _ hS_30 _ q7 ⟨by omega, by rw [q8]; omega⟩) hS hl ⟨Nat.le_of_ble_eq_true rfl, Nat.le_of_ble_eq_true rfl⟩ ⟨rfl, rfl⟩ hK hP rfl rfl (Nat.le_of_ble_eq_true rfl) dX6_covers_41 ⟨Nat.zero_le _, Nat.zero_le _⟩ (fun locs hS => ?_)
        refine z_ladd C dX6_covers_44 ?_
        refine z_bipush C dX6_covers_45 rfl ?_
        refine z_iload_n C dX6_covers_47 hl 3 rfl ?_
        refine z_isub C dX6_covers_48 ?_
        refine z_i2l C dX6_covers_49 (by omega) ?_
        refine z_aload_n C dX6_covers_50 hl 0 rfl ?_
        refine z_iload_n C dX6_covers_51 hl 1 rfl ?_
        refine m_pl C vX6_382 (mcX6_lossOf l g h ad _ _ hS_30 _ q7 pS_30.2 ⟨by omega, by rw [q8]; omega⟩) hS hl ⟨Nat.le_of_ble_eq_true rfl, Nat.le_of_ble_eq_true rfl⟩ ⟨rfl, rfl⟩ hK hP rfl rfl (Nat.le_of_ble_eq_true rfl) dX6_covers_52 ⟨Nat.zero_le _, Nat.zero_le _⟩ (fun locs hS => ?_)
        refine z_lmul C dX6_covers_55 ?_
        refine z_ldc2 (v := 100) C q2110 dX6_covers_56 rfl ?_
        refine z_ldiv C dX6_covers_59 (by omega) (by omega) ?_
        refine z_ladd C dX6_covers_60 ?_
        have q60 : 1000 * pr + paid (optP P b (k : Int)) b + (100 - py) * loss (optP P b (k : Int)) b / 100 = covV P b pr py k := rfl
        refine z_lstore C dX6_covers_61 hl (by decide) rfl (fun ls hl => ?_)
        have hl : lv_has ls 9 [(7, _), (0, _), (1, _), (2, _), (3, _), (4, _), (5, _), (6, _)] := hl
        have q20 := amin_le (fun o => covV P b pr py o) (k - 1)
        refine z_iload C dX6_covers_63 hl 6 rfl ?_
        refine z_iconst C dX6_covers_65 ?_
        refine z_icmp_eq C 82 dX6_covers_66 (by decide) (by omega) (by omega) (fun c_66 => ?_) (fun c_66 => ?_)
        · have q9 : k = 0 := by rcases iS with z | z; exact z.1; omega
          refine z_iload C dX6_covers_82 hl 7 rfl ?_
          refine z_istore C dX6_covers_84 hl (by decide) rfl (fun ls hl => ?_)
          have hl : lv_has ls 9 [(5, _), (7, _), (0, _), (1, _), (2, _), (3, _), (4, _), (6, _)] := hl
          refine z_aload_n C dX6_covers_86 hl 2 rfl ?_
          refine z_lload C dX6_covers_87 hl 1 rfl ?_
          refine m_putl C hK hP hS 48 (by decide) q1797 rfl rfl (by omega) dX6_covers_89 (fun S_89 eS_89 H locs hP hS => ?_)
          have hS_89 := per_s rfl hS_30 eS_89
          refine z_iinc C dX6_covers_92 hl (by decide) 7 rfl rfl (fun ls hl => ?_)
          have hl : lv_has ls 9 [(6, _), (5, _), (7, _), (0, _), (1, _), (2, _), (3, _), (4, _)] := hl
          refine z_goto C 13 dX6_covers_95 (by decide) ?_
          exact hL_13 (k + 1) _ _ _ _ _ ls (by omega) (by omega) ⟨_, rfl⟩ (Or.inr ⟨by omega, by rw [show k + 1 - 1 = 0 by omega, show k = 0 by omega]; rfl, by rw [show k + 1 - 1 = 0 by omega, eS_89, zup_s, show k = 0 by omega]; rfl⟩) hS_89 hP hS (lv_sub hl [3, 4, 5, 6, 7, 1, 0] rfl)
        · have q9 : 1 ≤ k ∧ bst = (amin (fun o => covV P b pr py o) (k - 1) : Int) ∧ S1 48 0 = covV P b pr py (amin (fun o => covV P b pr py o) (k - 1)) := by rcases iS with z | z; omega; exact z
          have q10 : S_30 48 0 = S1 48 0 := by rw [pS_30.1 48 (by decide), pS_26 48 (by decide)]
          have q2 : k + 1 - 1 = (k - 1) + 1 := by omega
          have q3 : k - 1 + 1 = k := by omega
          refine z_lload C dX6_covers_69 hl 0 rfl ?_
          refine z_aload_n C dX6_covers_71 hl 1 rfl ?_
          refine m_getl C hK hP 48 (by decide) q1797 rfl rfl rfl dX6_covers_72 (fun r_72 => ?_)
          refine z_lcmp_lt C 82 dX6_covers_75 dX6_covers_76 (by decide) (by omega) (by omega) (fun c_75 => ?_) (fun c_75 => ?_)
          · refine z_iload C dX6_covers_82 hl 7 rfl ?_
            refine z_istore C dX6_covers_84 hl (by decide) rfl (fun ls hl => ?_)
            have hl : lv_has ls 9 [(5, _), (7, _), (0, _), (1, _), (2, _), (3, _), (4, _), (6, _)] := hl
            refine z_aload_n C dX6_covers_86 hl 2 rfl ?_
            refine z_lload C dX6_covers_87 hl 1 rfl ?_
            refine m_putl C hK hP hS 48 (by decide) q1797 rfl rfl (by omega) dX6_covers_89 (fun S_89 eS_89 H locs hP hS => ?_)
            have hS_89 := per_s rfl hS_30 eS_89
            refine z_iinc C dX6_covers_92 hl (by decide) 7 rfl rfl (fun ls hl => ?_)
            have hl : lv_has ls 9 [(6, _), (5, _), (7, _), (0, _), (1, _), (2, _), (3, _), (4, _)] := hl
            refine z_goto C 13 dX6_covers_95 (by decide) ?_
            exact hL_13 (k + 1) _ _ _ _ _ ls (by omega) (by omega) ⟨_, rfl⟩ (Or.inr ⟨by omega, by rw [q2, amin_s, q3, if_pos (by omega)], by rw [q2, amin_s, q3, if_pos (by omega), eS_89, zup_s]; rfl⟩) hS_89 hP hS (lv_sub hl [3, 4, 5, 6, 7, 1, 0] rfl)
          · refine z_goto C 92 dX6_covers_79 (by decide) ?_
            refine z_iinc C dX6_covers_92 hl (by decide) 7 rfl rfl (fun ls hl => ?_)
            have hl : lv_has ls 9 [(6, _), (7, _), (0, _), (1, _), (2, _), (3, _), (4, _), (5, _)] := hl
            refine z_goto C 13 dX6_covers_95 (by decide) ?_
            exact hL_13 (k + 1) _ _ _ _ _ ls (by omega) (by omega) ⟨_, rfl⟩ (Or.inr ⟨by omega, by rw [q2, amin_s, q3, if_neg (by omega)]; exact q9.2.1, by rw [q2, amin_s, q3, if_neg (by omega), q10]; exact q9.2.2⟩) hS_30 hP hS (lv_sub hl [2, 3, 4, 5, 6, 7, 0] rfl)
  exact hL_13 _ 0 (-1) _ _ _ _ ls (Nat.lt_succ_self _) (by omega) ⟨optOf P b, (optP_self w2.2.2.2.2).symm⟩ (Or.inl ⟨rfl, rfl⟩) hPS hP hS (lv_sub hl [3, 4, 5, 6, 2, 1, 0] rfl)
theorem mcX6_isCover (l : Launch) (g : mG) (h : Nat) (ad : Nat → Nat) (P S : zS) (hPS : per S = P) (b pr py : Int) (hW : WfR P 0) (h1 : I32 b) (h2 : I32 pr) (h3 : I32 py) : mPI l g h ad yX6_isCover cX6_isCover 4 .boolean (k2_rm 2 46) [.int (iZ b), .int (iZ pr), .int (iZ py)] S (if isCov P b pr py then 1 else 0) := by
  intro H0 hP
  refine z_start (own := RX6) (by decide) rfl (Nat.le_of_ble_eq_true rfl) ?_
  intro prg env s mid blw mth cod ls Q C hQ hret hlk hnm hK hH hl
  subst hH
  have hS : va_S nA s.heap s.heap [] := va_S.rf
  have hl : lv_has ls 4 [(0, .ref h), (1, .int (iZ b)), (2, .int (iZ pr)), (3, .int (iZ py))] := hl
  refine z_aload_n C dX6_isCover_0 hl 0 rfl ?_
  refine z_iload_n C dX6_isCover_1 hl 1 rfl ?_
  refine m_pi C vX6_318 (mcX6_isBike l g h ad _ _ hPS _ (by assumption) (by omega)) hS hl ⟨Nat.le_of_ble_eq_true rfl, Nat.le_of_ble_eq_true rfl⟩ ⟨rfl, rfl⟩ hK hP rfl rfl (Nat.le_of_ble_eq_true rfl) dX6_isCover_2 ⟨Nat.zero_le _, Nat.zero_le _⟩ (fun locs hS => ?_)
  refine z_if_eq C 36 dX6_isCover_5 (by decide) z01_in (fun c_5 => ?_) (fun c_5 => ?_)
  · replace c_5 := z01_f c_5
    refine z_iconst C dX6_isCover_36 ?_
    exact z_pret_z C hQ hret hlk hS z01_any (by split <;> omega) dX6_isCover_37
  · replace c_5 := z01_t c_5
    refine z_iload_n C dX6_isCover_8 hl 2 rfl ?_
    refine z_i2l C dX6_isCover_9 (by omega) ?_
    refine z_lconst (v := 0) C dX6_isCover_10 rfl ?_
    refine z_ldc2 (v := 9999) C q2410 dX6_isCover_11 rfl ?_
    refine s_pi C vX6_119 (mcX6_in l _ _ _ (by omega) (by omega) (by omega)) hS hl ⟨Nat.le_of_ble_eq_true rfl, Nat.le_of_ble_eq_true rfl⟩ ⟨rfl, rfl⟩ rfl rfl (Nat.le_of_ble_eq_true rfl) dX6_isCover_14 ⟨Nat.zero_le _, Nat.zero_le _⟩ (fun locs hS => ?_)
    refine z_if_eq C 36 dX6_isCover_17 (by decide) z01_in (fun c_17 => ?_) (fun c_17 => ?_)
    · replace c_17 := z01_f c_17
      refine z_iconst C dX6_isCover_36 ?_
      exact z_pret_z C hQ hret hlk hS z01_any (by split <;> omega) dX6_isCover_37
    · replace c_17 := z01_t c_17
      refine z_iload_n C dX6_isCover_20 hl 3 rfl ?_
      refine z_i2l C dX6_isCover_21 (by omega) ?_
      refine z_lconst (v := 0) C dX6_isCover_22 rfl ?_
      refine z_ldc2 (v := 100) C q2110 dX6_isCover_23 rfl ?_
      refine s_pi C vX6_119 (mcX6_in l _ _ _ (by omega) (by omega) (by omega)) hS hl ⟨Nat.le_of_ble_eq_true rfl, Nat.le_of_ble_eq_true rfl⟩ ⟨rfl, rfl⟩ rfl rfl (Nat.le_of_ble_eq_true rfl) dX6_isCover_26 ⟨Nat.zero_le _, Nat.zero_le _⟩ (fun locs hS => ?_)
      refine z_if_eq C 36 dX6_isCover_29 (by decide) z01_in (fun c_29 => ?_) (fun c_29 => ?_)
      · replace c_29 := z01_f c_29
        refine z_iconst C dX6_isCover_36 ?_
        exact z_pret_z C hQ hret hlk hS z01_any (by split <;> omega) dX6_isCover_37
      · replace c_29 := z01_t c_29
        refine z_iconst C dX6_isCover_32 ?_
        refine z_goto C 37 dX6_isCover_33 (by decide) ?_
        exact z_pret_z C hQ hret hlk hS z01_any (by split <;> omega) dX6_isCover_37
theorem mcX6_cover (l : Launch) (g : mG) (h : Nat) (ad : Nat → Nat) (P S : zS) (hPS : per S = P) (b pr py : Int) (hW : WfR P 0) (h1 : I32 b) (h2 : I32 pr) (h3 : I32 py) : mML l g h ad yX6_cover cX6_cover 4 (k2_rm 6 147) [.int (iZ b), .int (iZ pr), .int (iZ py)] S (fun z1 S1 => z1 = aCover P b pr py ∧ per S1 = P) := by
  refine z_start (own := RX6) (by decide) rfl (Nat.le_of_ble_eq_true rfl) ?_
  intro prg env s mid blw mth cod ls Q C hQ hret hlk hnm hK hH hl
  have hP : MP g h ad S s.heap := hH
  have hS : va_S (MA h ad) s.heap s.heap [] := va_S.rf
  have hl : lv_has ls 4 [(0, .ref h), (1, .int (iZ b)), (2, .int (iZ pr)), (3, .int (iZ py))] := hl
  refine z_aload_n C dX6_cover_0 hl 0 rfl ?_
  refine z_iconst C dX6_cover_1 ?_
  refine m_puti C hK hP hS 0 (by decide) q1749 rfl rfl (by omega) dX6_cover_2 (fun S_2 eS_2 H locs hP hS => ?_)
  have hS_2 := per_s rfl hPS eS_2
  refine z_aload_n C dX6_cover_5 hl 0 rfl ?_
  refine z_iload_n C dX6_cover_6 hl 1 rfl ?_
  refine z_iload_n C dX6_cover_7 hl 2 rfl ?_
  refine z_iload_n C dX6_cover_8 hl 3 rfl ?_
  refine m_pi C vX6_502 (mcX6_isCover l g h ad _ _ hS_2 _ _ _ (by assumption) (by omega) (by omega) (by omega)) hS hl ⟨Nat.le_of_ble_eq_true rfl, Nat.le_of_ble_eq_true rfl⟩ ⟨rfl, rfl⟩ hK hP rfl rfl (Nat.le_of_ble_eq_true rfl) dX6_cover_9 ⟨Nat.zero_le _, Nat.zero_le _⟩ (fun locs hS => ?_)
  refine z_if_ne C 19 dX6_cover_12 (by decide) z01_in (fun c_12 => ?_) (fun c_12 => ?_)
  · replace c_12 := z01_t c_12
    refine z_aload_n C dX6_cover_19 hl 0 rfl ?_
    refine z_iload_n C dX6_cover_20 hl 1 rfl ?_
    refine z_iload_n C dX6_cover_21 hl 2 rfl ?_
    refine z_iload_n C dX6_cover_22 hl 3 rfl ?_
    refine m_mi C vX6_505 (mcX6_covers l g h ad _ _ hS_2 _ _ _ (by assumption) (by omega) (by omega) (by omega)) hS hl ⟨Nat.le_of_ble_eq_true rfl, Nat.le_of_ble_eq_true rfl⟩ ⟨rfl, rfl⟩ hK hP (fun _ h9 => h9) rfl rfl (Nat.le_of_ble_eq_true rfl) dX6_cover_23 ⟨Nat.zero_le _, Nat.zero_le _⟩ (fun v_23 S_23 H locs pS_23 hP hS => ?_)
    obtain ⟨e_23, pS_23⟩ := pS_23
    subst e_23
    have hS_23 : per S_23 = P := pS_23.1
    refine z_pop C dX6_cover_26 rfl ?_
    refine z_aload_n C dX6_cover_27 hl 0 rfl ?_
    refine m_getl C hK hP 48 (by decide) q1797 rfl rfl rfl dX6_cover_28 (fun r_28 => ?_)
    exact m_mret_l C hQ hret hlk hS hP ⟨by rw [aCover, if_pos c_12]; exact pS_23.2, hS_23⟩ dX6_cover_31
  · replace c_12 := z01_f c_12
    refine z_ldc2 (v := -2) C q2155 dX6_cover_15 rfl ?_
    exact m_mret_l C hQ hret hlk hS hP ⟨(if_neg (by assumption)).symm, hS_2⟩ dX6_cover_18
theorem mcX6_careless (l : Launch) (g : mG) (h : Nat) (ad : Nat → Nat) (P S : zS) (hPS : per S = P) (b pr py : Int) (hW : WfR P 0) (h1 : I32 b) (h2 : I32 pr) (h3 : I32 py) : mMI l g h ad yX6_careless cX6_careless 4 .int (k2_rm 6 147) [.int (iZ b), .int (iZ pr), .int (iZ py)] S (fun z1 S1 => z1 = aCareless P b pr py ∧ per S1 = P) := by
  refine z_start (own := RX6) (by decide) rfl (Nat.le_of_ble_eq_true rfl) ?_
  intro prg env s mid blw mth cod ls Q C hQ hret hlk hnm hK hH hl
  have hP : MP g h ad S s.heap := hH
  have hS : va_S (MA h ad) s.heap s.heap [] := va_S.rf
  have hl : lv_has ls 4 [(0, .ref h), (1, .int (iZ b)), (2, .int (iZ pr)), (3, .int (iZ py))] := hl
  refine z_aload_n C dX6_careless_0 hl 0 rfl ?_
  refine z_iconst C dX6_careless_1 ?_
  refine m_puti C hK hP hS 0 (by decide) q1749 rfl rfl (by omega) dX6_careless_2 (fun S_2 eS_2 H locs hP hS => ?_)
  have hS_2 := per_s rfl hPS eS_2
  refine z_aload_n C dX6_careless_5 hl 0 rfl ?_
  refine z_iload_n C dX6_careless_6 hl 1 rfl ?_
  refine z_iload_n C dX6_careless_7 hl 2 rfl ?_
  refine z_iload_n C dX6_careless_8 hl 3 rfl ?_
  refine m_pi C vX6_502 (mcX6_isCover l g h ad _ _ hS_2 _ _ _ (by assumption) (by omega) (by omega) (by omega)) hS hl ⟨Nat.le_of_ble_eq_true rfl, Nat.le_of_ble_eq_true rfl⟩ ⟨rfl, rfl⟩ hK hP rfl rfl (Nat.le_of_ble_eq_true rfl) dX6_careless_9 ⟨Nat.zero_le _, Nat.zero_le _⟩ (fun locs hS => ?_)
  refine z_if_eq C 25 dX6_careless_12 (by decide) z01_in (fun c_12 => ?_) (fun c_12 => ?_)
  · replace c_12 := z01_f c_12
    refine z_bipush C dX6_careless_25 rfl ?_
    exact m_mret_i C hQ hret hlk hS hP ⟨by unfold aCareless; split <;> first | rfl | omega, hS_2⟩ dX6_careless_27
  · replace c_12 := z01_t c_12
    refine z_aload_n C dX6_careless_15 hl 0 rfl ?_
    refine z_iload_n C dX6_careless_16 hl 1 rfl ?_
    refine z_iload_n C dX6_careless_17 hl 2 rfl ?_
    refine z_iload_n C dX6_careless_18 hl 3 rfl ?_
    refine m_mi C vX6_505 (mcX6_covers l g h ad _ _ hS_2 _ _ _ (by assumption) (by omega) (by omega) (by omega)) hS hl ⟨Nat.le_of_ble_eq_true rfl, Nat.le_of_ble_eq_true rfl⟩ ⟨rfl, rfl⟩ hK hP (fun _ h9 => h9) rfl rfl (Nat.le_of_ble_eq_true rfl) dX6_careless_19 ⟨Nat.zero_le _, Nat.zero_le _⟩ (fun v_19 S_19 H locs pS_19 hP hS => ?_)
    obtain ⟨e_19, pS_19⟩ := pS_19
    subst e_19
    have hS_19 : per S_19 = P := pS_19.1
    refine z_goto C 27 dX6_careless_22 (by decide) ?_
    exact m_mret_i C hQ hret hlk hS hP ⟨by unfold aCareless; split <;> first | rfl | omega, hS_19⟩ dX6_careless_27
theorem mcX6_byLaw (l : Launch) (g : mG) (h : Nat) (ad : Nat → Nat) (P S : zS) (hPS : per S = P) (lk : Int) (hW : WfR P 0) (hlk2 : -1 ≤ lk ∧ lk < P 21 0) : mML l g h ad yX6_byLaw cX6_byLaw 4 (k2_rm 6 143) [.int (iZ lk)] S (fun z1 S1 => z1 = lawV P lk ∧ per S1 = P) := by
  refine z_start (own := RX6) (by decide) rfl (Nat.le_of_ble_eq_true rfl) ?_
  intro prg env s mid blw mth cod ls Q C hQ hret hlk hnm hK hH hl
  have hP : MP g h ad S s.heap := hH
  have hS : va_S (MA h ad) s.heap s.heap [] := va_S.rf
  have hl : lv_has ls 4 [(0, .ref h), (1, .int (iZ lk))] := hl
  have w1 := hW.bikes
  have w8 := hW.locks
  refine z_aload_n C dX6_byLaw_0 hl 0 rfl ?_
  refine m_mv C vX6_438 (mcX6_laysAside l g h ad _ _ hPS (by assumption)) hS hl ⟨Nat.le_of_ble_eq_true rfl, Nat.le_of_ble_eq_true rfl⟩ ⟨rfl, rfl⟩ hK hP (fun _ h9 => h9) rfl rfl (Nat.le_of_ble_eq_true rfl) dX6_byLaw_1 ⟨Nat.zero_le _, Nat.zero_le _⟩ (fun S_1 H locs pS_1 hP hS => ?_)
  have hS_1 : per S_1 = P := (pS_1.1.pr rfl hPS)
  refine z_iconst C dX6_byLaw_4 ?_
  refine z_istore_n C dX6_byLaw_5 rfl hl (by decide) rfl (fun ls hl => ?_)
  have hl : lv_has ls 4 [(2, _), (0, _), (1, _)] := hl
  have hL_6 : ∀ (fuel : Nat) (k : Nat) (S1 : zS) (H : Heap) (locs : List Loc) (ls : Array Slot), (P 23 0).toNat - k < fuel → ((k : Int) ≤ P 23 0) → (∀ b : Nat, b < (P 23 0).toNat → S1 40 (b : Int) = optOf P b) → per S1 = lwP P lk k → MP g h ad S1 H → va_S (MA h ad) s.heap H locs → lv_has ls 4 [(0, .ref h), (1, .int (iZ lk)), (2, .int (iZ (k : Int)))] → W prg l env (k2_rm 6 143) s mid ([.ref h, .int (iZ lk)] : List Value).toArray blw mth cod H locs 0 0 Q (F0 mid 6 ls []) := by
    intro fuel
    induction fuel with
    | zero => intro k S1  H locs ls hm; exact absurd hm (Nat.not_lt_zero _)
    | succ fuel hL_6 =>
      intro k S1  H locs ls hm ik iA hPS_6 hP  hS hl
      have q0 := lwP_ok hW hlk2 ik
      have q1 : lwP P lk k 23 0 = P 23 0 := by rw [lwP_k _ _ _ (by decide)]
      have q2 : lwP P lk k 24 (5 * (10 * 0 + (k : Int)) + 3) = P 24 (5 * (10 * 0 + (k : Int)) + 3) := by rw [lwP_at, if_neg (by omega)]
      refine z_iload_n C dX6_byLaw_6 hl 2 rfl ?_
      refine z_aload_n C dX6_byLaw_7 hl 0 rfl ?_
      refine m_geta C hK hP 23 (by decide) q1772 rfl (by decide) dX6_byLaw_8 ?_
      refine z_iconst C dX6_byLaw_11 ?_
      refine m_iald C hK hP 23 (by decide) rfl (by have h9 : mlen 23 = 5 := rfl; omega) (pe hPS_6 rfl) dX6_byLaw_12 (fun r_12 => ?_)
      refine z_icmp_ge C 51 dX6_byLaw_13 (by decide) (by omega) (by omega) (fun c_13 => ?_) (fun c_13 => ?_)
      · refine z_aload_n C dX6_byLaw_51 hl 0 rfl ?_
        refine z_iconst C dX6_byLaw_52 ?_
        refine m_ml C vX6_398 (mcX6_allNow l g h ad _ _ hPS_6 _ q0.1 (by omega)) hS hl ⟨Nat.le_of_ble_eq_true rfl, Nat.le_of_ble_eq_true rfl⟩ ⟨rfl, rfl⟩ hK hP (fun _ h9 => h9) rfl rfl (Nat.le_of_ble_eq_true rfl) dX6_byLaw_53 ⟨Nat.zero_le _, Nat.zero_le _⟩ (fun v_53 S_53 H locs pS_53 hP hS => ?_)
        obtain ⟨e_53, pS_53⟩ := pS_53
        subst e_53
        have hS_53 : per S_53 = _ := (pS_53.pr rfl hPS_6)
        refine z_lstore_n C dX6_byLaw_56 rfl hl (by decide) rfl (fun ls hl => ?_)
        have hl : lv_has ls 4 [(2, _), (0, _), (1, _)] := hl
        refine z_aload_n C dX6_byLaw_57 hl 1 rfl ?_
        refine m_mv C vX6_441 (mcX6_takesBack l g h ad _ _ hS_53 P hW q0.2 (fun b hb => by rw [pS_53 40 (by decide)]; exact iA b hb)) hS hl ⟨Nat.le_of_ble_eq_true rfl, Nat.le_of_ble_eq_true rfl⟩ ⟨rfl, rfl⟩ hK hP (fun _ h9 => h9) rfl rfl (Nat.le_of_ble_eq_true rfl) dX6_byLaw_58 ⟨Nat.zero_le _, Nat.zero_le _⟩ (fun S_58 H locs pS_58 hP hS => ?_)
        obtain ⟨hS_58, pS_58⟩ := pS_58
        refine z_lload_n C dX6_byLaw_61 hl 0 rfl ?_
        exact m_mret_l C hQ hret hlk hS hP ⟨by rw [lawV, show (P 23 0).toNat = k by omega], hS_58⟩ dX6_byLaw_62
      · refine z_aload_n C dX6_byLaw_16 hl 0 rfl ?_
        refine m_geta C hK hP 24 (by decide) q1773 rfl (by decide) dX6_byLaw_17 ?_
        refine z_iconst C dX6_byLaw_20 ?_
        refine z_iload_n C dX6_byLaw_21 hl 2 rfl ?_
        refine s_pi C vX6_323 (mcX6_at l _ _) hS hl ⟨Nat.le_of_ble_eq_true rfl, Nat.le_of_ble_eq_true rfl⟩ ⟨rfl, rfl⟩ rfl rfl (Nat.le_of_ble_eq_true rfl) dX6_byLaw_22 ⟨Nat.zero_le _, Nat.zero_le _⟩ (fun locs hS => ?_)
        refine z_iconst C dX6_byLaw_25 ?_
        refine z_iadd C dX6_byLaw_26 ?_
        refine m_iald C hK hP 24 (by decide) rfl (by have h9 : mlen 24 = 250 := rfl; omega) (pe hPS_6 rfl) dX6_byLaw_27 (fun r_27 => ?_)
        refine z_iload_n C dX6_byLaw_28 hl 1 rfl ?_
        refine z_icmp_ge C 45 dX6_byLaw_29 (by decide) (by omega) (by omega) (fun c_29 => ?_) (fun c_29 => ?_)
        · refine z_iinc C dX6_byLaw_45 hl (by decide) 2 rfl rfl (fun ls hl => ?_)
          have hl : lv_has ls 4 [(2, _), (0, _), (1, _)] := hl
          refine z_goto C 6 dX6_byLaw_48 (by decide) ?_
          exact hL_6 (k + 1) _ _ _ ls (by omega) (by omega) iA (by rw [hPS_6, lwP, if_neg (by omega)]) hP hS (lv_sub hl [1, 2, 0] rfl)
        · refine z_aload_n C dX6_byLaw_32 hl 0 rfl ?_
          refine m_geta C hK hP 24 (by decide) q1773 rfl (by decide) dX6_byLaw_33 ?_
          refine z_iconst C dX6_byLaw_36 ?_
          refine z_iload_n C dX6_byLaw_37 hl 2 rfl ?_
          refine s_pi C vX6_323 (mcX6_at l _ _) hS hl ⟨Nat.le_of_ble_eq_true rfl, Nat.le_of_ble_eq_true rfl⟩ ⟨rfl, rfl⟩ rfl rfl (Nat.le_of_ble_eq_true rfl) dX6_byLaw_38 ⟨Nat.zero_le _, Nat.zero_le _⟩ (fun locs hS => ?_)
          refine z_iconst C dX6_byLaw_41 ?_
          refine z_iadd C dX6_byLaw_42 ?_
          refine z_iload_n C dX6_byLaw_43 hl 1 rfl ?_
          refine m_iast C hK hP hS 24 (by decide) rfl (by have h9 : mlen 24 = 250 := rfl; omega) (by omega) dX6_byLaw_44 (fun S_44 eS_44 H locs hP hS => ?_)
          have hS_44 := per_w2 rfl hPS_6 eS_44
          refine z_iinc C dX6_byLaw_45 hl (by decide) 2 rfl rfl (fun ls hl => ?_)
          have hl : lv_has ls 4 [(2, _), (0, _), (1, _)] := hl
          refine z_goto C 6 dX6_byLaw_48 (by decide) ?_
          exact hL_6 (k + 1) _ _ _ ls (by omega) (by omega) (fun b hb => by rw [eS_44, zup_k _ _ _ (by decide)]; exact iA b hb) (by rw [hS_44, lwP, if_pos (by omega)]) hP hS (lv_sub hl [1, 2, 0] rfl)
  exact hL_6 _ 0 _ _ _ ls (Nat.lt_succ_self _) (by omega) pS_1.2 hS_1 hP hS (lv_sub hl [1, 2, 0] rfl)
theorem mcX6_law (l : Launch) (g : mG) (h : Nat) (ad : Nat → Nat) (P S : zS) (hPS : per S = P) (lk : Int) (hW : WfR P 0) (h1 : I32 lk) : mML l g h ad yX6_law cX6_law 2 (k2_rm 7 166) [.int (iZ lk)] S (fun z1 S1 => z1 = aLaw P lk ∧ per S1 = P) := by
  refine z_start (own := RX6) (by decide) rfl (Nat.le_of_ble_eq_true rfl) ?_
  intro prg env s mid blw mth cod ls Q C hQ hret hlk hnm hK hH hl
  have hP : MP g h ad S s.heap := hH
  have hS : va_S (MA h ad) s.heap s.heap [] := va_S.rf
  have hl : lv_has ls 2 [(0, .ref h), (1, .int (iZ lk))] := hl
  have w2 := hW.places
  have w8 := hW.locks
  refine z_aload_n C dX6_law_0 hl 0 rfl ?_
  refine z_iconst C dX6_law_1 ?_
  refine m_puti C hK hP hS 0 (by decide) q1749 rfl rfl (by omega) dX6_law_2 (fun S_2 eS_2 H locs hP hS => ?_)
  have hS_2 := per_s rfl hPS eS_2
  refine z_aload_n C dX6_law_5 hl 0 rfl ?_
  refine m_pi C vX6_354 (mcX6_isRail l g h ad _ _ hS_2 (by assumption)) hS hl ⟨Nat.le_of_ble_eq_true rfl, Nat.le_of_ble_eq_true rfl⟩ ⟨rfl, rfl⟩ hK hP rfl rfl (Nat.le_of_ble_eq_true rfl) dX6_law_6 ⟨Nat.zero_le _, Nat.zero_le _⟩ (fun locs hS => ?_)
  refine z_if_eq C 40 dX6_law_9 (by decide) z01_in (fun c_9 => ?_) (fun c_9 => ?_)
  · replace c_9 := z01_f c_9
    refine z_ldc2 (v := -2) C q2155 dX6_law_40 rfl ?_
    exact m_mret_l C hQ hret hlk hS hP ⟨by unfold aLaw; split <;> first | rfl | omega, hS_2⟩ dX6_law_43
  · replace c_9 := z01_t c_9
    refine z_iload_n C dX6_law_12 hl 1 rfl ?_
    refine z_i2l C dX6_law_13 (by omega) ?_
    refine z_ldc2 (v := -1) C q1962 dX6_law_14 rfl ?_
    refine z_aload_n C dX6_law_17 hl 0 rfl ?_
    refine m_geta C hK hP 21 (by decide) q1770 rfl (by decide) dX6_law_18 ?_
    refine z_iconst C dX6_law_21 ?_
    refine m_iald C hK hP 21 (by decide) rfl (by have h9 : mlen 21 = 5 := rfl; omega) (pe hS_2 rfl) dX6_law_22 (fun r_22 => ?_)
    refine z_iconst C dX6_law_23 ?_
    refine z_isub C dX6_law_24 ?_
    refine z_i2l C dX6_law_25 (by omega) ?_
    refine s_pi C vX6_119 (mcX6_in l _ _ _ (by omega) (by omega) (by omega)) hS hl ⟨Nat.le_of_ble_eq_true rfl, Nat.le_of_ble_eq_true rfl⟩ ⟨rfl, rfl⟩ rfl rfl (Nat.le_of_ble_eq_true rfl) dX6_law_26 ⟨Nat.zero_le _, Nat.zero_le _⟩ (fun locs hS => ?_)
    refine z_if_eq C 40 dX6_law_29 (by decide) z01_in (fun c_29 => ?_) (fun c_29 => ?_)
    · replace c_29 := z01_f c_29
      refine z_ldc2 (v := -2) C q2155 dX6_law_40 rfl ?_
      exact m_mret_l C hQ hret hlk hS hP ⟨by unfold aLaw; split <;> first | rfl | omega, hS_2⟩ dX6_law_43
    · replace c_29 := z01_t c_29
      refine z_aload_n C dX6_law_32 hl 0 rfl ?_
      refine z_iload_n C dX6_law_33 hl 1 rfl ?_
      refine m_ml C vX6_508 (mcX6_byLaw l g h ad _ _ hS_2 _ (by assumption) (by omega)) hS hl ⟨Nat.le_of_ble_eq_true rfl, Nat.le_of_ble_eq_true rfl⟩ ⟨rfl, rfl⟩ hK hP (fun _ h9 => h9) rfl rfl (Nat.le_of_ble_eq_true rfl) dX6_law_34 ⟨Nat.zero_le _, Nat.zero_le _⟩ (fun v_34 S_34 H locs pS_34 hP hS => ?_)
      obtain ⟨e_34, pS_34⟩ := pS_34
      subst e_34
      have hS_34 : per S_34 = P := pS_34
      refine z_goto C 43 dX6_law_37 (by decide) ?_
      exact m_mret_l C hQ hret hlk hS hP ⟨by unfold aLaw; split <;> first | rfl | omega, hS_34⟩ dX6_law_43
theorem mcX6_laws (l : Launch) (g : mG) (h : Nat) (ad : Nat → Nat) (P S : zS) (hPS : per S = P)  (hW : WfR P 0) : mMI l g h ad yX6_laws cX6_laws 7 .int (k2_rm 7 166) [] S (fun z1 S1 => z1 = aLaws P ∧ per S1 = P) := by
  refine z_start (own := RX6) (by decide) rfl (Nat.le_of_ble_eq_true rfl) ?_
  intro prg env s mid blw mth cod ls Q C hQ hret hlk hnm hK hH hl
  have hP : MP g h ad S s.heap := hH
  have hS : va_S (MA h ad) s.heap s.heap [] := va_S.rf
  have hl : lv_has ls 7 [(0, .ref h)] := hl
  have w2 := hW.places
  have w8 := hW.locks
  refine z_aload_n C dX6_laws_0 hl 0 rfl ?_
  refine z_iconst C dX6_laws_1 ?_
  refine m_puti C hK hP hS 0 (by decide) q1749 rfl rfl (by omega) dX6_laws_2 (fun S_2 eS_2 H locs hP hS => ?_)
  have hS_2 := per_s rfl hPS eS_2
  refine z_aload_n C dX6_laws_5 hl 0 rfl ?_
  refine m_pi C vX6_354 (mcX6_isRail l g h ad _ _ hS_2 (by assumption)) hS hl ⟨Nat.le_of_ble_eq_true rfl, Nat.le_of_ble_eq_true rfl⟩ ⟨rfl, rfl⟩ hK hP rfl rfl (Nat.le_of_ble_eq_true rfl) dX6_laws_6 ⟨Nat.zero_le _, Nat.zero_le _⟩ (fun locs hS => ?_)
  refine z_if_ne C 15 dX6_laws_9 (by decide) z01_in (fun c_9 => ?_) (fun c_9 => ?_)
  · replace c_9 := z01_t c_9
    refine z_iconst C dX6_laws_15 ?_
    refine z_istore_n C dX6_laws_16 rfl hl (by decide) rfl (fun ls hl => ?_)
    have hl : lv_has ls 7 [(1, _), (0, _)] := hl
    refine z_aload_n C dX6_laws_17 hl 1 rfl ?_
    refine z_iconst C dX6_laws_18 ?_
    refine m_ml C vX6_508 (mcX6_byLaw l g h ad _ _ hS_2 _ (by assumption) (by omega)) hS hl ⟨Nat.le_of_ble_eq_true rfl, Nat.le_of_ble_eq_true rfl⟩ ⟨rfl, rfl⟩ hK hP (fun _ h9 => h9) rfl rfl (Nat.le_of_ble_eq_true rfl) dX6_laws_19 ⟨Nat.zero_le _, Nat.zero_le _⟩ (fun v_19 S_19 H locs pS_19 hP hS => ?_)
    obtain ⟨e_19, pS_19⟩ := pS_19
    subst e_19
    have hS_19 : per S_19 = P := pS_19
    refine z_lstore_n C dX6_laws_22 rfl hl (by decide) rfl (fun ls hl => ?_)
    have hl : lv_has ls 7 [(2, _), (1, _), (0, _)] := hl
    refine z_iconst C dX6_laws_23 ?_
    refine z_istore C dX6_laws_24 hl (by decide) rfl (fun ls hl => ?_)
    have hl : lv_has ls 7 [(4, _), (2, _), (1, _), (0, _)] := hl
    have hL_26 : ∀ (fuel : Nat) (k : Nat) (bst ls_ : Int) (S1 : zS) (H : Heap) (locs : List Loc) (ls : Array Slot), (P 21 0).toNat - k < fuel → ((k : Int) ≤ P 21 0) → (bst = (amin (fun k => lawV P ((k : Int) - 1)) k : Int) - 1) → (ls_ = lawV P (((amin (fun k => lawV P ((k : Int) - 1)) k : Nat) : Int) - 1)) → per S1 = P → MP g h ad S1 H → va_S (MA h ad) s.heap H locs → lv_has ls 7 [(0, .ref h), (1, .int (iZ bst)), (2, .long (lZ ls_)), (4, .int (iZ (k : Int)))] → W prg l env (k2_rm 7 166) s mid ([.ref h] : List Value).toArray blw mth cod H locs 0 0 Q (F0 mid 26 ls []) := by
      intro fuel
      induction fuel with
      | zero => intro k bst ls_ S1  H locs ls hm; exact absurd hm (Nat.not_lt_zero _)
      | succ fuel hL_26 =>
        intro k bst ls_ S1  H locs ls hm ik iB iV hPS_26 hP  hS hl
        refine z_iload C dX6_laws_26 hl 3 rfl ?_
        refine z_aload_n C dX6_laws_28 hl 0 rfl ?_
        refine m_geta C hK hP 21 (by decide) q1770 rfl (by decide) dX6_laws_29 ?_
        refine z_iconst C dX6_laws_32 ?_
        refine m_iald C hK hP 21 (by decide) rfl (by have h9 : mlen 21 = 5 := rfl; omega) (pe hPS_26 rfl) dX6_laws_33 (fun r_33 => ?_)
        refine z_icmp_ge C 67 dX6_laws_34 (by decide) (by omega) (by omega) (fun c_34 => ?_) (fun c_34 => ?_)
        · refine z_iload_n C dX6_laws_67 hl 1 rfl ?_
          exact m_mret_i C hQ hret hlk hS hP ⟨by rw [aLaws, if_pos c_9, iB, lawAt, show (P 21 0).toNat = k by omega], hPS_26⟩ dX6_laws_68
        · have q1 : ∀ l : Int, -1 ≤ l → l < P 21 0 → 0 ≤ lawV P l ∧ lawV P l ≤ 6618780000 := fun l h1 h2 => allOf_in (lwP_ok hW ⟨h1, h2⟩ (n := (P 23 0).toNat) (by have := hW.bikes; omega)).1 2
          have q2 := amin_le (fun k => lawV P ((k : Int) - 1)) k
          have q3 : lawV P (((k + 1 : Nat) : Int) - 1) = lawV P k := by congr 1; omega
          have q4 := q1 k (by omega) (by omega)
          have q5 := q1 (((amin (fun k => lawV P ((k : Int) - 1)) k : Nat) : Int) - 1) (by omega) (by omega)
          refine z_aload_n C dX6_laws_37 hl 0 rfl ?_
          refine z_iload C dX6_laws_38 hl 3 rfl ?_
          refine m_ml C vX6_508 (mcX6_byLaw l g h ad _ _ hPS_26 _ (by assumption) (by omega)) hS hl ⟨Nat.le_of_ble_eq_true rfl, Nat.le_of_ble_eq_true rfl⟩ ⟨rfl, rfl⟩ hK hP (fun _ h9 => h9) rfl rfl (Nat.le_of_ble_eq_true rfl) dX6_laws_40 ⟨Nat.zero_le _, Nat.zero_le _⟩ (fun v_40 S_40 H locs pS_40 hP hS => ?_)
          obtain ⟨e_40, pS_40⟩ := pS_40
          subst e_40
          have hS_40 : per S_40 = P := pS_40
          refine z_lstore C dX6_laws_43 hl (by decide) rfl (fun ls hl => ?_)
          have hl : lv_has ls 7 [(5, _), (0, _), (1, _), (2, _), (4, _)] := hl
          refine z_lload C dX6_laws_45 hl 0 rfl ?_
          refine z_lload_n C dX6_laws_47 hl 3 rfl ?_
          refine z_lcmp_lt C 55 dX6_laws_48 dX6_laws_49 (by decide) (by omega) (by omega) (fun c_48 => ?_) (fun c_48 => ?_)
          · refine z_iload C dX6_laws_55 hl 4 rfl ?_
            refine z_istore_n C dX6_laws_57 rfl hl (by decide) rfl (fun ls hl => ?_)
            have hl : lv_has ls 7 [(1, _), (5, _), (0, _), (2, _), (4, _)] := hl
            refine z_lload C dX6_laws_58 hl 1 rfl ?_
            refine z_lstore_n C dX6_laws_60 rfl hl (by decide) rfl (fun ls hl => ?_)
            have hl : lv_has ls 7 [(2, _), (1, _), (5, _), (0, _), (4, _)] := hl
            refine z_iinc C dX6_laws_61 hl (by decide) 4 rfl rfl (fun ls hl => ?_)
            have hl : lv_has ls 7 [(4, _), (2, _), (1, _), (5, _), (0, _)] := hl
            refine z_goto C 26 dX6_laws_64 (by decide) ?_
            exact hL_26 (k + 1) _ _ _ _ _ ls (by omega) (by omega) (by rw [amin_s, if_pos (by rw [q3]; omega)]; omega) (by rw [amin_s, if_pos (by rw [q3]; omega), q3]) hS_40 hP hS (lv_sub hl [4, 2, 1, 0] rfl)
          · refine z_goto C 61 dX6_laws_52 (by decide) ?_
            refine z_iinc C dX6_laws_61 hl (by decide) 4 rfl rfl (fun ls hl => ?_)
            have hl : lv_has ls 7 [(4, _), (5, _), (0, _), (1, _), (2, _)] := hl
            refine z_goto C 26 dX6_laws_64 (by decide) ?_
            exact hL_26 (k + 1) _ _ _ _ _ ls (by omega) (by omega) (by rw [amin_s, if_neg (by rw [q3]; omega)]; exact iB) (by rw [amin_s, if_neg (by rw [q3]; omega)]; exact iV) hS_40 hP hS (lv_sub hl [2, 3, 4, 0] rfl)
    exact hL_26 _ 0 (-1) _ _ _ _ ls (Nat.lt_succ_self _) (by omega) rfl rfl hS_19 hP hS (lv_sub hl [3, 2, 1, 0] rfl)
  · replace c_9 := z01_f c_9
    refine z_bipush C dX6_laws_12 rfl ?_
    exact m_mret_i C hQ hret hlk hS hP ⟨(if_neg (by assumption)).symm, hS_2⟩ dX6_laws_14
theorem mcX6_netOn (l : Launch) (g : mG) (h : Nat) (ad : Nat → Nat) (P S : zS) (hPS : per S = P) (t r : Int) (hr : 0 ≤ r ∧ r ≤ 4) (hWr : WfR P r) (hW : WfR P 0) (ht : 0 ≤ t ∧ t < P 25 0) : mPI l g h ad yX6_netOn cX6_netOn 9 .int (k2_rm 3 72) [.int (iZ t), .int (iZ r)] S (netAt P t r) := by
  intro H0 hP
  refine z_start (own := RX6) (by decide) rfl (Nat.le_of_ble_eq_true rfl) ?_
  intro prg env s mid blw mth cod ls Q C hQ hret hlk hnm hK hH hl
  subst hH
  have hS : va_S nA s.heap s.heap [] := va_S.rf
  have hl : lv_has ls 9 [(0, .ref h), (1, .int (iZ t)), (2, .int (iZ r))] := hl
  have w1 := hWr.bikes
  have w3 := hW.thieves
  have w4 := hW.thief0 ht
  refine z_aload_n C dX6_netOn_0 hl 0 rfl ?_
  refine m_geta C hK hP 26 (by decide) q1775 rfl (by decide) dX6_netOn_1 ?_
  refine z_iconst C dX6_netOn_4 ?_
  refine z_iload_n C dX6_netOn_5 hl 1 rfl ?_
  refine z_imul C dX6_netOn_6 ?_
  refine z_iconst C dX6_netOn_7 ?_
  refine z_iadd C dX6_netOn_8 ?_
  refine m_iald C hK hP 26 (by decide) rfl (by have h9 : mlen 26 = 150 := rfl; omega) (pe hPS rfl) dX6_netOn_9 (fun r_9 => ?_)
  refine z_istore_n C dX6_netOn_10 rfl hl (by decide) rfl (fun ls hl => ?_)
  have hl : lv_has ls 9 [(3, _), (0, _), (1, _), (2, _)] := hl
  refine z_iconst C dX6_netOn_11 ?_
  refine z_istore C dX6_netOn_12 hl (by decide) rfl (fun ls hl => ?_)
  have hl : lv_has ls 9 [(4, _), (3, _), (0, _), (1, _), (2, _)] := hl
  refine z_iconst C dX6_netOn_14 ?_
  refine z_istore C dX6_netOn_15 hl (by decide) rfl (fun ls hl => ?_)
  have hl : lv_has ls 9 [(5, _), (4, _), (3, _), (0, _), (1, _), (2, _)] := hl
  refine z_iconst C dX6_netOn_17 ?_
  refine z_istore C dX6_netOn_18 hl (by decide) rfl (fun ls hl => ?_)
  have hl : lv_has ls 9 [(6, _), (5, _), (4, _), (3, _), (0, _), (1, _), (2, _)] := hl
  have hL_20 : ∀ (fuel : Nat) (k : Nat) (tr nt : Int) (locs : List Loc) (ls : Array Slot), (P 23 r).toNat - k < fuel → ((k : Int) ≤ P 23 r) → (nrI P t r k tr nt) → (I32 tr ∧ I32 nt) → va_S nA s.heap s.heap locs → lv_has ls 9 [(0, .ref h), (1, .int (iZ t)), (2, .int (iZ r)), (3, .int (iZ (P 26 (5 * t + 3)))), (4, .int (iZ tr)), (5, .int (iZ nt)), (6, .int (iZ (k : Int)))] → W prg l env (k2_rm 3 72) s mid ([.ref h, .int (iZ t), .int (iZ r)] : List Value).toArray blw mth cod s.heap locs 0 0 Q (F0 mid 20 ls []) := by
    intro fuel
    induction fuel with
    | zero => intro k tr nt  locs ls hm; exact absurd hm (Nat.not_lt_zero _)
    | succ fuel hL_20 =>
      intro k tr nt  locs ls hm ik iI iR  hS hl
      refine z_iload C dX6_netOn_20 hl 6 rfl ?_
      refine z_aload_n C dX6_netOn_22 hl 0 rfl ?_
      refine m_geta C hK hP 23 (by decide) q1772 rfl (by decide) dX6_netOn_23 ?_
      refine z_iload_n C dX6_netOn_26 hl 2 rfl ?_
      refine m_iald C hK hP 23 (by decide) rfl (by have h9 : mlen 23 = 5 := rfl; omega) (pe hPS rfl) dX6_netOn_27 (fun r_27 => ?_)
      refine z_icmp_ge C 123 dX6_netOn_28 (by decide) (by omega) (by omega) (fun c_28 => ?_) (fun c_28 => ?_)
      · refine z_iload C dX6_netOn_123 hl 5 rfl ?_
        exact z_pret_i C hQ hret hlk hS (by rw [netAt, show (P 23 r).toNat = k by omega]; rcases iI with z | z; rw [if_pos z.1, z.2.1]; rw [if_neg (by omega), z.2.1]) dX6_netOn_125
      · have q1 := trouble_in hWr hW ht (b := k) ⟨by omega, by omega⟩
        have q2 := gain_in hWr (b := k) ⟨by omega, by omega⟩
        have q3 : nrN P t r k = gain P r k - trouble P t r k := rfl
        have q4 : nrT P t r k = trouble P t r k := rfl
        refine z_aload_n C dX6_netOn_31 hl 0 rfl ?_
        refine z_iload_n C dX6_netOn_32 hl 1 rfl ?_
        refine z_iload_n C dX6_netOn_33 hl 2 rfl ?_
        refine z_iload C dX6_netOn_34 hl 6 rfl ?_
        refine m_pi C vX6_333 (mcX6_troubleOf l g h ad _ _ hPS _ _ _ (by omega) (by assumption) (by assumption) (by omega) (by omega)) hS hl ⟨Nat.le_of_ble_eq_true rfl, Nat.le_of_ble_eq_true rfl⟩ ⟨rfl, rfl⟩ hK hP rfl rfl (Nat.le_of_ble_eq_true rfl) dX6_netOn_36 ⟨Nat.zero_le _, Nat.zero_le _⟩ (fun locs hS => ?_)
        refine z_istore C dX6_netOn_39 hl (by decide) rfl (fun ls hl => ?_)
        have hl : lv_has ls 9 [(7, _), (0, _), (1, _), (2, _), (3, _), (4, _), (5, _), (6, _)] := hl
        refine z_aload_n C dX6_netOn_41 hl 1 rfl ?_
        refine z_iload_n C dX6_netOn_42 hl 3 rfl ?_
        refine z_iload C dX6_netOn_43 hl 7 rfl ?_
        refine m_pi C vX6_337 (mcX6_gainOf l g h ad _ _ hPS _ _ (by omega) (by assumption) (by omega)) hS hl ⟨Nat.le_of_ble_eq_true rfl, Nat.le_of_ble_eq_true rfl⟩ ⟨rfl, rfl⟩ hK hP rfl rfl (Nat.le_of_ble_eq_true rfl) dX6_netOn_45 ⟨Nat.zero_le _, Nat.zero_le _⟩ (fun locs hS => ?_)
        refine z_iload C dX6_netOn_48 hl 0 rfl ?_
        refine z_isub C dX6_netOn_50 ?_
        refine z_istore C dX6_netOn_51 hl (by decide) rfl (fun ls hl => ?_)
        have hl : lv_has ls 9 [(8, _), (7, _), (0, _), (1, _), (2, _), (3, _), (4, _), (5, _), (6, _)] := hl
        refine z_iload C dX6_netOn_53 hl 0 rfl ?_
        refine z_if_le C 117 dX6_netOn_55 (by decide) (by omega) (fun c_55 => ?_) (fun c_55 => ?_)
        · refine z_iinc C dX6_netOn_117 hl (by decide) 8 rfl rfl (fun ls hl => ?_)
          have hl : lv_has ls 9 [(6, _), (8, _), (7, _), (0, _), (1, _), (2, _), (3, _), (4, _), (5, _)] := hl
          refine z_goto C 20 dX6_netOn_120 (by decide) ?_
          exact hL_20 (k + 1) tr nt _ ls (by omega) (by omega) (nrI.skip iI (Or.inl (by omega))) (by omega)  hS (lv_sub hl [3, 4, 5, 6, 7, 8, 0] rfl)
        · refine z_iload_n C dX6_netOn_58 hl 5 rfl ?_
          refine z_iconst C dX6_netOn_59 ?_
          refine z_icmp_ne C 81 dX6_netOn_60 (by decide) (by omega) (by omega) (fun c_60 => ?_) (fun c_60 => ?_)
          · refine z_iload C dX6_netOn_81 hl 7 rfl ?_
            refine z_if_eq C 109 dX6_netOn_83 (by decide) (by omega) (fun c_83 => ?_) (fun c_83 => ?_)
            · refine z_iload C dX6_netOn_109 hl 0 rfl ?_
              refine z_istore C dX6_netOn_111 hl (by decide) rfl (fun ls hl => ?_)
              have hl : lv_has ls 9 [(5, _), (8, _), (7, _), (0, _), (1, _), (2, _), (3, _), (4, _), (6, _)] := hl
              refine z_iload C dX6_netOn_113 hl 2 rfl ?_
              refine z_istore C dX6_netOn_115 hl (by decide) rfl (fun ls hl => ?_)
              have hl : lv_has ls 9 [(4, _), (5, _), (8, _), (7, _), (0, _), (1, _), (2, _), (3, _), (6, _)] := hl
              refine z_iinc C dX6_netOn_117 hl (by decide) 8 rfl rfl (fun ls hl => ?_)
              have hl : lv_has ls 9 [(6, _), (4, _), (5, _), (8, _), (7, _), (0, _), (1, _), (2, _), (3, _)] := hl
              refine z_goto C 20 dX6_netOn_120 (by decide) ?_
              exact hL_20 (k + 1) _ _ _ ls (by omega) (by omega) (nrI.take iI (by omega) (by omega) (by omega)) (by omega)  hS (lv_sub hl [5, 6, 7, 8, 1, 2, 0] rfl)
            · refine z_iload_n C dX6_netOn_86 hl 5 rfl ?_
              refine z_if_ne C 97 dX6_netOn_87 (by decide) (by omega) (fun c_87 => ?_) (fun c_87 => ?_)
              · refine z_iload_n C dX6_netOn_97 hl 5 rfl ?_
                refine z_iconst C dX6_netOn_98 ?_
                refine z_icmp_ne C 117 dX6_netOn_99 (by decide) (by omega) (by omega) (fun c_99 => ?_) (fun c_99 => ?_)
                · refine z_iinc C dX6_netOn_117 hl (by decide) 8 rfl rfl (fun ls hl => ?_)
                  have hl : lv_has ls 9 [(6, _), (8, _), (7, _), (0, _), (1, _), (2, _), (3, _), (4, _), (5, _)] := hl
                  refine z_goto C 20 dX6_netOn_120 (by decide) ?_
                  exact hL_20 (k + 1) tr nt _ ls (by omega) (by omega) (nrI.skip2 iI (by omega) (by omega) (by omega) (by omega)) (by omega)  hS (lv_sub hl [3, 4, 5, 6, 7, 8, 0] rfl)
                · refine z_iload C dX6_netOn_102 hl 1 rfl ?_
                  refine z_iload C dX6_netOn_104 hl 6 rfl ?_
                  refine z_icmp_ge C 117 dX6_netOn_106 (by decide) (by omega) (by omega) (fun c_106 => ?_) (fun c_106 => ?_)
                  · refine z_iinc C dX6_netOn_117 hl (by decide) 8 rfl rfl (fun ls hl => ?_)
                    have hl : lv_has ls 9 [(6, _), (8, _), (7, _), (0, _), (1, _), (2, _), (3, _), (4, _), (5, _)] := hl
                    refine z_goto C 20 dX6_netOn_120 (by decide) ?_
                    exact hL_20 (k + 1) tr nt _ ls (by omega) (by omega) (nrI.skip2 iI (by omega) (by omega) (by omega) (by omega)) (by omega)  hS (lv_sub hl [3, 4, 5, 6, 7, 8, 0] rfl)
                  · refine z_iload C dX6_netOn_109 hl 0 rfl ?_
                    refine z_istore C dX6_netOn_111 hl (by decide) rfl (fun ls hl => ?_)
                    have hl : lv_has ls 9 [(5, _), (8, _), (7, _), (0, _), (1, _), (2, _), (3, _), (4, _), (6, _)] := hl
                    refine z_iload C dX6_netOn_113 hl 2 rfl ?_
                    refine z_istore C dX6_netOn_115 hl (by decide) rfl (fun ls hl => ?_)
                    have hl : lv_has ls 9 [(4, _), (5, _), (8, _), (7, _), (0, _), (1, _), (2, _), (3, _), (6, _)] := hl
                    refine z_iinc C dX6_netOn_117 hl (by decide) 8 rfl rfl (fun ls hl => ?_)
                    have hl : lv_has ls 9 [(6, _), (4, _), (5, _), (8, _), (7, _), (0, _), (1, _), (2, _), (3, _)] := hl
                    refine z_goto C 20 dX6_netOn_120 (by decide) ?_
                    exact hL_20 (k + 1) _ _ _ ls (by omega) (by omega) (nrI.take iI (by omega) (by omega) (by omega)) (by omega)  hS (lv_sub hl [5, 6, 7, 8, 1, 2, 0] rfl)
              · refine z_iload C dX6_netOn_90 hl 0 rfl ?_
                refine z_iload C dX6_netOn_92 hl 7 rfl ?_
                refine z_icmp_gt C 109 dX6_netOn_94 (by decide) (by omega) (by omega) (fun c_94 => ?_) (fun c_94 => ?_)
                · refine z_iload C dX6_netOn_109 hl 0 rfl ?_
                  refine z_istore C dX6_netOn_111 hl (by decide) rfl (fun ls hl => ?_)
                  have hl : lv_has ls 9 [(5, _), (8, _), (7, _), (0, _), (1, _), (2, _), (3, _), (4, _), (6, _)] := hl
                  refine z_iload C dX6_netOn_113 hl 2 rfl ?_
                  refine z_istore C dX6_netOn_115 hl (by decide) rfl (fun ls hl => ?_)
                  have hl : lv_has ls 9 [(4, _), (5, _), (8, _), (7, _), (0, _), (1, _), (2, _), (3, _), (6, _)] := hl
                  refine z_iinc C dX6_netOn_117 hl (by decide) 8 rfl rfl (fun ls hl => ?_)
                  have hl : lv_has ls 9 [(6, _), (4, _), (5, _), (8, _), (7, _), (0, _), (1, _), (2, _), (3, _)] := hl
                  refine z_goto C 20 dX6_netOn_120 (by decide) ?_
                  exact hL_20 (k + 1) _ _ _ ls (by omega) (by omega) (nrI.take iI (by omega) (by omega) (by omega)) (by omega)  hS (lv_sub hl [5, 6, 7, 8, 1, 2, 0] rfl)
                · refine z_iload_n C dX6_netOn_97 hl 5 rfl ?_
                  refine z_iconst C dX6_netOn_98 ?_
                  refine z_icmp_ne C 117 dX6_netOn_99 (by decide) (by omega) (by omega) (fun c_99 => ?_) (fun c_99 => ?_)
                  · refine z_iinc C dX6_netOn_117 hl (by decide) 8 rfl rfl (fun ls hl => ?_)
                    have hl : lv_has ls 9 [(6, _), (8, _), (7, _), (0, _), (1, _), (2, _), (3, _), (4, _), (5, _)] := hl
                    refine z_goto C 20 dX6_netOn_120 (by decide) ?_
                    exact hL_20 (k + 1) tr nt _ ls (by omega) (by omega) (nrI.skip2 iI (by omega) (by omega) (by omega) (by omega)) (by omega)  hS (lv_sub hl [3, 4, 5, 6, 7, 8, 0] rfl)
                  · refine z_iload C dX6_netOn_102 hl 1 rfl ?_
                    refine z_iload C dX6_netOn_104 hl 6 rfl ?_
                    refine z_icmp_ge C 117 dX6_netOn_106 (by decide) (by omega) (by omega) (fun c_106 => ?_) (fun c_106 => ?_)
                    · refine z_iinc C dX6_netOn_117 hl (by decide) 8 rfl rfl (fun ls hl => ?_)
                      have hl : lv_has ls 9 [(6, _), (8, _), (7, _), (0, _), (1, _), (2, _), (3, _), (4, _), (5, _)] := hl
                      refine z_goto C 20 dX6_netOn_120 (by decide) ?_
                      exact hL_20 (k + 1) tr nt _ ls (by omega) (by omega) (nrI.skip2 iI (by omega) (by omega) (by omega) (by omega)) (by omega)  hS (lv_sub hl [3, 4, 5, 6, 7, 8, 0] rfl)
                    · refine z_iload C dX6_netOn_109 hl 0 rfl ?_
                      refine z_istore C dX6_netOn_111 hl (by decide) rfl (fun ls hl => ?_)
                      have hl : lv_has ls 9 [(5, _), (8, _), (7, _), (0, _), (1, _), (2, _), (3, _), (4, _), (6, _)] := hl
                      refine z_iload C dX6_netOn_113 hl 2 rfl ?_
                      refine z_istore C dX6_netOn_115 hl (by decide) rfl (fun ls hl => ?_)
                      have hl : lv_has ls 9 [(4, _), (5, _), (8, _), (7, _), (0, _), (1, _), (2, _), (3, _), (6, _)] := hl
                      refine z_iinc C dX6_netOn_117 hl (by decide) 8 rfl rfl (fun ls hl => ?_)
                      have hl : lv_has ls 9 [(6, _), (4, _), (5, _), (8, _), (7, _), (0, _), (1, _), (2, _), (3, _)] := hl
                      refine z_goto C 20 dX6_netOn_120 (by decide) ?_
                      exact hL_20 (k + 1) _ _ _ ls (by omega) (by omega) (nrI.take iI (by omega) (by omega) (by omega)) (by omega)  hS (lv_sub hl [5, 6, 7, 8, 1, 2, 0] rfl)
          · refine z_iload C dX6_netOn_63 hl 8 rfl ?_
            refine z_aload_n C dX6_netOn_65 hl 2 rfl ?_
            refine m_geta C hK hP 26 (by decide) q1775 rfl (by decide) dX6_netOn_66 ?_
            refine z_iconst C dX6_netOn_69 ?_
            refine z_iload_n C dX6_netOn_70 hl 3 rfl ?_
            refine z_imul C dX6_netOn_71 ?_
            refine z_iconst C dX6_netOn_72 ?_
            refine z_iadd C dX6_netOn_73 ?_
            refine m_iald C hK hP 26 (by decide) rfl (by have h9 : mlen 26 = 150 := rfl; omega) (pe hPS rfl) dX6_netOn_74 (fun r_74 => ?_)
            refine z_icmp_eq C 81 dX6_netOn_75 (by decide) (by omega) (by omega) (fun c_75 => ?_) (fun c_75 => ?_)
            · refine z_iload C dX6_netOn_81 hl 7 rfl ?_
              refine z_if_eq C 109 dX6_netOn_83 (by decide) (by omega) (fun c_83 => ?_) (fun c_83 => ?_)
              · refine z_iload C dX6_netOn_109 hl 0 rfl ?_
                refine z_istore C dX6_netOn_111 hl (by decide) rfl (fun ls hl => ?_)
                have hl : lv_has ls 9 [(5, _), (8, _), (7, _), (0, _), (1, _), (2, _), (3, _), (4, _), (6, _)] := hl
                refine z_iload C dX6_netOn_113 hl 2 rfl ?_
                refine z_istore C dX6_netOn_115 hl (by decide) rfl (fun ls hl => ?_)
                have hl : lv_has ls 9 [(4, _), (5, _), (8, _), (7, _), (0, _), (1, _), (2, _), (3, _), (6, _)] := hl
                refine z_iinc C dX6_netOn_117 hl (by decide) 8 rfl rfl (fun ls hl => ?_)
                have hl : lv_has ls 9 [(6, _), (4, _), (5, _), (8, _), (7, _), (0, _), (1, _), (2, _), (3, _)] := hl
                refine z_goto C 20 dX6_netOn_120 (by decide) ?_
                exact hL_20 (k + 1) _ _ _ ls (by omega) (by omega) (nrI.take iI (by omega) (by omega) (by omega)) (by omega)  hS (lv_sub hl [5, 6, 7, 8, 1, 2, 0] rfl)
              · refine z_iload_n C dX6_netOn_86 hl 5 rfl ?_
                refine z_if_ne C 97 dX6_netOn_87 (by decide) (by omega) (fun c_87 => ?_) (fun c_87 => ?_)
                · refine z_iload_n C dX6_netOn_97 hl 5 rfl ?_
                  refine z_iconst C dX6_netOn_98 ?_
                  refine z_icmp_ne C 117 dX6_netOn_99 (by decide) (by omega) (by omega) (fun c_99 => ?_) (fun c_99 => ?_)
                  · refine z_iinc C dX6_netOn_117 hl (by decide) 8 rfl rfl (fun ls hl => ?_)
                    have hl : lv_has ls 9 [(6, _), (8, _), (7, _), (0, _), (1, _), (2, _), (3, _), (4, _), (5, _)] := hl
                    refine z_goto C 20 dX6_netOn_120 (by decide) ?_
                    exact hL_20 (k + 1) tr nt _ ls (by omega) (by omega) (nrI.skip2 iI (by omega) (by omega) (by omega) (by omega)) (by omega)  hS (lv_sub hl [3, 4, 5, 6, 7, 8, 0] rfl)
                  · refine z_iload C dX6_netOn_102 hl 1 rfl ?_
                    refine z_iload C dX6_netOn_104 hl 6 rfl ?_
                    refine z_icmp_ge C 117 dX6_netOn_106 (by decide) (by omega) (by omega) (fun c_106 => ?_) (fun c_106 => ?_)
                    · refine z_iinc C dX6_netOn_117 hl (by decide) 8 rfl rfl (fun ls hl => ?_)
                      have hl : lv_has ls 9 [(6, _), (8, _), (7, _), (0, _), (1, _), (2, _), (3, _), (4, _), (5, _)] := hl
                      refine z_goto C 20 dX6_netOn_120 (by decide) ?_
                      exact hL_20 (k + 1) tr nt _ ls (by omega) (by omega) (nrI.skip2 iI (by omega) (by omega) (by omega) (by omega)) (by omega)  hS (lv_sub hl [3, 4, 5, 6, 7, 8, 0] rfl)
                    · refine z_iload C dX6_netOn_109 hl 0 rfl ?_
                      refine z_istore C dX6_netOn_111 hl (by decide) rfl (fun ls hl => ?_)
                      have hl : lv_has ls 9 [(5, _), (8, _), (7, _), (0, _), (1, _), (2, _), (3, _), (4, _), (6, _)] := hl
                      refine z_iload C dX6_netOn_113 hl 2 rfl ?_
                      refine z_istore C dX6_netOn_115 hl (by decide) rfl (fun ls hl => ?_)
                      have hl : lv_has ls 9 [(4, _), (5, _), (8, _), (7, _), (0, _), (1, _), (2, _), (3, _), (6, _)] := hl
                      refine z_iinc C dX6_netOn_117 hl (by decide) 8 rfl rfl (fun ls hl => ?_)
                      have hl : lv_has ls 9 [(6, _), (4, _), (5, _), (8, _), (7, _), (0, _), (1, _), (2, _), (3, _)] := hl
                      refine z_goto C 20 dX6_netOn_120 (by decide) ?_
                      exact hL_20 (k + 1) _ _ _ ls (by omega) (by omega) (nrI.take iI (by omega) (by omega) (by omega)) (by omega)  hS (lv_sub hl [5, 6, 7, 8, 1, 2, 0] rfl)
                · refine z_iload C dX6_netOn_90 hl 0 rfl ?_
                  refine z_iload C dX6_netOn_92 hl 7 rfl ?_
                  refine z_icmp_gt C 109 dX6_netOn_94 (by decide) (by omega) (by omega) (fun c_94 => ?_) (fun c_94 => ?_)
                  · refine z_iload C dX6_netOn_109 hl 0 rfl ?_
                    refine z_istore C dX6_netOn_111 hl (by decide) rfl (fun ls hl => ?_)
                    have hl : lv_has ls 9 [(5, _), (8, _), (7, _), (0, _), (1, _), (2, _), (3, _), (4, _), (6, _)] := hl
                    refine z_iload C dX6_netOn_113 hl 2 rfl ?_
                    refine z_istore C dX6_netOn_115 hl (by decide) rfl (fun ls hl => ?_)
                    have hl : lv_has ls 9 [(4, _), (5, _), (8, _), (7, _), (0, _), (1, _), (2, _), (3, _), (6, _)] := hl
                    refine z_iinc C dX6_netOn_117 hl (by decide) 8 rfl rfl (fun ls hl => ?_)
                    have hl : lv_has ls 9 [(6, _), (4, _), (5, _), (8, _), (7, _), (0, _), (1, _), (2, _), (3, _)] := hl
                    refine z_goto C 20 dX6_netOn_120 (by decide) ?_
                    exact hL_20 (k + 1) _ _ _ ls (by omega) (by omega) (nrI.take iI (by omega) (by omega) (by omega)) (by omega)  hS (lv_sub hl [5, 6, 7, 8, 1, 2, 0] rfl)
                  · refine z_iload_n C dX6_netOn_97 hl 5 rfl ?_
                    refine z_iconst C dX6_netOn_98 ?_
                    refine z_icmp_ne C 117 dX6_netOn_99 (by decide) (by omega) (by omega) (fun c_99 => ?_) (fun c_99 => ?_)
                    · refine z_iinc C dX6_netOn_117 hl (by decide) 8 rfl rfl (fun ls hl => ?_)
                      have hl : lv_has ls 9 [(6, _), (8, _), (7, _), (0, _), (1, _), (2, _), (3, _), (4, _), (5, _)] := hl
                      refine z_goto C 20 dX6_netOn_120 (by decide) ?_
                      exact hL_20 (k + 1) tr nt _ ls (by omega) (by omega) (nrI.skip2 iI (by omega) (by omega) (by omega) (by omega)) (by omega)  hS (lv_sub hl [3, 4, 5, 6, 7, 8, 0] rfl)
                    · refine z_iload C dX6_netOn_102 hl 1 rfl ?_
                      refine z_iload C dX6_netOn_104 hl 6 rfl ?_
                      refine z_icmp_ge C 117 dX6_netOn_106 (by decide) (by omega) (by omega) (fun c_106 => ?_) (fun c_106 => ?_)
                      · refine z_iinc C dX6_netOn_117 hl (by decide) 8 rfl rfl (fun ls hl => ?_)
                        have hl : lv_has ls 9 [(6, _), (8, _), (7, _), (0, _), (1, _), (2, _), (3, _), (4, _), (5, _)] := hl
                        refine z_goto C 20 dX6_netOn_120 (by decide) ?_
                        exact hL_20 (k + 1) tr nt _ ls (by omega) (by omega) (nrI.skip2 iI (by omega) (by omega) (by omega) (by omega)) (by omega)  hS (lv_sub hl [3, 4, 5, 6, 7, 8, 0] rfl)
                      · refine z_iload C dX6_netOn_109 hl 0 rfl ?_
                        refine z_istore C dX6_netOn_111 hl (by decide) rfl (fun ls hl => ?_)
                        have hl : lv_has ls 9 [(5, _), (8, _), (7, _), (0, _), (1, _), (2, _), (3, _), (4, _), (6, _)] := hl
                        refine z_iload C dX6_netOn_113 hl 2 rfl ?_
                        refine z_istore C dX6_netOn_115 hl (by decide) rfl (fun ls hl => ?_)
                        have hl : lv_has ls 9 [(4, _), (5, _), (8, _), (7, _), (0, _), (1, _), (2, _), (3, _), (6, _)] := hl
                        refine z_iinc C dX6_netOn_117 hl (by decide) 8 rfl rfl (fun ls hl => ?_)
                        have hl : lv_has ls 9 [(6, _), (4, _), (5, _), (8, _), (7, _), (0, _), (1, _), (2, _), (3, _)] := hl
                        refine z_goto C 20 dX6_netOn_120 (by decide) ?_
                        exact hL_20 (k + 1) _ _ _ ls (by omega) (by omega) (nrI.take iI (by omega) (by omega) (by omega)) (by omega)  hS (lv_sub hl [5, 6, 7, 8, 1, 2, 0] rfl)
            · refine z_goto C 117 dX6_netOn_78 (by decide) ?_
              refine z_iinc C dX6_netOn_117 hl (by decide) 8 rfl rfl (fun ls hl => ?_)
              have hl : lv_has ls 9 [(6, _), (8, _), (7, _), (0, _), (1, _), (2, _), (3, _), (4, _), (5, _)] := hl
              refine z_goto C 20 dX6_netOn_120 (by decide) ?_
              exact hL_20 (k + 1) tr nt _ ls (by omega) (by omega) (nrI.skip iI (Or.inr (Or.inl ⟨c_60, c_75⟩))) (by omega)  hS (lv_sub hl [3, 4, 5, 6, 7, 8, 0] rfl)
  exact hL_20 _ 0 0 0 _ ls (Nat.lt_succ_self _) (by omega) (Or.inl ⟨rfl, rfl, rfl⟩) (by omega)  hS (lv_sub hl [4, 5, 6, 3, 2, 1, 0] rfl)
theorem mcX6_rather (l : Launch) (g : mG) (h : Nat) (ad : Nat → Nat) (P S : zS) (hPS : per S = P) (t k : Int) (hW : WfR P 0) (hW3 : ∀ r : Int, 0 ≤ r → r ≤ 3 → WfR P r) (h1 : I32 t) (h2 : I32 k) : mMI l g h ad yX6_rather cX6_rather 5 .int (k2_rm 4 100) [.int (iZ t), .int (iZ k)] S (fun z1 S1 => z1 = aRather P t k ∧ per S1 = P) := by
  refine z_start (own := RX6) (by decide) rfl (Nat.le_of_ble_eq_true rfl) ?_
  intro prg env s mid blw mth cod ls Q C hQ hret hlk hnm hK hH hl
  have hP : MP g h ad S s.heap := hH
  have hS : va_S (MA h ad) s.heap s.heap [] := va_S.rf
  have hl : lv_has ls 5 [(0, .ref h), (1, .int (iZ t)), (2, .int (iZ k))] := hl
  have w3 := hW.thieves
  refine z_aload_n C dX6_rather_0 hl 0 rfl ?_
  refine z_iconst C dX6_rather_1 ?_
  refine m_puti C hK hP hS 0 (by decide) q1749 rfl rfl (by omega) dX6_rather_2 (fun S_2 eS_2 H locs hP hS => ?_)
  have hS_2 := per_s rfl hPS eS_2
  refine z_aload_n C dX6_rather_5 hl 0 rfl ?_
  refine z_iload_n C dX6_rather_6 hl 1 rfl ?_
  refine m_pi C vX6_330 (mcX6_isThief l g h ad _ _ hS_2 _ (by assumption) (by omega)) hS hl ⟨Nat.le_of_ble_eq_true rfl, Nat.le_of_ble_eq_true rfl⟩ ⟨rfl, rfl⟩ hK hP rfl rfl (Nat.le_of_ble_eq_true rfl) dX6_rather_7 ⟨Nat.zero_le _, Nat.zero_le _⟩ (fun locs hS => ?_)
  refine z_if_eq C 34 dX6_rather_10 (by decide) z01_in (fun c_10 => ?_) (fun c_10 => ?_)
  · replace c_10 := z01_f c_10
    refine z_bipush C dX6_rather_34 rfl ?_
    exact m_mret_i C hQ hret hlk hS hP ⟨(if_neg (by omega)).symm, hS_2⟩ dX6_rather_36
  · replace c_10 := z01_t c_10
    refine z_iload_n C dX6_rather_13 hl 2 rfl ?_
    refine z_i2l C dX6_rather_14 (by omega) ?_
    refine z_lconst (v := 0) C dX6_rather_15 rfl ?_
    refine z_ldc2 (v := 2) C q2188 dX6_rather_16 rfl ?_
    refine s_pi C vX6_119 (mcX6_in l _ _ _ (by omega) (by omega) (by omega)) hS hl ⟨Nat.le_of_ble_eq_true rfl, Nat.le_of_ble_eq_true rfl⟩ ⟨rfl, rfl⟩ rfl rfl (Nat.le_of_ble_eq_true rfl) dX6_rather_19 ⟨Nat.zero_le _, Nat.zero_le _⟩ (fun locs hS => ?_)
    refine z_if_eq C 34 dX6_rather_22 (by decide) z01_in (fun c_22 => ?_) (fun c_22 => ?_)
    · replace c_22 := z01_f c_22
      refine z_bipush C dX6_rather_34 rfl ?_
      exact m_mret_i C hQ hret hlk hS hP ⟨(if_neg (by omega)).symm, hS_2⟩ dX6_rather_36
    · replace c_22 := z01_t c_22
      refine z_aload_n C dX6_rather_25 hl 0 rfl ?_
      refine m_geta C hK hP 30 (by decide) q1779 rfl (by decide) dX6_rather_26 ?_
      refine z_iload_n C dX6_rather_29 hl 2 rfl ?_
      refine m_zald C hK hP 30 (by decide) rfl (by have h9 : mlen 30 = 3 := rfl; omega) (pe hS_2 rfl) dX6_rather_30 (fun r_30 => ?_)
      refine z_if_ne C 37 dX6_rather_31 (by decide) (by omega) (fun c_31 => ?_) (fun c_31 => ?_)
      · refine z_aload_n C dX6_rather_37 hl 0 rfl ?_
        refine z_iload_n C dX6_rather_38 hl 1 rfl ?_
        refine z_iconst C dX6_rather_39 ?_
        refine m_pi C vX6_511 (mcX6_netOn l g h ad _ _ hS_2 _ _ (by omega) hW (by assumption) (by omega)) hS hl ⟨Nat.le_of_ble_eq_true rfl, Nat.le_of_ble_eq_true rfl⟩ ⟨rfl, rfl⟩ hK hP rfl rfl (Nat.le_of_ble_eq_true rfl) dX6_rather_40 ⟨Nat.zero_le _, Nat.zero_le _⟩ (fun locs hS => ?_)
        refine z_istore_n C dX6_rather_43 rfl hl (by decide) rfl (fun ls hl => ?_)
        have hl : lv_has ls 5 [(3, _), (0, _), (1, _), (2, _)] := hl
        refine z_aload_n C dX6_rather_44 hl 1 rfl ?_
        refine z_iload_n C dX6_rather_45 hl 2 rfl ?_
        refine z_iconst C dX6_rather_46 ?_
        refine z_iload_n C dX6_rather_47 hl 3 rfl ?_
        refine z_iadd C dX6_rather_48 ?_
        refine m_pi C vX6_511 (mcX6_netOn l g h ad _ _ hS_2 _ _ (by omega) (hW3 (1 + k) (by omega) (by omega)) (by assumption) (by omega)) hS hl ⟨Nat.le_of_ble_eq_true rfl, Nat.le_of_ble_eq_true rfl⟩ ⟨rfl, rfl⟩ hK hP rfl rfl (Nat.le_of_ble_eq_true rfl) dX6_rather_49 ⟨Nat.zero_le _, Nat.zero_le _⟩ (fun locs hS => ?_)
        refine z_istore C dX6_rather_52 hl (by decide) rfl (fun ls hl => ?_)
        have hl : lv_has ls 5 [(4, _), (3, _), (0, _), (1, _), (2, _)] := hl
        have q1 := netAt_in hW hW (t := t) (r := 0) ⟨by omega, by omega⟩
        have q2 := netAt_in (hW3 (1 + k) (by omega) (by omega)) hW (t := t) ⟨by omega, by omega⟩
        refine z_iload_n C dX6_rather_54 hl 1 rfl ?_
        refine z_if_ne C 67 dX6_rather_55 (by decide) (by omega) (fun c_55 => ?_) (fun c_55 => ?_)
        · refine z_iload C dX6_rather_67 hl 0 rfl ?_
          refine z_iload_n C dX6_rather_69 hl 1 rfl ?_
          refine z_icmp_le C 77 dX6_rather_70 (by decide) (by omega) (by omega) (fun c_70 => ?_) (fun c_70 => ?_)
          · refine z_iconst C dX6_rather_77 ?_
            exact m_mret_i C hQ hret hlk hS hP ⟨by rw [aRather, if_pos ⟨c_10, c_22, c_31⟩]; first | rw [if_pos ⟨by assumption, by assumption⟩] | (rw [if_neg (by omega)]; first | rw [if_pos (by omega)] | rw [if_neg (by omega)]), hS_2⟩ dX6_rather_78
          · refine z_iconst C dX6_rather_73 ?_
            refine z_goto C 78 dX6_rather_74 (by decide) ?_
            exact m_mret_i C hQ hret hlk hS hP ⟨by rw [aRather, if_pos ⟨c_10, c_22, c_31⟩]; first | rw [if_pos ⟨by assumption, by assumption⟩] | (rw [if_neg (by omega)]; first | rw [if_pos (by omega)] | rw [if_neg (by omega)]), hS_2⟩ dX6_rather_78
        · refine z_iload C dX6_rather_58 hl 0 rfl ?_
          refine z_if_ne C 67 dX6_rather_60 (by decide) (by omega) (fun c_60 => ?_) (fun c_60 => ?_)
          · refine z_iload C dX6_rather_67 hl 0 rfl ?_
            refine z_iload_n C dX6_rather_69 hl 1 rfl ?_
            refine z_icmp_le C 77 dX6_rather_70 (by decide) (by omega) (by omega) (fun c_70 => ?_) (fun c_70 => ?_)
            · refine z_iconst C dX6_rather_77 ?_
              exact m_mret_i C hQ hret hlk hS hP ⟨by rw [aRather, if_pos ⟨c_10, c_22, c_31⟩]; first | rw [if_pos ⟨by assumption, by assumption⟩] | (rw [if_neg (by omega)]; first | rw [if_pos (by omega)] | rw [if_neg (by omega)]), hS_2⟩ dX6_rather_78
            · refine z_iconst C dX6_rather_73 ?_
              refine z_goto C 78 dX6_rather_74 (by decide) ?_
              exact m_mret_i C hQ hret hlk hS hP ⟨by rw [aRather, if_pos ⟨c_10, c_22, c_31⟩]; first | rw [if_pos ⟨by assumption, by assumption⟩] | (rw [if_neg (by omega)]; first | rw [if_pos (by omega)] | rw [if_neg (by omega)]), hS_2⟩ dX6_rather_78
          · refine z_iconst C dX6_rather_63 ?_
            refine z_goto C 78 dX6_rather_64 (by decide) ?_
            exact m_mret_i C hQ hret hlk hS hP ⟨by rw [aRather, if_pos ⟨c_10, c_22, c_31⟩]; first | rw [if_pos ⟨by assumption, by assumption⟩] | (rw [if_neg (by omega)]; first | rw [if_pos (by omega)] | rw [if_neg (by omega)]), hS_2⟩ dX6_rather_78
      · refine z_bipush C dX6_rather_34 rfl ?_
        exact m_mret_i C hQ hret hlk hS hP ⟨(if_neg (by omega)).symm, hS_2⟩ dX6_rather_36
theorem mcX6_draw (l : Launch) (g : mG) (h : Nat) (ad : Nat → Nat) (P S : zS) (hPS : per S = P)  (hx : 0 ≤ S 50 0 ∧ S 50 0 ≤ 2147483647) : mMI l g h ad yX6_draw cX6_draw 1 .int (k2_rm 0 0) [] S (fun z1 S1 => z1 = drawV (drawX (S 50 0)) ∧ S1 50 0 = drawX (S 50 0) ∧ Fr [50] S S1) := by
  refine z_start (own := RX6) (by decide) rfl (Nat.le_of_ble_eq_true rfl) ?_
  intro prg env s mid blw mth cod ls Q C hQ hret hlk hnm hK hH hl
  have hP : MP g h ad S s.heap := hH
  have hS : va_S (MA h ad) s.heap s.heap [] := va_S.rf
  have hl : lv_has ls 1 [(0, .ref h)] := hl
  have w1 := drawX_in hx
  refine z_aload_n C dX6_draw_0 hl 0 rfl ?_
  refine z_ldc2 (v := 1103515245) C q2486 dX6_draw_1 rfl ?_
  refine z_aload_n C dX6_draw_4 hl 0 rfl ?_
  refine m_getl C hK hP 50 (by decide) q1799 rfl rfl rfl dX6_draw_5 (fun r_5 => ?_)
  refine z_lmul C dX6_draw_8 ?_
  refine z_ldc2 (v := 12345) C q2487 dX6_draw_9 rfl ?_
  refine z_ladd C dX6_draw_12 ?_
  refine z_ldc2 (v := 2147483648) C q2488 dX6_draw_13 rfl ?_
  refine z_lrem C dX6_draw_16 (by omega) (by omega) ?_
  refine m_putl C hK hP hS 50 (by decide) q1799 rfl rfl (by unfold drawX at w1; omega) dX6_draw_17 (fun S_17 eS_17 H locs hP hS => ?_)
  have hS_17 := per_s rfl hPS eS_17
  refine z_aload_n C dX6_draw_20 hl 0 rfl ?_
  refine m_getl C hK hP 50 (by decide) q1799 rfl rfl rfl dX6_draw_21 (fun r_21 => ?_)
  refine z_ldc2 (v := 65536) C q2489 dX6_draw_24 rfl ?_
  refine z_ldiv C dX6_draw_27 (by rw [eS_17, zup_s]; unfold drawX at w1; omega) (by omega) ?_
  refine z_ldc2 (v := 100) C q2110 dX6_draw_28 rfl ?_
  refine z_lrem C dX6_draw_31 (by rw [eS_17, zup_s]; unfold drawX at w1; omega) (by omega) ?_
  refine z_l2i C dX6_draw_32 ?_
  exact m_mret_i C hQ hret hlk hS hP ⟨by rw [eS_17, zup_s]; rfl, by rw [eS_17, zup_s]; rfl, Fr.up Fr.rf eS_17 (by decide)⟩ dX6_draw_33
theorem mcX6_newYear (l : Launch) (g : mG) (h : Nat) (ad : Nat → Nat) (P S : zS) (hPS : per S = P)  (hW : WfR P 0) : mMV l g h ad yX6_newYear cX6_newYear 2 (k2_rm 4 95) [] S (fun S1 => Laid P (-1) S1 ∧ (∀ j : Nat, j < 16 → S1 49 (j : Int) = 0) ∧ Fr [33, 34, 35, 49] S S1) := by
  refine z_start (own := RX6) (by decide) rfl (Nat.le_of_ble_eq_true rfl) ?_
  intro prg env s mid blw mth cod ls Q C hQ hret hlk hnm hK hH hl
  have hP : MP g h ad S s.heap := hH
  have hS : va_S (MA h ad) s.heap s.heap [] := va_S.rf
  have hl : lv_has ls 2 [(0, .ref h)] := hl
  refine z_aload_n C dX6_newYear_0 hl 0 rfl ?_
  refine z_iconst C dX6_newYear_1 ?_
  refine m_mv C vX6_343 (mcX6_lays l g h ad _ _ hPS _ (by assumption) (by omega)) hS hl ⟨Nat.le_of_ble_eq_true rfl, Nat.le_of_ble_eq_true rfl⟩ ⟨rfl, rfl⟩ hK hP (fun _ h9 => h9) rfl rfl (Nat.le_of_ble_eq_true rfl) dX6_newYear_2 ⟨Nat.zero_le _, Nat.zero_le _⟩ (fun S_2 H locs pS_2 hP hS => ?_)
  have hS_2 : per S_2 = P := (pS_2.1.pr rfl hPS)
  refine z_iconst C dX6_newYear_5 ?_
  refine z_istore_n C dX6_newYear_6 rfl hl (by decide) rfl (fun ls hl => ?_)
  have hl : lv_has ls 2 [(1, _), (0, _)] := hl
  have hL_7 : ∀ (fuel : Nat) (k : Nat) (S1 : zS) (H : Heap) (locs : List Loc) (ls : Array Slot), 16 - k < fuel → (k ≤ 16) → (Laid P (-1) S1) → (∀ j : Nat, j < k → S1 49 (j : Int) = 0) → (Fr [33, 34, 35, 49] S S1) → per S1 = P → MP g h ad S1 H → va_S (MA h ad) s.heap H locs → lv_has ls 2 [(0, .ref h), (1, .int (iZ (k : Int)))] → W prg l env (k2_rm 4 95) s mid ([.ref h] : List Value).toArray blw mth cod H locs 0 0 Q (F0 mid 7 ls []) := by
    intro fuel
    induction fuel with
    | zero => intro k S1  H locs ls hm; exact absurd hm (Nat.not_lt_zero _)
    | succ fuel hL_7 =>
      intro k S1  H locs ls hm ik iL iD iF hPS_7 hP  hS hl
      refine z_iload_n C dX6_newYear_7 hl 1 rfl ?_
      refine z_bipush C dX6_newYear_8 rfl ?_
      refine z_icmp_ge C 26 dX6_newYear_10 (by decide) (by omega) (by omega) (fun c_10 => ?_) (fun c_10 => ?_)
      · exact m_mret_v C hQ hret hlk hS hP ⟨iL, fun j hj => iD j (by omega), iF⟩ dX6_newYear_26
      · refine z_aload_n C dX6_newYear_13 hl 0 rfl ?_
        refine m_geta C hK hP 49 (by decide) q1798 rfl (by decide) dX6_newYear_14 ?_
        refine z_iload_n C dX6_newYear_17 hl 1 rfl ?_
        refine z_iconst C dX6_newYear_18 ?_
        refine m_iast C hK hP hS 49 (by decide) rfl (by have h9 : mlen 49 = 16 := rfl; omega) (by omega) dX6_newYear_19 (fun S_19 eS_19 H locs hP hS => ?_)
        have hS_19 := per_s rfl hPS_7 eS_19
        refine z_iinc C dX6_newYear_20 hl (by decide) 1 rfl rfl (fun ls hl => ?_)
        have hl : lv_has ls 2 [(1, _), (0, _)] := hl
        refine z_goto C 7 dX6_newYear_23 (by decide) ?_
        exact hL_7 (k + 1) _ _ _ ls (by omega) (by omega) (Laid.mv iL (Fr.up Fr.rf eS_19 (by decide : 49 ∈ [49])) (by decide) (by decide) (by decide)) (zfill iD eS_19 rfl) (Fr.up iF eS_19 (by decide)) hS_19 hP hS (lv_sub hl [1, 0] rfl)
  exact hL_7 _ 0 _ _ _ ls (Nat.lt_succ_self _) (by omega) pS_2.2 (fun s hs => absurd hs (Nat.not_lt_zero _)) (pS_2.1.le (by decide)) hS_2 hP hS (lv_sub hl [1, 0] rfl)
theorem mcX6_comes (l : Launch) (g : mG) (h : Nat) (ad : Nat → Nat) (P S : zS) (hPS : per S = P) (t : Int) (gn : Nat) (hW : WfR P 0) (hL : Laid P (-1) S) (ht : 0 ≤ t ∧ t < P 25 0) (hg : gn < 1024) (hD : ∀ j : Int, 0 ≤ j → j < 16 → 0 ≤ S 49 j ∧ S 49 j ≤ 1000) : mMI l g h ad yX6_comes cX6_comes 4 .int (k2_rm 1 26) [.int (iZ t), .int (iZ (gn : Int))] S (fun z1 S1 => z1 = (cmG P t gn : Int) ∧ (∀ j : Int, 0 ≤ j → j < 16 → S1 49 j = cmD P t gn (S 49) j) ∧ Fr [49] S S1) := by
  refine z_start (own := RX6) (by decide) rfl (Nat.le_of_ble_eq_true rfl) ?_
  intro prg env s mid blw mth cod ls Q C hQ hret hlk hnm hK hH hl
  have hP : MP g h ad S s.heap := hH
  have hS : va_S (MA h ad) s.heap s.heap [] := va_S.rf
  have hl : lv_has ls 4 [(0, .ref h), (1, .int (iZ t)), (2, .int (iZ (gn : Int)))] := hl
  have w1 := hW.bikes
  have w3 := hW.thieves
  have q3 := takes_in hW (-1) t gn
  have q30 : bt1 (-1) = 0 := rfl
  refine z_aload_n C dX6_comes_0 hl 0 rfl ?_
  refine z_iload_n C dX6_comes_1 hl 1 rfl ?_
  refine z_iload_n C dX6_comes_2 hl 2 rfl ?_
  refine m_pi C vX6_346 (mcX6_takesOf l g h ad _ _ hPS (-1) _ _ (by assumption) (hL.row ht) (by omega) (by omega)) hS hl ⟨Nat.le_of_ble_eq_true rfl, Nat.le_of_ble_eq_true rfl⟩ ⟨rfl, rfl⟩ hK hP rfl rfl (Nat.le_of_ble_eq_true rfl) dX6_comes_3 ⟨Nat.zero_le _, Nat.zero_le _⟩ (fun locs hS => ?_)
  refine z_istore_n C dX6_comes_6 rfl hl (by decide) rfl (fun ls hl => ?_)
  have hl : lv_has ls 4 [(3, _), (0, _), (1, _), (2, _)] := hl
  refine z_iload_n C dX6_comes_7 hl 0 rfl ?_
  refine z_iconst C dX6_comes_8 ?_
  refine z_icmp_ne C 14 dX6_comes_9 (by decide) (by omega) (by omega) (fun c_9 => ?_) (fun c_9 => ?_)
  · have q4 := hD (takes P (-1) t gn) (by omega) (by omega)
    have q5 := hD (10 + t) (by omega) (by omega)
    have q8 := zpow_in (k := takes P (-1) t gn) (M := 10) (by omega)
    refine z_aload_n C dX6_comes_14 hl 1 rfl ?_
    refine m_geta C hK hP 49 (by decide) q1798 rfl (by decide) dX6_comes_15 ?_
    refine z_iload_n C dX6_comes_18 hl 0 rfl ?_
    refine z_dup2_11 C dX6_comes_19 rfl rfl ?_
    refine m_iald C hK hP 49 (by decide) rfl (by have h9 : mlen 49 = 16 := rfl; omega) rfl dX6_comes_20 (fun r_20 => ?_)
    refine z_iconst C dX6_comes_21 ?_
    refine z_iadd C dX6_comes_22 ?_
    refine m_iast C hK hP hS 49 (by decide) rfl (by have h9 : mlen 49 = 16 := rfl; omega) (by omega) dX6_comes_23 (fun S_23 eS_23 H locs hP hS => ?_)
    have hS_23 := per_s rfl hPS eS_23
    refine z_aload_n C dX6_comes_24 hl 1 rfl ?_
    refine m_geta C hK hP 49 (by decide) q1798 rfl (by decide) dX6_comes_25 ?_
    refine z_bipush C dX6_comes_28 rfl ?_
    refine z_iload_n C dX6_comes_30 hl 2 rfl ?_
    refine z_iadd C dX6_comes_31 ?_
    refine z_dup2_11 C dX6_comes_32 rfl rfl ?_
    refine m_iald C hK hP 49 (by decide) rfl (by have h9 : mlen 49 = 16 := rfl; omega) rfl dX6_comes_33 (fun r_33 => ?_)
    refine z_iconst C dX6_comes_34 ?_
    refine z_iadd C dX6_comes_35 ?_
    have q6 : S_23 49 (10 + t) = S 49 (10 + t) := by rw [eS_23, zup_n _ _ _ _ (by omega)]
    refine m_iast C hK hP hS 49 (by decide) rfl (by have h9 : mlen 49 = 16 := rfl; omega) (by rw [q6]; omega) dX6_comes_36 (fun S_36 eS_36 H locs hP hS => ?_)
    have hS_36 := per_s rfl hS_23 eS_36
    refine z_iload_n C dX6_comes_37 hl 3 rfl ?_
    refine z_iconst C dX6_comes_38 ?_
    refine z_iload_n C dX6_comes_39 hl 0 rfl ?_
    refine z_ishl C dX6_comes_40 (zshl1 (by omega)) ?_
    refine z_ior C dX6_comes_41 (iZ_or _ _ (by omega) (by omega)) ?_
    exact m_mret_i C hQ hret hlk hS hP ⟨by rw [cmG, if_neg c_9], fun j h1 h2 => cmD_upd c_9 (by omega) eS_23 eS_36 j, Fr.up (Fr.up Fr.rf eS_23 (by decide)) eS_36 (by decide)⟩ dX6_comes_42
  · refine z_iload_n C dX6_comes_12 hl 3 rfl ?_
    exact m_mret_i C hQ hret hlk hS hP ⟨by rw [cmG, if_pos c_9], fun j _ _ => by rw [cmD, if_pos c_9], Fr.rf⟩ dX6_comes_13
theorem mcX6_drawnAll (l : Launch) (g : mG) (h : Nat) (ad : Nat → Nat) (P S : zS) (hPS : per S = P)  : mPI l g h ad yX6_drawnAll cX6_drawnAll 3 .int (k2_rm 0 0) [] S (allD (S 49)) := by
  intro H0 hP
  refine z_start (own := RX6) (by decide) rfl (Nat.le_of_ble_eq_true rfl) ?_
  intro prg env s mid blw mth cod ls Q C hQ hret hlk hnm hK hH hl
  subst hH
  have hS : va_S nA s.heap s.heap [] := va_S.rf
  have hl : lv_has ls 3 [(0, .ref h)] := hl
  refine z_iconst C dX6_drawnAll_0 ?_
  refine z_istore_n C dX6_drawnAll_1 rfl hl (by decide) rfl (fun ls hl => ?_)
  have hl : lv_has ls 3 [(1, _), (0, _)] := hl
  refine z_iconst C dX6_drawnAll_2 ?_
  refine z_istore_n C dX6_drawnAll_3 rfl hl (by decide) rfl (fun ls hl => ?_)
  have hl : lv_has ls 3 [(2, _), (1, _), (0, _)] := hl
  have hL_4 : ∀ (fuel : Nat) (k : Nat) (n : Int) (locs : List Loc) (ls : Array Slot), 10 - k < fuel → (k ≤ 10) → (n = zsm (fun b => S 49 b) k) → va_S nA s.heap s.heap locs → lv_has ls 3 [(0, .ref h), (1, .int (iZ n)), (2, .int (iZ (k : Int)))] → W prg l env (k2_rm 0 0) s mid ([.ref h] : List Value).toArray blw mth cod s.heap locs 0 0 Q (F0 mid 4 ls []) := by
    intro fuel
    induction fuel with
    | zero => intro k n  locs ls hm; exact absurd hm (Nat.not_lt_zero _)
    | succ fuel hL_4 =>
      intro k n  locs ls hm ik iN  hS hl
      refine z_iload_n C dX6_drawnAll_4 hl 2 rfl ?_
      refine z_bipush C dX6_drawnAll_5 rfl ?_
      refine z_icmp_ge C 25 dX6_drawnAll_7 (by decide) (by omega) (by omega) (fun c_7 => ?_) (fun c_7 => ?_)
      · refine z_iload_n C dX6_drawnAll_25 hl 1 rfl ?_
        exact z_pret_i C hQ hret hlk hS (by rw [allD, iN, show k = 10 by omega]) dX6_drawnAll_26
      · refine z_iload_n C dX6_drawnAll_10 hl 1 rfl ?_
        refine z_aload_n C dX6_drawnAll_11 hl 0 rfl ?_
        refine m_geta C hK hP 49 (by decide) q1798 rfl (by decide) dX6_drawnAll_12 ?_
        refine z_iload_n C dX6_drawnAll_15 hl 2 rfl ?_
        refine m_iald C hK hP 49 (by decide) rfl (by have h9 : mlen 49 = 16 := rfl; omega) rfl dX6_drawnAll_16 (fun r_16 => ?_)
        refine z_iadd C dX6_drawnAll_17 ?_
        refine z_istore_n C dX6_drawnAll_18 rfl hl (by decide) rfl (fun ls hl => ?_)
        have hl : lv_has ls 3 [(1, _), (0, _), (2, _)] := hl
        refine z_iinc C dX6_drawnAll_19 hl (by decide) 2 rfl rfl (fun ls hl => ?_)
        have hl : lv_has ls 3 [(2, _), (1, _), (0, _)] := hl
        refine z_goto C 4 dX6_drawnAll_22 (by decide) ?_
        exact hL_4 (k + 1) _ _ ls (by omega) (by omega) (by rw [zsm_s, ← iN])  hS (lv_sub hl [2, 1, 0] rfl)
  exact hL_4 _ 0 0 _ ls (Nat.lt_succ_self _) (by omega) rfl  hS (lv_sub hl [2, 1, 0] rfl)
theorem mcX6_draws (l : Launch) (g : mG) (h : Nat) (ad : Nat → Nat) (P S : zS) (hPS : per S = P) (sd : Int) (hW : WfR P 0) (hsd : 0 ≤ sd ∧ sd ≤ 2147483647) : mMV l g h ad yX6_draws cX6_draws 6 (k2_rm 5 116) [.long (lZ sd)] S (fun S1 => (∀ j : Int, 0 ≤ j → j < 16 → S1 49 j = yrD P sd j) ∧ Fr [33, 34, 35, 49, 50] S S1) := by
  refine z_start (own := RX6) (by decide) rfl (Nat.le_of_ble_eq_true rfl) ?_
  intro prg env s mid blw mth cod ls Q C hQ hret hlk hnm hK hH hl
  have hP : MP g h ad S s.heap := hH
  have hS : va_S (MA h ad) s.heap s.heap [] := va_S.rf
  have hl : lv_has ls 6 [(0, .ref h), (1, .long (lZ sd))] := hl
  have w1 := hW.bikes
  have w3 := hW.thieves
  have w1 := hW.nights
  refine z_aload_n C dX6_draws_0 hl 0 rfl ?_
  refine m_mv C vX6_525 (mcX6_newYear l g h ad _ _ hPS (by assumption)) hS hl ⟨Nat.le_of_ble_eq_true rfl, Nat.le_of_ble_eq_true rfl⟩ ⟨rfl, rfl⟩ hK hP (fun _ h9 => h9) rfl rfl (Nat.le_of_ble_eq_true rfl) dX6_draws_1 ⟨Nat.zero_le _, Nat.zero_le _⟩ (fun S_1 H locs pS_1 hP hS => ?_)
  have hS_1 : per S_1 = P := (pS_1.2.2.pr rfl hPS)
  refine z_aload_n C dX6_draws_4 hl 0 rfl ?_
  refine z_lload_n C dX6_draws_5 hl 1 rfl ?_
  refine m_putl C hK hP hS 50 (by decide) q1799 rfl rfl (by omega) dX6_draws_6 (fun S_6 eS_6 H locs hP hS => ?_)
  have hS_6 := per_s rfl hS_1 eS_6
  refine z_iconst C dX6_draws_9 ?_
  refine z_istore_n C dX6_draws_10 rfl hl (by decide) rfl (fun ls hl => ?_)
  have hl : lv_has ls 6 [(3, _), (0, _), (1, _)] := hl
  have hL_11 : ∀ (fuel : Nat) (n : Nat) (S1 : zS) (H : Heap) (locs : List Loc) (ls : Array Slot), (P 18 0).toNat - n < fuel → ((n : Int) ≤ P 18 0) → (Laid P (-1) S1) → (S1 50 0 = (yrF P sd n).1) → (∀ j : Int, 0 ≤ j → j < 16 → S1 49 j = (yrF P sd n).2 j) → (Fr [33, 34, 35, 49, 50] S S1) → per S1 = P → MP g h ad S1 H → va_S (MA h ad) s.heap H locs → lv_has ls 6 [(0, .ref h), (1, .long (lZ sd)), (3, .int (iZ (n : Int)))] → W prg l env (k2_rm 5 116) s mid ([.ref h, .long (lZ sd)] : List Value).toArray blw mth cod H locs 0 0 Q (F0 mid 11 ls []) := by
    intro fuel
    induction fuel with
    | zero => intro n S1  H locs ls hm; exact absurd hm (Nat.not_lt_zero _)
    | succ fuel hL_11 =>
      intro n S1  H locs ls hm in1 iL iX iD iF hPS_11 hP  hS hl
      have q0 := yrF_in hW hsd n
      refine z_iload_n C dX6_draws_11 hl 2 rfl ?_
      refine z_aload_n C dX6_draws_12 hl 0 rfl ?_
      refine m_geta C hK hP 18 (by decide) q1767 rfl (by decide) dX6_draws_13 ?_
      refine z_iconst C dX6_draws_16 ?_
      refine m_iald C hK hP 18 (by decide) rfl (by have h9 : mlen 18 = 5 := rfl; omega) (pe hPS_11 rfl) dX6_draws_17 (fun r_17 => ?_)
      refine z_icmp_ge C 83 dX6_draws_18 (by decide) (by omega) (by omega) (fun c_18 => ?_) (fun c_18 => ?_)
      · exact m_mret_v C hQ hret hlk hS hP ⟨fun j h1 h2 => by rw [iD j h1 h2, yrD, show (P 18 0).toNat = n by omega], iF⟩ dX6_draws_83
      · refine z_iconst C dX6_draws_21 ?_
        refine z_istore C dX6_draws_22 hl (by decide) rfl (fun ls hl => ?_)
        have hl : lv_has ls 6 [(4, _), (0, _), (1, _), (3, _)] := hl
        refine z_iconst C dX6_draws_24 ?_
        refine z_istore C dX6_draws_25 hl (by decide) rfl (fun ls hl => ?_)
        have hl : lv_has ls 6 [(5, _), (4, _), (0, _), (1, _), (3, _)] := hl
        have hL_27 : ∀ (fuel : Nat) (T gn : Nat) (S2 : zS) (H : Heap) (locs : List Loc) (ls : Array Slot), (P 25 0).toNat - T < fuel → ((T : Int) ≤ P 25 0) → (Laid P (-1) S2) → (gn = (ntF P ((yrF P sd n).1, 0, (yrF P sd n).2) T).2.1) → (S2 50 0 = (ntF P ((yrF P sd n).1, 0, (yrF P sd n).2) T).1) → (∀ j : Int, 0 ≤ j → j < 16 → S2 49 j = (ntF P ((yrF P sd n).1, 0, (yrF P sd n).2) T).2.2 j) → (Fr [33, 34, 35, 49, 50] S S2) → per S2 = P → MP g h ad S2 H → va_S (MA h ad) s.heap H locs → lv_has ls 6 [(0, .ref h), (1, .long (lZ sd)), (3, .int (iZ (n : Int))), (4, .int (iZ (gn : Int))), (5, .int (iZ (T : Int)))] → W prg l env (k2_rm 5 116) s mid ([.ref h, .long (lZ sd)] : List Value).toArray blw mth cod H locs 0 0 Q (F0 mid 27 ls []) := by
          intro fuel
          induction fuel with
          | zero => intro T gn S2  H locs ls hm; exact absurd hm (Nat.not_lt_zero _)
          | succ fuel hL_27 =>
            intro T gn S2  H locs ls hm jT jL jG jX jD jF hPS_27 hP  hS hl
            have q1 := ntF_in hW (st := ((yrF P sd n).1, 0, (yrF P sd n).2)) q0.1 (show (0 : Nat) < 1024 by decide) q0.2 T
            refine z_iload C dX6_draws_27 hl 4 rfl ?_
            refine z_aload_n C dX6_draws_29 hl 0 rfl ?_
            refine m_geta C hK hP 25 (by decide) q1774 rfl (by decide) dX6_draws_30 ?_
            refine z_iconst C dX6_draws_33 ?_
            refine m_iald C hK hP 25 (by decide) rfl (by have h9 : mlen 25 = 5 := rfl; omega) (pe hPS_27 rfl) dX6_draws_34 (fun r_34 => ?_)
            refine z_icmp_ge C 77 dX6_draws_35 (by decide) (by omega) (by omega) (fun c_35 => ?_) (fun c_35 => ?_)
            · refine z_iinc C dX6_draws_77 hl (by decide) 2 rfl rfl (fun ls hl => ?_)
              have hl : lv_has ls 6 [(3, _), (0, _), (1, _), (4, _), (5, _)] := hl
              refine z_goto C 11 dX6_draws_80 (by decide) ?_
              exact hL_11 (n + 1) _ _ _ ls (by omega) (by omega) jL (by rw [jX, show T = (P 25 0).toNat by omega]; rfl) (fun j h1 h2 => by rw [jD j h1 h2, show T = (P 25 0).toNat by omega]; rfl) jF hPS_27 hP hS (lv_sub hl [1, 2, 0] rfl)
            · have q2 := hW.thief0 (t := T) ⟨by omega, by omega⟩
              refine z_aload_n C dX6_draws_38 hl 0 rfl ?_
              refine m_mi C vX6_528 (mcX6_draw l g h ad _ _ hPS_27 (by rw [jX]; exact q1.1)) hS hl ⟨Nat.le_of_ble_eq_true rfl, Nat.le_of_ble_eq_true rfl⟩ ⟨rfl, rfl⟩ hK hP (fun _ h9 => h9) rfl rfl (Nat.le_of_ble_eq_true rfl) dX6_draws_39 ⟨Nat.zero_le _, Nat.zero_le _⟩ (fun v_39 S_39 H locs pS_39 hP hS => ?_)
              obtain ⟨e_39, pS_39⟩ := pS_39
              subst e_39
              have hS_39 : per S_39 = P := (pS_39.2.pr rfl hPS_27)
              have q3 : drawV (drawX (S2 50 0)) < 100 ∧ 0 ≤ drawV (drawX (S2 50 0)) := by unfold drawV; omega
              refine z_aload_n C dX6_draws_42 hl 0 rfl ?_
              refine m_geta C hK hP 26 (by decide) q1775 rfl (by decide) dX6_draws_43 ?_
              refine z_iconst C dX6_draws_46 ?_
              refine z_iload C dX6_draws_47 hl 4 rfl ?_
              refine z_imul C dX6_draws_49 ?_
              refine z_iconst C dX6_draws_50 ?_
              refine z_iadd C dX6_draws_51 ?_
              refine m_iald C hK hP 26 (by decide) rfl (by have h9 : mlen 26 = 150 := rfl; omega) (pe hS_39 rfl) dX6_draws_52 (fun r_52 => ?_)
              refine z_icmp_ge C 67 dX6_draws_53 (by decide) (by omega) (by omega) (fun c_53 => ?_) (fun c_53 => ?_)
              · have q5 : ¬ drawV (drawX (ntF P ((yrF P sd n).1, 0, (yrF P sd n).2) T).1) < comesOf P T := by rw [← jX]; exact Int.not_lt.mpr c_53
                refine z_iload C dX6_draws_67 hl 3 rfl ?_
                refine z_istore C dX6_draws_69 hl (by decide) rfl (fun ls hl => ?_)
                have hl : lv_has ls 6 [(4, _), (0, _), (1, _), (3, _), (5, _)] := hl
                refine z_iinc C dX6_draws_71 hl (by decide) 4 rfl rfl (fun ls hl => ?_)
                have hl : lv_has ls 6 [(5, _), (4, _), (0, _), (1, _), (3, _)] := hl
                refine z_goto C 27 dX6_draws_74 (by decide) ?_
                exact hL_27 (T + 1) gn _ _ _ ls (by omega) (by omega) (Laid.mv jL pS_39.2 (by decide) (by decide) (by decide)) (by rw [ntF_s, if_neg q5]; exact jG) (by rw [ntF_s, if_neg q5, pS_39.1, jX]) (fun j h1 h2 => by rw [ntF_s, if_neg q5, pS_39.2 49 (by decide)]; exact jD j h1 h2) ((jF.le (by decide)).tr (pS_39.2.le (by decide))) hS_39 hP hS (lv_sub hl [2, 3, 4, 1, 0] rfl)
              · have q5 : drawV (drawX (ntF P ((yrF P sd n).1, 0, (yrF P sd n).2) T).1) < comesOf P T := by rw [← jX]; exact c_53
                refine z_aload_n C dX6_draws_56 hl 0 rfl ?_
                refine z_iload C dX6_draws_57 hl 4 rfl ?_
                refine z_iload C dX6_draws_59 hl 3 rfl ?_
                refine m_mi C vX6_531 (mcX6_comes l g h ad _ _ hS_39 _ _ (by assumption) (Laid.mv jL pS_39.2 (by decide) (by decide) (by decide)) (by omega) (by rw [jG]; exact q1.2.1) (fun j h1 h2 => by rw [pS_39.2 49 (by decide), jD j h1 h2]; have := q1.2.2 j h1 h2; omega)) hS hl ⟨Nat.le_of_ble_eq_true rfl, Nat.le_of_ble_eq_true rfl⟩ ⟨rfl, rfl⟩ hK hP (fun _ h9 => h9) rfl rfl (Nat.le_of_ble_eq_true rfl) dX6_draws_61 ⟨Nat.zero_le _, Nat.zero_le _⟩ (fun v_61 S_61 H locs pS_61 hP hS => ?_)
                obtain ⟨e_61, pS_61⟩ := pS_61
                subst e_61
                have hS_61 : per S_61 = P := (pS_61.2.pr rfl hS_39)
                refine z_goto C 69 dX6_draws_64 (by decide) ?_
                refine z_istore C dX6_draws_69 hl (by decide) rfl (fun ls hl => ?_)
                have hl : lv_has ls 6 [(4, _), (0, _), (1, _), (3, _), (5, _)] := hl
                refine z_iinc C dX6_draws_71 hl (by decide) 4 rfl rfl (fun ls hl => ?_)
                have hl : lv_has ls 6 [(5, _), (4, _), (0, _), (1, _), (3, _)] := hl
                refine z_goto C 27 dX6_draws_74 (by decide) ?_
                exact hL_27 (T + 1) (cmG P T gn) _ _ _ ls (by omega) (by omega) (Laid.mv (Laid.mv jL pS_39.2 (by decide) (by decide) (by decide)) pS_61.2 (by decide) (by decide) (by decide)) (by rw [ntF_s, if_pos q5, jG]) (by rw [ntF_s, if_pos q5, pS_61.2 50 (by decide), pS_39.1, jX]) (fun j h1 h2 => by rw [ntF_s, if_pos q5, pS_61.1 j h1 h2, ← jG]; unfold cmD; rw [pS_39.2 49 (by decide), jD j h1 h2]) (((jF.le (by decide)).tr (pS_39.2.le (by decide))).tr (pS_61.2.le (by decide))) hS_61 hP hS (lv_sub hl [2, 3, 4, 1, 0] rfl)
        exact hL_27 _ 0 0 _ _ _ ls (Nat.lt_succ_self _) (by omega) iL rfl iX iD iF hPS_11 hP hS (lv_sub hl [2, 3, 4, 1, 0] rfl)
  exact hL_11 _ 0 _ _ _ ls (Nat.lt_succ_self _) (by omega) (Laid.mv pS_1.1 (Fr.up Fr.rf eS_6 (by decide : 50 ∈ [50])) (by decide) (by decide) (by decide)) (by rw [eS_6, zup_s]; rfl) (fun j h1 h2 => by rw [eS_6, zup_k _ _ _ (by decide)]; have h3 := pS_1.2.1 j.toNat (by omega); rw [show ((j.toNat : Nat) : Int) = j by omega] at h3; exact h3) (Fr.up (pS_1.2.2.le (by decide)) eS_6 (by decide)) hS_6 hP hS (lv_sub hl [1, 2, 0] rfl)
theorem mcX6_tellsYear (l : Launch) (g : mG) (h : Nat) (ad : Nat → Nat) (P S : zS) (hPS : per S = P)  : mMI l g h ad yX6_tellsYear cX6_tellsYear 2 .int (k2_rm 1 22) [] S (fun z1 S1 => z1 = allD (S 49) ∧ per S1 = tyP P (S 49) ∧ True) := by
  refine z_start (own := RX6) (by decide) rfl (Nat.le_of_ble_eq_true rfl) ?_
  intro prg env s mid blw mth cod ls Q C hQ hret hlk hnm hK hH hl
  have hP : MP g h ad S s.heap := hH
  have hS : va_S (MA h ad) s.heap s.heap [] := va_S.rf
  have hl : lv_has ls 2 [(0, .ref h)] := hl
  refine z_aload_n C dX6_tellsYear_0 hl 0 rfl ?_
  refine m_geta C hK hP 29 (by decide) q1778 rfl (by decide) dX6_tellsYear_1 ?_
  refine z_iconst C dX6_tellsYear_4 ?_
  refine z_iconst C dX6_tellsYear_5 ?_
  refine m_iast C hK hP hS 29 (by decide) rfl (by have h9 : mlen 29 = 85 := rfl; omega) (by omega) dX6_tellsYear_6 (fun S_6 eS_6 H locs hP hS => ?_)
  have hS_6 := per_w2 rfl hPS eS_6
  refine z_iconst C dX6_tellsYear_7 ?_
  refine z_istore_n C dX6_tellsYear_8 rfl hl (by decide) rfl (fun ls hl => ?_)
  have hl : lv_has ls 2 [(1, _), (0, _)] := hl
  have hL_9 : ∀ (fuel : Nat) (k : Nat) (S1 : zS) (H : Heap) (locs : List Loc) (ls : Array Slot), 16 - k < fuel → (k ≤ 16) → (S1 49 = S 49) → per S1 = tyTo P (S 49) k → MP g h ad S1 H → va_S (MA h ad) s.heap H locs → lv_has ls 2 [(0, .ref h), (1, .int (iZ (k : Int)))] → W prg l env (k2_rm 1 22) s mid ([.ref h] : List Value).toArray blw mth cod H locs 0 0 Q (F0 mid 9 ls []) := by
    intro fuel
    induction fuel with
    | zero => intro k S1  H locs ls hm; exact absurd hm (Nat.not_lt_zero _)
    | succ fuel hL_9 =>
      intro k S1  H locs ls hm ik iD hPS_9 hP  hS hl
      refine z_iload_n C dX6_tellsYear_9 hl 1 rfl ?_
      refine z_bipush C dX6_tellsYear_10 rfl ?_
      refine z_icmp_ge C 35 dX6_tellsYear_12 (by decide) (by omega) (by omega) (fun c_12 => ?_) (fun c_12 => ?_)
      · refine z_aload_n C dX6_tellsYear_35 hl 0 rfl ?_
        refine m_pi C vX6_534 (mcX6_drawnAll l g h ad _ _ hPS_9 ) hS hl ⟨Nat.le_of_ble_eq_true rfl, Nat.le_of_ble_eq_true rfl⟩ ⟨rfl, rfl⟩ hK hP rfl rfl (Nat.le_of_ble_eq_true rfl) dX6_tellsYear_36 ⟨Nat.zero_le _, Nat.zero_le _⟩ (fun locs hS => ?_)
        exact m_mret_i C hQ hret hlk hS hP ⟨by rw [iD], by rw [hPS_9, tyP, show k = 16 by omega], trivial⟩ dX6_tellsYear_39
      · refine z_aload_n C dX6_tellsYear_15 hl 0 rfl ?_
        refine m_geta C hK hP 29 (by decide) q1778 rfl (by decide) dX6_tellsYear_16 ?_
        refine z_iconst C dX6_tellsYear_19 ?_
        refine z_iload_n C dX6_tellsYear_20 hl 1 rfl ?_
        refine z_iadd C dX6_tellsYear_21 ?_
        refine z_aload_n C dX6_tellsYear_22 hl 0 rfl ?_
        refine m_geta C hK hP 49 (by decide) q1798 rfl (by decide) dX6_tellsYear_23 ?_
        refine z_iload_n C dX6_tellsYear_26 hl 1 rfl ?_
        refine m_iald C hK hP 49 (by decide) rfl (by have h9 : mlen 49 = 16 := rfl; omega) rfl dX6_tellsYear_27 (fun r_27 => ?_)
        refine m_iast C hK hP hS 29 (by decide) rfl (by have h9 : mlen 29 = 85 := rfl; omega) (by omega) dX6_tellsYear_28 (fun S_28 eS_28 H locs hP hS => ?_)
        have hS_28 := per_w2 rfl hPS_9 eS_28
        refine z_iinc C dX6_tellsYear_29 hl (by decide) 1 rfl rfl (fun ls hl => ?_)
        have hl : lv_has ls 2 [(1, _), (0, _)] := hl
        refine z_goto C 9 dX6_tellsYear_32 (by decide) ?_
        exact hL_9 (k + 1) _ _ _ ls (by omega) (by omega) (by rw [eS_28, zup_k _ _ _ (by decide), iD]) (by rw [hS_28, iD, tyTo_s]) hP hS (lv_sub hl [1, 0] rfl)
  exact hL_9 _ 0 _ _ _ ls (Nat.lt_succ_self _) (by omega) (by rw [eS_6, zup_k _ _ _ (by decide)]) (by rw [hS_6, tyTo_0]) hP hS (lv_sub hl [1, 0] rfl)
theorem mcX6_isSeed (l : Launch) (n : Int) (hn : I32 n) : sPI l yX6_isSeed cX6_isSeed 1 .boolean (k2_rm 1 25) [.int (iZ n)] (if isSeed n then 1 else 0) := by
  intro H0
  refine z_start (own := RX6) (by decide) rfl (Nat.le_of_ble_eq_true rfl) ?_
  intro prg env s mid blw mth cod ls Q C hQ hret hlk hnm hK hH hl
  subst hH
  have hS : va_S nA s.heap s.heap [] := va_S.rf
  have hl : lv_has ls 1 [(0, .int (iZ n))] := hl
  refine z_iload_n C dX6_isSeed_0 hl 0 rfl ?_
  refine z_i2l C dX6_isSeed_1 (by omega) ?_
  refine z_lconst (v := 0) C dX6_isSeed_2 rfl ?_
  refine z_ldc2 (v := 2000000000) C q2473 dX6_isSeed_3 rfl ?_
  refine s_pi C vX6_119 (mcX6_in l _ _ _ (by omega) (by omega) (by omega)) hS hl ⟨Nat.le_of_ble_eq_true rfl, Nat.le_of_ble_eq_true rfl⟩ ⟨rfl, rfl⟩ rfl rfl (Nat.le_of_ble_eq_true rfl) dX6_isSeed_6 ⟨Nat.zero_le _, Nat.zero_le _⟩ (fun locs hS => ?_)
  exact z_pret_z C hQ hret hlk hS z01_any rfl dX6_isSeed_9
theorem mcX6_run (l : Launch) (g : mG) (h : Nat) (ad : Nat → Nat) (P S : zS) (hPS : per S = P) (sd : Int) (hW : WfR P 0) (h1 : I32 sd) : mMI l g h ad yX6_run cX6_run 2 .int (k2_rm 6 141) [.int (iZ sd)] S (fun z1 S1 => z1 = aRun P sd ∧ per S1 = pRun P sd) := by
  refine z_start (own := RX6) (by decide) rfl (Nat.le_of_ble_eq_true rfl) ?_
  intro prg env s mid blw mth cod ls Q C hQ hret hlk hnm hK hH hl
  have hP : MP g h ad S s.heap := hH
  have hS : va_S (MA h ad) s.heap s.heap [] := va_S.rf
  have hl : lv_has ls 2 [(0, .ref h), (1, .int (iZ sd))] := hl
  have w2 := hW.places
  refine z_aload_n C dX6_run_0 hl 0 rfl ?_
  refine z_iconst C dX6_run_1 ?_
  refine m_puti C hK hP hS 0 (by decide) q1749 rfl rfl (by omega) dX6_run_2 (fun S_2 eS_2 H locs hP hS => ?_)
  have hS_2 := per_s rfl hPS eS_2
  refine z_iload_n C dX6_run_5 hl 1 rfl ?_
  refine s_pi C vX6_539 (mcX6_isSeed l _ (by omega)) hS hl ⟨Nat.le_of_ble_eq_true rfl, Nat.le_of_ble_eq_true rfl⟩ ⟨rfl, rfl⟩ rfl rfl (Nat.le_of_ble_eq_true rfl) dX6_run_6 ⟨Nat.zero_le _, Nat.zero_le _⟩ (fun locs hS => ?_)
  refine z_if_eq C 19 dX6_run_9 (by decide) z01_in (fun c_9 => ?_) (fun c_9 => ?_)
  · replace c_9 := z01_f c_9
    refine z_bipush C dX6_run_19 rfl ?_
    exact m_mret_i C hQ hret hlk hS hP ⟨(if_neg (by omega)).symm, by rw [pRun, if_neg (by omega)]; exact hS_2⟩ dX6_run_21
  · replace c_9 := z01_t c_9
    refine z_aload_n C dX6_run_12 hl 0 rfl ?_
    refine m_pi C vX6_354 (mcX6_isRail l g h ad _ _ hS_2 (by assumption)) hS hl ⟨Nat.le_of_ble_eq_true rfl, Nat.le_of_ble_eq_true rfl⟩ ⟨rfl, rfl⟩ hK hP rfl rfl (Nat.le_of_ble_eq_true rfl) dX6_run_13 ⟨Nat.zero_le _, Nat.zero_le _⟩ (fun locs hS => ?_)
    refine z_if_ne C 22 dX6_run_16 (by decide) z01_in (fun c_16 => ?_) (fun c_16 => ?_)
    · replace c_16 := z01_t c_16
      refine z_aload_n C dX6_run_22 hl 0 rfl ?_
      refine z_iload_n C dX6_run_23 hl 1 rfl ?_
      refine z_i2l C dX6_run_24 (by omega) ?_
      refine m_mv C vX6_542 (mcX6_draws l g h ad _ _ hS_2 _ (by assumption) (by omega)) hS hl ⟨Nat.le_of_ble_eq_true rfl, Nat.le_of_ble_eq_true rfl⟩ ⟨rfl, rfl⟩ hK hP (fun _ h9 => h9) rfl rfl (Nat.le_of_ble_eq_true rfl) dX6_run_25 ⟨Nat.zero_le _, Nat.zero_le _⟩ (fun S_25 H locs pS_25 hP hS => ?_)
      have hS_25 : per S_25 = P := (pS_25.2.pr rfl hS_2)
      refine z_aload_n C dX6_run_28 hl 0 rfl ?_
      refine m_mi C vX6_545 (mcX6_tellsYear l g h ad _ _ hS_25 ) hS hl ⟨Nat.le_of_ble_eq_true rfl, Nat.le_of_ble_eq_true rfl⟩ ⟨rfl, rfl⟩ hK hP (fun _ h9 => h9) rfl rfl (Nat.le_of_ble_eq_true rfl) dX6_run_29 ⟨Nat.zero_le _, Nat.zero_le _⟩ (fun v_29 S_29 H locs pS_29 hP hS => ?_)
      obtain ⟨e_29, pS_29⟩ := pS_29
      subst e_29
      obtain ⟨hS_29, pS_29⟩ := pS_29
      exact m_mret_i C hQ hret hlk hS hP ⟨by rw [aRun, if_pos ⟨c_9, c_16⟩]; exact allD_congr pS_25.1, by rw [pRun, if_pos ⟨c_9, c_16⟩, hS_29]; exact tyP_congr pS_25.1⟩ dX6_run_32
    · replace c_16 := z01_f c_16
      refine z_bipush C dX6_run_19 rfl ?_
      exact m_mret_i C hQ hret hlk hS hP ⟨(if_neg (by omega)).symm, by rw [pRun, if_neg (by omega)]; exact hS_2⟩ dX6_run_21
theorem mcX6_told (l : Launch) (g : mG) (h : Nat) (ad : Nat → Nat) (P S : zS) (hPS : per S = P) (sl : Int) (hW : WfR P 0) (hSL : ∀ s : Int, 0 ≤ s → s ≤ 3 → (-1 ≤ P 1 s ∧ P 1 s ≤ 3) ∧ (0 ≤ P 2 s ∧ P 2 s ≤ 60)) (h1 : I32 sl) : mMI l g h ad yX6_told cX6_told 5 .int (k2_rm 5 116) [.int (iZ sl)] S (fun z1 S1 => z1 = aTold P sl ∧ per S1 = pTold P sl) := by
  refine z_start (own := RX6) (by decide) rfl (Nat.le_of_ble_eq_true rfl) ?_
  intro prg env s mid blw mth cod ls Q C hQ hret hlk hnm hK hH hl
  have hP : MP g h ad S s.heap := hH
  have hS : va_S (MA h ad) s.heap s.heap [] := va_S.rf
  have hl : lv_has ls 5 [(0, .ref h), (1, .int (iZ sl))] := hl
  have w2 := hW.places
  have w3 := hW.thieves
  have w1 := hW.nights
  refine z_aload_n C dX6_told_0 hl 0 rfl ?_
  refine z_iconst C dX6_told_1 ?_
  refine m_puti C hK hP hS 0 (by decide) q1749 rfl rfl (by omega) dX6_told_2 (fun S_2 eS_2 H locs hP hS => ?_)
  have hS_2 := per_s rfl hPS eS_2
  refine z_iload_n C dX6_told_5 hl 1 rfl ?_
  refine s_pi C vX6_123 (mcX6_isSlot l _ (by omega)) hS hl ⟨Nat.le_of_ble_eq_true rfl, Nat.le_of_ble_eq_true rfl⟩ ⟨rfl, rfl⟩ rfl rfl (Nat.le_of_ble_eq_true rfl) dX6_told_6 ⟨Nat.zero_le _, Nat.zero_le _⟩ (fun locs hS => ?_)
  refine z_if_eq C 19 dX6_told_9 (by decide) z01_in (fun c_9 => ?_) (fun c_9 => ?_)
  · replace c_9 := z01_f c_9
    refine z_bipush C dX6_told_19 rfl ?_
    exact m_mret_i C hQ hret hlk hS hP ⟨(if_neg (by omega)).symm, by rw [pTold, if_neg (by omega)]; exact hS_2⟩ dX6_told_21
  · replace c_9 := z01_t c_9
    refine z_aload_n C dX6_told_12 hl 0 rfl ?_
    refine m_pi C vX6_354 (mcX6_isRail l g h ad _ _ hS_2 (by assumption)) hS hl ⟨Nat.le_of_ble_eq_true rfl, Nat.le_of_ble_eq_true rfl⟩ ⟨rfl, rfl⟩ hK hP rfl rfl (Nat.le_of_ble_eq_true rfl) dX6_told_13 ⟨Nat.zero_le _, Nat.zero_le _⟩ (fun locs hS => ?_)
    refine z_if_ne C 22 dX6_told_16 (by decide) z01_in (fun c_16 => ?_) (fun c_16 => ?_)
    · replace c_16 := z01_t c_16
      have w5 := hSL sl (by omega) (by omega)
      refine z_aload_n C dX6_told_22 hl 0 rfl ?_
      refine m_geta C hK hP 1 (by decide) q1750 rfl (by decide) dX6_told_23 ?_
      refine z_iload_n C dX6_told_26 hl 1 rfl ?_
      refine m_iald C hK hP 1 (by decide) rfl (by have h9 : mlen 1 = 4 := rfl; omega) (pe hS_2 rfl) dX6_told_27 (fun r_27 => ?_)
      refine z_iconst C dX6_told_28 ?_
      refine z_icmp_ne C 35 dX6_told_29 (by decide) (by omega) (by omega) (fun c_29 => ?_) (fun c_29 => ?_)
      · refine z_aload_n C dX6_told_35 hl 0 rfl ?_
        refine m_geta C hK hP 2 (by decide) q1751 rfl (by decide) dX6_told_36 ?_
        refine z_iload_n C dX6_told_39 hl 1 rfl ?_
        refine m_iald C hK hP 2 (by decide) rfl (by have h9 : mlen 2 = 4 := rfl; omega) (pe hS_2 rfl) dX6_told_40 (fun r_40 => ?_)
        refine z_aload_n C dX6_told_41 hl 0 rfl ?_
        refine m_geta C hK hP 18 (by decide) q1767 rfl (by decide) dX6_told_42 ?_
        refine z_iconst C dX6_told_45 ?_
        refine m_iald C hK hP 18 (by decide) rfl (by have h9 : mlen 18 = 5 := rfl; omega) (pe hS_2 rfl) dX6_told_46 (fun r_46 => ?_)
        refine z_icmp_le C 53 dX6_told_47 (by decide) (by omega) (by omega) (fun c_47 => ?_) (fun c_47 => ?_)
        · refine z_iconst C dX6_told_53 ?_
          refine z_istore_n C dX6_told_54 rfl hl (by decide) rfl (fun ls hl => ?_)
          have hl : lv_has ls 5 [(2, _), (0, _), (1, _)] := hl
          have hL_55 : ∀ (fuel : Nat) (k : Nat) (H : Heap) (locs : List Loc) (ls : Array Slot), (P 2 sl).toNat - k < fuel → ((k : Int) ≤ P 2 sl) → (tkN P sl ((P 2 sl).toNat - k) k = tkN P sl (P 2 sl).toNat 0) → MP g h ad S_2 H → va_S (MA h ad) s.heap H locs → lv_has ls 5 [(0, .ref h), (1, .int (iZ sl)), (2, .int (iZ (k : Int)))] → W prg l env (k2_rm 5 116) s mid ([.ref h, .int (iZ sl)] : List Value).toArray blw mth cod H locs 0 0 Q (F0 mid 55 ls []) := by
            intro fuel
            induction fuel with
            | zero => intro k  H locs ls hm; exact absurd hm (Nat.not_lt_zero _)
            | succ fuel hL_55 =>
              intro k  H locs ls hm ik iK hP  hS hl
              refine z_iload_n C dX6_told_55 hl 2 rfl ?_
              refine z_aload_n C dX6_told_56 hl 0 rfl ?_
              refine m_geta C hK hP 2 (by decide) q1751 rfl (by decide) dX6_told_57 ?_
              refine z_iload_n C dX6_told_60 hl 1 rfl ?_
              refine m_iald C hK hP 2 (by decide) rfl (by have h9 : mlen 2 = 4 := rfl; omega) (pe hS_2 rfl) dX6_told_61 (fun r_61 => ?_)
              refine z_icmp_ge C 102 dX6_told_62 (by decide) (by omega) (by omega) (fun c_62 => ?_) (fun c_62 => ?_)
              · have q1 : (P 2 sl).toNat - k = 0 := by omega
                have q9 : toldOk P sl := ⟨c_47, by rw [← iK, q1]; rfl⟩
                refine z_aload_n C dX6_told_102 hl 0 rfl ?_
                refine m_mv C vX6_525 (mcX6_newYear l g h ad _ _ hS_2 (by assumption)) hS hl ⟨Nat.le_of_ble_eq_true rfl, Nat.le_of_ble_eq_true rfl⟩ ⟨rfl, rfl⟩ hK hP (fun _ h9 => h9) rfl rfl (Nat.le_of_ble_eq_true rfl) dX6_told_103 ⟨Nat.zero_le _, Nat.zero_le _⟩ (fun S_103 H locs pS_103 hP hS => ?_)
                have hS_103 : per S_103 = P := (pS_103.2.2.pr rfl hS_2)
                refine z_iconst C dX6_told_106 ?_
                refine z_istore_n C dX6_told_107 rfl hl (by decide) rfl (fun ls hl => ?_)
                have hl : lv_has ls 5 [(2, _), (0, _), (1, _)] := hl
                have hL_108 : ∀ (fuel : Nat) (n : Nat) (S1 : zS) (H : Heap) (locs : List Loc) (ls : Array Slot), (P 2 sl).toNat - n < fuel → ((n : Int) ≤ P 2 sl) → (Laid P (-1) S1) → (∀ j : Int, 0 ≤ j → j < 16 → S1 49 j = tdF P (cellF P sl) n j) → per S1 = P → MP g h ad S1 H → va_S (MA h ad) s.heap H locs → lv_has ls 5 [(0, .ref h), (1, .int (iZ sl)), (2, .int (iZ (n : Int)))] → W prg l env (k2_rm 5 116) s mid ([.ref h, .int (iZ sl)] : List Value).toArray blw mth cod H locs 0 0 Q (F0 mid 108 ls []) := by
                  intro fuel
                  induction fuel with
                  | zero => intro n S1  H locs ls hm; exact absurd hm (Nat.not_lt_zero _)
                  | succ fuel hL_108 =>
                    intro n S1  H locs ls hm in1 iL iD hPS_108 hP  hS hl
                    have q4 := tdF_in hW (cellF P sl) n
                    refine z_iload_n C dX6_told_108 hl 2 rfl ?_
                    refine z_aload_n C dX6_told_109 hl 0 rfl ?_
                    refine m_geta C hK hP 2 (by decide) q1751 rfl (by decide) dX6_told_110 ?_
                    refine z_iload_n C dX6_told_113 hl 1 rfl ?_
                    refine m_iald C hK hP 2 (by decide) rfl (by have h9 : mlen 2 = 4 := rfl; omega) (pe hPS_108 rfl) dX6_told_114 (fun r_114 => ?_)
                    refine z_icmp_ge C 179 dX6_told_115 (by decide) (by omega) (by omega) (fun c_115 => ?_) (fun c_115 => ?_)
                    · refine z_aload_n C dX6_told_179 hl 0 rfl ?_
                      refine m_mi C vX6_545 (mcX6_tellsYear l g h ad _ _ hPS_108 ) hS hl ⟨Nat.le_of_ble_eq_true rfl, Nat.le_of_ble_eq_true rfl⟩ ⟨rfl, rfl⟩ hK hP (fun _ h9 => h9) rfl rfl (Nat.le_of_ble_eq_true rfl) dX6_told_180 ⟨Nat.zero_le _, Nat.zero_le _⟩ (fun v_180 S_180 H locs pS_180 hP hS => ?_)
                      obtain ⟨e_180, pS_180⟩ := pS_180
                      subst e_180
                      obtain ⟨hS_180, pS_180⟩ := pS_180
                      exact m_mret_i C hQ hret hlk hS hP ⟨by rw [aTold, if_pos ⟨c_9, c_16⟩, if_neg c_29, if_pos q9, show (P 2 sl).toNat = n by omega]; exact allD_congr iD, by rw [pTold, if_pos ⟨⟨c_9, c_16⟩, c_29, q9⟩, hS_180, show (P 2 sl).toNat = n by omega]; exact tyP_congr iD⟩ dX6_told_183
                    · refine z_iconst C dX6_told_118 ?_
                      refine z_istore_n C dX6_told_119 rfl hl (by decide) rfl (fun ls hl => ?_)
                      have hl : lv_has ls 5 [(3, _), (0, _), (1, _), (2, _)] := hl
                      refine z_iconst C dX6_told_120 ?_
                      refine z_istore C dX6_told_121 hl (by decide) rfl (fun ls hl => ?_)
                      have hl : lv_has ls 5 [(4, _), (3, _), (0, _), (1, _), (2, _)] := hl
                      have hL_123 : ∀ (fuel : Nat) (T gn : Nat) (S2 : zS) (H : Heap) (locs : List Loc) (ls : Array Slot), (P 25 0).toNat - T < fuel → ((T : Int) ≤ P 25 0) → (Laid P (-1) S2) → (gn = (tdN P (cellF P sl n) (0, tdF P (cellF P sl) n) T).1) → (∀ j : Int, 0 ≤ j → j < 16 → S2 49 j = (tdN P (cellF P sl n) (0, tdF P (cellF P sl) n) T).2 j) → per S2 = P → MP g h ad S2 H → va_S (MA h ad) s.heap H locs → lv_has ls 5 [(0, .ref h), (1, .int (iZ sl)), (2, .int (iZ (n : Int))), (3, .int (iZ (gn : Int))), (4, .int (iZ (T : Int)))] → W prg l env (k2_rm 5 116) s mid ([.ref h, .int (iZ sl)] : List Value).toArray blw mth cod H locs 0 0 Q (F0 mid 123 ls []) := by
                        intro fuel
                        induction fuel with
                        | zero => intro T gn S2  H locs ls hm; exact absurd hm (Nat.not_lt_zero _)
                        | succ fuel hL_123 =>
                          intro T gn S2  H locs ls hm jT jL jG jD hPS_123 hP  hS hl
                          have q5 := tdN_in hW (c := cellF P sl n) (st := (0, tdF P (cellF P sl) n)) (show (0 : Nat) < 1024 by decide) q4 T
                          refine z_iload C dX6_told_123 hl 4 rfl ?_
                          refine z_aload_n C dX6_told_125 hl 0 rfl ?_
                          refine m_geta C hK hP 25 (by decide) q1774 rfl (by decide) dX6_told_126 ?_
                          refine z_iconst C dX6_told_129 ?_
                          refine m_iald C hK hP 25 (by decide) rfl (by have h9 : mlen 25 = 5 := rfl; omega) (pe hPS_123 rfl) dX6_told_130 (fun r_130 => ?_)
                          refine z_icmp_ge C 173 dX6_told_131 (by decide) (by omega) (by omega) (fun c_131 => ?_) (fun c_131 => ?_)
                          · refine z_iinc C dX6_told_173 hl (by decide) 2 rfl rfl (fun ls hl => ?_)
                            have hl : lv_has ls 5 [(2, _), (0, _), (1, _), (3, _), (4, _)] := hl
                            refine z_goto C 108 dX6_told_176 (by decide) ?_
                            exact hL_108 (n + 1) _ _ _ ls (by omega) (by omega) jL (fun j h1 h2 => by rw [jD j h1 h2, show T = (P 25 0).toNat by omega]; rfl) hPS_123 hP hS (lv_sub hl [1, 2, 0] rfl)
                          · have q3 := hW.thief0 (t := T) ⟨by omega, by omega⟩
                            refine z_aload_n C dX6_told_134 hl 0 rfl ?_
                            refine m_geta C hK hP 3 (by decide) q1752 rfl (by decide) dX6_told_135 ?_
                            refine z_bipush C dX6_told_138 rfl ?_
                            refine z_iload_n C dX6_told_140 hl 1 rfl ?_
                            refine z_imul C dX6_told_141 ?_
                            refine z_iload_n C dX6_told_142 hl 2 rfl ?_
                            refine z_iadd C dX6_told_143 ?_
                            refine m_lald C hK hP 3 (by decide) rfl (by have h9 : mlen 3 = 240 := rfl; omega) (pe hPS_123 rfl) dX6_told_144 (fun r_144 => ?_)
                            refine z_iload C dX6_told_145 hl 4 rfl ?_
                            refine z_lshr C dX6_told_147 (lshr1 (by omega) T (by omega)) ?_
                            refine z_lconst (v := 1) C dX6_told_148 rfl ?_
                            refine z_land C dX6_told_149 (lZ_and1 _) ?_
                            refine z_lconst (v := 1) C dX6_told_150 rfl ?_
                            refine z_lcmp_ne C 165 dX6_told_151 dX6_told_152 (by decide) (by omega) (by omega) (fun c_151 => ?_) (fun c_151 => ?_)
                            · refine z_iload_n C dX6_told_165 hl 3 rfl ?_
                              refine z_istore_n C dX6_told_166 rfl hl (by decide) rfl (fun ls hl => ?_)
                              have hl : lv_has ls 5 [(3, _), (0, _), (1, _), (2, _), (4, _)] := hl
                              refine z_iinc C dX6_told_167 hl (by decide) 4 rfl rfl (fun ls hl => ?_)
                              have hl : lv_has ls 5 [(4, _), (3, _), (0, _), (1, _), (2, _)] := hl
                              refine z_goto C 123 dX6_told_170 (by decide) ?_
                              exact hL_123 (T + 1) gn _ _ _ ls (by omega) (by omega) jL (by rw [tdN_s, if_neg (by exact c_151)]; exact jG) (fun j h1 h2 => by rw [tdN_s, if_neg (by exact c_151)]; exact jD j h1 h2) hPS_123 hP hS (lv_sub hl [2, 3, 4, 1, 0] rfl)
                            · refine z_aload_n C dX6_told_155 hl 0 rfl ?_
                              refine z_iload C dX6_told_156 hl 4 rfl ?_
                              refine z_iload_n C dX6_told_158 hl 3 rfl ?_
                              refine m_mi C vX6_531 (mcX6_comes l g h ad _ _ hPS_123 _ _ (by assumption) jL (by omega) (by rw [jG]; exact q5.1) (fun j h1 h2 => by rw [jD j h1 h2]; have := q5.2 j h1 h2; omega)) hS hl ⟨Nat.le_of_ble_eq_true rfl, Nat.le_of_ble_eq_true rfl⟩ ⟨rfl, rfl⟩ hK hP (fun _ h9 => h9) rfl rfl (Nat.le_of_ble_eq_true rfl) dX6_told_159 ⟨Nat.zero_le _, Nat.zero_le _⟩ (fun v_159 S_159 H locs pS_159 hP hS => ?_)
                              obtain ⟨e_159, pS_159⟩ := pS_159
                              subst e_159
                              have hS_159 : per S_159 = P := (pS_159.2.pr rfl hPS_123)
                              refine z_goto C 166 dX6_told_162 (by decide) ?_
                              refine z_istore_n C dX6_told_166 rfl hl (by decide) rfl (fun ls hl => ?_)
                              have hl : lv_has ls 5 [(3, _), (0, _), (1, _), (2, _), (4, _)] := hl
                              refine z_iinc C dX6_told_167 hl (by decide) 4 rfl rfl (fun ls hl => ?_)
                              have hl : lv_has ls 5 [(4, _), (3, _), (0, _), (1, _), (2, _)] := hl
                              refine z_goto C 123 dX6_told_170 (by decide) ?_
                              exact hL_123 (T + 1) (cmG P T gn) _ _ _ ls (by omega) (by omega) (Laid.mv jL pS_159.2 (by decide) (by decide) (by decide)) (by rw [tdN_s, if_pos (by exact c_151), jG]) (fun j h1 h2 => by rw [tdN_s, if_pos (by exact c_151), pS_159.1 j h1 h2, ← jG]; unfold cmD; rw [jD j h1 h2]) hS_159 hP hS (lv_sub hl [2, 3, 4, 1, 0] rfl)
                      exact hL_123 _ 0 0 _ _ _ ls (Nat.lt_succ_self _) (by omega) iL rfl iD hPS_108 hP hS (lv_sub hl [2, 3, 4, 1, 0] rfl)
                exact hL_108 _ 0 _ _ _ ls (Nat.lt_succ_self _) (by omega) pS_103.1 (fun j h1 h2 => by have h3 := pS_103.2.1 j.toNat (by omega); rw [show ((j.toNat : Nat) : Int) = j by omega] at h3; exact h3) hS_103 hP hS (lv_sub hl [1, 2, 0] rfl)
              · have q1 : (P 2 sl).toNat - k = ((P 2 sl).toNat - (k + 1)) + 1 := by omega
                have q2 := zpow_in (k := P 25 0) (M := 6) (by omega)
                refine z_aload_n C dX6_told_65 hl 0 rfl ?_
                refine m_geta C hK hP 3 (by decide) q1752 rfl (by decide) dX6_told_66 ?_
                refine z_bipush C dX6_told_69 rfl ?_
                refine z_iload_n C dX6_told_71 hl 1 rfl ?_
                refine z_imul C dX6_told_72 ?_
                refine z_iload_n C dX6_told_73 hl 2 rfl ?_
                refine z_iadd C dX6_told_74 ?_
                refine m_lald C hK hP 3 (by decide) rfl (by have h9 : mlen 3 = 240 := rfl; omega) (pe hS_2 rfl) dX6_told_75 (fun r_75 => ?_)
                refine z_lconst (v := 0) C dX6_told_76 rfl ?_
                refine z_lconst (v := 1) C dX6_told_77 rfl ?_
                refine z_aload_n C dX6_told_78 hl 0 rfl ?_
                refine m_geta C hK hP 25 (by decide) q1774 rfl (by decide) dX6_told_79 ?_
                refine z_iconst C dX6_told_82 ?_
                refine m_iald C hK hP 25 (by decide) rfl (by have h9 : mlen 25 = 5 := rfl; omega) (pe hS_2 rfl) dX6_told_83 (fun r_83 => ?_)
                refine z_lshl C dX6_told_84 (by rw [show P 25 0 = (((P 25 0).toNat : Nat) : Int) by omega]; exact lshl1 _ (by omega)) ?_
                refine z_lconst (v := 1) C dX6_told_85 rfl ?_
                refine z_lsub C dX6_told_86 ?_
                refine s_pi C vX6_119 (mcX6_in l _ _ _ (by omega) (by omega) (by omega)) hS hl ⟨Nat.le_of_ble_eq_true rfl, Nat.le_of_ble_eq_true rfl⟩ ⟨rfl, rfl⟩ rfl rfl (Nat.le_of_ble_eq_true rfl) dX6_told_87 ⟨Nat.zero_le _, Nat.zero_le _⟩ (fun locs hS => ?_)
                refine z_if_ne C 96 dX6_told_90 (by decide) z01_in (fun c_90 => ?_) (fun c_90 => ?_)
                · replace c_90 := z01_t c_90
                  refine z_iinc C dX6_told_96 hl (by decide) 2 rfl rfl (fun ls hl => ?_)
                  have hl : lv_has ls 5 [(2, _), (0, _), (1, _)] := hl
                  refine z_goto C 55 dX6_told_99 (by decide) ?_
                  exact hL_55 (k + 1) _ _ ls (by omega) (by omega) (by rw [q1, tkN, if_pos (show 0 ≤ cellF P sl k ∧ cellF P sl k ≤ _ from c_90)] at iK; exact iK) hP hS (lv_sub hl [1, 2, 0] rfl)
                · replace c_90 := z01_f c_90
                  have q10 : ¬ toldOk P sl := fun z => by have z2 := z.2; rw [← iK, q1, tkN, if_neg (show ¬ (0 ≤ cellF P sl k ∧ cellF P sl k ≤ _) from c_90)] at z2; cases z2
                  refine z_bipush C dX6_told_93 rfl ?_
                  exact m_mret_i C hQ hret hlk hS hP ⟨by rw [aTold, if_pos ⟨c_9, c_16⟩, if_neg c_29, if_neg q10], by rw [pTold, if_neg (fun z => q10 z.2.2)]; exact hS_2⟩ dX6_told_95
          exact hL_55 _ 0 _ _ ls (Nat.lt_succ_self _) (by omega) rfl hP hS (lv_sub hl [1, 2, 0] rfl)
        · refine z_bipush C dX6_told_50 rfl ?_
          exact m_mret_i C hQ hret hlk hS hP ⟨by rw [aTold, if_pos ⟨c_9, c_16⟩, if_neg c_29, if_neg (fun z => by have := z.1; omega)], by rw [pTold, if_neg (fun z => by have := z.2.2.1; omega)]; exact hS_2⟩ dX6_told_52
      · refine z_bipush C dX6_told_32 rfl ?_
        exact m_mret_i C hQ hret hlk hS hP ⟨by rw [aTold, if_pos ⟨c_9, c_16⟩, if_pos c_29], by rw [pTold, if_neg (fun z => z.2.1 c_29)]; exact hS_2⟩ dX6_told_34
    · replace c_16 := z01_f c_16
      refine z_bipush C dX6_told_19 rfl ?_
      exact m_mret_i C hQ hret hlk hS hP ⟨(if_neg (by omega)).symm, by rw [pTold, if_neg (by omega)]; exact hS_2⟩ dX6_told_21
theorem mcX6_taken (l : Launch) (g : mG) (h : Nat) (ad : Nat → Nat) (P S : zS) (hPS : per S = P) (b : Int) (hW : WfR P 0) (h1 : I32 b) : mMI l g h ad yX6_taken cX6_taken 2 .int (k2_rm 2 46) [.int (iZ b)] S (fun z1 S1 => z1 = aTaken P b ∧ per S1 = P) := by
  refine z_start (own := RX6) (by decide) rfl (Nat.le_of_ble_eq_true rfl) ?_
  intro prg env s mid blw mth cod ls Q C hQ hret hlk hnm hK hH hl
  have hP : MP g h ad S s.heap := hH
  have hS : va_S (MA h ad) s.heap s.heap [] := va_S.rf
  have hl : lv_has ls 2 [(0, .ref h), (1, .int (iZ b))] := hl
  have w1 := hW.bikes
  refine z_aload_n C dX6_taken_0 hl 0 rfl ?_
  refine z_iconst C dX6_taken_1 ?_
  refine m_puti C hK hP hS 0 (by decide) q1749 rfl rfl (by omega) dX6_taken_2 (fun S_2 eS_2 H locs hP hS => ?_)
  have hS_2 := per_s rfl hPS eS_2
  refine z_aload_n C dX6_taken_5 hl 0 rfl ?_
  refine z_iload_n C dX6_taken_6 hl 1 rfl ?_
  refine m_pi C vX6_318 (mcX6_isBike l g h ad _ _ hS_2 _ (by assumption) (by omega)) hS hl ⟨Nat.le_of_ble_eq_true rfl, Nat.le_of_ble_eq_true rfl⟩ ⟨rfl, rfl⟩ hK hP rfl rfl (Nat.le_of_ble_eq_true rfl) dX6_taken_7 ⟨Nat.zero_le _, Nat.zero_le _⟩ (fun locs hS => ?_)
  refine z_if_ne C 18 dX6_taken_10 (by decide) z01_in (fun c_10 => ?_) (fun c_10 => ?_)
  · replace c_10 := z01_t c_10
    refine z_aload_n C dX6_taken_18 hl 0 rfl ?_
    refine m_geta C hK hP 29 (by decide) q1778 rfl (by decide) dX6_taken_19 ?_
    refine z_iconst C dX6_taken_22 ?_
    refine m_iald C hK hP 29 (by decide) rfl (by have h9 : mlen 29 = 85 := rfl; omega) (pe hS_2 rfl) dX6_taken_23 (fun r_23 => ?_)
    refine z_if_ne C 31 dX6_taken_24 (by decide) (by omega) (fun c_24 => ?_) (fun c_24 => ?_)
    · refine z_aload_n C dX6_taken_31 hl 0 rfl ?_
      refine m_geta C hK hP 29 (by decide) q1778 rfl (by decide) dX6_taken_32 ?_
      refine z_iconst C dX6_taken_35 ?_
      refine z_iload_n C dX6_taken_36 hl 1 rfl ?_
      refine z_iadd C dX6_taken_37 ?_
      refine m_iald C hK hP 29 (by decide) rfl (by have h9 : mlen 29 = 85 := rfl; omega) (pe hS_2 rfl) dX6_taken_38 (fun r_38 => ?_)
      exact m_mret_i C hQ hret hlk hS hP ⟨by unfold aTaken; first | rw [if_neg (by assumption)] | (rw [if_pos c_10]; first | rw [if_pos (by assumption)] | rw [if_neg (by assumption)]), hS_2⟩ dX6_taken_39
    · refine z_iconst C dX6_taken_27 ?_
      refine z_goto C 39 dX6_taken_28 (by decide) ?_
      exact m_mret_i C hQ hret hlk hS hP ⟨by unfold aTaken; first | rw [if_neg (by assumption)] | (rw [if_pos c_10]; first | rw [if_pos (by assumption)] | rw [if_neg (by assumption)]), hS_2⟩ dX6_taken_39
  · replace c_10 := z01_f c_10
    refine z_bipush C dX6_taken_13 rfl ?_
    refine z_goto C 39 dX6_taken_15 (by decide) ?_
    exact m_mret_i C hQ hret hlk hS hP ⟨by unfold aTaken; first | rw [if_neg (by assumption)] | (rw [if_pos c_10]; first | rw [if_pos (by assumption)] | rw [if_neg (by assumption)]), hS_2⟩ dX6_taken_39
theorem mcX6_took (l : Launch) (g : mG) (h : Nat) (ad : Nat → Nat) (P S : zS) (hPS : per S = P) (t : Int) (hW : WfR P 0) (h1 : I32 t) : mMI l g h ad yX6_took cX6_took 2 .int (k2_rm 2 46) [.int (iZ t)] S (fun z1 S1 => z1 = aTook P t ∧ per S1 = P) := by
  refine z_start (own := RX6) (by decide) rfl (Nat.le_of_ble_eq_true rfl) ?_
  intro prg env s mid blw mth cod ls Q C hQ hret hlk hnm hK hH hl
  have hP : MP g h ad S s.heap := hH
  have hS : va_S (MA h ad) s.heap s.heap [] := va_S.rf
  have hl : lv_has ls 2 [(0, .ref h), (1, .int (iZ t))] := hl
  have w3 := hW.thieves
  refine z_aload_n C dX6_took_0 hl 0 rfl ?_
  refine z_iconst C dX6_took_1 ?_
  refine m_puti C hK hP hS 0 (by decide) q1749 rfl rfl (by omega) dX6_took_2 (fun S_2 eS_2 H locs hP hS => ?_)
  have hS_2 := per_s rfl hPS eS_2
  refine z_aload_n C dX6_took_5 hl 0 rfl ?_
  refine z_iload_n C dX6_took_6 hl 1 rfl ?_
  refine m_pi C vX6_330 (mcX6_isThief l g h ad _ _ hS_2 _ (by assumption) (by omega)) hS hl ⟨Nat.le_of_ble_eq_true rfl, Nat.le_of_ble_eq_true rfl⟩ ⟨rfl, rfl⟩ hK hP rfl rfl (Nat.le_of_ble_eq_true rfl) dX6_took_7 ⟨Nat.zero_le _, Nat.zero_le _⟩ (fun locs hS => ?_)
  refine z_if_ne C 18 dX6_took_10 (by decide) z01_in (fun c_10 => ?_) (fun c_10 => ?_)
  · replace c_10 := z01_t c_10
    refine z_aload_n C dX6_took_18 hl 0 rfl ?_
    refine m_geta C hK hP 29 (by decide) q1778 rfl (by decide) dX6_took_19 ?_
    refine z_iconst C dX6_took_22 ?_
    refine m_iald C hK hP 29 (by decide) rfl (by have h9 : mlen 29 = 85 := rfl; omega) (pe hS_2 rfl) dX6_took_23 (fun r_23 => ?_)
    refine z_if_ne C 31 dX6_took_24 (by decide) (by omega) (fun c_24 => ?_) (fun c_24 => ?_)
    · refine z_aload_n C dX6_took_31 hl 0 rfl ?_
      refine m_geta C hK hP 29 (by decide) q1778 rfl (by decide) dX6_took_32 ?_
      refine z_bipush C dX6_took_35 rfl ?_
      refine z_iload_n C dX6_took_37 hl 1 rfl ?_
      refine z_iadd C dX6_took_38 ?_
      refine m_iald C hK hP 29 (by decide) rfl (by have h9 : mlen 29 = 85 := rfl; omega) (pe hS_2 rfl) dX6_took_39 (fun r_39 => ?_)
      exact m_mret_i C hQ hret hlk hS hP ⟨by unfold aTook; first | rw [if_neg (by assumption)] | (rw [if_pos c_10]; first | rw [if_pos (by assumption)] | rw [if_neg (by assumption)]), hS_2⟩ dX6_took_40
    · refine z_iconst C dX6_took_27 ?_
      refine z_goto C 40 dX6_took_28 (by decide) ?_
      exact m_mret_i C hQ hret hlk hS hP ⟨by unfold aTook; first | rw [if_neg (by assumption)] | (rw [if_pos c_10]; first | rw [if_pos (by assumption)] | rw [if_neg (by assumption)]), hS_2⟩ dX6_took_40
  · replace c_10 := z01_f c_10
    refine z_bipush C dX6_took_13 rfl ?_
    refine z_goto C 40 dX6_took_15 (by decide) ?_
    exact m_mret_i C hQ hret hlk hS hP ⟨by unfold aTook; first | rw [if_neg (by assumption)] | (rw [if_pos c_10]; first | rw [if_pos (by assumption)] | rw [if_neg (by assumption)]), hS_2⟩ dX6_took_40
theorem mcX6_years (l : Launch) (g : mG) (h : Nat) (ad : Nat → Nat) (P S : zS) (hPS : per S = P) (sd n w : Int) (hW : WfR P 0) (h1 : I32 sd) (h2 : I32 n) (h3 : I32 w) : mML l g h ad yX6_years cX6_years 9 (k2_rm 6 141) [.int (iZ sd), .int (iZ n), .int (iZ w)] S (fun z1 S1 => z1 = aYears P sd n w ∧ per S1 = P) := by
  refine z_start (own := RX6) (by decide) rfl (Nat.le_of_ble_eq_true rfl) ?_
  intro prg env s mid blw mth cod ls Q C hQ hret hlk hnm hK hH hl
  have hP : MP g h ad S s.heap := hH
  have hS : va_S (MA h ad) s.heap s.heap [] := va_S.rf
  have hl : lv_has ls 9 [(0, .ref h), (1, .int (iZ sd)), (2, .int (iZ n)), (3, .int (iZ w))] := hl
  have w2 := hW.places
  have w1 := hW.bikes
  refine z_aload_n C dX6_years_0 hl 0 rfl ?_
  refine z_iconst C dX6_years_1 ?_
  refine m_puti C hK hP hS 0 (by decide) q1749 rfl rfl (by omega) dX6_years_2 (fun S_2 eS_2 H locs hP hS => ?_)
  have hS_2 := per_s rfl hPS eS_2
  refine z_iload_n C dX6_years_5 hl 1 rfl ?_
  refine s_pi C vX6_539 (mcX6_isSeed l _ (by omega)) hS hl ⟨Nat.le_of_ble_eq_true rfl, Nat.le_of_ble_eq_true rfl⟩ ⟨rfl, rfl⟩ rfl rfl (Nat.le_of_ble_eq_true rfl) dX6_years_6 ⟨Nat.zero_le _, Nat.zero_le _⟩ (fun locs hS => ?_)
  refine z_if_eq C 43 dX6_years_9 (by decide) z01_in (fun c_9 => ?_) (fun c_9 => ?_)
  · replace c_9 := z01_f c_9
    refine z_ldc2 (v := -2) C q2155 dX6_years_43 rfl ?_
    exact m_mret_l C hQ hret hlk hS hP ⟨(if_neg (by omega)).symm, hS_2⟩ dX6_years_46
  · replace c_9 := z01_t c_9
    refine z_iload_n C dX6_years_12 hl 2 rfl ?_
    refine z_i2l C dX6_years_13 (by omega) ?_
    refine z_lconst (v := 1) C dX6_years_14 rfl ?_
    refine z_ldc2 (v := 100) C q2110 dX6_years_15 rfl ?_
    refine s_pi C vX6_119 (mcX6_in l _ _ _ (by omega) (by omega) (by omega)) hS hl ⟨Nat.le_of_ble_eq_true rfl, Nat.le_of_ble_eq_true rfl⟩ ⟨rfl, rfl⟩ rfl rfl (Nat.le_of_ble_eq_true rfl) dX6_years_18 ⟨Nat.zero_le _, Nat.zero_le _⟩ (fun locs hS => ?_)
    refine z_if_eq C 43 dX6_years_21 (by decide) z01_in (fun c_21 => ?_) (fun c_21 => ?_)
    · replace c_21 := z01_f c_21
      refine z_ldc2 (v := -2) C q2155 dX6_years_43 rfl ?_
      exact m_mret_l C hQ hret hlk hS hP ⟨(if_neg (by omega)).symm, hS_2⟩ dX6_years_46
    · replace c_21 := z01_t c_21
      refine z_iload_n C dX6_years_24 hl 3 rfl ?_
      refine z_i2l C dX6_years_25 (by omega) ?_
      refine z_lconst (v := 0) C dX6_years_26 rfl ?_
      refine z_ldc2 (v := 2) C q2188 dX6_years_27 rfl ?_
      refine s_pi C vX6_119 (mcX6_in l _ _ _ (by omega) (by omega) (by omega)) hS hl ⟨Nat.le_of_ble_eq_true rfl, Nat.le_of_ble_eq_true rfl⟩ ⟨rfl, rfl⟩ rfl rfl (Nat.le_of_ble_eq_true rfl) dX6_years_30 ⟨Nat.zero_le _, Nat.zero_le _⟩ (fun locs hS => ?_)
      refine z_if_eq C 43 dX6_years_33 (by decide) z01_in (fun c_33 => ?_) (fun c_33 => ?_)
      · replace c_33 := z01_f c_33
        refine z_ldc2 (v := -2) C q2155 dX6_years_43 rfl ?_
        exact m_mret_l C hQ hret hlk hS hP ⟨(if_neg (by omega)).symm, hS_2⟩ dX6_years_46
      · replace c_33 := z01_t c_33
        refine z_aload_n C dX6_years_36 hl 0 rfl ?_
        refine m_pi C vX6_354 (mcX6_isRail l g h ad _ _ hS_2 (by assumption)) hS hl ⟨Nat.le_of_ble_eq_true rfl, Nat.le_of_ble_eq_true rfl⟩ ⟨rfl, rfl⟩ hK hP rfl rfl (Nat.le_of_ble_eq_true rfl) dX6_years_37 ⟨Nat.zero_le _, Nat.zero_le _⟩ (fun locs hS => ?_)
        refine z_if_ne C 47 dX6_years_40 (by decide) z01_in (fun c_40 => ?_) (fun c_40 => ?_)
        · replace c_40 := z01_t c_40
          refine z_lconst (v := 0) C dX6_years_47 rfl ?_
          refine z_lstore C dX6_years_48 hl (by decide) rfl (fun ls hl => ?_)
          have hl : lv_has ls 9 [(4, _), (0, _), (1, _), (2, _), (3, _)] := hl
          refine z_iconst C dX6_years_50 ?_
          refine z_istore C dX6_years_51 hl (by decide) rfl (fun ls hl => ?_)
          have hl : lv_has ls 9 [(6, _), (4, _), (0, _), (1, _), (2, _), (3, _)] := hl
          have hL_53 : ∀ (fuel : Nat) (k : Nat) (v : Int) (S1 : zS) (H : Heap) (locs : List Loc) (ls : Array Slot), n.toNat - k < fuel → ((k : Int) ≤ n) → (v = ysF P sd w k) → per S1 = P → MP g h ad S1 H → va_S (MA h ad) s.heap H locs → lv_has ls 9 [(0, .ref h), (1, .int (iZ sd)), (2, .int (iZ n)), (3, .int (iZ w)), (4, .long (lZ v)), (6, .int (iZ (k : Int)))] → W prg l env (k2_rm 6 141) s mid ([.ref h, .int (iZ sd), .int (iZ n), .int (iZ w)] : List Value).toArray blw mth cod H locs 0 0 Q (F0 mid 53 ls []) := by
            intro fuel
            induction fuel with
            | zero => intro k v S1  H locs ls hm; exact absurd hm (Nat.not_lt_zero _)
            | succ fuel hL_53 =>
              intro k v S1  H locs ls hm ik iV hPS_53 hP  hS hl
              have q0 := ysF_in hW (seed := sd) (by omega) w k (by omega)
              refine z_iload C dX6_years_53 hl 5 rfl ?_
              refine z_iload_n C dX6_years_55 hl 2 rfl ?_
              refine z_icmp_ge C 169 dX6_years_56 (by decide) (by omega) (by omega) (fun c_56 => ?_) (fun c_56 => ?_)
              · refine z_lload C dX6_years_169 hl 4 rfl ?_
                exact m_mret_l C hQ hret hlk hS hP ⟨by rw [aYears, if_pos ⟨c_9, c_21, c_33, c_40⟩, iV, show n.toNat = k by omega], hPS_53⟩ dX6_years_171
              · refine z_aload_n C dX6_years_59 hl 0 rfl ?_
                refine z_iload_n C dX6_years_60 hl 1 rfl ?_
                refine z_i2l C dX6_years_61 (by omega) ?_
                refine z_iload C dX6_years_62 hl 5 rfl ?_
                refine z_i2l C dX6_years_64 (by omega) ?_
                refine z_ladd C dX6_years_65 ?_
                refine m_mv C vX6_542 (mcX6_draws l g h ad _ _ hPS_53 _ (by assumption) (by omega)) hS hl ⟨Nat.le_of_ble_eq_true rfl, Nat.le_of_ble_eq_true rfl⟩ ⟨rfl, rfl⟩ hK hP (fun _ h9 => h9) rfl rfl (Nat.le_of_ble_eq_true rfl) dX6_years_66 ⟨Nat.zero_le _, Nat.zero_le _⟩ (fun S_66 H locs pS_66 hP hS => ?_)
                have hS_66 : per S_66 = P := (pS_66.2.pr rfl hPS_53)
                have q1 := pS_66.1
                have q2 : ∀ j : Int, 0 ≤ j → j < 16 → 0 ≤ S_66 49 j ∧ S_66 49 j ≤ 360 := fun j h1 h2 => by rw [q1 j h1 h2]; exact yrD_in hW (by omega) ⟨h1, h2⟩
                have q3 : allD (S_66 49) = allD (yrD P (sd + (k : Int))) := allD_congr q1
                have q4 := allD_in q2
                refine z_aload_n C dX6_years_69 hl 0 rfl ?_
                refine m_pi C vX6_534 (mcX6_drawnAll l g h ad _ _ hS_66 ) hS hl ⟨Nat.le_of_ble_eq_true rfl, Nat.le_of_ble_eq_true rfl⟩ ⟨rfl, rfl⟩ hK hP rfl rfl (Nat.le_of_ble_eq_true rfl) dX6_years_70 ⟨Nat.zero_le _, Nat.zero_le _⟩ (fun locs hS => ?_)
                refine z_istore C dX6_years_73 hl (by decide) rfl (fun ls hl => ?_)
                have hl : lv_has ls 9 [(7, _), (0, _), (1, _), (2, _), (3, _), (4, _), (6, _)] := hl
                refine z_iload_n C dX6_years_75 hl 4 rfl ?_
                refine z_if_ne C 90 dX6_years_76 (by decide) (by omega) (fun c_76 => ?_) (fun c_76 => ?_)
                · refine z_iload_n C dX6_years_90 hl 4 rfl ?_
                  refine z_iconst C dX6_years_91 ?_
                  refine z_icmp_ne C 117 dX6_years_92 (by decide) (by omega) (by omega) (fun c_92 => ?_) (fun c_92 => ?_)
                  · refine z_iconst C dX6_years_117 ?_
                    refine z_istore C dX6_years_118 hl (by decide) rfl (fun ls hl => ?_)
                    have hl : lv_has ls 9 [(8, _), (7, _), (0, _), (1, _), (2, _), (3, _), (4, _), (6, _)] := hl
                    have hL_120 : ∀ (fuel : Nat) (b : Nat) (u : Int) (H : Heap) (locs : List Loc) (ls : Array Slot), (P 23 0).toNat - b < fuel → ((b : Int) ≤ P 23 0) → (u = v + wrD P (yrD P (sd + (k : Int))) b) → MP g h ad S_66 H → va_S (MA h ad) s.heap H locs → lv_has ls 9 [(0, .ref h), (1, .int (iZ sd)), (2, .int (iZ n)), (3, .int (iZ w)), (4, .long (lZ u)), (6, .int (iZ (k : Int))), (7, .int (iZ (allD (S_66 49)))), (8, .int (iZ (b : Int)))] → W prg l env (k2_rm 6 141) s mid ([.ref h, .int (iZ sd), .int (iZ n), .int (iZ w)] : List Value).toArray blw mth cod H locs 0 0 Q (F0 mid 120 ls []) := by
                      intro fuel
                      induction fuel with
                      | zero => intro b u  H locs ls hm; exact absurd hm (Nat.not_lt_zero _)
                      | succ fuel hL_120 =>
                        intro b u  H locs ls hm jb jV hP  hS hl
                        refine z_iload C dX6_years_120 hl 7 rfl ?_
                        refine z_aload_n C dX6_years_122 hl 0 rfl ?_
                        refine m_geta C hK hP 23 (by decide) q1772 rfl (by decide) dX6_years_123 ?_
                        refine z_iconst C dX6_years_126 ?_
                        refine m_iald C hK hP 23 (by decide) rfl (by have h9 : mlen 23 = 5 := rfl; omega) (pe hS_66 rfl) dX6_years_127 (fun r_127 => ?_)
                        refine z_icmp_ge C 163 dX6_years_128 (by decide) (by omega) (by omega) (fun c_128 => ?_) (fun c_128 => ?_)
                        · refine z_iinc C dX6_years_163 hl (by decide) 5 rfl rfl (fun ls hl => ?_)
                          have hl : lv_has ls 9 [(6, _), (0, _), (1, _), (2, _), (3, _), (4, _), (7, _), (8, _)] := hl
                          refine z_goto C 53 dX6_years_166 (by decide) ?_
                          exact hL_53 (k + 1) _ _ _ _ ls (by omega) (by omega) (by rw [ysF_s, if_neg c_76, if_neg c_92, ← iV, show (P 23 0).toNat = b by omega]; exact jV) hS_66 hP hS (lv_sub hl [1, 2, 3, 4, 5, 0] rfl)
                        · refine z_lload C dX6_years_131 hl 4 rfl ?_
                          refine z_aload_n C dX6_years_133 hl 0 rfl ?_
                          refine m_geta C hK hP 49 (by decide) q1798 rfl (by decide) dX6_years_134 ?_
                          refine z_iload C dX6_years_137 hl 7 rfl ?_
                          refine m_iald C hK hP 49 (by decide) rfl (by have h9 : mlen 49 = 16 := rfl; omega) rfl dX6_years_139 (fun r_139 => ?_)
                          refine z_i2l C dX6_years_140 (by omega) ?_
                          refine z_aload_n C dX6_years_141 hl 0 rfl ?_
                          refine m_geta C hK hP 24 (by decide) q1773 rfl (by decide) dX6_years_142 ?_
                          refine z_iconst C dX6_years_145 ?_
                          refine z_iload C dX6_years_146 hl 7 rfl ?_
                          refine s_pi C vX6_323 (mcX6_at l _ _) hS hl ⟨Nat.le_of_ble_eq_true rfl, Nat.le_of_ble_eq_true rfl⟩ ⟨rfl, rfl⟩ rfl rfl (Nat.le_of_ble_eq_true rfl) dX6_years_148 ⟨Nat.zero_le _, Nat.zero_le _⟩ (fun locs hS => ?_)
                          refine m_iald C hK hP 24 (by decide) rfl (by have h9 : mlen 24 = 250 := rfl; omega) (pe hS_66 rfl) dX6_years_151 (fun r_151 => ?_)
                          refine z_i2l C dX6_years_152 (by omega) ?_
                          refine z_lmul C dX6_years_153 ?_
                          refine z_ladd C dX6_years_154 ?_
                          refine z_lstore C dX6_years_155 hl (by decide) rfl (fun ls hl => ?_)
                          have hl : lv_has ls 9 [(4, _), (0, _), (1, _), (2, _), (3, _), (6, _), (7, _), (8, _)] := hl
                          refine z_iinc C dX6_years_157 hl (by decide) 7 rfl rfl (fun ls hl => ?_)
                          have hl : lv_has ls 9 [(8, _), (4, _), (0, _), (1, _), (2, _), (3, _), (6, _), (7, _)] := hl
                          refine z_goto C 120 dX6_years_160 (by decide) ?_
                          exact hL_120 (b + 1) _ _ _ ls (by omega) (by omega) (by rw [wrD, zsm_s, jV, wrD, q1 (b : Int) (by omega) (by omega)]; omega) hP hS (lv_sub hl [2, 3, 4, 5, 1, 6, 7, 0] rfl)
                    exact hL_120 _ 0 v _ _ ls (Nat.lt_succ_self _) (by omega) (by show v = v + 0; omega) hP hS (lv_sub hl [2, 3, 4, 5, 6, 7, 1, 0] rfl)
                  · refine z_iload C dX6_years_95 hl 0 rfl ?_
                    refine z_i2l C dX6_years_97 (by omega) ?_
                    refine z_lload C dX6_years_98 hl 5 rfl ?_
                    refine z_lcmp_le C 110 dX6_years_100 dX6_years_101 (by decide) (by omega) (by omega) (fun c_100 => ?_) (fun c_100 => ?_)
                    · refine z_lload C dX6_years_110 hl 5 rfl ?_
                      refine z_lstore C dX6_years_112 hl (by decide) rfl (fun ls hl => ?_)
                      have hl : lv_has ls 9 [(4, _), (7, _), (0, _), (1, _), (2, _), (3, _), (6, _)] := hl
                      refine z_goto C 163 dX6_years_114 (by decide) ?_
                      refine z_iinc C dX6_years_163 hl (by decide) 6 rfl rfl (fun ls hl => ?_)
                      have hl : lv_has ls 9 [(6, _), (4, _), (7, _), (0, _), (1, _), (2, _), (3, _)] := hl
                      refine z_goto C 53 dX6_years_166 (by decide) ?_
                      exact hL_53 (k + 1) _ _ _ _ ls (by omega) (by omega) (by rw [ysF_s, if_neg c_76, if_pos c_92, ← iV, ← q3, if_neg (by omega)]) hS_66 hP hS (lv_sub hl [3, 4, 5, 6, 1, 0] rfl)
                    · refine z_iload C dX6_years_104 hl 0 rfl ?_
                      refine z_i2l C dX6_years_106 (by omega) ?_
                      refine z_goto C 112 dX6_years_107 (by decide) ?_
                      refine z_lstore C dX6_years_112 hl (by decide) rfl (fun ls hl => ?_)
                      have hl : lv_has ls 9 [(4, _), (7, _), (0, _), (1, _), (2, _), (3, _), (6, _)] := hl
                      refine z_goto C 163 dX6_years_114 (by decide) ?_
                      refine z_iinc C dX6_years_163 hl (by decide) 6 rfl rfl (fun ls hl => ?_)
                      have hl : lv_has ls 9 [(6, _), (4, _), (7, _), (0, _), (1, _), (2, _), (3, _)] := hl
                      refine z_goto C 53 dX6_years_166 (by decide) ?_
                      exact hL_53 (k + 1) _ _ _ _ ls (by omega) (by omega) (by rw [ysF_s, if_neg c_76, if_pos c_92, ← iV, ← q3, if_pos c_100]) hS_66 hP hS (lv_sub hl [3, 4, 5, 6, 1, 0] rfl)
                · refine z_lload C dX6_years_79 hl 5 rfl ?_
                  refine z_iload C dX6_years_81 hl 0 rfl ?_
                  refine z_i2l C dX6_years_83 (by omega) ?_
                  refine z_ladd C dX6_years_84 ?_
                  refine z_lstore C dX6_years_85 hl (by decide) rfl (fun ls hl => ?_)
                  have hl : lv_has ls 9 [(4, _), (7, _), (0, _), (1, _), (2, _), (3, _), (6, _)] := hl
                  refine z_goto C 163 dX6_years_87 (by decide) ?_
                  refine z_iinc C dX6_years_163 hl (by decide) 6 rfl rfl (fun ls hl => ?_)
                  have hl : lv_has ls 9 [(6, _), (4, _), (7, _), (0, _), (1, _), (2, _), (3, _)] := hl
                  refine z_goto C 53 dX6_years_166 (by decide) ?_
                  exact hL_53 (k + 1) _ _ _ _ ls (by omega) (by omega) (by rw [ysF_s, if_pos c_76, ← iV, q3]) hS_66 hP hS (lv_sub hl [3, 4, 5, 6, 1, 0] rfl)
          exact hL_53 _ 0 0 _ _ _ ls (Nat.lt_succ_self _) (by omega) rfl hS_2 hP hS (lv_sub hl [2, 3, 4, 5, 1, 0] rfl)
        · replace c_40 := z01_f c_40
          refine z_ldc2 (v := -2) C q2155 dX6_years_43 rfl ?_
          exact m_mret_l C hQ hret hlk hS hP ⟨(if_neg (by omega)).symm, hS_2⟩ dX6_years_46
