theorem vX6_343 : zV RX6 343 RX6 yX6_lays cX6_lays 4 none 1 := ⟨lw_V q2127 q2129 qs92 q149 q2130, rfl, by decide +kernel⟩
theorem vX6_346 : zV RX6 346 RX6 yX6_takesOf cX6_takesOf 7 (some .int) 2 := ⟨lw_V q2131 q2133 qs93 q149 q2134, rfl, by decide +kernel⟩
theorem vX6_349 : zV RX6 349 RX6 yX6_wantsOf cX6_wantsOf 4 (some .int) 1 := ⟨lw_V q2139 q2141 qs94 q149 q2142, rfl, by decide +kernel⟩
theorem mcX6_lays (l : Launch) (g : mG) (h : Nat) (ad : Nat → Nat) (P S : zS) (hPS : per S = P) (sm : Int) (hW : WfR P 0) (hs : -1 ≤ sm ∧ sm ≤ 9999) : mMV l g h ad yX6_lays cX6_lays 4 (k2_rm 3 72) [.int (iZ sm)] S (fun S1 => Fr [33, 34, 35] S S1 ∧ Laid P sm S1) := by
  refine z_start (own := RX6) (by decide) rfl (Nat.le_of_ble_eq_true rfl) ?_
  intro prg env s mid blw mth cod ls Q C hQ hret hlk hnm hK hH hl
  have hP : MP g h ad S s.heap := hH
  have hS : va_S (MA h ad) s.heap s.heap [] := va_S.rf
  have hl : lv_has ls 4 [(0, .ref h), (1, .int (iZ sm))] := hl
  have w1 := hW.bikes
  have w3 := hW.thieves
  refine z_aload_n C dX6_lays_0 hl 0 rfl ?_
  refine z_aload_n C dX6_lays_1 hl 0 rfl ?_
  refine m_geta C hK hP 23 (by decide) q1772 rfl (by decide) dX6_lays_2 ?_
  refine z_iconst C dX6_lays_5 ?_
  refine m_iald C hK hP 23 (by decide) rfl (by have h9 : mlen 23 = 5 := rfl; omega) (pe hPS rfl) dX6_lays_6 (fun r_6 => ?_)
  refine z_iload_n C dX6_lays_7 hl 1 rfl ?_
  refine z_if_ge C 15 dX6_lays_8 (by decide) (by omega) (fun c_8 => ?_) (fun c_8 => ?_)
  · refine z_iconst C dX6_lays_15 ?_
    refine z_iadd C dX6_lays_16 ?_
    refine m_puti C hK hP hS 35 (by decide) q1784 rfl rfl (by omega) dX6_lays_17 (fun S_17 eS_17 H locs hP hS => ?_)
    have hS_17 := per_s rfl hPS eS_17
    refine z_iconst C dX6_lays_20 ?_
    refine z_istore_n C dX6_lays_21 rfl hl (by decide) rfl (fun ls hl => ?_)
    have hl : lv_has ls 4 [(2, _), (0, _), (1, _)] := hl
    have hL_22 : ∀ (fuel : Nat) (T : Nat) (S1 : zS) (H : Heap) (locs : List Loc) (ls : Array Slot), (P 25 0).toNat - T < fuel → ((T : Int) ≤ P 25 0) → (Fr [33, 34, 35] S S1) → (S1 35 0 = P 23 0 + bt1 sm) → (LaidB P sm T 0 T S1) → per S1 = P → MP g h ad S1 H → va_S (MA h ad) s.heap H locs → lv_has ls 4 [(0, .ref h), (1, .int (iZ sm)), (2, .int (iZ (T : Int)))] → W prg l env (k2_rm 3 72) s mid ([.ref h, .int (iZ sm)] : List Value).toArray blw mth cod H locs 0 0 Q (F0 mid 22 ls []) := by
      intro fuel
      induction fuel with
      | zero => intro T S1  H locs ls hm; exact absurd hm (Nat.not_lt_zero _)
      | succ fuel hL_22 =>
        intro T S1  H locs ls hm iT iF i5 iL hPS_22 hP  hS hl
        refine z_iload_n C dX6_lays_22 hl 2 rfl ?_
        refine z_aload_n C dX6_lays_23 hl 0 rfl ?_
        refine m_geta C hK hP 25 (by decide) q1774 rfl (by decide) dX6_lays_24 ?_
        refine z_iconst C dX6_lays_27 ?_
        refine m_iald C hK hP 25 (by decide) rfl (by have h9 : mlen 25 = 5 := rfl; omega) (pe hPS_22 rfl) dX6_lays_28 (fun r_28 => ?_)
        refine z_icmp_ge C 144 dX6_lays_29 (by decide) (by omega) (by omega) (fun c_29 => ?_) (fun c_29 => ?_)
        · exact m_mret_v C hQ hret hlk hS hP ⟨iF, LaidB.all iL (by omega) (by omega) i5⟩ dX6_lays_144
        · refine z_iconst C dX6_lays_32 ?_
          refine z_istore_n C dX6_lays_33 rfl hl (by decide) rfl (fun ls hl => ?_)
          have hl : lv_has ls 4 [(3, _), (0, _), (1, _), (2, _)] := hl
          have hL_34 : ∀ (fuel : Nat) (B : Nat) (S2 : zS) (H : Heap) (locs : List Loc) (ls : Array Slot), (P 23 0).toNat - B < fuel → ((B : Int) ≤ P 23 0) → (Fr [33, 34, 35] S S2) → (S2 35 0 = P 23 0 + bt1 sm) → (LaidB P sm T B T S2) → per S2 = P → MP g h ad S2 H → va_S (MA h ad) s.heap H locs → lv_has ls 4 [(0, .ref h), (1, .int (iZ sm)), (2, .int (iZ (T : Int))), (3, .int (iZ (B : Int)))] → W prg l env (k2_rm 3 72) s mid ([.ref h, .int (iZ sm)] : List Value).toArray blw mth cod H locs 0 0 Q (F0 mid 34 ls []) := by
            intro fuel
            induction fuel with
            | zero => intro B S2  H locs ls hm; exact absurd hm (Nat.not_lt_zero _)
            | succ fuel hL_34 =>
              intro B S2  H locs ls hm iB jF j5 jL hPS_34 hP  hS hl
              refine z_iload_n C dX6_lays_34 hl 3 rfl ?_
              refine z_aload_n C dX6_lays_35 hl 0 rfl ?_
              refine m_geta C hK hP 23 (by decide) q1772 rfl (by decide) dX6_lays_36 ?_
              refine z_iconst C dX6_lays_39 ?_
              refine m_iald C hK hP 23 (by decide) rfl (by have h9 : mlen 23 = 5 := rfl; omega) (pe hPS_34 rfl) dX6_lays_40 (fun r_40 => ?_)
              refine z_icmp_ge C 97 dX6_lays_41 (by decide) (by omega) (by omega) (fun c_41 => ?_) (fun c_41 => ?_)
              · refine z_iload_n C dX6_lays_97 hl 1 rfl ?_
                refine z_if_ge C 104 dX6_lays_98 (by decide) (by omega) (fun c_98 => ?_) (fun c_98 => ?_)
                · refine z_aload_n C dX6_lays_104 hl 0 rfl ?_
                  refine m_geta C hK hP 33 (by decide) q1782 rfl (by decide) dX6_lays_105 ?_
                  refine z_bipush C dX6_lays_108 rfl ?_
                  refine z_iload_n C dX6_lays_110 hl 2 rfl ?_
                  refine z_imul C dX6_lays_111 ?_
                  refine z_aload_n C dX6_lays_112 hl 0 rfl ?_
                  refine m_geta C hK hP 23 (by decide) q1772 rfl (by decide) dX6_lays_113 ?_
                  refine z_iconst C dX6_lays_116 ?_
                  refine m_iald C hK hP 23 (by decide) rfl (by have h9 : mlen 23 = 5 := rfl; omega) (pe hPS_34 rfl) dX6_lays_117 (fun r_117 => ?_)
                  refine z_iadd C dX6_lays_118 ?_
                  refine z_iconst C dX6_lays_119 ?_
                  refine m_iast C hK hP hS 33 (by decide) rfl (by have h9 : mlen 33 = 66 := rfl; omega) (by omega) dX6_lays_120 (fun S_120 eS_120 H locs hP hS => ?_)
                  have hS_120 := per_s rfl hPS_34 eS_120
                  refine z_aload_n C dX6_lays_121 hl 0 rfl ?_
                  refine m_geta C hK hP 34 (by decide) q1783 rfl (by decide) dX6_lays_122 ?_
                  refine z_bipush C dX6_lays_125 rfl ?_
                  refine z_iload_n C dX6_lays_127 hl 2 rfl ?_
                  refine z_imul C dX6_lays_128 ?_
                  refine z_aload_n C dX6_lays_129 hl 0 rfl ?_
                  refine m_geta C hK hP 23 (by decide) q1772 rfl (by decide) dX6_lays_130 ?_
                  refine z_iconst C dX6_lays_133 ?_
                  refine m_iald C hK hP 23 (by decide) rfl (by have h9 : mlen 23 = 5 := rfl; omega) (pe hS_120 rfl) dX6_lays_134 (fun r_134 => ?_)
                  refine z_iadd C dX6_lays_135 ?_
                  refine z_iload_n C dX6_lays_136 hl 1 rfl ?_
                  refine m_iast C hK hP hS 34 (by decide) rfl (by have h9 : mlen 34 = 66 := rfl; omega) (by omega) dX6_lays_137 (fun S_137 eS_137 H locs hP hS => ?_)
                  have hS_137 := per_s rfl hS_120 eS_137
                  refine z_iinc C dX6_lays_138 hl (by decide) 2 rfl rfl (fun ls hl => ?_)
                  have hl : lv_has ls 4 [(2, _), (0, _), (1, _), (3, _)] := hl
                  refine z_goto C 22 dX6_lays_141 (by decide) ?_
                  exact hL_22 (T + 1) _ _ _ ls (by omega) (by omega) (Fr.up (Fr.up jF eS_120 (by decide)) eS_137 (by decide)) (by rw [eS_137, zup_k _ _ _ (by decide), eS_120, zup_k _ _ _ (by decide)]; exact j5) (LaidB.row (LaidB.bait jL (by omega) rfl eS_120 eS_137) (by omega) (by omega)) hS_137 hP hS (lv_sub hl [1, 2, 0] rfl)
                · refine z_goto C 138 dX6_lays_101 (by decide) ?_
                  refine z_iinc C dX6_lays_138 hl (by decide) 2 rfl rfl (fun ls hl => ?_)
                  have hl : lv_has ls 4 [(2, _), (0, _), (1, _), (3, _)] := hl
                  refine z_goto C 22 dX6_lays_141 (by decide) ?_
                  exact hL_22 (T + 1) _ _ _ ls (by omega) (by omega) jF j5 (LaidB.row jL (by omega) (by omega)) hPS_34 hP hS (lv_sub hl [1, 2, 0] rfl)
              · have w4 := trouble_in (t := T) (b := B) hW hW ⟨by omega, by omega⟩ ⟨by omega, by omega⟩
                have w5 := gain_in (b := B) hW ⟨by omega, by omega⟩
                refine z_aload_n C dX6_lays_44 hl 0 rfl ?_
                refine m_geta C hK hP 33 (by decide) q1782 rfl (by decide) dX6_lays_45 ?_
                refine z_bipush C dX6_lays_48 rfl ?_
                refine z_iload_n C dX6_lays_50 hl 2 rfl ?_
                refine z_imul C dX6_lays_51 ?_
                refine z_iload_n C dX6_lays_52 hl 3 rfl ?_
                refine z_iadd C dX6_lays_53 ?_
                refine z_aload_n C dX6_lays_54 hl 0 rfl ?_
                refine z_iload_n C dX6_lays_55 hl 2 rfl ?_
                refine z_iconst C dX6_lays_56 ?_
                refine z_iload_n C dX6_lays_57 hl 3 rfl ?_
                refine m_pi C vX6_333 (mcX6_troubleOf l g h ad _ _ hPS_34 _ _ _ (by omega) hW hW ⟨by omega, by omega⟩ ⟨by omega, by omega⟩) hS hl ⟨Nat.le_of_ble_eq_true rfl, Nat.le_of_ble_eq_true rfl⟩ ⟨rfl, rfl⟩ hK hP rfl rfl (Nat.le_of_ble_eq_true rfl) dX6_lays_58 ⟨Nat.zero_le _, Nat.zero_le _⟩ (fun locs hS => ?_)
                refine m_iast C hK hP hS 33 (by decide) rfl (by have h9 : mlen 33 = 66 := rfl; omega) (by omega) dX6_lays_61 (fun S_61 eS_61 H locs hP hS => ?_)
                have hS_61 := per_s rfl hPS_34 eS_61
                refine z_aload_n C dX6_lays_62 hl 0 rfl ?_
                refine m_geta C hK hP 34 (by decide) q1783 rfl (by decide) dX6_lays_63 ?_
                refine z_bipush C dX6_lays_66 rfl ?_
                refine z_iload_n C dX6_lays_68 hl 2 rfl ?_
                refine z_imul C dX6_lays_69 ?_
                refine z_iload_n C dX6_lays_70 hl 3 rfl ?_
                refine z_iadd C dX6_lays_71 ?_
                refine z_aload_n C dX6_lays_72 hl 0 rfl ?_
                refine z_iconst C dX6_lays_73 ?_
                refine z_iload_n C dX6_lays_74 hl 3 rfl ?_
                refine m_pi C vX6_337 (mcX6_gainOf l g h ad _ _ hS_61 _ _ (by omega) hW ⟨by omega, by omega⟩) hS hl ⟨Nat.le_of_ble_eq_true rfl, Nat.le_of_ble_eq_true rfl⟩ ⟨rfl, rfl⟩ hK hP rfl rfl (Nat.le_of_ble_eq_true rfl) dX6_lays_75 ⟨Nat.zero_le _, Nat.zero_le _⟩ (fun locs hS => ?_)
                refine z_aload_n C dX6_lays_78 hl 0 rfl ?_
                refine m_geta C hK hP 33 (by decide) q1782 rfl (by decide) dX6_lays_79 ?_
                refine z_bipush C dX6_lays_82 rfl ?_
                refine z_iload_n C dX6_lays_84 hl 2 rfl ?_
                refine z_imul C dX6_lays_85 ?_
                refine z_iload_n C dX6_lays_86 hl 3 rfl ?_
                refine z_iadd C dX6_lays_87 ?_
                refine m_iald C hK hP 33 (by decide) rfl (by have h9 : mlen 33 = 66 := rfl; omega) rfl dX6_lays_88 (fun r_88 => ?_)
                refine z_isub C dX6_lays_89 ?_
                refine m_iast C hK hP hS 34 (by decide) rfl (by have h9 : mlen 34 = 66 := rfl; omega) (by rw [show S_61 33 (11 * (T : Int) + (B : Int)) = trouble P T 0 B by rw [eS_61, zup_s]]; omega) dX6_lays_90 (fun S_90 eS_90 H locs hP hS => ?_)
                have hS_90 := per_s rfl hS_61 eS_90
                refine z_iinc C dX6_lays_91 hl (by decide) 3 rfl rfl (fun ls hl => ?_)
                have hl : lv_has ls 4 [(3, _), (0, _), (1, _), (2, _)] := hl
                refine z_goto C 34 dX6_lays_94 (by decide) ?_
                exact hL_34 (B + 1) _ _ _ ls (by omega) (by omega) (Fr.up (Fr.up jF eS_61 (by decide)) eS_90 (by decide)) (by rw [eS_90, zup_k _ _ _ (by decide), eS_61, zup_k _ _ _ (by decide)]; exact j5) (LaidB.step jL (by omega) (by omega) (by omega) eS_61 eS_90) hS_90 hP hS (lv_sub hl [1, 2, 3, 0] rfl)
          exact hL_34 _ 0 _ _ _ ls (Nat.lt_succ_self _) (by omega) iF i5 iL hPS_22 hP hS (lv_sub hl [1, 2, 3, 0] rfl)
    exact hL_22 _ 0 _ _ _ ls (Nat.lt_succ_self _) (by omega) (Fr.up Fr.rf eS_17 (by decide)) (by rw [eS_17, zup_s]; unfold bt1; first | rw [if_pos (by assumption)] | rw [if_neg (by omega)]) (fun t b h1 h2 h3 => by omega) hS_17 hP hS (lv_sub hl [1, 2, 0] rfl)
  · refine z_iconst C dX6_lays_11 ?_
    refine z_goto C 16 dX6_lays_12 (by decide) ?_
    refine z_iadd C dX6_lays_16 ?_
    refine m_puti C hK hP hS 35 (by decide) q1784 rfl rfl (by omega) dX6_lays_17 (fun S_17 eS_17 H locs hP hS => ?_)
    have hS_17 := per_s rfl hPS eS_17
    refine z_iconst C dX6_lays_20 ?_
    refine z_istore_n C dX6_lays_21 rfl hl (by decide) rfl (fun ls hl => ?_)
    have hl : lv_has ls 4 [(2, _), (0, _), (1, _)] := hl
    have hL_22 : ∀ (fuel : Nat) (T : Nat) (S1 : zS) (H : Heap) (locs : List Loc) (ls : Array Slot), (P 25 0).toNat - T < fuel → ((T : Int) ≤ P 25 0) → (Fr [33, 34, 35] S S1) → (S1 35 0 = P 23 0 + bt1 sm) → (LaidB P sm T 0 T S1) → per S1 = P → MP g h ad S1 H → va_S (MA h ad) s.heap H locs → lv_has ls 4 [(0, .ref h), (1, .int (iZ sm)), (2, .int (iZ (T : Int)))] → W prg l env (k2_rm 3 72) s mid ([.ref h, .int (iZ sm)] : List Value).toArray blw mth cod H locs 0 0 Q (F0 mid 22 ls []) := by
      intro fuel
      induction fuel with
      | zero => intro T S1  H locs ls hm; exact absurd hm (Nat.not_lt_zero _)
      | succ fuel hL_22 =>
        intro T S1  H locs ls hm iT iF i5 iL hPS_22 hP  hS hl
        refine z_iload_n C dX6_lays_22 hl 2 rfl ?_
        refine z_aload_n C dX6_lays_23 hl 0 rfl ?_
        refine m_geta C hK hP 25 (by decide) q1774 rfl (by decide) dX6_lays_24 ?_
        refine z_iconst C dX6_lays_27 ?_
        refine m_iald C hK hP 25 (by decide) rfl (by have h9 : mlen 25 = 5 := rfl; omega) (pe hPS_22 rfl) dX6_lays_28 (fun r_28 => ?_)
        refine z_icmp_ge C 144 dX6_lays_29 (by decide) (by omega) (by omega) (fun c_29 => ?_) (fun c_29 => ?_)
        · exact m_mret_v C hQ hret hlk hS hP ⟨iF, LaidB.all iL (by omega) (by omega) i5⟩ dX6_lays_144
        · refine z_iconst C dX6_lays_32 ?_
          refine z_istore_n C dX6_lays_33 rfl hl (by decide) rfl (fun ls hl => ?_)
          have hl : lv_has ls 4 [(3, _), (0, _), (1, _), (2, _)] := hl
          have hL_34 : ∀ (fuel : Nat) (B : Nat) (S2 : zS) (H : Heap) (locs : List Loc) (ls : Array Slot), (P 23 0).toNat - B < fuel → ((B : Int) ≤ P 23 0) → (Fr [33, 34, 35] S S2) → (S2 35 0 = P 23 0 + bt1 sm) → (LaidB P sm T B T S2) → per S2 = P → MP g h ad S2 H → va_S (MA h ad) s.heap H locs → lv_has ls 4 [(0, .ref h), (1, .int (iZ sm)), (2, .int (iZ (T : Int))), (3, .int (iZ (B : Int)))] → W prg l env (k2_rm 3 72) s mid ([.ref h, .int (iZ sm)] : List Value).toArray blw mth cod H locs 0 0 Q (F0 mid 34 ls []) := by
            intro fuel
            induction fuel with
            | zero => intro B S2  H locs ls hm; exact absurd hm (Nat.not_lt_zero _)
            | succ fuel hL_34 =>
              intro B S2  H locs ls hm iB jF j5 jL hPS_34 hP  hS hl
              refine z_iload_n C dX6_lays_34 hl 3 rfl ?_
              refine z_aload_n C dX6_lays_35 hl 0 rfl ?_
              refine m_geta C hK hP 23 (by decide) q1772 rfl (by decide) dX6_lays_36 ?_
              refine z_iconst C dX6_lays_39 ?_
              refine m_iald C hK hP 23 (by decide) rfl (by have h9 : mlen 23 = 5 := rfl; omega) (pe hPS_34 rfl) dX6_lays_40 (fun r_40 => ?_)
              refine z_icmp_ge C 97 dX6_lays_41 (by decide) (by omega) (by omega) (fun c_41 => ?_) (fun c_41 => ?_)
              · refine z_iload_n C dX6_lays_97 hl 1 rfl ?_
                refine z_if_ge C 104 dX6_lays_98 (by decide) (by omega) (fun c_98 => ?_) (fun c_98 => ?_)
                · refine z_aload_n C dX6_lays_104 hl 0 rfl ?_
                  refine m_geta C hK hP 33 (by decide) q1782 rfl (by decide) dX6_lays_105 ?_
                  refine z_bipush C dX6_lays_108 rfl ?_
                  refine z_iload_n C dX6_lays_110 hl 2 rfl ?_
                  refine z_imul C dX6_lays_111 ?_
                  refine z_aload_n C dX6_lays_112 hl 0 rfl ?_
                  refine m_geta C hK hP 23 (by decide) q1772 rfl (by decide) dX6_lays_113 ?_
                  refine z_iconst C dX6_lays_116 ?_
                  refine m_iald C hK hP 23 (by decide) rfl (by have h9 : mlen 23 = 5 := rfl; omega) (pe hPS_34 rfl) dX6_lays_117 (fun r_117 => ?_)
                  refine z_iadd C dX6_lays_118 ?_
                  refine z_iconst C dX6_lays_119 ?_
                  refine m_iast C hK hP hS 33 (by decide) rfl (by have h9 : mlen 33 = 66 := rfl; omega) (by omega) dX6_lays_120 (fun S_120 eS_120 H locs hP hS => ?_)
                  have hS_120 := per_s rfl hPS_34 eS_120
                  refine z_aload_n C dX6_lays_121 hl 0 rfl ?_
                  refine m_geta C hK hP 34 (by decide) q1783 rfl (by decide) dX6_lays_122 ?_
                  refine z_bipush C dX6_lays_125 rfl ?_
                  refine z_iload_n C dX6_lays_127 hl 2 rfl ?_
                  refine z_imul C dX6_lays_128 ?_
                  refine z_aload_n C dX6_lays_129 hl 0 rfl ?_
                  refine m_geta C hK hP 23 (by decide) q1772 rfl (by decide) dX6_lays_130 ?_
                  refine z_iconst C dX6_lays_133 ?_
                  refine m_iald C hK hP 23 (by decide) rfl (by have h9 : mlen 23 = 5 := rfl; omega) (pe hS_120 rfl) dX6_lays_134 (fun r_134 => ?_)
                  refine z_iadd C dX6_lays_135 ?_
                  refine z_iload_n C dX6_lays_136 hl 1 rfl ?_
                  refine m_iast C hK hP hS 34 (by decide) rfl (by have h9 : mlen 34 = 66 := rfl; omega) (by omega) dX6_lays_137 (fun S_137 eS_137 H locs hP hS => ?_)
                  have hS_137 := per_s rfl hS_120 eS_137
                  refine z_iinc C dX6_lays_138 hl (by decide) 2 rfl rfl (fun ls hl => ?_)
                  have hl : lv_has ls 4 [(2, _), (0, _), (1, _), (3, _)] := hl
                  refine z_goto C 22 dX6_lays_141 (by decide) ?_
                  exact hL_22 (T + 1) _ _ _ ls (by omega) (by omega) (Fr.up (Fr.up jF eS_120 (by decide)) eS_137 (by decide)) (by rw [eS_137, zup_k _ _ _ (by decide), eS_120, zup_k _ _ _ (by decide)]; exact j5) (LaidB.row (LaidB.bait jL (by omega) rfl eS_120 eS_137) (by omega) (by omega)) hS_137 hP hS (lv_sub hl [1, 2, 0] rfl)
                · refine z_goto C 138 dX6_lays_101 (by decide) ?_
                  refine z_iinc C dX6_lays_138 hl (by decide) 2 rfl rfl (fun ls hl => ?_)
                  have hl : lv_has ls 4 [(2, _), (0, _), (1, _), (3, _)] := hl
                  refine z_goto C 22 dX6_lays_141 (by decide) ?_
                  exact hL_22 (T + 1) _ _ _ ls (by omega) (by omega) jF j5 (LaidB.row jL (by omega) (by omega)) hPS_34 hP hS (lv_sub hl [1, 2, 0] rfl)
              · have w4 := trouble_in (t := T) (b := B) hW hW ⟨by omega, by omega⟩ ⟨by omega, by omega⟩
                have w5 := gain_in (b := B) hW ⟨by omega, by omega⟩
                refine z_aload_n C dX6_lays_44 hl 0 rfl ?_
                refine m_geta C hK hP 33 (by decide) q1782 rfl (by decide) dX6_lays_45 ?_
                refine z_bipush C dX6_lays_48 rfl ?_
                refine z_iload_n C dX6_lays_50 hl 2 rfl ?_
                refine z_imul C dX6_lays_51 ?_
                refine z_iload_n C dX6_lays_52 hl 3 rfl ?_
                refine z_iadd C dX6_lays_53 ?_
                refine z_aload_n C dX6_lays_54 hl 0 rfl ?_
                refine z_iload_n C dX6_lays_55 hl 2 rfl ?_
                refine z_iconst C dX6_lays_56 ?_
                refine z_iload_n C dX6_lays_57 hl 3 rfl ?_
                refine m_pi C vX6_333 (mcX6_troubleOf l g h ad _ _ hPS_34 _ _ _ (by omega) hW hW ⟨by omega, by omega⟩ ⟨by omega, by omega⟩) hS hl ⟨Nat.le_of_ble_eq_true rfl, Nat.le_of_ble_eq_true rfl⟩ ⟨rfl, rfl⟩ hK hP rfl rfl (Nat.le_of_ble_eq_true rfl) dX6_lays_58 ⟨Nat.zero_le _, Nat.zero_le _⟩ (fun locs hS => ?_)
                refine m_iast C hK hP hS 33 (by decide) rfl (by have h9 : mlen 33 = 66 := rfl; omega) (by omega) dX6_lays_61 (fun S_61 eS_61 H locs hP hS => ?_)
                have hS_61 := per_s rfl hPS_34 eS_61
                refine z_aload_n C dX6_lays_62 hl 0 rfl ?_
                refine m_geta C hK hP 34 (by decide) q1783 rfl (by decide) dX6_lays_63 ?_
                refine z_bipush C dX6_lays_66 rfl ?_
                refine z_iload_n C dX6_lays_68 hl 2 rfl ?_
                refine z_imul C dX6_lays_69 ?_
                refine z_iload_n C dX6_lays_70 hl 3 rfl ?_
                refine z_iadd C dX6_lays_71 ?_
                refine z_aload_n C dX6_lays_72 hl 0 rfl ?_
                refine z_iconst C dX6_lays_73 ?_
                refine z_iload_n C dX6_lays_74 hl 3 rfl ?_
                refine m_pi C vX6_337 (mcX6_gainOf l g h ad _ _ hS_61 _ _ (by omega) hW ⟨by omega, by omega⟩) hS hl ⟨Nat.le_of_ble_eq_true rfl, Nat.le_of_ble_eq_true rfl⟩ ⟨rfl, rfl⟩ hK hP rfl rfl (Nat.le_of_ble_eq_true rfl) dX6_lays_75 ⟨Nat.zero_le _, Nat.zero_le _⟩ (fun locs hS => ?_)
                refine z_aload_n C dX6_lays_78 hl 0 rfl ?_
                refine m_geta C hK hP 33 (by decide) q1782 rfl (by decide) dX6_lays_79 ?_
                refine z_bipush C dX6_lays_82 rfl ?_
                refine z_iload_n C dX6_lays_84 hl 2 rfl ?_
                refine z_imul C dX6_lays_85 ?_
                refine z_iload_n C dX6_lays_86 hl 3 rfl ?_
                refine z_iadd C dX6_lays_87 ?_
                refine m_iald C hK hP 33 (by decide) rfl (by have h9 : mlen 33 = 66 := rfl; omega) rfl dX6_lays_88 (fun r_88 => ?_)
                refine z_isub C dX6_lays_89 ?_
                refine m_iast C hK hP hS 34 (by decide) rfl (by have h9 : mlen 34 = 66 := rfl; omega) (by rw [show S_61 33 (11 * (T : Int) + (B : Int)) = trouble P T 0 B by rw [eS_61, zup_s]]; omega) dX6_lays_90 (fun S_90 eS_90 H locs hP hS => ?_)
                have hS_90 := per_s rfl hS_61 eS_90
                refine z_iinc C dX6_lays_91 hl (by decide) 3 rfl rfl (fun ls hl => ?_)
                have hl : lv_has ls 4 [(3, _), (0, _), (1, _), (2, _)] := hl
                refine z_goto C 34 dX6_lays_94 (by decide) ?_
                exact hL_34 (B + 1) _ _ _ ls (by omega) (by omega) (Fr.up (Fr.up jF eS_61 (by decide)) eS_90 (by decide)) (by rw [eS_90, zup_k _ _ _ (by decide), eS_61, zup_k _ _ _ (by decide)]; exact j5) (LaidB.step jL (by omega) (by omega) (by omega) eS_61 eS_90) hS_90 hP hS (lv_sub hl [1, 2, 3, 0] rfl)
          exact hL_34 _ 0 _ _ _ ls (Nat.lt_succ_self _) (by omega) iF i5 iL hPS_22 hP hS (lv_sub hl [1, 2, 3, 0] rfl)
    exact hL_22 _ 0 _ _ _ ls (Nat.lt_succ_self _) (by omega) (Fr.up Fr.rf eS_17 (by decide)) (by rw [eS_17, zup_s]; unfold bt1; first | rw [if_pos (by assumption)] | rw [if_neg (by omega)]) (fun t b h1 h2 h3 => by omega) hS_17 hP hS (lv_sub hl [1, 2, 0] rfl)
theorem mcX6_takesOf (l : Launch) (g : mG) (h : Nat) (ad : Nat → Nat) (P S : zS) (hPS : per S = P) (sm t gn : Int) (hW : WfR P 0) (hL : Laid1 P sm t S) (ht : 0 ≤ t ∧ t < P 25 0) (hg : 0 ≤ gn ∧ gn ≤ 2047) : mPI l g h ad yX6_takesOf cX6_takesOf 7 .int (k2_rm 0 0) [.int (iZ t), .int (iZ gn)] S (takes P sm t gn) := by
  intro H0 hP
  refine z_start (own := RX6) (by decide) rfl (Nat.le_of_ble_eq_true rfl) ?_
  intro prg env s mid blw mth cod ls Q C hQ hret hlk hnm hK hH hl
  subst hH
  have hS : va_S nA s.heap s.heap [] := va_S.rf
  have hl : lv_has ls 7 [(0, .ref h), (1, .int (iZ t)), (2, .int (iZ gn))] := hl
  have w1 := hW.bikes
  have w3 := hW.thieves
  have w4 := hW.thief0 ht
  have w5 := bt1_in sm
  have w6 := hL.1
  refine z_aload_n C dX6_takesOf_0 hl 0 rfl ?_
  refine m_geta C hK hP 26 (by decide) q1775 rfl (by decide) dX6_takesOf_1 ?_
  refine z_iconst C dX6_takesOf_4 ?_
  refine z_iload_n C dX6_takesOf_5 hl 1 rfl ?_
  refine z_imul C dX6_takesOf_6 ?_
  refine z_iconst C dX6_takesOf_7 ?_
  refine z_iadd C dX6_takesOf_8 ?_
  refine m_iald C hK hP 26 (by decide) rfl (by have h9 : mlen 26 = 150 := rfl; omega) (pe hPS rfl) dX6_takesOf_9 (fun r_9 => ?_)
  refine z_istore_n C dX6_takesOf_10 rfl hl (by decide) rfl (fun ls hl => ?_)
  have hl : lv_has ls 7 [(3, _), (0, _), (1, _), (2, _)] := hl
  refine z_iconst C dX6_takesOf_11 ?_
  refine z_istore C dX6_takesOf_12 hl (by decide) rfl (fun ls hl => ?_)
  have hl : lv_has ls 7 [(4, _), (3, _), (0, _), (1, _), (2, _)] := hl
  refine z_iconst C dX6_takesOf_14 ?_
  refine z_istore C dX6_takesOf_15 hl (by decide) rfl (fun ls hl => ?_)
  have hl : lv_has ls 7 [(5, _), (4, _), (3, _), (0, _), (1, _), (2, _)] := hl
  have hL_17 : ∀ (fuel : Nat) (k : Nat) (best : Int) (locs : List Loc) (ls : Array Slot), (S 35 0).toNat - k < fuel → ((k : Int) ≤ S 35 0) → (best = takesF (P 26 (5 * t + 3)) (P 26 (5 * t + 4)) (fun b => S 34 (11 * t + b)) (fun b => S 33 (11 * t + b)) gn k) → (-1 ≤ best ∧ best < k) → va_S nA s.heap s.heap locs → lv_has ls 7 [(0, .ref h), (1, .int (iZ t)), (2, .int (iZ gn)), (3, .int (iZ (P 26 (5 * t + 3)))), (4, .int (iZ best)), (5, .int (iZ (k : Int)))] → W prg l env (k2_rm 0 0) s mid ([.ref h, .int (iZ t), .int (iZ gn)] : List Value).toArray blw mth cod s.heap locs 0 0 Q (F0 mid 17 ls []) := by
    intro fuel
    induction fuel with
    | zero => intro k best  locs ls hm; exact absurd hm (Nat.not_lt_zero _)
    | succ fuel hL_17 =>
      intro k best  locs ls hm ik iB iR  hS hl
      refine z_iload C dX6_takesOf_17 hl 5 rfl ?_
      refine z_aload_n C dX6_takesOf_19 hl 0 rfl ?_
      refine m_geti C hK hP 35 (by decide) q1784 rfl (Or.inl rfl) rfl dX6_takesOf_20 (fun r_20 => ?_)
      refine z_icmp_ge C 148 dX6_takesOf_23 (by decide) (by omega) (by omega) (fun c_23 => ?_) (fun c_23 => ?_)
      · refine z_iload C dX6_takesOf_148 hl 4 rfl ?_
        exact z_pret_i C hQ hret hlk hS (by rw [← takes_laid1 hL (by omega), iB]; congr 1; omega) dX6_takesOf_150
      · refine z_bipush C dX6_takesOf_26 rfl ?_
        refine z_iload_n C dX6_takesOf_28 hl 1 rfl ?_
        refine z_imul C dX6_takesOf_29 ?_
        refine z_iload C dX6_takesOf_30 hl 5 rfl ?_
        refine z_iadd C dX6_takesOf_32 ?_
        refine z_istore C dX6_takesOf_33 hl (by decide) rfl (fun ls hl => ?_)
        have hl : lv_has ls 7 [(6, _), (0, _), (1, _), (2, _), (3, _), (4, _), (5, _)] := hl
        refine z_iload_n C dX6_takesOf_35 hl 3 rfl ?_
        refine z_iload C dX6_takesOf_36 hl 6 rfl ?_
        refine z_ishr C dX6_takesOf_38 (iZ_shr (by omega) (by omega)) ?_
        refine z_iconst C dX6_takesOf_39 ?_
        refine z_iand C dX6_takesOf_40 (iZ_and1 _) ?_
        refine z_iconst C dX6_takesOf_41 ?_
        refine z_icmp_eq C 142 dX6_takesOf_42 (by decide) (by omega) (by omega) (fun c_42 => ?_) (fun c_42 => ?_)
        · refine z_iinc C dX6_takesOf_142 hl (by decide) 6 rfl rfl (fun ls hl => ?_)
          have hl : lv_has ls 7 [(5, _), (6, _), (0, _), (1, _), (2, _), (3, _), (4, _)] := hl
          refine z_goto C 17 dX6_takesOf_145 (by decide) ?_
          exact hL_17 (k + 1) _ _ ls (by omega) (by omega) (by rw [takesF_s, ← iB]; rw [if_pos (Or.inl c_42)]) (by omega)  hS (lv_sub hl [2, 3, 4, 5, 6, 0] rfl)
        · refine z_aload_n C dX6_takesOf_45 hl 1 rfl ?_
          refine m_geta C hK hP 34 (by decide) q1783 rfl (by decide) dX6_takesOf_46 ?_
          refine z_iload C dX6_takesOf_49 hl 0 rfl ?_
          refine m_iald C hK hP 34 (by decide) rfl (by have h9 : mlen 34 = 66 := rfl; omega) rfl dX6_takesOf_51 (fun r_51 => ?_)
          refine z_if_gt C 58 dX6_takesOf_52 (by decide) (by omega) (fun c_52 => ?_) (fun c_52 => ?_)
          · refine z_iload_n C dX6_takesOf_58 hl 4 rfl ?_
            refine z_iconst C dX6_takesOf_59 ?_
            refine z_icmp_ne C 81 dX6_takesOf_60 (by decide) (by omega) (by omega) (fun c_60 => ?_) (fun c_60 => ?_)
            · refine z_iload C dX6_takesOf_81 hl 5 rfl ?_
              refine z_iconst C dX6_takesOf_83 ?_
              refine z_icmp_eq C 138 dX6_takesOf_84 (by decide) (by omega) (by omega) (fun c_84 => ?_) (fun c_84 => ?_)
              · refine z_iload C dX6_takesOf_138 hl 6 rfl ?_
                refine z_istore C dX6_takesOf_140 hl (by decide) rfl (fun ls hl => ?_)
                have hl : lv_has ls 7 [(4, _), (6, _), (0, _), (1, _), (2, _), (3, _), (5, _)] := hl
                refine z_iinc C dX6_takesOf_142 hl (by decide) 6 rfl rfl (fun ls hl => ?_)
                have hl : lv_has ls 7 [(5, _), (4, _), (6, _), (0, _), (1, _), (2, _), (3, _)] := hl
                refine z_goto C 17 dX6_takesOf_145 (by decide) ?_
                exact hL_17 (k + 1) _ _ ls (by omega) (by omega) (by rw [takesF_s, ← iB]; rw [if_neg (by omega), if_neg c_60, if_pos (Or.inl c_84)]) (by omega)  hS (lv_sub hl [3, 4, 5, 6, 1, 0] rfl)
              · refine z_iload_n C dX6_takesOf_87 hl 4 rfl ?_
                refine z_if_ne C 116 dX6_takesOf_88 (by decide) (by omega) (fun c_88 => ?_) (fun c_88 => ?_)
                · refine z_aload_n C dX6_takesOf_116 hl 1 rfl ?_
                  refine m_geta C hK hP 33 (by decide) q1782 rfl (by decide) dX6_takesOf_117 ?_
                  refine z_iload C dX6_takesOf_120 hl 0 rfl ?_
                  refine m_iald C hK hP 33 (by decide) rfl (by have h9 : mlen 33 = 66 := rfl; omega) rfl dX6_takesOf_122 (fun r_122 => ?_)
                  refine z_aload_n C dX6_takesOf_123 hl 1 rfl ?_
                  refine m_geta C hK hP 33 (by decide) q1782 rfl (by decide) dX6_takesOf_124 ?_
                  refine z_bipush C dX6_takesOf_127 rfl ?_
                  refine z_iload_n C dX6_takesOf_129 hl 2 rfl ?_
                  refine z_imul C dX6_takesOf_130 ?_
                  refine z_iload C dX6_takesOf_131 hl 5 rfl ?_
                  refine z_iadd C dX6_takesOf_133 ?_
                  refine m_iald C hK hP 33 (by decide) rfl (by have h9 : mlen 33 = 66 := rfl; omega) rfl dX6_takesOf_134 (fun r_134 => ?_)
                  refine z_icmp_ge C 142 dX6_takesOf_135 (by decide) (by omega) (by omega) (fun c_135 => ?_) (fun c_135 => ?_)
                  · refine z_iinc C dX6_takesOf_142 hl (by decide) 6 rfl rfl (fun ls hl => ?_)
                    have hl : lv_has ls 7 [(5, _), (6, _), (0, _), (1, _), (2, _), (3, _), (4, _)] := hl
                    refine z_goto C 17 dX6_takesOf_145 (by decide) ?_
                    exact hL_17 (k + 1) _ _ ls (by omega) (by omega) (by rw [takesF_s, ← iB]; rw [if_neg (by omega), if_neg c_60, if_neg (by omega)]) (by omega)  hS (lv_sub hl [2, 3, 4, 5, 6, 0] rfl)
                  · refine z_iload C dX6_takesOf_138 hl 6 rfl ?_
                    refine z_istore C dX6_takesOf_140 hl (by decide) rfl (fun ls hl => ?_)
                    have hl : lv_has ls 7 [(4, _), (6, _), (0, _), (1, _), (2, _), (3, _), (5, _)] := hl
                    refine z_iinc C dX6_takesOf_142 hl (by decide) 6 rfl rfl (fun ls hl => ?_)
                    have hl : lv_has ls 7 [(5, _), (4, _), (6, _), (0, _), (1, _), (2, _), (3, _)] := hl
                    refine z_goto C 17 dX6_takesOf_145 (by decide) ?_
                    exact hL_17 (k + 1) _ _ ls (by omega) (by omega) (by rw [takesF_s, ← iB]; rw [if_neg (by omega), if_neg c_60, if_pos (Or.inr (Or.inr ⟨c_88, c_135⟩))]) (by omega)  hS (lv_sub hl [3, 4, 5, 6, 1, 0] rfl)
                · refine z_aload_n C dX6_takesOf_91 hl 1 rfl ?_
                  refine m_geta C hK hP 34 (by decide) q1783 rfl (by decide) dX6_takesOf_92 ?_
                  refine z_iload C dX6_takesOf_95 hl 0 rfl ?_
                  refine m_iald C hK hP 34 (by decide) rfl (by have h9 : mlen 34 = 66 := rfl; omega) rfl dX6_takesOf_97 (fun r_97 => ?_)
                  refine z_aload_n C dX6_takesOf_98 hl 1 rfl ?_
                  refine m_geta C hK hP 34 (by decide) q1783 rfl (by decide) dX6_takesOf_99 ?_
                  refine z_bipush C dX6_takesOf_102 rfl ?_
                  refine z_iload_n C dX6_takesOf_104 hl 2 rfl ?_
                  refine z_imul C dX6_takesOf_105 ?_
                  refine z_iload C dX6_takesOf_106 hl 5 rfl ?_
                  refine z_iadd C dX6_takesOf_108 ?_
                  refine m_iald C hK hP 34 (by decide) rfl (by have h9 : mlen 34 = 66 := rfl; omega) rfl dX6_takesOf_109 (fun r_109 => ?_)
                  refine z_icmp_le C 142 dX6_takesOf_110 (by decide) (by omega) (by omega) (fun c_110 => ?_) (fun c_110 => ?_)
                  · refine z_iinc C dX6_takesOf_142 hl (by decide) 6 rfl rfl (fun ls hl => ?_)
                    have hl : lv_has ls 7 [(5, _), (6, _), (0, _), (1, _), (2, _), (3, _), (4, _)] := hl
                    refine z_goto C 17 dX6_takesOf_145 (by decide) ?_
                    exact hL_17 (k + 1) _ _ ls (by omega) (by omega) (by rw [takesF_s, ← iB]; rw [if_neg (by omega), if_neg c_60, if_neg (by omega)]) (by omega)  hS (lv_sub hl [2, 3, 4, 5, 6, 0] rfl)
                  · refine z_goto C 138 dX6_takesOf_113 (by decide) ?_
                    refine z_iload C dX6_takesOf_138 hl 6 rfl ?_
                    refine z_istore C dX6_takesOf_140 hl (by decide) rfl (fun ls hl => ?_)
                    have hl : lv_has ls 7 [(4, _), (6, _), (0, _), (1, _), (2, _), (3, _), (5, _)] := hl
                    refine z_iinc C dX6_takesOf_142 hl (by decide) 6 rfl rfl (fun ls hl => ?_)
                    have hl : lv_has ls 7 [(5, _), (4, _), (6, _), (0, _), (1, _), (2, _), (3, _)] := hl
                    refine z_goto C 17 dX6_takesOf_145 (by decide) ?_
                    exact hL_17 (k + 1) _ _ ls (by omega) (by omega) (by rw [takesF_s, ← iB]; rw [if_neg (by omega), if_neg c_60, if_pos (Or.inr (Or.inl ⟨c_88, c_110⟩))]) (by omega)  hS (lv_sub hl [3, 4, 5, 6, 1, 0] rfl)
            · refine z_iload C dX6_takesOf_63 hl 6 rfl ?_
              refine z_aload_n C dX6_takesOf_65 hl 1 rfl ?_
              refine m_geta C hK hP 26 (by decide) q1775 rfl (by decide) dX6_takesOf_66 ?_
              refine z_iconst C dX6_takesOf_69 ?_
              refine z_iload_n C dX6_takesOf_70 hl 2 rfl ?_
              refine z_imul C dX6_takesOf_71 ?_
              refine z_iconst C dX6_takesOf_72 ?_
              refine z_iadd C dX6_takesOf_73 ?_
              refine m_iald C hK hP 26 (by decide) rfl (by have h9 : mlen 26 = 150 := rfl; omega) (pe hPS rfl) dX6_takesOf_74 (fun r_74 => ?_)
              refine z_icmp_ne C 142 dX6_takesOf_75 (by decide) (by omega) (by omega) (fun c_75 => ?_) (fun c_75 => ?_)
              · refine z_iinc C dX6_takesOf_142 hl (by decide) 6 rfl rfl (fun ls hl => ?_)
                have hl : lv_has ls 7 [(5, _), (6, _), (0, _), (1, _), (2, _), (3, _), (4, _)] := hl
                refine z_goto C 17 dX6_takesOf_145 (by decide) ?_
                exact hL_17 (k + 1) _ _ ls (by omega) (by omega) (by rw [takesF_s, ← iB]; rw [if_neg (by omega), if_pos c_60, if_neg c_75]) (by omega)  hS (lv_sub hl [2, 3, 4, 5, 6, 0] rfl)
              · refine z_iload C dX6_takesOf_78 hl 6 rfl ?_
                exact z_pret_i C hQ hret hlk hS (by rw [← takes_laid1 hL (by omega)]; exact (takesF_just (by assumption) (by assumption) (by assumption) (by assumption) (by omega)).symm) dX6_takesOf_80
          · refine z_goto C 142 dX6_takesOf_55 (by decide) ?_
            refine z_iinc C dX6_takesOf_142 hl (by decide) 6 rfl rfl (fun ls hl => ?_)
            have hl : lv_has ls 7 [(5, _), (6, _), (0, _), (1, _), (2, _), (3, _), (4, _)] := hl
            refine z_goto C 17 dX6_takesOf_145 (by decide) ?_
            exact hL_17 (k + 1) _ _ ls (by omega) (by omega) (by rw [takesF_s, ← iB]; rw [if_pos (Or.inr c_52)]) (by omega)  hS (lv_sub hl [2, 3, 4, 5, 6, 0] rfl)
  exact hL_17 _ 0 (-1) _ ls (Nat.lt_succ_self _) (by omega) rfl (by omega)  hS (lv_sub hl [3, 4, 5, 2, 1, 0] rfl)
theorem mcX6_takes_2 (l : Launch) (g : mG) (h : Nat) (ad : Nat → Nat) (P S : zS) (hPS : per S = P) (t gn : Int) (hW : WfR P 0) (ht : I32 t) (hg : I32 gn) : mMI l g h ad yX6_takes_2 cX6_takes_2 3 .int (k2_rm 4 95) [.int (iZ t), .int (iZ gn)] S (fun z1 S1 => z1 = aTakes P t gn ∧ per S1 = P) := by
  refine z_start (own := RX6) (by decide) rfl (Nat.le_of_ble_eq_true rfl) ?_
  intro prg env s mid blw mth cod ls Q C hQ hret hlk hnm hK hH hl
  have hP : MP g h ad S s.heap := hH
  have hS : va_S (MA h ad) s.heap s.heap [] := va_S.rf
  have hl : lv_has ls 3 [(0, .ref h), (1, .int (iZ t)), (2, .int (iZ gn))] := hl
  have w1 := hW.bikes
  have w3 := hW.thieves
  have w4 := zpow_in (k := P 23 0) (M := 10) (by omega)
  refine z_aload_n C dX6_takes_2_0 hl 0 rfl ?_
  refine z_iconst C dX6_takes_2_1 ?_
  refine m_puti C hK hP hS 0 (by decide) q1749 rfl rfl (by omega) dX6_takes_2_2 (fun S_2 eS_2 H locs hP hS => ?_)
  have hS_2 := per_s rfl hPS eS_2
  refine z_aload_n C dX6_takes_2_5 hl 0 rfl ?_
  refine z_iload_n C dX6_takes_2_6 hl 1 rfl ?_
  refine m_pi C vX6_330 (mcX6_isThief l g h ad _ _ hS_2 _ (by assumption) (by omega)) hS hl ⟨Nat.le_of_ble_eq_true rfl, Nat.le_of_ble_eq_true rfl⟩ ⟨rfl, rfl⟩ hK hP rfl rfl (Nat.le_of_ble_eq_true rfl) dX6_takes_2_7 ⟨Nat.zero_le _, Nat.zero_le _⟩ (fun locs hS => ?_)
  refine z_if_eq C 33 dX6_takes_2_10 (by decide) z01_in (fun c_10 => ?_) (fun c_10 => ?_)
  · replace c_10 := z01_f c_10
    refine z_bipush C dX6_takes_2_33 rfl ?_
    exact m_mret_i C hQ hret hlk hS hP ⟨by unfold aTakes; split <;> first | rfl | omega, hS_2⟩ dX6_takes_2_35
  · replace c_10 := z01_t c_10
    refine z_iload_n C dX6_takes_2_13 hl 2 rfl ?_
    refine z_i2l C dX6_takes_2_14 (by omega) ?_
    refine z_lconst (v := 0) C dX6_takes_2_15 rfl ?_
    refine z_iconst C dX6_takes_2_16 ?_
    refine z_aload_n C dX6_takes_2_17 hl 0 rfl ?_
    refine m_geta C hK hP 23 (by decide) q1772 rfl (by decide) dX6_takes_2_18 ?_
    refine z_iconst C dX6_takes_2_21 ?_
    refine m_iald C hK hP 23 (by decide) rfl (by have h9 : mlen 23 = 5 := rfl; omega) (pe hS_2 rfl) dX6_takes_2_22 (fun r_22 => ?_)
    refine z_ishl C dX6_takes_2_23 (zshl1 (by omega)) ?_
    refine z_iconst C dX6_takes_2_24 ?_
    refine z_isub C dX6_takes_2_25 ?_
    refine z_i2l C dX6_takes_2_26 (by omega) ?_
    refine s_pi C vX6_119 (mcX6_in l _ _ _ (by omega) (by omega) (by omega)) hS hl ⟨Nat.le_of_ble_eq_true rfl, Nat.le_of_ble_eq_true rfl⟩ ⟨rfl, rfl⟩ rfl rfl (Nat.le_of_ble_eq_true rfl) dX6_takes_2_27 ⟨Nat.zero_le _, Nat.zero_le _⟩ (fun locs hS => ?_)
    refine z_if_ne C 36 dX6_takes_2_30 (by decide) z01_in (fun c_30 => ?_) (fun c_30 => ?_)
    · replace c_30 := z01_t c_30
      refine z_aload_n C dX6_takes_2_36 hl 0 rfl ?_
      refine z_iconst C dX6_takes_2_37 ?_
      refine m_mv C vX6_343 (mcX6_lays l g h ad _ _ hS_2 _ (by assumption) (by omega)) hS hl ⟨Nat.le_of_ble_eq_true rfl, Nat.le_of_ble_eq_true rfl⟩ ⟨rfl, rfl⟩ hK hP (fun _ h9 => h9) rfl rfl (Nat.le_of_ble_eq_true rfl) dX6_takes_2_38 ⟨Nat.zero_le _, Nat.zero_le _⟩ (fun S_38 H locs pS_38 hP hS => ?_)
      have hS_38 : per S_38 = P := (pS_38.1.pr rfl hS_2)
      refine z_aload_n C dX6_takes_2_41 hl 0 rfl ?_
      refine z_iload_n C dX6_takes_2_42 hl 1 rfl ?_
      refine z_iload_n C dX6_takes_2_43 hl 2 rfl ?_
      refine m_pi C vX6_346 (mcX6_takesOf l g h ad _ _ hS_38 (-1) _ _ (by assumption) (pS_38.2.row (by omega)) (by omega) (by omega)) hS hl ⟨Nat.le_of_ble_eq_true rfl, Nat.le_of_ble_eq_true rfl⟩ ⟨rfl, rfl⟩ hK hP rfl rfl (Nat.le_of_ble_eq_true rfl) dX6_takes_2_44 ⟨Nat.zero_le _, Nat.zero_le _⟩ (fun locs hS => ?_)
      exact m_mret_i C hQ hret hlk hS hP ⟨(if_pos ⟨by assumption, by assumption⟩).symm, hS_38⟩ dX6_takes_2_47
    · replace c_30 := z01_f c_30
      refine z_bipush C dX6_takes_2_33 rfl ?_
      exact m_mret_i C hQ hret hlk hS hP ⟨by unfold aTakes; split <;> first | rfl | omega, hS_2⟩ dX6_takes_2_35
theorem mcX6_wantsOf (l : Launch) (g : mG) (h : Nat) (ad : Nat → Nat) (P S : zS) (hPS : per S = P) (sm t : Int) (hW : WfR P 0) (hL : Laid P sm S) (ht : 0 ≤ t ∧ t < P 25 0) : mPI l g h ad yX6_wantsOf cX6_wantsOf 4 .int (k2_rm 0 0) [.int (iZ t)] S (wants P t) := by
  intro H0 hP
  refine z_start (own := RX6) (by decide) rfl (Nat.le_of_ble_eq_true rfl) ?_
  intro prg env s mid blw mth cod ls Q C hQ hret hlk hnm hK hH hl
  subst hH
  have hS : va_S nA s.heap s.heap [] := va_S.rf
  have hl : lv_has ls 4 [(0, .ref h), (1, .int (iZ t))] := hl
  have w1 := hW.bikes
  have w3 := hW.thieves
  have w5 := bt1_in sm
  refine z_iconst C dX6_wantsOf_0 ?_
  refine z_istore_n C dX6_wantsOf_1 rfl hl (by decide) rfl (fun ls hl => ?_)
  have hl : lv_has ls 4 [(2, _), (0, _), (1, _)] := hl
  refine z_iconst C dX6_wantsOf_2 ?_
  refine z_istore_n C dX6_wantsOf_3 rfl hl (by decide) rfl (fun ls hl => ?_)
  have hl : lv_has ls 4 [(3, _), (2, _), (0, _), (1, _)] := hl
  have hL_4 : ∀ (fuel : Nat) (k : Nat) (n : Int) (locs : List Loc) (ls : Array Slot), (P 23 0).toNat - k < fuel → ((k : Int) ≤ P 23 0) → (n = zsm (fun b => if 0 < gain P 0 b - trouble P t 0 b then 1 else 0) k) → va_S nA s.heap s.heap locs → lv_has ls 4 [(0, .ref h), (1, .int (iZ t)), (2, .int (iZ n)), (3, .int (iZ (k : Int)))] → W prg l env (k2_rm 0 0) s mid ([.ref h, .int (iZ t)] : List Value).toArray blw mth cod s.heap locs 0 0 Q (F0 mid 4 ls []) := by
    intro fuel
    induction fuel with
    | zero => intro k n  locs ls hm; exact absurd hm (Nat.not_lt_zero _)
    | succ fuel hL_4 =>
      intro k n  locs ls hm ik iN  hS hl
      refine z_iload_n C dX6_wantsOf_4 hl 3 rfl ?_
      refine z_aload_n C dX6_wantsOf_5 hl 0 rfl ?_
      refine m_geta C hK hP 23 (by decide) q1772 rfl (by decide) dX6_wantsOf_6 ?_
      refine z_iconst C dX6_wantsOf_9 ?_
      refine m_iald C hK hP 23 (by decide) rfl (by have h9 : mlen 23 = 5 := rfl; omega) (pe hPS rfl) dX6_wantsOf_10 (fun r_10 => ?_)
      refine z_icmp_ge C 42 dX6_wantsOf_11 (by decide) (by omega) (by omega) (fun c_11 => ?_) (fun c_11 => ?_)
      · refine z_iload_n C dX6_wantsOf_42 hl 2 rfl ?_
        exact z_pret_i C hQ hret hlk hS (by rw [wants, iN]; congr 1; omega) dX6_wantsOf_43
      · have w6 := (hL.2 t k ht.1 ht.2 (by omega) (by omega)).2
        unfold netOf at w6
        rw [if_pos (by omega)] at w6
        refine z_iload_n C dX6_wantsOf_14 hl 2 rfl ?_
        refine z_aload_n C dX6_wantsOf_15 hl 0 rfl ?_
        refine m_geta C hK hP 34 (by decide) q1783 rfl (by decide) dX6_wantsOf_16 ?_
        refine z_bipush C dX6_wantsOf_19 rfl ?_
        refine z_iload_n C dX6_wantsOf_21 hl 1 rfl ?_
        refine z_imul C dX6_wantsOf_22 ?_
        refine z_iload_n C dX6_wantsOf_23 hl 3 rfl ?_
        refine z_iadd C dX6_wantsOf_24 ?_
        refine m_iald C hK hP 34 (by decide) rfl (by have h9 : mlen 34 = 66 := rfl; omega) rfl dX6_wantsOf_25 (fun r_25 => ?_)
        refine z_if_le C 33 dX6_wantsOf_26 (by decide) (by omega) (fun c_26 => ?_) (fun c_26 => ?_)
        · refine z_iconst C dX6_wantsOf_33 ?_
          refine z_iadd C dX6_wantsOf_34 ?_
          refine z_istore_n C dX6_wantsOf_35 rfl hl (by decide) rfl (fun ls hl => ?_)
          have hl : lv_has ls 4 [(2, _), (0, _), (1, _), (3, _)] := hl
          refine z_iinc C dX6_wantsOf_36 hl (by decide) 3 rfl rfl (fun ls hl => ?_)
          have hl : lv_has ls 4 [(3, _), (2, _), (0, _), (1, _)] := hl
          refine z_goto C 4 dX6_wantsOf_39 (by decide) ?_
          exact hL_4 (k + 1) _ _ ls (by omega) (by omega) (by rw [zsm_s, ← iN, if_neg (by omega)])  hS (lv_sub hl [2, 3, 1, 0] rfl)
        · refine z_iconst C dX6_wantsOf_29 ?_
          refine z_goto C 34 dX6_wantsOf_30 (by decide) ?_
          refine z_iadd C dX6_wantsOf_34 ?_
          refine z_istore_n C dX6_wantsOf_35 rfl hl (by decide) rfl (fun ls hl => ?_)
          have hl : lv_has ls 4 [(2, _), (0, _), (1, _), (3, _)] := hl
          refine z_iinc C dX6_wantsOf_36 hl (by decide) 3 rfl rfl (fun ls hl => ?_)
          have hl : lv_has ls 4 [(3, _), (2, _), (0, _), (1, _)] := hl
          refine z_goto C 4 dX6_wantsOf_39 (by decide) ?_
          exact hL_4 (k + 1) _ _ ls (by omega) (by omega) (by rw [zsm_s, ← iN, if_pos (by omega)])  hS (lv_sub hl [2, 3, 1, 0] rfl)
  exact hL_4 _ 0 _ _ ls (Nat.lt_succ_self _) (by omega) rfl  hS (lv_sub hl [2, 3, 1, 0] rfl)
theorem mcX6_wants (l : Launch) (g : mG) (h : Nat) (ad : Nat → Nat) (P S : zS) (hPS : per S = P) (t : Int) (hW : WfR P 0) (ht : I32 t) : mMI l g h ad yX6_wants cX6_wants 2 .int (k2_rm 4 95) [.int (iZ t)] S (fun z1 S1 => z1 = aWants P t ∧ per S1 = P) := by
  refine z_start (own := RX6) (by decide) rfl (Nat.le_of_ble_eq_true rfl) ?_
  intro prg env s mid blw mth cod ls Q C hQ hret hlk hnm hK hH hl
  have hP : MP g h ad S s.heap := hH
  have hS : va_S (MA h ad) s.heap s.heap [] := va_S.rf
  have hl : lv_has ls 2 [(0, .ref h), (1, .int (iZ t))] := hl
  have w1 := hW.bikes
  have w3 := hW.thieves
  refine z_aload_n C dX6_wants_0 hl 0 rfl ?_
  refine z_iconst C dX6_wants_1 ?_
  refine m_puti C hK hP hS 0 (by decide) q1749 rfl rfl (by omega) dX6_wants_2 (fun S_2 eS_2 H locs hP hS => ?_)
  have hS_2 := per_s rfl hPS eS_2
  refine z_aload_n C dX6_wants_5 hl 0 rfl ?_
  refine z_iload_n C dX6_wants_6 hl 1 rfl ?_
  refine m_pi C vX6_330 (mcX6_isThief l g h ad _ _ hS_2 _ (by assumption) (by omega)) hS hl ⟨Nat.le_of_ble_eq_true rfl, Nat.le_of_ble_eq_true rfl⟩ ⟨rfl, rfl⟩ hK hP rfl rfl (Nat.le_of_ble_eq_true rfl) dX6_wants_7 ⟨Nat.zero_le _, Nat.zero_le _⟩ (fun locs hS => ?_)
  refine z_if_ne C 16 dX6_wants_10 (by decide) z01_in (fun c_10 => ?_) (fun c_10 => ?_)
  · replace c_10 := z01_t c_10
    refine z_aload_n C dX6_wants_16 hl 0 rfl ?_
    refine z_iconst C dX6_wants_17 ?_
    refine m_mv C vX6_343 (mcX6_lays l g h ad _ _ hS_2 _ (by assumption) (by omega)) hS hl ⟨Nat.le_of_ble_eq_true rfl, Nat.le_of_ble_eq_true rfl⟩ ⟨rfl, rfl⟩ hK hP (fun _ h9 => h9) rfl rfl (Nat.le_of_ble_eq_true rfl) dX6_wants_18 ⟨Nat.zero_le _, Nat.zero_le _⟩ (fun S_18 H locs pS_18 hP hS => ?_)
    have hS_18 : per S_18 = P := (pS_18.1.pr rfl hS_2)
    refine z_aload_n C dX6_wants_21 hl 0 rfl ?_
    refine z_iload_n C dX6_wants_22 hl 1 rfl ?_
    refine m_pi C vX6_349 (mcX6_wantsOf l g h ad _ _ hS_18 (-1) _ (by assumption) pS_18.2 (by omega)) hS hl ⟨Nat.le_of_ble_eq_true rfl, Nat.le_of_ble_eq_true rfl⟩ ⟨rfl, rfl⟩ hK hP rfl rfl (Nat.le_of_ble_eq_true rfl) dX6_wants_23 ⟨Nat.zero_le _, Nat.zero_le _⟩ (fun locs hS => ?_)
    exact m_mret_i C hQ hret hlk hS hP ⟨(if_pos (by assumption)).symm, hS_18⟩ dX6_wants_26
  · replace c_10 := z01_f c_10
    refine z_bipush C dX6_wants_13 rfl ?_
    exact m_mret_i C hQ hret hlk hS hP ⟨(if_neg (by assumption)).symm, hS_2⟩ dX6_wants_15
