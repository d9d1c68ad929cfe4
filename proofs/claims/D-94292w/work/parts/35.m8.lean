theorem vX6_127 : zT RX6 127 yX6_cut cX6_cut 3 (some .long) 2 := ⟨lw_S q1919 q1920 q149 q1921, by decide +kernel⟩
theorem vX6_295 : zT RX6 295 yX6_copyRow cX6_copyRow 5 none 4 := ⟨lw_S q2065 q2066 q149 q2067, by decide +kernel⟩
theorem vX6_291 : zV RX6 291 RX6 yX6_copyRail cX6_copyRail 3 none 2 := ⟨lw_V q2061 q2063 qs84 q149 q2064, rfl, by decide +kernel⟩
theorem mcX6_row (l : Launch) (g : mG) (h : Nat) (ad : Nat → Nat) (P S : zS) (hPS : per S = P) (sl w n : Int) (h1 : I32 sl) (h2 : I32 w) (h3 : I32 n) : mMI l g h ad yX6_row cX6_row 5 .int (k2_rm 2 45) [.int (iZ sl), .int (iZ w), .int (iZ n)] S (fun z1 S1 => z1 = aRow sl w n ∧ per S1 = pRow P sl w n) := by
  refine z_start (own := RX6) (by decide) rfl (Nat.le_of_ble_eq_true rfl) ?_
  intro prg env s mid blw mth cod ls Q C hQ hret hlk hnm hK hH hl
  have hP : MP g h ad S s.heap := hH
  have hS : va_S (MA h ad) s.heap s.heap [] := va_S.rf
  have hl : lv_has ls 5 [(0, .ref h), (1, .int (iZ sl)), (2, .int (iZ w)), (3, .int (iZ n))] := hl
  refine z_aload_n C dX6_row_0 hl 0 rfl ?_
  refine z_iconst C dX6_row_1 ?_
  refine m_puti C hK hP hS 0 (by decide) q1749 rfl rfl (by omega) dX6_row_2 (fun S_2 eS_2 H locs hP hS => ?_)
  have hS_2 := per_s rfl hPS eS_2
  refine z_iload_n C dX6_row_5 hl 1 rfl ?_
  refine s_pi C vX6_123 (mcX6_isSlot l _ (by omega)) hS hl ⟨Nat.le_of_ble_eq_true rfl, Nat.le_of_ble_eq_true rfl⟩ ⟨rfl, rfl⟩ rfl rfl (Nat.le_of_ble_eq_true rfl) dX6_row_6 ⟨Nat.zero_le _, Nat.zero_le _⟩ (fun locs hS => ?_)
  refine z_if_eq C 30 dX6_row_9 (by decide) z01_in (fun c_9 => ?_) (fun c_9 => ?_)
  · replace c_9 := z01_f c_9
    refine z_bipush C dX6_row_30 rfl ?_
    exact m_mret_i C hQ hret hlk hS hP ⟨(if_neg (by omega)).symm, by rw [pRow, if_neg (by omega)]; exact hS_2⟩ dX6_row_32
  · replace c_9 := z01_t c_9
    refine z_iload_n C dX6_row_12 hl 2 rfl ?_
    refine z_i2l C dX6_row_13 (by omega) ?_
    refine z_lconst (v := 0) C dX6_row_14 rfl ?_
    refine z_ldc2 (v := 3) C q1911 dX6_row_15 rfl ?_
    refine s_pi C vX6_119 (mcX6_in l _ _ _ (by omega) (by omega) (by omega)) hS hl ⟨Nat.le_of_ble_eq_true rfl, Nat.le_of_ble_eq_true rfl⟩ ⟨rfl, rfl⟩ rfl rfl (Nat.le_of_ble_eq_true rfl) dX6_row_18 ⟨Nat.zero_le _, Nat.zero_le _⟩ (fun locs hS => ?_)
    refine z_if_eq C 30 dX6_row_21 (by decide) z01_in (fun c_21 => ?_) (fun c_21 => ?_)
    · replace c_21 := z01_f c_21
      refine z_bipush C dX6_row_30 rfl ?_
      exact m_mret_i C hQ hret hlk hS hP ⟨(if_neg (by omega)).symm, by rw [pRow, if_neg (by omega)]; exact hS_2⟩ dX6_row_32
    · replace c_21 := z01_t c_21
      refine z_iload_n C dX6_row_24 hl 3 rfl ?_
      refine z_bipush C dX6_row_25 rfl ?_
      refine z_icmp_le C 33 dX6_row_27 (by decide) (by omega) (by omega) (fun c_27 => ?_) (fun c_27 => ?_)
      · refine z_iload_n C dX6_row_33 hl 3 rfl ?_
        refine z_if_ge C 40 dX6_row_34 (by decide) (by omega) (fun c_34 => ?_) (fun c_34 => ?_)
        · refine z_aload_n C dX6_row_40 hl 0 rfl ?_
          refine m_geta C hK hP 1 (by decide) q1750 rfl (by decide) dX6_row_41 ?_
          refine z_iload_n C dX6_row_44 hl 1 rfl ?_
          refine z_iload_n C dX6_row_45 hl 2 rfl ?_
          refine m_iast C hK hP hS 1 (by decide) rfl (by have h9 : mlen 1 = 4 := rfl; omega) (by omega) dX6_row_46 (fun S_46 eS_46 H locs hP hS => ?_)
          have hS_46 := per_w2 rfl hS_2 eS_46
          refine z_aload_n C dX6_row_47 hl 0 rfl ?_
          refine m_geta C hK hP 2 (by decide) q1751 rfl (by decide) dX6_row_48 ?_
          refine z_iload_n C dX6_row_51 hl 1 rfl ?_
          refine z_iload_n C dX6_row_52 hl 3 rfl ?_
          refine m_iast C hK hP hS 2 (by decide) rfl (by have h9 : mlen 2 = 4 := rfl; omega) (by omega) dX6_row_53 (fun S_53 eS_53 H locs hP hS => ?_)
          have hS_53 := per_w2 rfl hS_46 eS_53
          refine z_iconst C dX6_row_54 ?_
          refine z_istore C dX6_row_55 hl (by decide) rfl (fun ls hl => ?_)
          have hl : lv_has ls 5 [(4, _), (0, _), (1, _), (2, _), (3, _)] := hl
          have hL_57 : ∀ (fuel : Nat) (k : Nat) (S1 : zS) (H : Heap) (locs : List Loc) (ls : Array Slot), n.toNat - k < fuel → ((k : Int) ≤ n) → per S1 = zeroF (zup (zup P 1 sl w) 2 sl n) (60 * sl) k → MP g h ad S1 H → va_S (MA h ad) s.heap H locs → lv_has ls 5 [(0, .ref h), (1, .int (iZ sl)), (2, .int (iZ w)), (3, .int (iZ n)), (4, .int (iZ (k : Int)))] → W prg l env (k2_rm 2 45) s mid ([.ref h, .int (iZ sl), .int (iZ w), .int (iZ n)] : List Value).toArray blw mth cod H locs 0 0 Q (F0 mid 57 ls []) := by
            intro fuel
            induction fuel with
            | zero => intro k S1  H locs ls hm; exact absurd hm (Nat.not_lt_zero _)
            | succ fuel hL_57 =>
              intro k S1  H locs ls hm ik hPS_57 hP  hS hl
              refine z_iload C dX6_row_57 hl 4 rfl ?_
              refine z_iload_n C dX6_row_59 hl 3 rfl ?_
              refine z_icmp_ge C 82 dX6_row_60 (by decide) (by omega) (by omega) (fun c_60 => ?_) (fun c_60 => ?_)
              · refine z_iconst C dX6_row_82 ?_
                exact m_mret_i C hQ hret hlk hS hP ⟨by rw [aRow, if_pos ⟨c_9, c_21, c_27⟩, if_neg (by omega)], by rw [pRow, if_pos ⟨⟨c_9, c_21, c_27⟩, c_34⟩, hPS_57, show n.toNat = k by omega]⟩ dX6_row_83
              · refine z_aload_n C dX6_row_63 hl 0 rfl ?_
                refine m_geta C hK hP 3 (by decide) q1752 rfl (by decide) dX6_row_64 ?_
                refine z_bipush C dX6_row_67 rfl ?_
                refine z_iload_n C dX6_row_69 hl 1 rfl ?_
                refine z_imul C dX6_row_70 ?_
                refine z_iload C dX6_row_71 hl 4 rfl ?_
                refine z_iadd C dX6_row_73 ?_
                refine z_lconst (v := 0) C dX6_row_74 rfl ?_
                refine m_last C hK hP hS 3 (by decide) rfl (by have h9 : mlen 3 = 240 := rfl; omega) (by omega) dX6_row_75 (fun S_75 eS_75 H locs hP hS => ?_)
                have hS_75 := per_w2 rfl hPS_57 eS_75
                refine z_iinc C dX6_row_76 hl (by decide) 4 rfl rfl (fun ls hl => ?_)
                have hl : lv_has ls 5 [(4, _), (0, _), (1, _), (2, _), (3, _)] := hl
                refine z_goto C 57 dX6_row_79 (by decide) ?_
                exact hL_57 (k + 1) _ _ _ ls (by omega) (by omega) (by rw [hS_75, zeroF_s]) hP hS (lv_sub hl [1, 2, 3, 4, 0] rfl)
          exact hL_57 _ 0 _ _ _ ls (Nat.lt_succ_self _) (by omega) (by rw [hS_53]; rfl) hP hS (lv_sub hl [1, 2, 3, 4, 0] rfl)
        · refine z_bipush C dX6_row_37 rfl ?_
          exact m_mret_i C hQ hret hlk hS hP ⟨by rw [aRow, if_pos ⟨c_9, c_21, c_27⟩, if_pos c_34], by rw [pRow, if_neg (by omega)]; exact hS_2⟩ dX6_row_39
      · refine z_bipush C dX6_row_30 rfl ?_
        exact m_mret_i C hQ hret hlk hS hP ⟨(if_neg (by omega)).symm, by rw [pRow, if_neg (by omega)]; exact hS_2⟩ dX6_row_32
theorem mcX6_cut (l : Launch) (v w : Int) (hv : I64 v) (hw : I32 w) : sPL l yX6_cut cX6_cut 3 (k2_rm 0 0) [.long (lZ v), .int (iZ w)] (cutF v w) := by
  intro H0
  refine z_start (own := RX6) (by decide) rfl (Nat.le_of_ble_eq_true rfl) ?_
  intro prg env s mid blw mth cod ls Q C hQ hret hlk hnm hK hH hl
  subst hH
  have hS : va_S nA s.heap s.heap [] := va_S.rf
  have hl : lv_has ls 3 [(0, .long (lZ v)), (2, .int (iZ w))] := hl
  have q1 := sx8_in v
  have q2 := sx16_in v
  have q3 := sx32_in v
  refine z_iload_n C dX6_cut_0 hl 1 rfl ?_
  refine z_if_ne C 11 dX6_cut_1 (by decide) (by omega) (fun c_1 => ?_) (fun c_1 => ?_)
  · refine z_iload_n C dX6_cut_11 hl 1 rfl ?_
    refine z_iconst C dX6_cut_12 ?_
    refine z_icmp_ne C 23 dX6_cut_13 (by decide) (by omega) (by omega) (fun c_13 => ?_) (fun c_13 => ?_)
    · refine z_iload_n C dX6_cut_23 hl 1 rfl ?_
      refine z_iconst C dX6_cut_24 ?_
      refine z_icmp_ne C 34 dX6_cut_25 (by decide) (by omega) (by omega) (fun c_25 => ?_) (fun c_25 => ?_)
      · refine z_lload_n C dX6_cut_34 hl 0 rfl ?_
        exact z_pret_l C hQ hret hlk hS (by unfold cutF; repeat (first | rw [if_pos (by omega)] | rw [if_neg (by omega)])) dX6_cut_35
      · refine z_lload_n C dX6_cut_28 hl 0 rfl ?_
        refine z_l2i C dX6_cut_29 ?_
        rw [← iZ_sx v]
        refine z_i2l C dX6_cut_30 (by omega) ?_
        refine z_goto C 35 dX6_cut_31 (by decide) ?_
        exact z_pret_l C hQ hret hlk hS (by unfold cutF; repeat (first | rw [if_pos (by omega)] | rw [if_neg (by omega)])) dX6_cut_35
    · refine z_lload_n C dX6_cut_16 hl 0 rfl ?_
      refine z_l2i C dX6_cut_17 ?_
      refine z_i2s C dX6_cut_18 ?_
      refine z_i2l C dX6_cut_19 (by omega) ?_
      refine z_goto C 35 dX6_cut_20 (by decide) ?_
      exact z_pret_l C hQ hret hlk hS (by unfold cutF; repeat (first | rw [if_pos (by omega)] | rw [if_neg (by omega)])) dX6_cut_35
  · refine z_lload_n C dX6_cut_4 hl 0 rfl ?_
    refine z_l2i C dX6_cut_5 ?_
    refine z_i2b C dX6_cut_6 ?_
    refine z_i2l C dX6_cut_7 (by omega) ?_
    refine z_goto C 35 dX6_cut_8 (by decide) ?_
    exact z_pret_l C hQ hret hlk hS (by unfold cutF; repeat (first | rw [if_pos (by omega)] | rw [if_neg (by omega)])) dX6_cut_35
theorem mcX6_write (l : Launch) (g : mG) (h : Nat) (ad : Nat → Nat) (P S : zS) (hPS : per S = P) (sl i v : Int) (hSL : ∀ s : Int, 0 ≤ s → s ≤ 3 → (-1 ≤ P 1 s ∧ P 1 s ≤ 3) ∧ (0 ≤ P 2 s ∧ P 2 s ≤ 60)) (h1 : I32 sl) (h2 : I32 i) (h3 : I64 v) : mMI l g h ad yX6_write cX6_write 5 .int (k2_rm 2 45) [.int (iZ sl), .int (iZ i), .long (lZ v)] S (fun z1 S1 => z1 = aWrite P sl i ∧ per S1 = pWrite P sl i v) := by
  refine z_start (own := RX6) (by decide) rfl (Nat.le_of_ble_eq_true rfl) ?_
  intro prg env s mid blw mth cod ls Q C hQ hret hlk hnm hK hH hl
  have hP : MP g h ad S s.heap := hH
  have hS : va_S (MA h ad) s.heap s.heap [] := va_S.rf
  have hl : lv_has ls 5 [(0, .ref h), (1, .int (iZ sl)), (2, .int (iZ i)), (3, .long (lZ v))] := hl
  refine z_aload_n C dX6_write_0 hl 0 rfl ?_
  refine z_iconst C dX6_write_1 ?_
  refine m_puti C hK hP hS 0 (by decide) q1749 rfl rfl (by omega) dX6_write_2 (fun S_2 eS_2 H locs hP hS => ?_)
  have hS_2 := per_s rfl hPS eS_2
  refine z_iload_n C dX6_write_5 hl 1 rfl ?_
  refine s_pi C vX6_123 (mcX6_isSlot l _ (by omega)) hS hl ⟨Nat.le_of_ble_eq_true rfl, Nat.le_of_ble_eq_true rfl⟩ ⟨rfl, rfl⟩ rfl rfl (Nat.le_of_ble_eq_true rfl) dX6_write_6 ⟨Nat.zero_le _, Nat.zero_le _⟩ (fun locs hS => ?_)
  refine z_if_ne C 15 dX6_write_9 (by decide) z01_in (fun c_9 => ?_) (fun c_9 => ?_)
  · replace c_9 := z01_t c_9
    have q1 := hSL sl (by omega) (by omega)
    refine z_aload_n C dX6_write_15 hl 0 rfl ?_
    refine m_geta C hK hP 1 (by decide) q1750 rfl (by decide) dX6_write_16 ?_
    refine z_iload_n C dX6_write_19 hl 1 rfl ?_
    refine m_iald C hK hP 1 (by decide) rfl (by have h9 : mlen 1 = 4 := rfl; omega) (pe hS_2 rfl) dX6_write_20 (fun r_20 => ?_)
    refine z_iconst C dX6_write_21 ?_
    refine z_icmp_ne C 28 dX6_write_22 (by decide) (by omega) (by omega) (fun c_22 => ?_) (fun c_22 => ?_)
    · refine z_iload_n C dX6_write_28 hl 2 rfl ?_
      refine z_i2l C dX6_write_29 (by omega) ?_
      refine z_lconst (v := 0) C dX6_write_30 rfl ?_
      refine z_aload_n C dX6_write_31 hl 0 rfl ?_
      refine m_geta C hK hP 2 (by decide) q1751 rfl (by decide) dX6_write_32 ?_
      refine z_iload_n C dX6_write_35 hl 1 rfl ?_
      refine m_iald C hK hP 2 (by decide) rfl (by have h9 : mlen 2 = 4 := rfl; omega) (pe hS_2 rfl) dX6_write_36 (fun r_36 => ?_)
      refine z_iconst C dX6_write_37 ?_
      refine z_isub C dX6_write_38 ?_
      refine z_i2l C dX6_write_39 (by omega) ?_
      refine s_pi C vX6_119 (mcX6_in l _ _ _ (by omega) (by omega) (by omega)) hS hl ⟨Nat.le_of_ble_eq_true rfl, Nat.le_of_ble_eq_true rfl⟩ ⟨rfl, rfl⟩ rfl rfl (Nat.le_of_ble_eq_true rfl) dX6_write_40 ⟨Nat.zero_le _, Nat.zero_le _⟩ (fun locs hS => ?_)
      refine z_if_ne C 49 dX6_write_43 (by decide) z01_in (fun c_43 => ?_) (fun c_43 => ?_)
      · replace c_43 := z01_t c_43
        have q2 := cutF_in h3 (P 1 sl)
        refine z_aload_n C dX6_write_49 hl 0 rfl ?_
        refine m_geta C hK hP 3 (by decide) q1752 rfl (by decide) dX6_write_50 ?_
        refine z_bipush C dX6_write_53 rfl ?_
        refine z_iload_n C dX6_write_55 hl 1 rfl ?_
        refine z_imul C dX6_write_56 ?_
        refine z_iload_n C dX6_write_57 hl 2 rfl ?_
        refine z_iadd C dX6_write_58 ?_
        refine z_lload_n C dX6_write_59 hl 3 rfl ?_
        refine z_aload_n C dX6_write_60 hl 0 rfl ?_
        refine m_geta C hK hP 1 (by decide) q1750 rfl (by decide) dX6_write_61 ?_
        refine z_iload_n C dX6_write_64 hl 1 rfl ?_
        refine m_iald C hK hP 1 (by decide) rfl (by have h9 : mlen 1 = 4 := rfl; omega) (pe hS_2 rfl) dX6_write_65 (fun r_65 => ?_)
        refine s_pl C vX6_127 (mcX6_cut l _ _ (by omega) (by omega)) hS hl ⟨Nat.le_of_ble_eq_true rfl, Nat.le_of_ble_eq_true rfl⟩ ⟨rfl, rfl⟩ rfl rfl (Nat.le_of_ble_eq_true rfl) dX6_write_66 ⟨Nat.zero_le _, Nat.zero_le _⟩ (fun locs hS => ?_)
        refine m_last C hK hP hS 3 (by decide) rfl (by have h9 : mlen 3 = 240 := rfl; omega) (by omega) dX6_write_69 (fun S_69 eS_69 H locs hP hS => ?_)
        have hS_69 := per_w2 rfl hS_2 eS_69
        refine z_iconst C dX6_write_70 ?_
        exact m_mret_i C hQ hret hlk hS hP ⟨by rw [aWrite, if_pos c_9, if_neg c_22, if_pos (by omega)], by rw [pWrite, if_pos ⟨c_9, c_22, by omega, by omega⟩]; exact hS_69⟩ dX6_write_71
      · replace c_43 := z01_f c_43
        refine z_bipush C dX6_write_46 rfl ?_
        exact m_mret_i C hQ hret hlk hS hP ⟨by rw [aWrite, if_pos c_9, if_neg c_22, if_neg (by omega)], by rw [pWrite, if_neg (by omega)]; exact hS_2⟩ dX6_write_48
    · refine z_bipush C dX6_write_25 rfl ?_
      exact m_mret_i C hQ hret hlk hS hP ⟨by rw [aWrite, if_pos c_9, if_pos c_22], by rw [pWrite, if_neg (by omega)]; exact hS_2⟩ dX6_write_27
  · replace c_9 := z01_f c_9
    refine z_bipush C dX6_write_12 rfl ?_
    exact m_mret_i C hQ hret hlk hS hP ⟨(if_neg (by omega)).symm, by rw [pWrite, if_neg (by omega)]; exact hS_2⟩ dX6_write_14
theorem mcX6_paste (l : Launch) (g : mG) (h : Nat) (ad : Nat → Nat) (P S : zS) (hPS : per S = P) (sl i to k n : Int) (hSL : ∀ s : Int, 0 ≤ s → s ≤ 3 → (-1 ≤ P 1 s ∧ P 1 s ≤ 3) ∧ (0 ≤ P 2 s ∧ P 2 s ≤ 60)) (h1 : I32 sl) (h2 : I32 i) (h3 : I32 to) (h4 : I32 k) (h5 : I32 n) : mMI l g h ad yX6_paste cX6_paste 7 .int (k2_rm 2 45) [.int (iZ sl), .int (iZ i), .int (iZ to), .int (iZ k), .int (iZ n)] S (fun z1 S1 => z1 = aPaste P sl i to k n ∧ per S1 = pPaste P sl i to k n) := by
  refine z_start (own := RX6) (by decide) rfl (Nat.le_of_ble_eq_true rfl) ?_
  intro prg env s mid blw mth cod ls Q C hQ hret hlk hnm hK hH hl
  have hP : MP g h ad S s.heap := hH
  have hS : va_S (MA h ad) s.heap s.heap [] := va_S.rf
  have hl : lv_has ls 7 [(0, .ref h), (1, .int (iZ sl)), (2, .int (iZ i)), (3, .int (iZ to)), (4, .int (iZ k)), (5, .int (iZ n))] := hl
  refine z_aload_n C dX6_paste_0 hl 0 rfl ?_
  refine z_iconst C dX6_paste_1 ?_
  refine m_puti C hK hP hS 0 (by decide) q1749 rfl rfl (by omega) dX6_paste_2 (fun S_2 eS_2 H locs hP hS => ?_)
  have hS_2 := per_s rfl hPS eS_2
  refine z_iload_n C dX6_paste_5 hl 1 rfl ?_
  refine s_pi C vX6_123 (mcX6_isSlot l _ (by omega)) hS hl ⟨Nat.le_of_ble_eq_true rfl, Nat.le_of_ble_eq_true rfl⟩ ⟨rfl, rfl⟩ rfl rfl (Nat.le_of_ble_eq_true rfl) dX6_paste_6 ⟨Nat.zero_le _, Nat.zero_le _⟩ (fun locs hS => ?_)
  refine z_if_eq C 19 dX6_paste_9 (by decide) z01_in (fun c_9 => ?_) (fun c_9 => ?_)
  · replace c_9 := z01_f c_9
    refine z_bipush C dX6_paste_19 rfl ?_
    exact m_mret_i C hQ hret hlk hS hP ⟨(if_neg (by omega)).symm, by rw [pPaste, if_neg (by omega)]; exact hS_2⟩ dX6_paste_21
  · replace c_9 := z01_t c_9
    refine z_iload_n C dX6_paste_12 hl 3 rfl ?_
    refine s_pi C vX6_123 (mcX6_isSlot l _ (by omega)) hS hl ⟨Nat.le_of_ble_eq_true rfl, Nat.le_of_ble_eq_true rfl⟩ ⟨rfl, rfl⟩ rfl rfl (Nat.le_of_ble_eq_true rfl) dX6_paste_13 ⟨Nat.zero_le _, Nat.zero_le _⟩ (fun locs hS => ?_)
    refine z_if_ne C 22 dX6_paste_16 (by decide) z01_in (fun c_16 => ?_) (fun c_16 => ?_)
    · replace c_16 := z01_t c_16
      have q1 := hSL sl (by omega) (by omega)
      have q2 := hSL to (by omega) (by omega)
      refine z_aload_n C dX6_paste_22 hl 0 rfl ?_
      refine m_geta C hK hP 1 (by decide) q1750 rfl (by decide) dX6_paste_23 ?_
      refine z_iload_n C dX6_paste_26 hl 1 rfl ?_
      refine m_iald C hK hP 1 (by decide) rfl (by have h9 : mlen 1 = 4 := rfl; omega) (pe hS_2 rfl) dX6_paste_27 (fun r_27 => ?_)
      refine z_iconst C dX6_paste_28 ?_
      refine z_icmp_eq C 42 dX6_paste_29 (by decide) (by omega) (by omega) (fun c_29 => ?_) (fun c_29 => ?_)
      · refine z_bipush C dX6_paste_42 rfl ?_
        exact m_mret_i C hQ hret hlk hS hP ⟨by rw [aPaste, if_pos (by omega), if_pos (by omega)], by rw [pPaste, if_neg (by omega)]; exact hS_2⟩ dX6_paste_44
      · refine z_aload_n C dX6_paste_32 hl 0 rfl ?_
        refine m_geta C hK hP 1 (by decide) q1750 rfl (by decide) dX6_paste_33 ?_
        refine z_iload_n C dX6_paste_36 hl 3 rfl ?_
        refine m_iald C hK hP 1 (by decide) rfl (by have h9 : mlen 1 = 4 := rfl; omega) (pe hS_2 rfl) dX6_paste_37 (fun r_37 => ?_)
        refine z_iconst C dX6_paste_38 ?_
        refine z_icmp_ne C 45 dX6_paste_39 (by decide) (by omega) (by omega) (fun c_39 => ?_) (fun c_39 => ?_)
        · refine z_aload_n C dX6_paste_45 hl 0 rfl ?_
          refine m_geta C hK hP 1 (by decide) q1750 rfl (by decide) dX6_paste_46 ?_
          refine z_iload_n C dX6_paste_49 hl 1 rfl ?_
          refine m_iald C hK hP 1 (by decide) rfl (by have h9 : mlen 1 = 4 := rfl; omega) (pe hS_2 rfl) dX6_paste_50 (fun r_50 => ?_)
          refine z_aload_n C dX6_paste_51 hl 0 rfl ?_
          refine m_geta C hK hP 1 (by decide) q1750 rfl (by decide) dX6_paste_52 ?_
          refine z_iload_n C dX6_paste_55 hl 3 rfl ?_
          refine m_iald C hK hP 1 (by decide) rfl (by have h9 : mlen 1 = 4 := rfl; omega) (pe hS_2 rfl) dX6_paste_56 (fun r_56 => ?_)
          refine z_icmp_eq C 63 dX6_paste_57 (by decide) (by omega) (by omega) (fun c_57 => ?_) (fun c_57 => ?_)
          · refine z_iload_n C dX6_paste_63 hl 2 rfl ?_
            refine z_if_lt C 112 dX6_paste_64 (by decide) (by omega) (fun c_64 => ?_) (fun c_64 => ?_)
            · refine z_bipush C dX6_paste_112 rfl ?_
              exact m_mret_i C hQ hret hlk hS hP ⟨by rw [aPaste, if_pos (by omega), if_neg (by omega), if_pos (by omega), if_neg (by omega)], by rw [pPaste, if_neg (by omega)]; exact hS_2⟩ dX6_paste_114
            · refine z_iload C dX6_paste_67 hl 4 rfl ?_
              refine z_if_lt C 112 dX6_paste_69 (by decide) (by omega) (fun c_69 => ?_) (fun c_69 => ?_)
              · refine z_bipush C dX6_paste_112 rfl ?_
                exact m_mret_i C hQ hret hlk hS hP ⟨by rw [aPaste, if_pos (by omega), if_neg (by omega), if_pos (by omega), if_neg (by omega)], by rw [pPaste, if_neg (by omega)]; exact hS_2⟩ dX6_paste_114
              · refine z_iload C dX6_paste_72 hl 5 rfl ?_
                refine z_if_lt C 112 dX6_paste_74 (by decide) (by omega) (fun c_74 => ?_) (fun c_74 => ?_)
                · refine z_bipush C dX6_paste_112 rfl ?_
                  exact m_mret_i C hQ hret hlk hS hP ⟨by rw [aPaste, if_pos (by omega), if_neg (by omega), if_pos (by omega), if_neg (by omega)], by rw [pPaste, if_neg (by omega)]; exact hS_2⟩ dX6_paste_114
                · refine z_iload_n C dX6_paste_77 hl 2 rfl ?_
                  refine z_i2l C dX6_paste_78 (by omega) ?_
                  refine z_iload C dX6_paste_79 hl 5 rfl ?_
                  refine z_i2l C dX6_paste_81 (by omega) ?_
                  refine z_ladd C dX6_paste_82 ?_
                  refine z_aload_n C dX6_paste_83 hl 0 rfl ?_
                  refine m_geta C hK hP 2 (by decide) q1751 rfl (by decide) dX6_paste_84 ?_
                  refine z_iload_n C dX6_paste_87 hl 1 rfl ?_
                  refine m_iald C hK hP 2 (by decide) rfl (by have h9 : mlen 2 = 4 := rfl; omega) (pe hS_2 rfl) dX6_paste_88 (fun r_88 => ?_)
                  refine z_i2l C dX6_paste_89 (by omega) ?_
                  refine z_lcmp_gt C 112 dX6_paste_90 dX6_paste_91 (by decide) (by omega) (by omega) (fun c_90 => ?_) (fun c_90 => ?_)
                  · refine z_bipush C dX6_paste_112 rfl ?_
                    exact m_mret_i C hQ hret hlk hS hP ⟨by rw [aPaste, if_pos (by omega), if_neg (by omega), if_pos (by omega), if_neg (by omega)], by rw [pPaste, if_neg (by omega)]; exact hS_2⟩ dX6_paste_114
                  · refine z_iload C dX6_paste_94 hl 4 rfl ?_
                    refine z_i2l C dX6_paste_96 (by omega) ?_
                    refine z_iload C dX6_paste_97 hl 5 rfl ?_
                    refine z_i2l C dX6_paste_99 (by omega) ?_
                    refine z_ladd C dX6_paste_100 ?_
                    refine z_aload_n C dX6_paste_101 hl 0 rfl ?_
                    refine m_geta C hK hP 2 (by decide) q1751 rfl (by decide) dX6_paste_102 ?_
                    refine z_iload_n C dX6_paste_105 hl 3 rfl ?_
                    refine m_iald C hK hP 2 (by decide) rfl (by have h9 : mlen 2 = 4 := rfl; omega) (pe hS_2 rfl) dX6_paste_106 (fun r_106 => ?_)
                    refine z_i2l C dX6_paste_107 (by omega) ?_
                    refine z_lcmp_le C 115 dX6_paste_108 dX6_paste_109 (by decide) (by omega) (by omega) (fun c_108 => ?_) (fun c_108 => ?_)
                    · refine z_iconst C dX6_paste_115 ?_
                      refine z_istore C dX6_paste_116 hl (by decide) rfl (fun ls hl => ?_)
                      have hl : lv_has ls 7 [(6, _), (0, _), (1, _), (2, _), (3, _), (4, _), (5, _)] := hl
                      have hL_118 : ∀ (fuel : Nat) (x : Nat) (S1 : zS) (H : Heap) (locs : List Loc) (ls : Array Slot), n.toNat - x < fuel → ((x : Int) ≤ n) → (∀ j : Nat, j < x → S1 4 (j : Int) = P 3 (60 * sl + i + (j : Int))) → per S1 = P → MP g h ad S1 H → va_S (MA h ad) s.heap H locs → lv_has ls 7 [(0, .ref h), (1, .int (iZ sl)), (2, .int (iZ i)), (3, .int (iZ to)), (4, .int (iZ k)), (5, .int (iZ n)), (6, .int (iZ (x : Int)))] → W prg l env (k2_rm 2 45) s mid ([.ref h, .int (iZ sl), .int (iZ i), .int (iZ to), .int (iZ k), .int (iZ n)] : List Value).toArray blw mth cod H locs 0 0 Q (F0 mid 118 ls []) := by
                        intro fuel
                        induction fuel with
                        | zero => intro x S1  H locs ls hm; exact absurd hm (Nat.not_lt_zero _)
                        | succ fuel hL_118 =>
                          intro x S1  H locs ls hm ix iM hPS_118 hP  hS hl
                          refine z_iload C dX6_paste_118 hl 6 rfl ?_
                          refine z_iload C dX6_paste_120 hl 5 rfl ?_
                          refine z_icmp_ge C 152 dX6_paste_122 (by decide) (by omega) (by omega) (fun c_122 => ?_) (fun c_122 => ?_)
                          · refine z_iconst C dX6_paste_152 ?_
                            refine z_istore C dX6_paste_153 hl (by decide) rfl (fun ls hl => ?_)
                            have hl : lv_has ls 7 [(6, _), (0, _), (1, _), (2, _), (3, _), (4, _), (5, _)] := hl
                            have hL_155 : ∀ (fuel : Nat) (y : Nat) (S2 : zS) (H : Heap) (locs : List Loc) (ls : Array Slot), n.toNat - y < fuel → ((y : Int) ≤ n) → (∀ j : Nat, j < n.toNat → S2 4 (j : Int) = P 3 (60 * sl + i + (j : Int))) → per S2 = putF P 3 (60 * to + k) (fun x => P 3 (60 * sl + i + x)) y → MP g h ad S2 H → va_S (MA h ad) s.heap H locs → lv_has ls 7 [(0, .ref h), (1, .int (iZ sl)), (2, .int (iZ i)), (3, .int (iZ to)), (4, .int (iZ k)), (5, .int (iZ n)), (6, .int (iZ (y : Int)))] → W prg l env (k2_rm 2 45) s mid ([.ref h, .int (iZ sl), .int (iZ i), .int (iZ to), .int (iZ k), .int (iZ n)] : List Value).toArray blw mth cod H locs 0 0 Q (F0 mid 155 ls []) := by
                              intro fuel
                              induction fuel with
                              | zero => intro y S2  H locs ls hm; exact absurd hm (Nat.not_lt_zero _)
                              | succ fuel hL_155 =>
                                intro y S2  H locs ls hm jy jM hPS_155 hP  hS hl
                                refine z_iload C dX6_paste_155 hl 6 rfl ?_
                                refine z_iload C dX6_paste_157 hl 5 rfl ?_
                                refine z_icmp_ge C 190 dX6_paste_159 (by decide) (by omega) (by omega) (fun c_159 => ?_) (fun c_159 => ?_)
                                · refine z_iconst C dX6_paste_190 ?_
                                  exact m_mret_i C hQ hret hlk hS hP ⟨by rw [aPaste, if_pos (by omega), if_neg (by omega), if_pos (by omega), if_pos (by omega)], by rw [pPaste, if_pos (by omega), hPS_155, show n.toNat = y by omega]⟩ dX6_paste_191
                                · refine z_aload_n C dX6_paste_162 hl 0 rfl ?_
                                  refine m_geta C hK hP 3 (by decide) q1752 rfl (by decide) dX6_paste_163 ?_
                                  refine z_bipush C dX6_paste_166 rfl ?_
                                  refine z_iload_n C dX6_paste_168 hl 3 rfl ?_
                                  refine z_imul C dX6_paste_169 ?_
                                  refine z_iload C dX6_paste_170 hl 4 rfl ?_
                                  refine z_iadd C dX6_paste_172 ?_
                                  refine z_iload C dX6_paste_173 hl 6 rfl ?_
                                  refine z_iadd C dX6_paste_175 ?_
                                  refine z_aload_n C dX6_paste_176 hl 0 rfl ?_
                                  refine m_geta C hK hP 4 (by decide) q1753 rfl (by decide) dX6_paste_177 ?_
                                  refine z_iload C dX6_paste_180 hl 6 rfl ?_
                                  refine m_lald C hK hP 4 (by decide) rfl (by have h9 : mlen 4 = 60 := rfl; omega) rfl dX6_paste_182 (fun r_182 => ?_)
                                  refine m_last C hK hP hS 3 (by decide) rfl (by have h9 : mlen 3 = 240 := rfl; omega) (by omega) dX6_paste_183 (fun S_183 eS_183 H locs hP hS => ?_)
                                  have hS_183 := per_w2 rfl hPS_155 eS_183
                                  refine z_iinc C dX6_paste_184 hl (by decide) 6 rfl rfl (fun ls hl => ?_)
                                  have hl : lv_has ls 7 [(6, _), (0, _), (1, _), (2, _), (3, _), (4, _), (5, _)] := hl
                                  refine z_goto C 155 dX6_paste_187 (by decide) ?_
                                  exact hL_155 (y + 1) _ _ _ ls (by omega) (by omega) (fun s hs => by rw [eS_183, zup_k _ _ _ (by decide)]; exact jM s hs) (by rw [hS_183, putF_s, jM y (by omega)]) hP hS (lv_sub hl [1, 2, 3, 4, 5, 6, 0] rfl)
                            exact hL_155 _ 0 _ _ _ ls (Nat.lt_succ_self _) (by omega) (fun s hs => iM s (by omega)) hPS_118 hP hS (lv_sub hl [1, 2, 3, 4, 5, 6, 0] rfl)
                          · refine z_aload_n C dX6_paste_125 hl 0 rfl ?_
                            refine m_geta C hK hP 4 (by decide) q1753 rfl (by decide) dX6_paste_126 ?_
                            refine z_iload C dX6_paste_129 hl 6 rfl ?_
                            refine z_aload_n C dX6_paste_131 hl 0 rfl ?_
                            refine m_geta C hK hP 3 (by decide) q1752 rfl (by decide) dX6_paste_132 ?_
                            refine z_bipush C dX6_paste_135 rfl ?_
                            refine z_iload_n C dX6_paste_137 hl 1 rfl ?_
                            refine z_imul C dX6_paste_138 ?_
                            refine z_iload_n C dX6_paste_139 hl 2 rfl ?_
                            refine z_iadd C dX6_paste_140 ?_
                            refine z_iload C dX6_paste_141 hl 6 rfl ?_
                            refine z_iadd C dX6_paste_143 ?_
                            refine m_lald C hK hP 3 (by decide) rfl (by have h9 : mlen 3 = 240 := rfl; omega) (pe hPS_118 rfl) dX6_paste_144 (fun r_144 => ?_)
                            refine m_last C hK hP hS 4 (by decide) rfl (by have h9 : mlen 4 = 60 := rfl; omega) (by omega) dX6_paste_145 (fun S_145 eS_145 H locs hP hS => ?_)
                            have hS_145 := per_s rfl hPS_118 eS_145
                            refine z_iinc C dX6_paste_146 hl (by decide) 6 rfl rfl (fun ls hl => ?_)
                            have hl : lv_has ls 7 [(6, _), (0, _), (1, _), (2, _), (3, _), (4, _), (5, _)] := hl
                            refine z_goto C 118 dX6_paste_149 (by decide) ?_
                            exact hL_118 (x + 1) _ _ _ ls (by omega) (by omega) (zfill iM eS_145 rfl) hS_145 hP hS (lv_sub hl [1, 2, 3, 4, 5, 6, 0] rfl)
                      exact hL_118 _ 0 _ _ _ ls (Nat.lt_succ_self _) (by omega) (fun s hs => absurd hs (Nat.not_lt_zero _)) hS_2 hP hS (lv_sub hl [1, 2, 3, 4, 5, 6, 0] rfl)
                    · refine z_bipush C dX6_paste_112 rfl ?_
                      exact m_mret_i C hQ hret hlk hS hP ⟨by rw [aPaste, if_pos (by omega), if_neg (by omega), if_pos (by omega), if_neg (by omega)], by rw [pPaste, if_neg (by omega)]; exact hS_2⟩ dX6_paste_114
          · refine z_bipush C dX6_paste_60 rfl ?_
            exact m_mret_i C hQ hret hlk hS hP ⟨by rw [aPaste, if_pos (by omega), if_neg (by omega), if_neg (by omega)], by rw [pPaste, if_neg (by omega)]; exact hS_2⟩ dX6_paste_62
        · refine z_bipush C dX6_paste_42 rfl ?_
          exact m_mret_i C hQ hret hlk hS hP ⟨by rw [aPaste, if_pos (by omega), if_pos (by omega)], by rw [pPaste, if_neg (by omega)]; exact hS_2⟩ dX6_paste_44
    · replace c_16 := z01_f c_16
      refine z_bipush C dX6_paste_19 rfl ?_
      exact m_mret_i C hQ hret hlk hS hP ⟨(if_neg (by omega)).symm, by rw [pPaste, if_neg (by omega)]; exact hS_2⟩ dX6_paste_21
theorem mcX6_copyRow (l : Launch) (g : mG) (h : Nat) (ad : Nat → Nat) (P S : zS) (hPS : per S = P) (f : Nat) (n a b : Int) (hf : f < 51) (hk : mknd f = 3) (hs : scr f = false) (hn : 0 ≤ n ∧ n ≤ 100) (ha : 0 ≤ n * a ∧ n * a + n ≤ mlen f) (hb : 0 ≤ n * b ∧ n * b + n ≤ mlen f) (hd : n * a + n ≤ n * b ∨ n * b + n ≤ n * a) : mSV l g h ad yX6_copyRow cX6_copyRow 5 (k2_rm 0 0) [.ref (ad f), .int (iZ n), .int (iZ a), .int (iZ b)] S (fun S1 => per S1 = cp1 P f n a b ∧ True) := by
  refine z_start (own := RX6) (by decide) rfl (Nat.le_of_ble_eq_true rfl) ?_
  intro prg env s mid blw mth cod ls Q C hQ hret hlk hnm hK hH hl
  have hP : MP g h ad S s.heap := hH
  have hS : va_S (MA h ad) s.heap s.heap [] := va_S.rf
  have hl : lv_has ls 5 [(0, .ref (ad f)), (1, .int (iZ n)), (2, .int (iZ a)), (3, .int (iZ b))] := hl
  refine z_iconst C dX6_copyRow_0 ?_
  refine z_istore C dX6_copyRow_1 hl (by decide) rfl (fun ls hl => ?_)
  have hl : lv_has ls 5 [(4, _), (0, _), (1, _), (2, _), (3, _)] := hl
  have hL_3 : ∀ (fuel : Nat) (k : Nat) (S1 : zS) (H : Heap) (locs : List Loc) (ls : Array Slot), n.toNat - k < fuel → ((k : Int) ≤ n) → per S1 = putF P f (n * b) (fun x => P f (n * a + x)) k → MP g h ad S1 H → va_S (MA h ad) s.heap H locs → lv_has ls 5 [(0, .ref (ad f)), (1, .int (iZ n)), (2, .int (iZ a)), (3, .int (iZ b)), (4, .int (iZ (k : Int)))] → W prg l env (k2_rm 0 0) s mid ([.ref (ad f), .int (iZ n), .int (iZ a), .int (iZ b)] : List Value).toArray blw mth cod H locs 0 0 Q (F0 mid 3 ls []) := by
    intro fuel
    induction fuel with
    | zero => intro k S1  H locs ls hm; exact absurd hm (Nat.not_lt_zero _)
    | succ fuel hL_3 =>
      intro k S1  H locs ls hm ik hPS_3 hP  hS hl
      refine z_iload C dX6_copyRow_3 hl 4 rfl ?_
      refine z_iload_n C dX6_copyRow_5 hl 1 rfl ?_
      refine z_icmp_ge C 31 dX6_copyRow_6 (by decide) (by omega) (by omega) (fun c_6 => ?_) (fun c_6 => ?_)
      · exact m_mret_v C hQ hret hlk hS hP ⟨by rw [hPS_3, cp1_of _ _ _ _ _ hn.1, show n.toNat = k by omega], trivial⟩ dX6_copyRow_31
      · have q1 : putF P f (n * b) (fun x => P f (n * a + x)) k f (n * a + (k : Int)) = P f (n * a + (k : Int)) := by rw [putF_at, if_neg (by omega)]
        refine z_aload_n C dX6_copyRow_9 hl 0 rfl ?_
        refine z_iload_n C dX6_copyRow_10 hl 1 rfl ?_
        refine z_iload_n C dX6_copyRow_11 hl 3 rfl ?_
        refine z_imul C dX6_copyRow_12 ?_
        refine z_iload C dX6_copyRow_13 hl 4 rfl ?_
        refine z_iadd C dX6_copyRow_15 ?_
        refine z_aload_n C dX6_copyRow_16 hl 0 rfl ?_
        refine z_iload_n C dX6_copyRow_17 hl 1 rfl ?_
        refine z_iload_n C dX6_copyRow_18 hl 2 rfl ?_
        refine z_imul C dX6_copyRow_19 ?_
        refine z_iload C dX6_copyRow_20 hl 4 rfl ?_
        refine z_iadd C dX6_copyRow_22 ?_
        refine m_iald C hK hP f hf hk (by omega) (pe hPS_3 hs) dX6_copyRow_23 (fun r_23 => ?_)
        refine m_iast C hK hP hS f hf hk (by omega) (by omega) dX6_copyRow_24 (fun S_24 eS_24 H locs hP hS => ?_)
        have hS_24 := per_w2 hs hPS_3 eS_24
        refine z_iinc C dX6_copyRow_25 hl (by decide) 4 rfl rfl (fun ls hl => ?_)
        have hl : lv_has ls 5 [(4, _), (0, _), (1, _), (2, _), (3, _)] := hl
        refine z_goto C 3 dX6_copyRow_28 (by decide) ?_
        exact hL_3 (k + 1) _ _ _ ls (by omega) (by omega) (by rw [hS_24, putF_s, q1]) hP hS (lv_sub hl [1, 2, 3, 4, 0] rfl)
  exact hL_3 _ 0 _ _ _ ls (Nat.lt_succ_self _) (by omega) hPS hP hS (lv_sub hl [1, 2, 3, 4, 0] rfl)
theorem mcX6_copyRail (l : Launch) (g : mG) (h : Nat) (ad : Nat → Nat) (P S : zS) (hPS : per S = P) (a b : Int) (h1 : 0 ≤ a ∧ a ≤ 4) (h2 : 0 ≤ b ∧ b ≤ 4) (h3 : a ≠ b) : mMV l g h ad yX6_copyRail cX6_copyRail 3 (k2_rm 1 24) [.int (iZ a), .int (iZ b)] S (fun S1 => per S1 = cpRail P a b ∧ True) := by
  refine z_start (own := RX6) (by decide) rfl (Nat.le_of_ble_eq_true rfl) ?_
  intro prg env s mid blw mth cod ls Q C hQ hret hlk hnm hK hH hl
  have hP : MP g h ad S s.heap := hH
  have hS : va_S (MA h ad) s.heap s.heap [] := va_S.rf
  have hl : lv_has ls 3 [(0, .ref h), (1, .int (iZ a)), (2, .int (iZ b))] := hl
  refine z_aload_n C dX6_copyRail_0 hl 0 rfl ?_
  refine m_geta C hK hP 16 (by decide) q1765 rfl (by decide) dX6_copyRail_1 ?_
  refine z_iconst C dX6_copyRail_4 ?_
  refine z_iload_n C dX6_copyRail_5 hl 1 rfl ?_
  refine z_iload_n C dX6_copyRail_6 hl 2 rfl ?_
  refine m_sv C vX6_295 (mcX6_copyRow l g h ad _ _ hPS 16 1 a b (by decide) rfl rfl (by omega) (by have h9 : mlen 16 = 5 := rfl; omega) (by have h9 : mlen 16 = 5 := rfl; omega) (by omega)) hS hl ⟨Nat.le_of_ble_eq_true rfl, Nat.le_of_ble_eq_true rfl⟩ ⟨rfl, rfl⟩ hK hP (fun _ h9 => h9) rfl rfl (Nat.le_of_ble_eq_true rfl) dX6_copyRail_7 ⟨Nat.zero_le _, Nat.zero_le _⟩ (fun S_7 H locs pS_7 hP hS => ?_)
  obtain ⟨hS_7, pS_7⟩ := pS_7
  refine z_aload_n C dX6_copyRail_10 hl 0 rfl ?_
  refine m_geta C hK hP 17 (by decide) q1766 rfl (by decide) dX6_copyRail_11 ?_
  refine z_iconst C dX6_copyRail_14 ?_
  refine z_iload_n C dX6_copyRail_15 hl 1 rfl ?_
  refine z_iload_n C dX6_copyRail_16 hl 2 rfl ?_
  refine m_sv C vX6_295 (mcX6_copyRow l g h ad _ _ hS_7 17 1 a b (by decide) rfl rfl (by omega) (by have h9 : mlen 17 = 5 := rfl; omega) (by have h9 : mlen 17 = 5 := rfl; omega) (by omega)) hS hl ⟨Nat.le_of_ble_eq_true rfl, Nat.le_of_ble_eq_true rfl⟩ ⟨rfl, rfl⟩ hK hP (fun _ h9 => h9) rfl rfl (Nat.le_of_ble_eq_true rfl) dX6_copyRail_17 ⟨Nat.zero_le _, Nat.zero_le _⟩ (fun S_17 H locs pS_17 hP hS => ?_)
  obtain ⟨hS_17, pS_17⟩ := pS_17
  refine z_aload_n C dX6_copyRail_20 hl 0 rfl ?_
  refine m_geta C hK hP 18 (by decide) q1767 rfl (by decide) dX6_copyRail_21 ?_
  refine z_iconst C dX6_copyRail_24 ?_
  refine z_iload_n C dX6_copyRail_25 hl 1 rfl ?_
  refine z_iload_n C dX6_copyRail_26 hl 2 rfl ?_
  refine m_sv C vX6_295 (mcX6_copyRow l g h ad _ _ hS_17 18 1 a b (by decide) rfl rfl (by omega) (by have h9 : mlen 18 = 5 := rfl; omega) (by have h9 : mlen 18 = 5 := rfl; omega) (by omega)) hS hl ⟨Nat.le_of_ble_eq_true rfl, Nat.le_of_ble_eq_true rfl⟩ ⟨rfl, rfl⟩ hK hP (fun _ h9 => h9) rfl rfl (Nat.le_of_ble_eq_true rfl) dX6_copyRail_27 ⟨Nat.zero_le _, Nat.zero_le _⟩ (fun S_27 H locs pS_27 hP hS => ?_)
  obtain ⟨hS_27, pS_27⟩ := pS_27
  refine z_aload_n C dX6_copyRail_30 hl 0 rfl ?_
  refine m_geta C hK hP 19 (by decide) q1768 rfl (by decide) dX6_copyRail_31 ?_
  refine z_iconst C dX6_copyRail_34 ?_
  refine z_iload_n C dX6_copyRail_35 hl 1 rfl ?_
  refine z_iload_n C dX6_copyRail_36 hl 2 rfl ?_
  refine m_sv C vX6_295 (mcX6_copyRow l g h ad _ _ hS_27 19 1 a b (by decide) rfl rfl (by omega) (by have h9 : mlen 19 = 5 := rfl; omega) (by have h9 : mlen 19 = 5 := rfl; omega) (by omega)) hS hl ⟨Nat.le_of_ble_eq_true rfl, Nat.le_of_ble_eq_true rfl⟩ ⟨rfl, rfl⟩ hK hP (fun _ h9 => h9) rfl rfl (Nat.le_of_ble_eq_true rfl) dX6_copyRail_37 ⟨Nat.zero_le _, Nat.zero_le _⟩ (fun S_37 H locs pS_37 hP hS => ?_)
  obtain ⟨hS_37, pS_37⟩ := pS_37
  refine z_aload_n C dX6_copyRail_40 hl 0 rfl ?_
  refine m_geta C hK hP 20 (by decide) q1769 rfl (by decide) dX6_copyRail_41 ?_
  refine z_bipush C dX6_copyRail_44 rfl ?_
  refine z_iload_n C dX6_copyRail_46 hl 1 rfl ?_
  refine z_iload_n C dX6_copyRail_47 hl 2 rfl ?_
  refine m_sv C vX6_295 (mcX6_copyRow l g h ad _ _ hS_37 20 8 a b (by decide) rfl rfl (by omega) (by have h9 : mlen 20 = 40 := rfl; omega) (by have h9 : mlen 20 = 40 := rfl; omega) (by omega)) hS hl ⟨Nat.le_of_ble_eq_true rfl, Nat.le_of_ble_eq_true rfl⟩ ⟨rfl, rfl⟩ hK hP (fun _ h9 => h9) rfl rfl (Nat.le_of_ble_eq_true rfl) dX6_copyRail_48 ⟨Nat.zero_le _, Nat.zero_le _⟩ (fun S_48 H locs pS_48 hP hS => ?_)
  obtain ⟨hS_48, pS_48⟩ := pS_48
  refine z_aload_n C dX6_copyRail_51 hl 0 rfl ?_
  refine m_geta C hK hP 21 (by decide) q1770 rfl (by decide) dX6_copyRail_52 ?_
  refine z_iconst C dX6_copyRail_55 ?_
  refine z_iload_n C dX6_copyRail_56 hl 1 rfl ?_
  refine z_iload_n C dX6_copyRail_57 hl 2 rfl ?_
  refine m_sv C vX6_295 (mcX6_copyRow l g h ad _ _ hS_48 21 1 a b (by decide) rfl rfl (by omega) (by have h9 : mlen 21 = 5 := rfl; omega) (by have h9 : mlen 21 = 5 := rfl; omega) (by omega)) hS hl ⟨Nat.le_of_ble_eq_true rfl, Nat.le_of_ble_eq_true rfl⟩ ⟨rfl, rfl⟩ hK hP (fun _ h9 => h9) rfl rfl (Nat.le_of_ble_eq_true rfl) dX6_copyRail_58 ⟨Nat.zero_le _, Nat.zero_le _⟩ (fun S_58 H locs pS_58 hP hS => ?_)
  obtain ⟨hS_58, pS_58⟩ := pS_58
  refine z_aload_n C dX6_copyRail_61 hl 0 rfl ?_
  refine m_geta C hK hP 22 (by decide) q1771 rfl (by decide) dX6_copyRail_62 ?_
  refine z_bipush C dX6_copyRail_65 rfl ?_
  refine z_iload_n C dX6_copyRail_67 hl 1 rfl ?_
  refine z_iload_n C dX6_copyRail_68 hl 2 rfl ?_
  refine m_sv C vX6_295 (mcX6_copyRow l g h ad _ _ hS_58 22 20 a b (by decide) rfl rfl (by omega) (by have h9 : mlen 22 = 100 := rfl; omega) (by have h9 : mlen 22 = 100 := rfl; omega) (by omega)) hS hl ⟨Nat.le_of_ble_eq_true rfl, Nat.le_of_ble_eq_true rfl⟩ ⟨rfl, rfl⟩ hK hP (fun _ h9 => h9) rfl rfl (Nat.le_of_ble_eq_true rfl) dX6_copyRail_69 ⟨Nat.zero_le _, Nat.zero_le _⟩ (fun S_69 H locs pS_69 hP hS => ?_)
  obtain ⟨hS_69, pS_69⟩ := pS_69
  refine z_aload_n C dX6_copyRail_72 hl 0 rfl ?_
  refine m_geta C hK hP 23 (by decide) q1772 rfl (by decide) dX6_copyRail_73 ?_
  refine z_iconst C dX6_copyRail_76 ?_
  refine z_iload_n C dX6_copyRail_77 hl 1 rfl ?_
  refine z_iload_n C dX6_copyRail_78 hl 2 rfl ?_
  refine m_sv C vX6_295 (mcX6_copyRow l g h ad _ _ hS_69 23 1 a b (by decide) rfl rfl (by omega) (by have h9 : mlen 23 = 5 := rfl; omega) (by have h9 : mlen 23 = 5 := rfl; omega) (by omega)) hS hl ⟨Nat.le_of_ble_eq_true rfl, Nat.le_of_ble_eq_true rfl⟩ ⟨rfl, rfl⟩ hK hP (fun _ h9 => h9) rfl rfl (Nat.le_of_ble_eq_true rfl) dX6_copyRail_79 ⟨Nat.zero_le _, Nat.zero_le _⟩ (fun S_79 H locs pS_79 hP hS => ?_)
  obtain ⟨hS_79, pS_79⟩ := pS_79
  refine z_aload_n C dX6_copyRail_82 hl 0 rfl ?_
  refine m_geta C hK hP 24 (by decide) q1773 rfl (by decide) dX6_copyRail_83 ?_
  refine z_bipush C dX6_copyRail_86 rfl ?_
  refine z_iload_n C dX6_copyRail_88 hl 1 rfl ?_
  refine z_iload_n C dX6_copyRail_89 hl 2 rfl ?_
  refine m_sv C vX6_295 (mcX6_copyRow l g h ad _ _ hS_79 24 50 a b (by decide) rfl rfl (by omega) (by have h9 : mlen 24 = 250 := rfl; omega) (by have h9 : mlen 24 = 250 := rfl; omega) (by omega)) hS hl ⟨Nat.le_of_ble_eq_true rfl, Nat.le_of_ble_eq_true rfl⟩ ⟨rfl, rfl⟩ hK hP (fun _ h9 => h9) rfl rfl (Nat.le_of_ble_eq_true rfl) dX6_copyRail_90 ⟨Nat.zero_le _, Nat.zero_le _⟩ (fun S_90 H locs pS_90 hP hS => ?_)
  obtain ⟨hS_90, pS_90⟩ := pS_90
  refine z_aload_n C dX6_copyRail_93 hl 0 rfl ?_
  refine m_geta C hK hP 25 (by decide) q1774 rfl (by decide) dX6_copyRail_94 ?_
  refine z_iconst C dX6_copyRail_97 ?_
  refine z_iload_n C dX6_copyRail_98 hl 1 rfl ?_
  refine z_iload_n C dX6_copyRail_99 hl 2 rfl ?_
  refine m_sv C vX6_295 (mcX6_copyRow l g h ad _ _ hS_90 25 1 a b (by decide) rfl rfl (by omega) (by have h9 : mlen 25 = 5 := rfl; omega) (by have h9 : mlen 25 = 5 := rfl; omega) (by omega)) hS hl ⟨Nat.le_of_ble_eq_true rfl, Nat.le_of_ble_eq_true rfl⟩ ⟨rfl, rfl⟩ hK hP (fun _ h9 => h9) rfl rfl (Nat.le_of_ble_eq_true rfl) dX6_copyRail_100 ⟨Nat.zero_le _, Nat.zero_le _⟩ (fun S_100 H locs pS_100 hP hS => ?_)
  obtain ⟨hS_100, pS_100⟩ := pS_100
  refine z_aload_n C dX6_copyRail_103 hl 0 rfl ?_
  refine m_geta C hK hP 26 (by decide) q1775 rfl (by decide) dX6_copyRail_104 ?_
  refine z_bipush C dX6_copyRail_107 rfl ?_
  refine z_iload_n C dX6_copyRail_109 hl 1 rfl ?_
  refine z_iload_n C dX6_copyRail_110 hl 2 rfl ?_
  refine m_sv C vX6_295 (mcX6_copyRow l g h ad _ _ hS_100 26 30 a b (by decide) rfl rfl (by omega) (by have h9 : mlen 26 = 150 := rfl; omega) (by have h9 : mlen 26 = 150 := rfl; omega) (by omega)) hS hl ⟨Nat.le_of_ble_eq_true rfl, Nat.le_of_ble_eq_true rfl⟩ ⟨rfl, rfl⟩ hK hP (fun _ h9 => h9) rfl rfl (Nat.le_of_ble_eq_true rfl) dX6_copyRail_111 ⟨Nat.zero_le _, Nat.zero_le _⟩ (fun S_111 H locs pS_111 hP hS => ?_)
  obtain ⟨hS_111, pS_111⟩ := pS_111
  refine z_aload_n C dX6_copyRail_114 hl 0 rfl ?_
  refine m_geta C hK hP 27 (by decide) q1776 rfl (by decide) dX6_copyRail_115 ?_
  refine z_bipush C dX6_copyRail_118 rfl ?_
  refine z_iload_n C dX6_copyRail_120 hl 1 rfl ?_
  refine z_iload_n C dX6_copyRail_121 hl 2 rfl ?_
  refine m_sv C vX6_295 (mcX6_copyRow l g h ad _ _ hS_111 27 7 a b (by decide) rfl rfl (by omega) (by have h9 : mlen 27 = 35 := rfl; omega) (by have h9 : mlen 27 = 35 := rfl; omega) (by omega)) hS hl ⟨Nat.le_of_ble_eq_true rfl, Nat.le_of_ble_eq_true rfl⟩ ⟨rfl, rfl⟩ hK hP (fun _ h9 => h9) rfl rfl (Nat.le_of_ble_eq_true rfl) dX6_copyRail_122 ⟨Nat.zero_le _, Nat.zero_le _⟩ (fun S_122 H locs pS_122 hP hS => ?_)
  obtain ⟨hS_122, pS_122⟩ := pS_122
  refine z_aload_n C dX6_copyRail_125 hl 0 rfl ?_
  refine m_geta C hK hP 29 (by decide) q1778 rfl (by decide) dX6_copyRail_126 ?_
  refine z_bipush C dX6_copyRail_129 rfl ?_
  refine z_iload_n C dX6_copyRail_131 hl 1 rfl ?_
  refine z_iload_n C dX6_copyRail_132 hl 2 rfl ?_
  refine m_sv C vX6_295 (mcX6_copyRow l g h ad _ _ hS_122 29 17 a b (by decide) rfl rfl (by omega) (by have h9 : mlen 29 = 85 := rfl; omega) (by have h9 : mlen 29 = 85 := rfl; omega) (by omega)) hS hl ⟨Nat.le_of_ble_eq_true rfl, Nat.le_of_ble_eq_true rfl⟩ ⟨rfl, rfl⟩ hK hP (fun _ h9 => h9) rfl rfl (Nat.le_of_ble_eq_true rfl) dX6_copyRail_133 ⟨Nat.zero_le _, Nat.zero_le _⟩ (fun S_133 H locs pS_133 hP hS => ?_)
  obtain ⟨hS_133, pS_133⟩ := pS_133
  exact m_mret_v C hQ hret hlk hS hP ⟨hS_133, trivial⟩ dX6_copyRail_136
theorem mcX6_keep (l : Launch) (g : mG) (h : Nat) (ad : Nat → Nat) (P S : zS) (hPS : per S = P) (k : Int) (h1 : I32 k) : mMI l g h ad yX6_keep cX6_keep 2 .int (k2_rm 2 46) [.int (iZ k)] S (fun z1 S1 => z1 = aKeep k ∧ per S1 = pKeep P k) := by
  refine z_start (own := RX6) (by decide) rfl (Nat.le_of_ble_eq_true rfl) ?_
  intro prg env s mid blw mth cod ls Q C hQ hret hlk hnm hK hH hl
  have hP : MP g h ad S s.heap := hH
  have hS : va_S (MA h ad) s.heap s.heap [] := va_S.rf
  have hl : lv_has ls 2 [(0, .ref h), (1, .int (iZ k))] := hl
  refine z_aload_n C dX6_keep_0 hl 0 rfl ?_
  refine z_iconst C dX6_keep_1 ?_
  refine m_puti C hK hP hS 0 (by decide) q1749 rfl rfl (by omega) dX6_keep_2 (fun S_2 eS_2 H locs hP hS => ?_)
  have hS_2 := per_s rfl hPS eS_2
  refine z_iload_n C dX6_keep_5 hl 1 rfl ?_
  refine z_i2l C dX6_keep_6 (by omega) ?_
  refine z_lconst (v := 0) C dX6_keep_7 rfl ?_
  refine z_ldc2 (v := 2) C q2188 dX6_keep_8 rfl ?_
  refine s_pi C vX6_119 (mcX6_in l _ _ _ (by omega) (by omega) (by omega)) hS hl ⟨Nat.le_of_ble_eq_true rfl, Nat.le_of_ble_eq_true rfl⟩ ⟨rfl, rfl⟩ rfl rfl (Nat.le_of_ble_eq_true rfl) dX6_keep_11 ⟨Nat.zero_le _, Nat.zero_le _⟩ (fun locs hS => ?_)
  refine z_if_ne C 20 dX6_keep_14 (by decide) z01_in (fun c_14 => ?_) (fun c_14 => ?_)
  · replace c_14 := z01_t c_14
    refine z_aload_n C dX6_keep_20 hl 0 rfl ?_
    refine z_iconst C dX6_keep_21 ?_
    refine z_iconst C dX6_keep_22 ?_
    refine z_iload_n C dX6_keep_23 hl 1 rfl ?_
    refine z_iadd C dX6_keep_24 ?_
    refine m_mv C vX6_291 (mcX6_copyRail l g h ad _ _ hS_2 _ _ (by omega) (by omega) (by omega)) hS hl ⟨Nat.le_of_ble_eq_true rfl, Nat.le_of_ble_eq_true rfl⟩ ⟨rfl, rfl⟩ hK hP (fun _ h9 => h9) rfl rfl (Nat.le_of_ble_eq_true rfl) dX6_keep_25 ⟨Nat.zero_le _, Nat.zero_le _⟩ (fun S_25 H locs pS_25 hP hS => ?_)
    obtain ⟨hS_25, pS_25⟩ := pS_25
    refine z_aload_n C dX6_keep_28 hl 0 rfl ?_
    refine m_geta C hK hP 30 (by decide) q1779 rfl (by decide) dX6_keep_29 ?_
    refine z_iload_n C dX6_keep_32 hl 1 rfl ?_
    refine z_iconst C dX6_keep_33 ?_
    refine m_zast C hK hP hS 30 (by decide) rfl (by have h9 : mlen 30 = 3 := rfl; omega) (by omega) dX6_keep_34 (fun S_34 eS_34 H locs hP hS => ?_)
    have hS_34 := per_w2 rfl hS_25 eS_34
    refine z_iconst C dX6_keep_35 ?_
    exact m_mret_i C hQ hret hlk hS hP ⟨(if_pos (by omega)).symm, by rw [pKeep, if_pos (by omega)]; exact hS_34⟩ dX6_keep_36
  · replace c_14 := z01_f c_14
    refine z_bipush C dX6_keep_17 rfl ?_
    exact m_mret_i C hQ hret hlk hS hP ⟨(if_neg (by omega)).symm, by rw [pKeep, if_neg (by omega)]; exact hS_2⟩ dX6_keep_19
theorem mcX6_back (l : Launch) (g : mG) (h : Nat) (ad : Nat → Nat) (P S : zS) (hPS : per S = P) (k : Int) (h1 : I32 k) (h30 : ∀ k : Int, 0 ≤ k → k ≤ 2 → 0 ≤ P 30 k ∧ P 30 k ≤ 1) : mMI l g h ad yX6_back cX6_back 2 .int (k2_rm 2 46) [.int (iZ k)] S (fun z1 S1 => z1 = aBack P k ∧ per S1 = pBack P k) := by
  refine z_start (own := RX6) (by decide) rfl (Nat.le_of_ble_eq_true rfl) ?_
  intro prg env s mid blw mth cod ls Q C hQ hret hlk hnm hK hH hl
  have hP : MP g h ad S s.heap := hH
  have hS : va_S (MA h ad) s.heap s.heap [] := va_S.rf
  have hl : lv_has ls 2 [(0, .ref h), (1, .int (iZ k))] := hl
  refine z_aload_n C dX6_back_0 hl 0 rfl ?_
  refine z_iconst C dX6_back_1 ?_
  refine m_puti C hK hP hS 0 (by decide) q1749 rfl rfl (by omega) dX6_back_2 (fun S_2 eS_2 H locs hP hS => ?_)
  have hS_2 := per_s rfl hPS eS_2
  refine z_iload_n C dX6_back_5 hl 1 rfl ?_
  refine z_i2l C dX6_back_6 (by omega) ?_
  refine z_lconst (v := 0) C dX6_back_7 rfl ?_
  refine z_ldc2 (v := 2) C q2188 dX6_back_8 rfl ?_
  refine s_pi C vX6_119 (mcX6_in l _ _ _ (by omega) (by omega) (by omega)) hS hl ⟨Nat.le_of_ble_eq_true rfl, Nat.le_of_ble_eq_true rfl⟩ ⟨rfl, rfl⟩ rfl rfl (Nat.le_of_ble_eq_true rfl) dX6_back_11 ⟨Nat.zero_le _, Nat.zero_le _⟩ (fun locs hS => ?_)
  refine z_if_ne C 20 dX6_back_14 (by decide) z01_in (fun c_14 => ?_) (fun c_14 => ?_)
  · replace c_14 := z01_t c_14
    refine z_aload_n C dX6_back_20 hl 0 rfl ?_
    refine m_geta C hK hP 30 (by decide) q1779 rfl (by decide) dX6_back_21 ?_
    refine z_iload_n C dX6_back_24 hl 1 rfl ?_
    refine m_zald C hK hP 30 (by decide) rfl (by have h9 : mlen 30 = 3 := rfl; omega) (pe hS_2 rfl) dX6_back_25 (fun r_25 => ?_)
    refine z_if_ne C 32 dX6_back_26 (by decide) (by omega) (fun c_26 => ?_) (fun c_26 => ?_)
    · refine z_aload_n C dX6_back_32 hl 0 rfl ?_
      refine z_iconst C dX6_back_33 ?_
      refine z_iload_n C dX6_back_34 hl 1 rfl ?_
      refine z_iadd C dX6_back_35 ?_
      refine z_iconst C dX6_back_36 ?_
      refine m_mv C vX6_291 (mcX6_copyRail l g h ad _ _ hS_2 _ _ (by omega) (by omega) (by omega)) hS hl ⟨Nat.le_of_ble_eq_true rfl, Nat.le_of_ble_eq_true rfl⟩ ⟨rfl, rfl⟩ hK hP (fun _ h9 => h9) rfl rfl (Nat.le_of_ble_eq_true rfl) dX6_back_37 ⟨Nat.zero_le _, Nat.zero_le _⟩ (fun S_37 H locs pS_37 hP hS => ?_)
      obtain ⟨hS_37, pS_37⟩ := pS_37
      refine z_iconst C dX6_back_40 ?_
      exact m_mret_i C hQ hret hlk hS hP ⟨by rw [aBack, if_pos (by omega), if_neg (by omega)], by rw [pBack, if_pos (by omega)]; exact hS_37⟩ dX6_back_41
    · refine z_bipush C dX6_back_29 rfl ?_
      exact m_mret_i C hQ hret hlk hS hP ⟨by rw [aBack, if_pos (by omega), if_pos (by omega)], by rw [pBack, if_neg (by omega)]; exact hS_2⟩ dX6_back_31
  · replace c_14 := z01_f c_14
    refine z_bipush C dX6_back_17 rfl ?_
    exact m_mret_i C hQ hret hlk hS hP ⟨(if_neg (by omega)).symm, by rw [pBack, if_neg (by omega)]; exact hS_2⟩ dX6_back_19
theorem mcX6_count (l : Launch) (g : mG) (h : Nat) (ad : Nat → Nat) (P S : zS) (hPS : per S = P) (w : Int) (hW : WfR P 0) (h1 : I32 w) : mMI l g h ad yX6_count cX6_count 4 .int (k2_rm 2 44) [.int (iZ w)] S (fun z1 S1 => z1 = aCount P w ∧ per S1 = P) := by
  refine z_start (own := RX6) (by decide) rfl (Nat.le_of_ble_eq_true rfl) ?_
  intro prg env s mid blw mth cod ls Q C hQ hret hlk hnm hK hH hl
  have hP : MP g h ad S s.heap := hH
  have hS : va_S (MA h ad) s.heap s.heap [] := va_S.rf
  have hl : lv_has ls 4 [(0, .ref h), (1, .int (iZ w))] := hl
  have w1 := hW.bikes
  refine z_aload_n C dX6_count_0 hl 0 rfl ?_
  refine z_iconst C dX6_count_1 ?_
  refine m_puti C hK hP hS 0 (by decide) q1749 rfl rfl (by omega) dX6_count_2 (fun S_2 eS_2 H locs hP hS => ?_)
  have hS_2 := per_s rfl hPS eS_2
  refine z_iconst C dX6_count_5 ?_
  refine z_istore_n C dX6_count_6 rfl hl (by decide) rfl (fun ls hl => ?_)
  have hl : lv_has ls 4 [(2, _), (0, _), (1, _)] := hl
  refine z_iload_n C dX6_count_7 hl 2 rfl ?_
  rcases (by omega : w = 0 ∨ w = 1 ∨ w = 2 ∨ w = 3 ∨ w = 4 ∨ w = 5 ∨ w = 6 ∨ w = 7 ∨ w = 8 ∨ w = 9 ∨ w = 10 ∨ w = 11 ∨ w = 12 ∨ (w < 0 ∨ 12 < w)) with c_8 | c_8 | c_8 | c_8 | c_8 | c_8 | c_8 | c_8 | c_8 | c_8 | c_8 | c_8 | c_8 | c_8
  · refine z_tin C 76 dX6_count_8 (by omega) (by omega) (by omega) (by rw [c_8]; rfl) (by decide) ?_
    refine z_aload_n C dX6_count_76 hl 1 rfl ?_
    refine m_geta C hK hP 17 (by decide) q1766 rfl (by decide) dX6_count_77 ?_
    refine z_iconst C dX6_count_80 ?_
    refine m_iald C hK hP 17 (by decide) rfl (by have h9 : mlen 17 = 5 := rfl; omega) (pe hS_2 rfl) dX6_count_81 (fun r_81 => ?_)
    exact m_mret_i C hQ hret hlk hS hP ⟨by subst c_8; rfl, hS_2⟩ dX6_count_82
  · refine z_tin C 83 dX6_count_8 (by omega) (by omega) (by omega) (by rw [c_8]; rfl) (by decide) ?_
    refine z_aload_n C dX6_count_83 hl 1 rfl ?_
    refine m_geta C hK hP 18 (by decide) q1767 rfl (by decide) dX6_count_84 ?_
    refine z_iconst C dX6_count_87 ?_
    refine m_iald C hK hP 18 (by decide) rfl (by have h9 : mlen 18 = 5 := rfl; omega) (pe hS_2 rfl) dX6_count_88 (fun r_88 => ?_)
    exact m_mret_i C hQ hret hlk hS hP ⟨by subst c_8; rfl, hS_2⟩ dX6_count_89
  · refine z_tin C 90 dX6_count_8 (by omega) (by omega) (by omega) (by rw [c_8]; rfl) (by decide) ?_
    refine z_aload_n C dX6_count_90 hl 1 rfl ?_
    refine m_geta C hK hP 19 (by decide) q1768 rfl (by decide) dX6_count_91 ?_
    refine z_iconst C dX6_count_94 ?_
    refine m_iald C hK hP 19 (by decide) rfl (by have h9 : mlen 19 = 5 := rfl; omega) (pe hS_2 rfl) dX6_count_95 (fun r_95 => ?_)
    exact m_mret_i C hQ hret hlk hS hP ⟨by subst c_8; rfl, hS_2⟩ dX6_count_96
  · refine z_tin C 97 dX6_count_8 (by omega) (by omega) (by omega) (by rw [c_8]; rfl) (by decide) ?_
    refine z_aload_n C dX6_count_97 hl 1 rfl ?_
    refine m_geta C hK hP 21 (by decide) q1770 rfl (by decide) dX6_count_98 ?_
    refine z_iconst C dX6_count_101 ?_
    refine m_iald C hK hP 21 (by decide) rfl (by have h9 : mlen 21 = 5 := rfl; omega) (pe hS_2 rfl) dX6_count_102 (fun r_102 => ?_)
    exact m_mret_i C hQ hret hlk hS hP ⟨by subst c_8; rfl, hS_2⟩ dX6_count_103
  · refine z_tin C 104 dX6_count_8 (by omega) (by omega) (by omega) (by rw [c_8]; rfl) (by decide) ?_
    refine z_aload_n C dX6_count_104 hl 1 rfl ?_
    refine m_geta C hK hP 23 (by decide) q1772 rfl (by decide) dX6_count_105 ?_
    refine z_iconst C dX6_count_108 ?_
    refine m_iald C hK hP 23 (by decide) rfl (by have h9 : mlen 23 = 5 := rfl; omega) (pe hS_2 rfl) dX6_count_109 (fun r_109 => ?_)
    exact m_mret_i C hQ hret hlk hS hP ⟨by subst c_8; rfl, hS_2⟩ dX6_count_110
  · refine z_tin C 111 dX6_count_8 (by omega) (by omega) (by omega) (by rw [c_8]; rfl) (by decide) ?_
    refine z_aload_n C dX6_count_111 hl 1 rfl ?_
    refine m_geta C hK hP 25 (by decide) q1774 rfl (by decide) dX6_count_112 ?_
    refine z_iconst C dX6_count_115 ?_
    refine m_iald C hK hP 25 (by decide) rfl (by have h9 : mlen 25 = 5 := rfl; omega) (pe hS_2 rfl) dX6_count_116 (fun r_116 => ?_)
    exact m_mret_i C hQ hret hlk hS hP ⟨by subst c_8; rfl, hS_2⟩ dX6_count_117
  · refine z_tin C 118 dX6_count_8 (by omega) (by omega) (by omega) (by rw [c_8]; rfl) (by decide) ?_
    refine z_aload_n C dX6_count_118 hl 1 rfl ?_
    refine m_geta C hK hP 16 (by decide) q1765 rfl (by decide) dX6_count_119 ?_
    refine z_iconst C dX6_count_122 ?_
    refine m_iald C hK hP 16 (by decide) rfl (by have h9 : mlen 16 = 5 := rfl; omega) (pe hS_2 rfl) dX6_count_123 (fun r_123 => ?_)
    exact m_mret_i C hQ hret hlk hS hP ⟨by subst c_8; rfl, hS_2⟩ dX6_count_124
  · refine z_tin C 125 dX6_count_8 (by omega) (by omega) (by omega) (by rw [c_8]; rfl) (by decide) ?_
    refine z_aload_n C dX6_count_125 hl 1 rfl ?_
    refine m_geti C hK hP 6 (by decide) q1755 rfl (Or.inl rfl) (pe hS_2 rfl) dX6_count_126 (fun r_126 => ?_)
    exact m_mret_i C hQ hret hlk hS hP ⟨by subst c_8; rfl, hS_2⟩ dX6_count_129
  · refine z_tin C 130 dX6_count_8 (by omega) (by omega) (by omega) (by rw [c_8]; rfl) (by decide) ?_
    refine z_aload_n C dX6_count_130 hl 1 rfl ?_
    refine z_iconst C dX6_count_131 ?_
    refine m_pi C vX6_327 (mcX6_markedOn l g h ad _ _ hS_2 _ (by omega) (by assumption)) hS hl ⟨Nat.le_of_ble_eq_true rfl, Nat.le_of_ble_eq_true rfl⟩ ⟨rfl, rfl⟩ hK hP rfl rfl (Nat.le_of_ble_eq_true rfl) dX6_count_132 ⟨Nat.zero_le _, Nat.zero_le _⟩ (fun locs hS => ?_)
    exact m_mret_i C hQ hret hlk hS hP ⟨by subst c_8; rfl, hS_2⟩ dX6_count_135
  · refine z_tin C 136 dX6_count_8 (by omega) (by omega) (by omega) (by rw [c_8]; rfl) (by decide) ?_
    refine z_aload_n C dX6_count_136 hl 1 rfl ?_
    refine m_geta C hK hP 27 (by decide) q1776 rfl (by decide) dX6_count_137 ?_
    refine z_bipush C dX6_count_140 rfl ?_
    refine m_iald C hK hP 27 (by decide) rfl (by have h9 : mlen 27 = 35 := rfl; omega) (pe hS_2 rfl) dX6_count_142 (fun r_142 => ?_)
    exact m_mret_i C hQ hret hlk hS hP ⟨by subst c_8; rfl, hS_2⟩ dX6_count_143
  · refine z_tin C 144 dX6_count_8 (by omega) (by omega) (by omega) (by rw [c_8]; rfl) (by decide) ?_
    refine z_aload_n C dX6_count_144 hl 1 rfl ?_
    refine m_pi C vX6_354 (mcX6_isRail l g h ad _ _ hS_2 (by assumption)) hS hl ⟨Nat.le_of_ble_eq_true rfl, Nat.le_of_ble_eq_true rfl⟩ ⟨rfl, rfl⟩ hK hP rfl rfl (Nat.le_of_ble_eq_true rfl) dX6_count_145 ⟨Nat.zero_le _, Nat.zero_le _⟩ (fun locs hS => ?_)
    refine z_if_eq C 158 dX6_count_148 (by decide) z01_in (fun c_148 => ?_) (fun c_148 => ?_)
    · replace c_148 := z01_f c_148
      refine z_iconst C dX6_count_158 ?_
      exact m_mret_i C hQ hret hlk hS hP ⟨by subst c_8; show _ = if isRl P then nO P else 0; first | exact (if_pos (by assumption)).symm | exact (if_neg (by assumption)).symm, hS_2⟩ dX6_count_159
    · replace c_148 := z01_t c_148
      refine z_aload_n C dX6_count_151 hl 1 rfl ?_
      refine m_pi C vX6_401 (mcX6_optionMany l g h ad _ _ hS_2 ) hS hl ⟨Nat.le_of_ble_eq_true rfl, Nat.le_of_ble_eq_true rfl⟩ ⟨rfl, rfl⟩ hK hP rfl rfl (Nat.le_of_ble_eq_true rfl) dX6_count_152 ⟨Nat.zero_le _, Nat.zero_le _⟩ (fun locs hS => ?_)
      refine z_goto C 159 dX6_count_155 (by decide) ?_
      exact m_mret_i C hQ hret hlk hS hP ⟨by subst c_8; show _ = if isRl P then nO P else 0; first | exact (if_pos (by assumption)).symm | exact (if_neg (by assumption)).symm, hS_2⟩ dX6_count_159
  · refine z_tin C 160 dX6_count_8 (by omega) (by omega) (by omega) (by rw [c_8]; rfl) (by decide) ?_
    refine z_aload_n C dX6_count_160 hl 1 rfl ?_
    refine m_geta C hK hP 29 (by decide) q1778 rfl (by decide) dX6_count_161 ?_
    refine z_iconst C dX6_count_164 ?_
    refine m_iald C hK hP 29 (by decide) rfl (by have h9 : mlen 29 = 85 := rfl; omega) (pe hS_2 rfl) dX6_count_165 (fun r_165 => ?_)
    exact m_mret_i C hQ hret hlk hS hP ⟨by subst c_8; rfl, hS_2⟩ dX6_count_166
  · refine z_tin C 167 dX6_count_8 (by omega) (by omega) (by omega) (by rw [c_8]; rfl) (by decide) ?_
    refine z_iconst C dX6_count_167 ?_
    refine z_istore_n C dX6_count_168 rfl hl (by decide) rfl (fun ls hl => ?_)
    have hl : lv_has ls 4 [(3, _), (2, _), (0, _), (1, _)] := hl
    have hL_169 : ∀ (fuel : Nat) (k : Nat) (n : Int) (H : Heap) (locs : List Loc) (ls : Array Slot), 4 - k < fuel → (k ≤ 4) → (n = slF P k) → MP g h ad S_2 H → va_S (MA h ad) s.heap H locs → lv_has ls 4 [(0, .ref h), (1, .int (iZ w)), (2, .int (iZ n)), (3, .int (iZ (k : Int)))] → W prg l env (k2_rm 2 44) s mid ([.ref h, .int (iZ w)] : List Value).toArray blw mth cod H locs 0 0 Q (F0 mid 169 ls []) := by
      intro fuel
      induction fuel with
      | zero => intro k n  H locs ls hm; exact absurd hm (Nat.not_lt_zero _)
      | succ fuel hL_169 =>
        intro k n  H locs ls hm ik iN hP  hS hl
        refine z_iload_n C dX6_count_169 hl 3 rfl ?_
        refine z_iconst C dX6_count_170 ?_
        refine z_icmp_ge C 198 dX6_count_171 (by decide) (by omega) (by omega) (fun c_171 => ?_) (fun c_171 => ?_)
        · refine z_iload_n C dX6_count_198 hl 2 rfl ?_
          exact m_mret_i C hQ hret hlk hS hP ⟨by subst c_8; rw [iN, show k = 4 by omega]; rfl, hS_2⟩ dX6_count_199
        · refine z_iload_n C dX6_count_174 hl 2 rfl ?_
          refine z_aload_n C dX6_count_175 hl 0 rfl ?_
          refine m_geta C hK hP 1 (by decide) q1750 rfl (by decide) dX6_count_176 ?_
          refine z_iload_n C dX6_count_179 hl 3 rfl ?_
          refine m_iald C hK hP 1 (by decide) rfl (by have h9 : mlen 1 = 4 := rfl; omega) (pe hS_2 rfl) dX6_count_180 (fun r_180 => ?_)
          refine z_iconst C dX6_count_181 ?_
          refine z_icmp_ne C 189 dX6_count_182 (by decide) (by omega) (by omega) (fun c_182 => ?_) (fun c_182 => ?_)
          · refine z_iconst C dX6_count_189 ?_
            refine z_iadd C dX6_count_190 ?_
            refine z_istore_n C dX6_count_191 rfl hl (by decide) rfl (fun ls hl => ?_)
            have hl : lv_has ls 4 [(2, _), (0, _), (1, _), (3, _)] := hl
            refine z_iinc C dX6_count_192 hl (by decide) 3 rfl rfl (fun ls hl => ?_)
            have hl : lv_has ls 4 [(3, _), (2, _), (0, _), (1, _)] := hl
            refine z_goto C 169 dX6_count_195 (by decide) ?_
            exact hL_169 (k + 1) _ _ _ ls (by omega) (by omega) (by rw [slF, zsm_s, iN, if_neg (by omega)]; rfl) hP hS (lv_sub hl [2, 3, 1, 0] rfl)
          · refine z_iconst C dX6_count_185 ?_
            refine z_goto C 190 dX6_count_186 (by decide) ?_
            refine z_iadd C dX6_count_190 ?_
            refine z_istore_n C dX6_count_191 rfl hl (by decide) rfl (fun ls hl => ?_)
            have hl : lv_has ls 4 [(2, _), (0, _), (1, _), (3, _)] := hl
            refine z_iinc C dX6_count_192 hl (by decide) 3 rfl rfl (fun ls hl => ?_)
            have hl : lv_has ls 4 [(3, _), (2, _), (0, _), (1, _)] := hl
            refine z_goto C 169 dX6_count_195 (by decide) ?_
            exact hL_169 (k + 1) _ _ _ ls (by omega) (by omega) (by rw [slF, zsm_s, iN, if_pos (by omega)]; rfl) hP hS (lv_sub hl [2, 3, 1, 0] rfl)
    exact hL_169 _ 0 0 _ _ ls (Nat.lt_succ_self _) (by omega) rfl hP hS (lv_sub hl [2, 3, 1, 0] rfl)
  · refine z_tout C 200 dX6_count_8 (by omega) c_8 (by decide) ?_
    refine z_iconst C dX6_count_200 ?_
    exact m_mret_i C hQ hret hlk hS hP ⟨by unfold aCount; repeat rw [if_neg (by omega)], hS_2⟩ dX6_count_201
