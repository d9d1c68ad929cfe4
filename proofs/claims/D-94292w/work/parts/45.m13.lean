theorem vX6_239 : zV RX6 239 RX6 yX6_onceLine cX6_onceLine 3 none 1 := ⟨lw_V q2008 q2010 qs76 q149 q2011, rfl, by decide +kernel⟩
theorem vX6_248 : zV RX6 248 RX6 yX6_isFull cX6_isFull 2 (some .boolean) 1 := ⟨lw_V q2021 q2023 qs77 q149 q2024, rfl, by decide +kernel⟩
theorem vX6_251 : zV RX6 251 RX6 yX6_lampLine cX6_lampLine 2 none 0 := ⟨lw_V q2025 q2027 qs78 q149 q2028, rfl, by decide +kernel⟩
theorem vX6_254 : zV RX6 254 RX6 yX6_lockLine cX6_lockLine 2 none 0 := ⟨lw_V q2031 q2033 qs79 q149 q2034, rfl, by decide +kernel⟩
theorem vX6_257 : zV RX6 257 RX6 yX6_bikeLine cX6_bikeLine 4 none 0 := ⟨lw_V q2036 q2038 qs80 q149 q2039, rfl, by decide +kernel⟩
theorem vX6_260 : zV RX6 260 RX6 yX6_thiefLine cX6_thiefLine 3 none 0 := ⟨lw_V q2043 q2045 qs81 q149 q2046, rfl, by decide +kernel⟩
theorem vX6_269 : zV RX6 269 RX6 yX6_clears cX6_clears 2 none 0 := ⟨lw_V q1946 q1948 qs63 q149 q1949, rfl, by decide +kernel⟩
theorem vX6_272 : zV RX6 272 RX6 yX6_begins cX6_begins 1 none 0 := ⟨lw_V q1950 q1952 qs64 q149 q1953, rfl, by decide +kernel⟩
theorem vX6_275 : zV RX6 275 RX6 yX6_isGood cX6_isGood 1 (some .boolean) 0 := ⟨lw_V q1967 q1969 qs67 q149 q1970, rfl, by decide +kernel⟩
theorem vX6_279 : zV RX6 279 RX6 yX6_railLine cX6_railLine 1 none 0 := ⟨lw_V q1971 q1973 qs68 q149 q1974, rfl, by decide +kernel⟩
theorem vX6_282 : zV RX6 282 RX6 yX6_line cX6_line 3 none 0 := ⟨lw_V q2002 q2004 qs75 q149 q2005, rfl, by decide +kernel⟩
theorem vX6_285 : zV RX6 285 RX6 yX6_ends cX6_ends 1 none 0 := ⟨lw_V q2053 q2055 qs82 q149 q2056, rfl, by decide +kernel⟩
theorem vX6_288 : zV RX6 288 RX6 yX6_isOver cX6_isOver 1 none 0 := ⟨lw_V q2057 q2059 qs83 q149 q2060, rfl, by decide +kernel⟩
theorem mcX6_clears (l : Launch) (g : mG) (h : Nat) (ad : Nat → Nat) (P S : zS) (hPS : per S = P)  : mMV l g h ad yX6_clears cX6_clears 2 (k2_rm 0 0) [] S (fun S1 => per S1 = clP P ∧ True) := by
  refine z_start (own := RX6) (by decide) rfl (Nat.le_of_ble_eq_true rfl) ?_
  intro prg env s mid blw mth cod ls Q C hQ hret hlk hnm hK hH hl
  have hP : MP g h ad S s.heap := hH
  have hS : va_S (MA h ad) s.heap s.heap [] := va_S.rf
  have hl : lv_has ls 2 [(0, .ref h)] := hl
  refine z_aload_n C dX6_clears_0 hl 0 rfl ?_
  refine m_geta C hK hP 16 (by decide) q1765 rfl (by decide) dX6_clears_1 ?_
  refine z_iconst C dX6_clears_4 ?_
  refine z_iconst C dX6_clears_5 ?_
  refine m_iast C hK hP hS 16 (by decide) rfl (by have h9 : mlen 16 = 5 := rfl; omega) (by omega) dX6_clears_6 (fun S_6 eS_6 H locs hP hS => ?_)
  have hS_6 := per_w2 rfl hPS eS_6
  refine z_aload_n C dX6_clears_7 hl 0 rfl ?_
  refine m_geta C hK hP 17 (by decide) q1766 rfl (by decide) dX6_clears_8 ?_
  refine z_iconst C dX6_clears_11 ?_
  refine z_iconst C dX6_clears_12 ?_
  refine m_iast C hK hP hS 17 (by decide) rfl (by have h9 : mlen 17 = 5 := rfl; omega) (by omega) dX6_clears_13 (fun S_13 eS_13 H locs hP hS => ?_)
  have hS_13 := per_w2 rfl hS_6 eS_13
  refine z_aload_n C dX6_clears_14 hl 0 rfl ?_
  refine m_geta C hK hP 18 (by decide) q1767 rfl (by decide) dX6_clears_15 ?_
  refine z_iconst C dX6_clears_18 ?_
  refine z_iconst C dX6_clears_19 ?_
  refine m_iast C hK hP hS 18 (by decide) rfl (by have h9 : mlen 18 = 5 := rfl; omega) (by omega) dX6_clears_20 (fun S_20 eS_20 H locs hP hS => ?_)
  have hS_20 := per_w2 rfl hS_13 eS_20
  refine z_aload_n C dX6_clears_21 hl 0 rfl ?_
  refine m_geta C hK hP 19 (by decide) q1768 rfl (by decide) dX6_clears_22 ?_
  refine z_iconst C dX6_clears_25 ?_
  refine z_iconst C dX6_clears_26 ?_
  refine m_iast C hK hP hS 19 (by decide) rfl (by have h9 : mlen 19 = 5 := rfl; omega) (by omega) dX6_clears_27 (fun S_27 eS_27 H locs hP hS => ?_)
  have hS_27 := per_w2 rfl hS_20 eS_27
  refine z_aload_n C dX6_clears_28 hl 0 rfl ?_
  refine m_geta C hK hP 21 (by decide) q1770 rfl (by decide) dX6_clears_29 ?_
  refine z_iconst C dX6_clears_32 ?_
  refine z_iconst C dX6_clears_33 ?_
  refine m_iast C hK hP hS 21 (by decide) rfl (by have h9 : mlen 21 = 5 := rfl; omega) (by omega) dX6_clears_34 (fun S_34 eS_34 H locs hP hS => ?_)
  have hS_34 := per_w2 rfl hS_27 eS_34
  refine z_aload_n C dX6_clears_35 hl 0 rfl ?_
  refine m_geta C hK hP 23 (by decide) q1772 rfl (by decide) dX6_clears_36 ?_
  refine z_iconst C dX6_clears_39 ?_
  refine z_iconst C dX6_clears_40 ?_
  refine m_iast C hK hP hS 23 (by decide) rfl (by have h9 : mlen 23 = 5 := rfl; omega) (by omega) dX6_clears_41 (fun S_41 eS_41 H locs hP hS => ?_)
  have hS_41 := per_w2 rfl hS_34 eS_41
  refine z_aload_n C dX6_clears_42 hl 0 rfl ?_
  refine m_geta C hK hP 25 (by decide) q1774 rfl (by decide) dX6_clears_43 ?_
  refine z_iconst C dX6_clears_46 ?_
  refine z_iconst C dX6_clears_47 ?_
  refine m_iast C hK hP hS 25 (by decide) rfl (by have h9 : mlen 25 = 5 := rfl; omega) (by omega) dX6_clears_48 (fun S_48 eS_48 H locs hP hS => ?_)
  have hS_48 := per_w2 rfl hS_41 eS_48
  refine z_iconst C dX6_clears_49 ?_
  refine z_istore_n C dX6_clears_50 rfl hl (by decide) rfl (fun ls hl => ?_)
  have hl : lv_has ls 2 [(1, _), (0, _)] := hl
  have hL_51 : ∀ (fuel : Nat) (k : Nat) (S1 : zS) (H : Heap) (locs : List Loc) (ls : Array Slot), 7 - k < fuel → (k ≤ 7) → per S1 = putF (clr7 P) 27 28 (fun _ => 0) k → MP g h ad S1 H → va_S (MA h ad) s.heap H locs → lv_has ls 2 [(0, .ref h), (1, .int (iZ (k : Int)))] → W prg l env (k2_rm 0 0) s mid ([.ref h] : List Value).toArray blw mth cod H locs 0 0 Q (F0 mid 51 ls []) := by
    intro fuel
    induction fuel with
    | zero => intro k S1  H locs ls hm; exact absurd hm (Nat.not_lt_zero _)
    | succ fuel hL_51 =>
      intro k S1  H locs ls hm ik hPS_51 hP  hS hl
      refine z_iload_n C dX6_clears_51 hl 1 rfl ?_
      refine z_bipush C dX6_clears_52 rfl ?_
      refine z_icmp_ge C 73 dX6_clears_54 (by decide) (by omega) (by omega) (fun c_54 => ?_) (fun c_54 => ?_)
      · refine z_iconst C dX6_clears_73 ?_
        refine z_istore_n C dX6_clears_74 rfl hl (by decide) rfl (fun ls hl => ?_)
        have hl : lv_has ls 2 [(1, _), (0, _)] := hl
        have hL_75 : ∀ (fuel : Nat) (k : Nat) (S2 : zS) (H : Heap) (locs : List Loc) (ls : Array Slot), 2 - k < fuel → (k ≤ 2) → per S2 = putF (putF (clr7 P) 27 28 (fun _ => 0) 7) 28 8 (fun _ => 0) k → MP g h ad S2 H → va_S (MA h ad) s.heap H locs → lv_has ls 2 [(0, .ref h), (1, .int (iZ (k : Int)))] → W prg l env (k2_rm 0 0) s mid ([.ref h] : List Value).toArray blw mth cod H locs 0 0 Q (F0 mid 75 ls []) := by
          intro fuel
          induction fuel with
          | zero => intro k S2  H locs ls hm; exact absurd hm (Nat.not_lt_zero _)
          | succ fuel hL_75 =>
            intro k S2  H locs ls hm ik hPS_75 hP  hS hl
            refine z_iload_n C dX6_clears_75 hl 1 rfl ?_
            refine z_iconst C dX6_clears_76 ?_
            refine z_icmp_ge C 96 dX6_clears_77 (by decide) (by omega) (by omega) (fun c_77 => ?_) (fun c_77 => ?_)
            · refine z_iconst C dX6_clears_96 ?_
              refine z_istore_n C dX6_clears_97 rfl hl (by decide) rfl (fun ls hl => ?_)
              have hl : lv_has ls 2 [(1, _), (0, _)] := hl
              have hL_98 : ∀ (fuel : Nat) (k : Nat) (S3 : zS) (H : Heap) (locs : List Loc) (ls : Array Slot), 17 - k < fuel → (k ≤ 17) → per S3 = putF (putF (putF (clr7 P) 27 28 (fun _ => 0) 7) 28 8 (fun _ => 0) 2) 29 68 (fun _ => 0) k → MP g h ad S3 H → va_S (MA h ad) s.heap H locs → lv_has ls 2 [(0, .ref h), (1, .int (iZ (k : Int)))] → W prg l env (k2_rm 0 0) s mid ([.ref h] : List Value).toArray blw mth cod H locs 0 0 Q (F0 mid 98 ls []) := by
                intro fuel
                induction fuel with
                | zero => intro k S3  H locs ls hm; exact absurd hm (Nat.not_lt_zero _)
                | succ fuel hL_98 =>
                  intro k S3  H locs ls hm ik hPS_98 hP  hS hl
                  refine z_iload_n C dX6_clears_98 hl 1 rfl ?_
                  refine z_bipush C dX6_clears_99 rfl ?_
                  refine z_icmp_ge C 120 dX6_clears_101 (by decide) (by omega) (by omega) (fun c_101 => ?_) (fun c_101 => ?_)
                  · exact m_mret_v C hQ hret hlk hS hP ⟨by rw [hPS_98, clP, show k = 17 by omega], trivial⟩ dX6_clears_120
                  · refine z_aload_n C dX6_clears_104 hl 0 rfl ?_
                    refine m_geta C hK hP 29 (by decide) q1778 rfl (by decide) dX6_clears_105 ?_
                    refine z_bipush C dX6_clears_108 rfl ?_
                    refine z_iload_n C dX6_clears_110 hl 1 rfl ?_
                    refine z_iadd C dX6_clears_111 ?_
                    refine z_iconst C dX6_clears_112 ?_
                    refine m_iast C hK hP hS 29 (by decide) rfl (by have h9 : mlen 29 = 85 := rfl; omega) (by omega) dX6_clears_113 (fun S_113 eS_113 H locs hP hS => ?_)
                    have hS_113 := per_w2 rfl hPS_98 eS_113
                    refine z_iinc C dX6_clears_114 hl (by decide) 1 rfl rfl (fun ls hl => ?_)
                    have hl : lv_has ls 2 [(1, _), (0, _)] := hl
                    refine z_goto C 98 dX6_clears_117 (by decide) ?_
                    exact hL_98 (k + 1) _ _ _ ls (by omega) (by omega) hS_113 hP hS (lv_sub hl [1, 0] rfl)
              exact hL_98 _ 0 _ _ _ ls (Nat.lt_succ_self _) (by omega) (by rw [hPS_75, show k = 2 by omega]; rfl) hP hS (lv_sub hl [1, 0] rfl)
            · refine z_aload_n C dX6_clears_80 hl 0 rfl ?_
              refine m_geta C hK hP 28 (by decide) q1777 rfl (by decide) dX6_clears_81 ?_
              refine z_bipush C dX6_clears_84 rfl ?_
              refine z_iload_n C dX6_clears_86 hl 1 rfl ?_
              refine z_iadd C dX6_clears_87 ?_
              refine z_iconst C dX6_clears_88 ?_
              refine m_zast C hK hP hS 28 (by decide) rfl (by have h9 : mlen 28 = 10 := rfl; omega) (by omega) dX6_clears_89 (fun S_89 eS_89 H locs hP hS => ?_)
              have hS_89 := per_w2 rfl hPS_75 eS_89
              refine z_iinc C dX6_clears_90 hl (by decide) 1 rfl rfl (fun ls hl => ?_)
              have hl : lv_has ls 2 [(1, _), (0, _)] := hl
              refine z_goto C 75 dX6_clears_93 (by decide) ?_
              exact hL_75 (k + 1) _ _ _ ls (by omega) (by omega) hS_89 hP hS (lv_sub hl [1, 0] rfl)
        exact hL_75 _ 0 _ _ _ ls (Nat.lt_succ_self _) (by omega) (by rw [hPS_51, show k = 7 by omega]; rfl) hP hS (lv_sub hl [1, 0] rfl)
      · refine z_aload_n C dX6_clears_57 hl 0 rfl ?_
        refine m_geta C hK hP 27 (by decide) q1776 rfl (by decide) dX6_clears_58 ?_
        refine z_bipush C dX6_clears_61 rfl ?_
        refine z_iload_n C dX6_clears_63 hl 1 rfl ?_
        refine z_iadd C dX6_clears_64 ?_
        refine z_iconst C dX6_clears_65 ?_
        refine m_iast C hK hP hS 27 (by decide) rfl (by have h9 : mlen 27 = 35 := rfl; omega) (by omega) dX6_clears_66 (fun S_66 eS_66 H locs hP hS => ?_)
        have hS_66 := per_w2 rfl hPS_51 eS_66
        refine z_iinc C dX6_clears_67 hl (by decide) 1 rfl rfl (fun ls hl => ?_)
        have hl : lv_has ls 2 [(1, _), (0, _)] := hl
        refine z_goto C 51 dX6_clears_70 (by decide) ?_
        exact hL_51 (k + 1) _ _ _ ls (by omega) (by omega) hS_66 hP hS (lv_sub hl [1, 0] rfl)
  exact hL_51 _ 0 _ _ _ ls (Nat.lt_succ_self _) (by omega) hS_48 hP hS (lv_sub hl [1, 0] rfl)
theorem mcX6_line (l : Launch) (g : mG) (h : Nat) (ad : Nat → Nat) (P S : zS) (hPS : per S = P) (T : Int → Int) (nn : Int) (st : rS) (hnn : 0 ≤ nn ∧ nn ≤ 1600) (h5 : P 5 = T) (h6 : P 6 0 = nn) (hM : MS T nn st S) (hR : RdOk P) : mMV l g h ad yX6_line cX6_line 3 (k2_rm 6 135) [] S (fun S1 => per S1 = lineP T nn P st ∧ MS T nn (lineSt T nn P st) S1) := by
  refine z_start (own := RX6) (by decide) rfl (Nat.le_of_ble_eq_true rfl) ?_
  intro prg env s mid blw mth cod ls Q C hQ hret hlk hnm hK hH hl
  have hP : MP g h ad S s.heap := hH
  have hS : va_S (MA h ad) s.heap s.heap [] := va_S.rf
  have hl : lv_has ls 3 [(0, .ref h)] := hl
  have r9 := hR
  unfold RdOk at r9
  refine z_aload_n C dX6_line_0 hl 0 rfl ?_
  have hL_30 : ∀ (u : Int) (H : Heap) (locs : List Loc) (ls : Array Slot), (u = whatF T nn st) → MP g h ad S H → va_S (MA h ad) s.heap H locs → lv_has ls 3 [(0, .ref h), (1, .int (iZ u))] → W prg l env (k2_rm 6 135) s mid ([.ref h] : List Value).toArray blw mth cod H locs 0 0 Q (F0 mid 30 ls []) := by
    intro u  H locs ls iu hP  hS hl
    subst iu
    have q4 := whatF_in T nn st
    refine z_iload_n C dX6_line_30 hl 1 rfl ?_
    refine z_iconst C dX6_line_31 ?_
    refine z_icmp_eq C 41 dX6_line_32 (by decide) (by omega) (by omega) (fun c_32 => ?_) (fun c_32 => ?_)
    · refine z_aload_n C dX6_line_41 hl 0 rfl ?_
      have hL_99 : ∀ (u : Int) (H : Heap) (locs : List Loc) (ls : Array Slot), (u = sortF T nn st) → MP g h ad S H → va_S (MA h ad) s.heap H locs → lv_has ls 3 [(0, .ref h), (2, .int (iZ u))] → W prg l env (k2_rm 6 135) s mid ([.ref h] : List Value).toArray blw mth cod H locs 0 0 Q (F0 mid 99 ls []) := by
        intro u  H locs ls iu hP  hS hl
        subst iu
        have q5 := sortF_in T nn st
        refine z_iload_n C dX6_line_99 hl 1 rfl ?_
        have hL_109 : ∀  (S3 : zS) (H : Heap) (locs : List Loc) (ls : Array Slot), (MS T nn (line1 T nn st) S3) → per S3 = P → MP g h ad S3 H → va_S (MA h ad) s.heap H locs → lv_has ls 3 [(0, .ref h), (2, .int (iZ (sortF T nn st)))] → W prg l env (k2_rm 6 135) s mid ([.ref h] : List Value).toArray blw mth cod H locs 0 0 Q (F0 mid 109 ls []) := by
          intro  S3  H locs ls m1 hPS_109 hP  hS hl
          refine z_aload_n C dX6_line_109 hl 0 rfl ?_
          have hL_122 : ∀  (S4 : zS) (H : Heap) (locs : List Loc) (ls : Array Slot), (MS T nn (line2 T nn P st) S4) → per S4 = P → MP g h ad S4 H → va_S (MA h ad) s.heap H locs → lv_has ls 3 [(0, .ref h), (2, .int (iZ (sortF T nn st)))] → W prg l env (k2_rm 6 135) s mid ([.ref h] : List Value).toArray blw mth cod H locs 0 0 Q (F0 mid 122 ls []) := by
            intro  S4  H locs ls m2 hPS_122 hP  hS hl
            refine z_aload_n C dX6_line_122 hl 0 rfl ?_
            refine m_geti C hK hP 12 (by decide) q1761 rfl (Or.inl rfl) m2.1 dX6_line_123 (fun r_123 => ?_)
            refine z_if_eq C 130 dX6_line_126 (by decide) (by omega) (fun c_126 => ?_) (fun c_126 => ?_)
            · refine z_aload_n C dX6_line_130 hl 0 rfl ?_
              refine m_mv C vX6_176 (mcX6_next l g h ad _ _ hPS_122 (tkE T nn (line2 T nn P st).2) (by simp [zup_k, h6]; exact hnn) (m2.at c_126).1 (by have q33 := tkE_in (T := T) (m2.at c_126).2.2.2.2.2.2; have q34 := (m2.at c_126).2.2.2.2.2.1; simp [zup_k, h6]; omega)) hS hl ⟨Nat.le_of_ble_eq_true rfl, Nat.le_of_ble_eq_true rfl⟩ ⟨rfl, rfl⟩ hK hP (fun _ h9 => h9) rfl rfl (Nat.le_of_ble_eq_true rfl) dX6_line_131 ⟨Nat.zero_le _, Nat.zero_le _⟩ (fun S_131 H locs pS_131 hP hS => ?_)
              have hS_131 : per S_131 = _ := (pS_131.2.pr rfl hPS_122)
              have m3 : MS T nn (nextS T nn (line2 T nn P st)) S_131 := by
                have q := pS_131.1
                simp [zup_k, h5, h6] at q
                rw [nextS, if_pos c_126]
                exact MS.go q (by rw [pS_131.2 12 (by decide)]; exact (m2.1).trans c_126)
              have nf := line2_ok c_126
              refine z_iload_n C dX6_line_134 hl 1 rfl ?_
              rcases (by omega : (sortF T nn st) = 0 ∨ (sortF T nn st) = 1 ∨ (sortF T nn st) = 2 ∨ ((sortF T nn st) < 0 ∨ 2 < (sortF T nn st))) with c_135 | c_135 | c_135 | c_135
              · refine z_tin C 160 dX6_line_135 (by omega) (by omega) (by omega) (by rw [c_135]; rfl) (by decide) ?_
                refine z_aload_n C dX6_line_160 hl 0 rfl ?_
                refine m_mv C vX6_251 (mcX6_lampLine l g h ad _ _ hS_131 T nn _ hnn h5 h6 m3 hR (by have r8 := r9; omega)) hS hl ⟨Nat.le_of_ble_eq_true rfl, Nat.le_of_ble_eq_true rfl⟩ ⟨rfl, rfl⟩ hK hP (fun _ h9 => h9) rfl rfl (Nat.le_of_ble_eq_true rfl) dX6_line_161 ⟨Nat.zero_le _, Nat.zero_le _⟩ (fun S_161 H locs pS_161 hP hS => ?_)
                obtain ⟨hS_161, pS_161⟩ := pS_161
                refine z_goto C 185 dX6_line_164 (by decide) ?_
                exact m_mret_v C hQ hret hlk hS hP ⟨by rw [lineP, if_pos c_32, restP, if_pos c_126]; first | (rw [if_pos (by omega)]; exact hS_161) | (rw [if_neg (by omega), if_pos (by omega)]; exact hS_161) | (rw [if_neg (by omega), if_neg (by omega), if_pos (by omega)]; exact hS_161) | (rw [if_neg (by omega), if_neg (by omega), if_neg (by omega)]; exact hS_161), by rw [lineSt, if_pos c_32, restSt, if_pos c_126]; first | (rw [if_pos (by omega)]; exact pS_161) | (rw [if_neg (by omega), if_pos (by omega)]; exact pS_168) | (rw [if_neg (by omega), if_neg (by omega), if_pos (by omega)]; exact pS_175) | (rw [if_neg (by omega), if_neg (by omega), if_neg (by omega)]; exact pS_182)⟩ dX6_line_185
              · refine z_tin C 167 dX6_line_135 (by omega) (by omega) (by omega) (by rw [c_135]; rfl) (by decide) ?_
                refine z_aload_n C dX6_line_167 hl 0 rfl ?_
                refine m_mv C vX6_254 (mcX6_lockLine l g h ad _ _ hS_131 T nn _ hnn h5 h6 m3 hR (by have r8 := r9; omega)) hS hl ⟨Nat.le_of_ble_eq_true rfl, Nat.le_of_ble_eq_true rfl⟩ ⟨rfl, rfl⟩ hK hP (fun _ h9 => h9) rfl rfl (Nat.le_of_ble_eq_true rfl) dX6_line_168 ⟨Nat.zero_le _, Nat.zero_le _⟩ (fun S_168 H locs pS_168 hP hS => ?_)
                obtain ⟨hS_168, pS_168⟩ := pS_168
                refine z_goto C 185 dX6_line_171 (by decide) ?_
                exact m_mret_v C hQ hret hlk hS hP ⟨by rw [lineP, if_pos c_32, restP, if_pos c_126]; first | (rw [if_pos (by omega)]; exact hS_168) | (rw [if_neg (by omega), if_pos (by omega)]; exact hS_168) | (rw [if_neg (by omega), if_neg (by omega), if_pos (by omega)]; exact hS_168) | (rw [if_neg (by omega), if_neg (by omega), if_neg (by omega)]; exact hS_168), by rw [lineSt, if_pos c_32, restSt, if_pos c_126]; first | (rw [if_pos (by omega)]; exact pS_161) | (rw [if_neg (by omega), if_pos (by omega)]; exact pS_168) | (rw [if_neg (by omega), if_neg (by omega), if_pos (by omega)]; exact pS_175) | (rw [if_neg (by omega), if_neg (by omega), if_neg (by omega)]; exact pS_182)⟩ dX6_line_185
              · refine z_tin C 174 dX6_line_135 (by omega) (by omega) (by omega) (by rw [c_135]; rfl) (by decide) ?_
                refine z_aload_n C dX6_line_174 hl 0 rfl ?_
                refine m_mv C vX6_257 (mcX6_bikeLine l g h ad _ _ hS_131 T nn _ hnn h5 h6 m3 hR (by have r8 := r9; omega)) hS hl ⟨Nat.le_of_ble_eq_true rfl, Nat.le_of_ble_eq_true rfl⟩ ⟨rfl, rfl⟩ hK hP (fun _ h9 => h9) rfl rfl (Nat.le_of_ble_eq_true rfl) dX6_line_175 ⟨Nat.zero_le _, Nat.zero_le _⟩ (fun S_175 H locs pS_175 hP hS => ?_)
                obtain ⟨hS_175, pS_175⟩ := pS_175
                refine z_goto C 185 dX6_line_178 (by decide) ?_
                exact m_mret_v C hQ hret hlk hS hP ⟨by rw [lineP, if_pos c_32, restP, if_pos c_126]; first | (rw [if_pos (by omega)]; exact hS_175) | (rw [if_neg (by omega), if_pos (by omega)]; exact hS_175) | (rw [if_neg (by omega), if_neg (by omega), if_pos (by omega)]; exact hS_175) | (rw [if_neg (by omega), if_neg (by omega), if_neg (by omega)]; exact hS_175), by rw [lineSt, if_pos c_32, restSt, if_pos c_126]; first | (rw [if_pos (by omega)]; exact pS_161) | (rw [if_neg (by omega), if_pos (by omega)]; exact pS_168) | (rw [if_neg (by omega), if_neg (by omega), if_pos (by omega)]; exact pS_175) | (rw [if_neg (by omega), if_neg (by omega), if_neg (by omega)]; exact pS_182)⟩ dX6_line_185
              · refine z_tout C 181 dX6_line_135 (by omega) c_135 (by decide) ?_
                refine z_aload_n C dX6_line_181 hl 0 rfl ?_
                refine m_mv C vX6_260 (mcX6_thiefLine l g h ad _ _ hS_131 T nn _ hnn h5 h6 m3 hR (by have r8 := r9; omega)) hS hl ⟨Nat.le_of_ble_eq_true rfl, Nat.le_of_ble_eq_true rfl⟩ ⟨rfl, rfl⟩ hK hP (fun _ h9 => h9) rfl rfl (Nat.le_of_ble_eq_true rfl) dX6_line_182 ⟨Nat.zero_le _, Nat.zero_le _⟩ (fun S_182 H locs pS_182 hP hS => ?_)
                obtain ⟨hS_182, pS_182⟩ := pS_182
                exact m_mret_v C hQ hret hlk hS hP ⟨by rw [lineP, if_pos c_32, restP, if_pos c_126]; first | (rw [if_pos (by omega)]; exact hS_182) | (rw [if_neg (by omega), if_pos (by omega)]; exact hS_182) | (rw [if_neg (by omega), if_neg (by omega), if_pos (by omega)]; exact hS_182) | (rw [if_neg (by omega), if_neg (by omega), if_neg (by omega)]; exact hS_182), by rw [lineSt, if_pos c_32, restSt, if_pos c_126]; first | (rw [if_pos (by omega)]; exact pS_161) | (rw [if_neg (by omega), if_pos (by omega)]; exact pS_168) | (rw [if_neg (by omega), if_neg (by omega), if_pos (by omega)]; exact pS_175) | (rw [if_neg (by omega), if_neg (by omega), if_neg (by omega)]; exact pS_182)⟩ dX6_line_185
            · exact m_mret_v C hQ hret hlk hS hP ⟨by rw [lineP, if_pos c_32, restP, if_neg c_126]; exact hPS_122, by rw [lineSt, if_pos c_32, restSt, if_neg c_126]; exact m2⟩ dX6_line_129
          refine z_iload_n C dX6_line_110 hl 1 rfl ?_
          refine m_pi C vX6_248 (mcX6_isFull l g h ad _ _ hPS_109 _ (by omega)) hS hl ⟨Nat.le_of_ble_eq_true rfl, Nat.le_of_ble_eq_true rfl⟩ ⟨rfl, rfl⟩ hK hP rfl rfl (Nat.le_of_ble_eq_true rfl) dX6_line_111 ⟨Nat.zero_le _, Nat.zero_le _⟩ (fun locs hS => ?_)
          refine z_if_eq C 122 dX6_line_114 (by decide) z01_in (fun c_114 => ?_) (fun c_114 => ?_)
          · replace c_114 := z01_f c_114
            exact hL_122  _ _ _ ls (by rw [line2, if_neg c_114]; exact m1) hPS_109 hP hS (lv_sub hl [0, 1] rfl)
          · replace c_114 := z01_t c_114
            refine z_aload_n C dX6_line_117 hl 0 rfl ?_
            refine z_iconst C dX6_line_118 ?_
            refine m_mv C vX6_182 (mcX6_fails l g h ad _ _ hPS_109 T nn _ _ m1 (by omega)) hS hl ⟨Nat.le_of_ble_eq_true rfl, Nat.le_of_ble_eq_true rfl⟩ ⟨rfl, rfl⟩ hK hP (fun _ h9 => h9) rfl rfl (Nat.le_of_ble_eq_true rfl) dX6_line_119 ⟨Nat.zero_le _, Nat.zero_le _⟩ (fun S_119 H locs pS_119 hP hS => ?_)
            have hS_119 : per S_119 = _ := (pS_119.2.pr rfl hPS_109)
            exact hL_122  _ _ _ ls (by rw [line2, if_pos c_114]; exact pS_119.1) hS_119 hP hS (lv_sub hl [0, 1] rfl)
        refine z_iconst C dX6_line_100 ?_
        refine z_icmp_ne C 109 dX6_line_101 (by decide) (by omega) (by omega) (fun c_101 => ?_) (fun c_101 => ?_)
        · exact hL_109  _ _ _ ls (by rw [line1, if_neg c_101]; exact hM) hPS hP hS (lv_sub hl [0, 1] rfl)
        · refine z_aload_n C dX6_line_104 hl 0 rfl ?_
          refine z_iconst C dX6_line_105 ?_
          refine m_mv C vX6_182 (mcX6_fails l g h ad _ _ hPS T nn _ _ hM (by omega)) hS hl ⟨Nat.le_of_ble_eq_true rfl, Nat.le_of_ble_eq_true rfl⟩ ⟨rfl, rfl⟩ hK hP (fun _ h9 => h9) rfl rfl (Nat.le_of_ble_eq_true rfl) dX6_line_106 ⟨Nat.zero_le _, Nat.zero_le _⟩ (fun S_106 H locs pS_106 hP hS => ?_)
          have hS_106 : per S_106 = P := (pS_106.2.pr rfl hPS)
          exact hL_109  _ _ _ ls (by rw [line1, if_pos c_101]; exact pS_106.1) hS_106 hP hS (lv_sub hl [0, 1] rfl)
      refine z_ldc2 (v := 237292) C q2017 dX6_line_42 rfl ?_
      refine m_pi C vX6_172 (mcX6_is l g h ad _ _ hPS T nn _ _ hM (by omega)) hS hl ⟨Nat.le_of_ble_eq_true rfl, Nat.le_of_ble_eq_true rfl⟩ ⟨rfl, rfl⟩ hK hP rfl rfl (Nat.le_of_ble_eq_true rfl) dX6_line_45 ⟨Nat.zero_le _, Nat.zero_le _⟩ (fun locs hS => ?_)
      refine z_if_eq C 55 dX6_line_48 (by decide) z01_in (fun c_48 => ?_) (fun c_48 => ?_)
      · replace c_48 := z01_f c_48
        refine z_aload_n C dX6_line_55 hl 0 rfl ?_
        refine z_ldc2 (v := 247223) C q2018 dX6_line_56 rfl ?_
        refine m_pi C vX6_172 (mcX6_is l g h ad _ _ hPS T nn _ _ hM (by omega)) hS hl ⟨Nat.le_of_ble_eq_true rfl, Nat.le_of_ble_eq_true rfl⟩ ⟨rfl, rfl⟩ hK hP rfl rfl (Nat.le_of_ble_eq_true rfl) dX6_line_59 ⟨Nat.zero_le _, Nat.zero_le _⟩ (fun locs hS => ?_)
        refine z_if_eq C 69 dX6_line_62 (by decide) z01_in (fun c_62 => ?_) (fun c_62 => ?_)
        · replace c_62 := z01_f c_62
          refine z_aload_n C dX6_line_69 hl 0 rfl ?_
          refine z_ldc2 (v := 46229) C q2019 dX6_line_70 rfl ?_
          refine m_pi C vX6_172 (mcX6_is l g h ad _ _ hPS T nn _ _ hM (by omega)) hS hl ⟨Nat.le_of_ble_eq_true rfl, Nat.le_of_ble_eq_true rfl⟩ ⟨rfl, rfl⟩ hK hP rfl rfl (Nat.le_of_ble_eq_true rfl) dX6_line_73 ⟨Nat.zero_le _, Nat.zero_le _⟩ (fun locs hS => ?_)
          refine z_if_eq C 83 dX6_line_76 (by decide) z01_in (fun c_76 => ?_) (fun c_76 => ?_)
          · replace c_76 := z01_f c_76
            refine z_aload_n C dX6_line_83 hl 0 rfl ?_
            refine z_ldc2 (v := 10792986) C q2020 dX6_line_84 rfl ?_
            refine m_pi C vX6_172 (mcX6_is l g h ad _ _ hPS T nn _ _ hM (by omega)) hS hl ⟨Nat.le_of_ble_eq_true rfl, Nat.le_of_ble_eq_true rfl⟩ ⟨rfl, rfl⟩ hK hP rfl rfl (Nat.le_of_ble_eq_true rfl) dX6_line_87 ⟨Nat.zero_le _, Nat.zero_le _⟩ (fun locs hS => ?_)
            refine z_if_eq C 97 dX6_line_90 (by decide) z01_in (fun c_90 => ?_) (fun c_90 => ?_)
            · replace c_90 := z01_f c_90
              refine z_iconst C dX6_line_97 ?_
              refine z_istore_n C dX6_line_98 rfl hl (by decide) rfl (fun ls hl => ?_)
              have hl : lv_has ls 3 [(2, _), (0, _), (1, _)] := hl
              exact hL_99 _ _ _ ls (by rw [sortF, if_neg c_48, if_neg c_62, if_neg c_76, if_neg c_90]) hP hS (lv_sub hl [1, 0] rfl)
            · replace c_90 := z01_t c_90
              refine z_iconst C dX6_line_93 ?_
              refine z_goto C 98 dX6_line_94 (by decide) ?_
              refine z_istore_n C dX6_line_98 rfl hl (by decide) rfl (fun ls hl => ?_)
              have hl : lv_has ls 3 [(2, _), (0, _), (1, _)] := hl
              exact hL_99 _ _ _ ls (by rw [sortF, if_neg c_48, if_neg c_62, if_neg c_76, if_pos c_90]) hP hS (lv_sub hl [1, 0] rfl)
          · replace c_76 := z01_t c_76
            refine z_iconst C dX6_line_79 ?_
            refine z_goto C 98 dX6_line_80 (by decide) ?_
            refine z_istore_n C dX6_line_98 rfl hl (by decide) rfl (fun ls hl => ?_)
            have hl : lv_has ls 3 [(2, _), (0, _), (1, _)] := hl
            exact hL_99 _ _ _ ls (by rw [sortF, if_neg c_48, if_neg c_62, if_pos c_76]) hP hS (lv_sub hl [1, 0] rfl)
        · replace c_62 := z01_t c_62
          refine z_iconst C dX6_line_65 ?_
          refine z_goto C 98 dX6_line_66 (by decide) ?_
          refine z_istore_n C dX6_line_98 rfl hl (by decide) rfl (fun ls hl => ?_)
          have hl : lv_has ls 3 [(2, _), (0, _), (1, _)] := hl
          exact hL_99 _ _ _ ls (by rw [sortF, if_neg c_48, if_pos c_62]) hP hS (lv_sub hl [1, 0] rfl)
      · replace c_48 := z01_t c_48
        refine z_iconst C dX6_line_51 ?_
        refine z_goto C 98 dX6_line_52 (by decide) ?_
        refine z_istore_n C dX6_line_98 rfl hl (by decide) rfl (fun ls hl => ?_)
        have hl : lv_has ls 3 [(2, _), (0, _), (1, _)] := hl
        exact hL_99 _ _ _ ls (by rw [sortF, if_pos c_48]) hP hS (lv_sub hl [1, 0] rfl)
    · refine z_aload_n C dX6_line_35 hl 0 rfl ?_
      refine z_iload_n C dX6_line_36 hl 1 rfl ?_
      refine m_mv C vX6_239 (mcX6_onceLine l g h ad _ _ hPS T nn st _ hnn h5 h6 hM hR (by omega)) hS hl ⟨Nat.le_of_ble_eq_true rfl, Nat.le_of_ble_eq_true rfl⟩ ⟨rfl, rfl⟩ hK hP (fun _ h9 => h9) rfl rfl (Nat.le_of_ble_eq_true rfl) dX6_line_37 ⟨Nat.zero_le _, Nat.zero_le _⟩ (fun S_37 H locs pS_37 hP hS => ?_)
      obtain ⟨hS_37, pS_37⟩ := pS_37
      exact m_mret_v C hQ hret hlk hS hP ⟨by rw [lineP, if_neg c_32]; exact hS_37, by rw [lineSt, if_neg c_32]; exact pS_37⟩ dX6_line_40
  refine z_ldc2 (v := 257105) C q2006 dX6_line_1 rfl ?_
  refine m_pi C vX6_172 (mcX6_is l g h ad _ _ hPS T nn _ _ hM (by omega)) hS hl ⟨Nat.le_of_ble_eq_true rfl, Nat.le_of_ble_eq_true rfl⟩ ⟨rfl, rfl⟩ hK hP rfl rfl (Nat.le_of_ble_eq_true rfl) dX6_line_4 ⟨Nat.zero_le _, Nat.zero_le _⟩ (fun locs hS => ?_)
  refine z_if_eq C 14 dX6_line_7 (by decide) z01_in (fun c_7 => ?_) (fun c_7 => ?_)
  · replace c_7 := z01_f c_7
    refine z_aload_n C dX6_line_14 hl 0 rfl ?_
    refine z_ldc2 (v := 12257495) C q2007 dX6_line_15 rfl ?_
    refine m_pi C vX6_172 (mcX6_is l g h ad _ _ hPS T nn _ _ hM (by omega)) hS hl ⟨Nat.le_of_ble_eq_true rfl, Nat.le_of_ble_eq_true rfl⟩ ⟨rfl, rfl⟩ hK hP rfl rfl (Nat.le_of_ble_eq_true rfl) dX6_line_18 ⟨Nat.zero_le _, Nat.zero_le _⟩ (fun locs hS => ?_)
    refine z_if_eq C 28 dX6_line_21 (by decide) z01_in (fun c_21 => ?_) (fun c_21 => ?_)
    · replace c_21 := z01_f c_21
      refine z_iconst C dX6_line_28 ?_
      refine z_istore_n C dX6_line_29 rfl hl (by decide) rfl (fun ls hl => ?_)
      have hl : lv_has ls 3 [(1, _), (0, _)] := hl
      exact hL_30 _ _ _ ls (by rw [whatF, if_neg c_7, if_neg c_21]) hP hS (lv_sub hl [1, 0] rfl)
    · replace c_21 := z01_t c_21
      refine z_iconst C dX6_line_24 ?_
      refine z_goto C 29 dX6_line_25 (by decide) ?_
      refine z_istore_n C dX6_line_29 rfl hl (by decide) rfl (fun ls hl => ?_)
      have hl : lv_has ls 3 [(1, _), (0, _)] := hl
      exact hL_30 _ _ _ ls (by rw [whatF, if_neg c_7, if_pos c_21]) hP hS (lv_sub hl [1, 0] rfl)
  · replace c_7 := z01_t c_7
    refine z_iconst C dX6_line_10 ?_
    refine z_goto C 29 dX6_line_11 (by decide) ?_
    refine z_istore_n C dX6_line_29 rfl hl (by decide) rfl (fun ls hl => ?_)
    have hl : lv_has ls 3 [(1, _), (0, _)] := hl
    exact hL_30 _ _ _ ls (by rw [whatF, if_pos c_7]) hP hS (lv_sub hl [1, 0] rfl)
theorem mcX6_rail (l : Launch) (g : mG) (h : Nat) (ad : Nat → Nat) (P S : zS) (hPS : per S = P)  (hN : 0 ≤ P 6 0 ∧ P 6 0 ≤ 1600) : mMI l g h ad yX6_rail cX6_rail 1 .int (k2_rm 7 157) [] S (fun z1 S1 => z1 = aRail P ∧ per S1 = pRail P) := by
  refine z_start (own := RX6) (by decide) rfl (Nat.le_of_ble_eq_true rfl) ?_
  intro prg env s mid blw mth cod ls Q C hQ hret hlk hnm hK hH hl
  have hP : MP g h ad S s.heap := hH
  have hS : va_S (MA h ad) s.heap s.heap [] := va_S.rf
  have hl : lv_has ls 1 [(0, .ref h)] := hl
  have q9 := clP_ok P
  refine z_aload_n C dX6_rail_0 hl 0 rfl ?_
  refine z_iconst C dX6_rail_1 ?_
  refine m_puti C hK hP hS 0 (by decide) q1749 rfl rfl (by omega) dX6_rail_2 (fun S_2 eS_2 H locs hP hS => ?_)
  have hS_2 := per_s rfl hPS eS_2
  refine z_aload_n C dX6_rail_5 hl 0 rfl ?_
  refine m_mv C vX6_269 (mcX6_clears l g h ad _ _ hS_2 ) hS hl ⟨Nat.le_of_ble_eq_true rfl, Nat.le_of_ble_eq_true rfl⟩ ⟨rfl, rfl⟩ hK hP (fun _ h9 => h9) rfl rfl (Nat.le_of_ble_eq_true rfl) dX6_rail_6 ⟨Nat.zero_le _, Nat.zero_le _⟩ (fun S_6 H locs pS_6 hP hS => ?_)
  obtain ⟨hS_6, pS_6⟩ := pS_6
  refine z_aload_n C dX6_rail_9 hl 0 rfl ?_
  refine m_mv C vX6_272 (mcX6_begins l g h ad _ _ hS_6 (P 5) (P 6 0) hN q9.2.1 (congrFun q9.2.2.1 0)) hS hl ⟨Nat.le_of_ble_eq_true rfl, Nat.le_of_ble_eq_true rfl⟩ ⟨rfl, rfl⟩ hK hP (fun _ h9 => h9) rfl rfl (Nat.le_of_ble_eq_true rfl) dX6_rail_10 ⟨Nat.zero_le _, Nat.zero_le _⟩ (fun S_10 H locs pS_10 hP hS => ?_)
  have hS_10 : per S_10 = _ := (pS_10.2.pr rfl hS_6)
  have hL_13 : ∀ (fuel : Nat) (k : Nat) (st : rS) (S1 : zS) (P1 : zS) (H : Heap) (locs : List Loc) (ls : Array Slot), (P 6 0).toNat + 1 - k < fuel → (k ≤ (P 6 0).toNat) → (MS (P 5) (P 6 0) st S1) → (RdOk P1) → (P1 5 = P 5) → (P1 6 0 = P 6 0) → (P1 16 4 = (k : Int)) → (st.1 = 0 → (k : Int) ≤ st.2) → (prsSt (P 5) (P 6 0) ((P 6 0).toNat + 1 - k) P1 st = endSt P ∧ prsP (P 5) (P 6 0) ((P 6 0).toNat + 1 - k) P1 st = prsP (P 5) (P 6 0) ((P 6 0).toNat + 1) (clP P) (0, sk (P 5) (P 6 0) 0)) → per S1 = P1 → MP g h ad S1 H → va_S (MA h ad) s.heap H locs → lv_has ls 1 [(0, .ref h)] → W prg l env (k2_rm 7 157) s mid ([.ref h] : List Value).toArray blw mth cod H locs 0 0 Q (F0 mid 13 ls []) := by
    intro fuel
    induction fuel with
    | zero => intro k st S1 P1  H locs ls hm; exact absurd hm (Nat.not_lt_zero _)
    | succ fuel hL_13 =>
      intro k st S1 P1  H locs ls hm ik iM iR i5 i6 iL iK iE hPS_13 hP  hS hl
      refine z_aload_n C dX6_rail_13 hl 0 rfl ?_
      refine m_pi C vX6_275 (mcX6_isGood l g h ad _ _ hPS_13 st (P 5) (P 6 0) iM) hS hl ⟨Nat.le_of_ble_eq_true rfl, Nat.le_of_ble_eq_true rfl⟩ ⟨rfl, rfl⟩ hK hP rfl rfl (Nat.le_of_ble_eq_true rfl) dX6_rail_14 ⟨Nat.zero_le _, Nat.zero_le _⟩ (fun locs hS => ?_)
      refine z_if_eq C 71 dX6_rail_17 (by decide) z01_in (fun c_17 => ?_) (fun c_17 => ?_)
      · replace c_17 := z01_f c_17
        obtain ⟨q1, q2⟩ : st = endSt P ∧ P1 = prsP (P 5) (P 6 0) ((P 6 0).toNat + 1) (clP P) (0, sk (P 5) (P 6 0) 0) := by
          have q3 := prs_stop (T := P 5) (n := P 6 0) (P := P1) (st := st) (fun z => c_17 z.1) ((P 6 0).toNat + 1 - k)
          exact ⟨q3.1.symm.trans iE.1, q3.2.symm.trans iE.2⟩
        refine z_aload_n C dX6_rail_71 hl 0 rfl ?_
        refine m_mv C vX6_288 (mcX6_isOver l g h ad _ _ hPS_13 (P 5) (P 6 0) st iM) hS hl ⟨Nat.le_of_ble_eq_true rfl, Nat.le_of_ble_eq_true rfl⟩ ⟨rfl, rfl⟩ hK hP (fun _ h9 => h9) rfl rfl (Nat.le_of_ble_eq_true rfl) dX6_rail_72 ⟨Nat.zero_le _, Nat.zero_le _⟩ (fun S_72 H locs pS_72 hP hS => ?_)
        obtain ⟨hS_72, pS_72⟩ := pS_72
        refine z_aload_n C dX6_rail_75 hl 0 rfl ?_
        refine m_geti C hK hP 12 (by decide) q1761 rfl (Or.inl rfl) pS_72 dX6_rail_76 (fun r_76 => ?_)
        refine z_if_eq C 85 dX6_rail_79 (by decide) (by omega) (fun c_79 => ?_) (fun c_79 => ?_)
        · refine z_aload_n C dX6_rail_85 hl 0 rfl ?_
          refine z_iconst C dX6_rail_86 ?_
          refine z_iconst C dX6_rail_87 ?_
          refine m_mv C vX6_291 (mcX6_copyRail l g h ad _ _ hS_72 4 0 (by omega) (by omega) (by omega)) hS hl ⟨Nat.le_of_ble_eq_true rfl, Nat.le_of_ble_eq_true rfl⟩ ⟨rfl, rfl⟩ hK hP (fun _ h9 => h9) rfl rfl (Nat.le_of_ble_eq_true rfl) dX6_rail_88 ⟨Nat.zero_le _, Nat.zero_le _⟩ (fun S_88 H locs pS_88 hP hS => ?_)
          obtain ⟨hS_88, pS_88⟩ := pS_88
          refine z_aload_n C dX6_rail_91 hl 0 rfl ?_
          refine m_geta C hK hP 16 (by decide) q1765 rfl (by decide) dX6_rail_92 ?_
          refine z_iconst C dX6_rail_95 ?_
          refine m_iald C hK hP 16 (by decide) rfl (by have h9 : mlen 16 = 5 := rfl; omega) (pe hS_88 rfl) dX6_rail_96 (fun r_96 => ?_)
          exact m_mret_i C hQ hret hlk hS hP ⟨by rw [aRail, if_pos (by rw [← q1]; exact c_79), pRail, if_pos (by rw [← q1]; exact c_79), endP, ← q1, ← q2], by rw [pRail, if_pos (by rw [← q1]; exact c_79), endP, ← q1, ← q2]; exact hS_88⟩ dX6_rail_97
        · refine z_bipush C dX6_rail_82 rfl ?_
          exact m_mret_i C hQ hret hlk hS hP ⟨by rw [aRail, if_neg (by rw [← q1]; exact c_79)], by rw [pRail, if_neg (by rw [← q1]; exact c_79), endP, ← q1, ← q2]; exact hS_72⟩ dX6_rail_84
      · replace c_17 := z01_t c_17
        refine z_aload_n C dX6_rail_20 hl 0 rfl ?_
        refine m_geti C hK hP 8 (by decide) q1757 rfl (Or.inl rfl) (iM.at c_17).2.1 dX6_rail_21 (fun r_21 => ?_)
        refine z_if_eq C 71 dX6_rail_24 (by decide) (by omega) (fun c_24 => ?_) (fun c_24 => ?_)
        · obtain ⟨q1, q2⟩ : st = endSt P ∧ P1 = prsP (P 5) (P 6 0) ((P 6 0).toNat + 1) (clP P) (0, sk (P 5) (P 6 0) 0) := by
            have q3 := prs_stop (T := P 5) (n := P 6 0) (P := P1) (st := st) (fun z => z.2 c_24) ((P 6 0).toNat + 1 - k)
            exact ⟨q3.1.symm.trans iE.1, q3.2.symm.trans iE.2⟩
          refine z_aload_n C dX6_rail_71 hl 0 rfl ?_
          refine m_mv C vX6_288 (mcX6_isOver l g h ad _ _ hPS_13 (P 5) (P 6 0) st iM) hS hl ⟨Nat.le_of_ble_eq_true rfl, Nat.le_of_ble_eq_true rfl⟩ ⟨rfl, rfl⟩ hK hP (fun _ h9 => h9) rfl rfl (Nat.le_of_ble_eq_true rfl) dX6_rail_72 ⟨Nat.zero_le _, Nat.zero_le _⟩ (fun S_72 H locs pS_72 hP hS => ?_)
          obtain ⟨hS_72, pS_72⟩ := pS_72
          refine z_aload_n C dX6_rail_75 hl 0 rfl ?_
          refine m_geti C hK hP 12 (by decide) q1761 rfl (Or.inl rfl) pS_72 dX6_rail_76 (fun r_76 => ?_)
          refine z_if_eq C 85 dX6_rail_79 (by decide) (by omega) (fun c_79 => ?_) (fun c_79 => ?_)
          · refine z_aload_n C dX6_rail_85 hl 0 rfl ?_
            refine z_iconst C dX6_rail_86 ?_
            refine z_iconst C dX6_rail_87 ?_
            refine m_mv C vX6_291 (mcX6_copyRail l g h ad _ _ hS_72 4 0 (by omega) (by omega) (by omega)) hS hl ⟨Nat.le_of_ble_eq_true rfl, Nat.le_of_ble_eq_true rfl⟩ ⟨rfl, rfl⟩ hK hP (fun _ h9 => h9) rfl rfl (Nat.le_of_ble_eq_true rfl) dX6_rail_88 ⟨Nat.zero_le _, Nat.zero_le _⟩ (fun S_88 H locs pS_88 hP hS => ?_)
            obtain ⟨hS_88, pS_88⟩ := pS_88
            refine z_aload_n C dX6_rail_91 hl 0 rfl ?_
            refine m_geta C hK hP 16 (by decide) q1765 rfl (by decide) dX6_rail_92 ?_
            refine z_iconst C dX6_rail_95 ?_
            refine m_iald C hK hP 16 (by decide) rfl (by have h9 : mlen 16 = 5 := rfl; omega) (pe hS_88 rfl) dX6_rail_96 (fun r_96 => ?_)
            exact m_mret_i C hQ hret hlk hS hP ⟨by rw [aRail, if_pos (by rw [← q1]; exact c_79), pRail, if_pos (by rw [← q1]; exact c_79), endP, ← q1, ← q2], by rw [pRail, if_pos (by rw [← q1]; exact c_79), endP, ← q1, ← q2]; exact hS_88⟩ dX6_rail_97
          · refine z_bipush C dX6_rail_82 rfl ?_
            exact m_mret_i C hQ hret hlk hS hP ⟨by rw [aRail, if_neg (by rw [← q1]; exact c_79)], by rw [pRail, if_neg (by rw [← q1]; exact c_79), endP, ← q1, ← q2]; exact hS_72⟩ dX6_rail_84
        · have q1 : st.2 < P 6 0 := by have q11 := tkK_0 (T := P 5) (n := P 6 0) (p := st.2); have q12 := (iM.at c_17).2.2.2.2.2.2; omega
          have q3 := iK c_17
          have q2 : (P 6 0).toNat + 1 - k = ((P 6 0).toNat + 1 - (k + 1)) + 1 := by omega
          rw [q2, prsSt, prsP, if_pos ⟨c_17, c_24⟩, if_pos ⟨c_17, c_24⟩] at iE
          refine z_aload_n C dX6_rail_27 hl 0 rfl ?_
          have hL_47 : ∀  (S2 : zS) (H : Heap) (locs : List Loc) (ls : Array Slot), (MS (P 5) (P 6 0) (step1 (P 5) (P 6 0) P1 st) S2) → per S2 = step1P (P 5) (P 6 0) P1 st → MP g h ad S2 H → va_S (MA h ad) s.heap H locs → lv_has ls 1 [(0, .ref h)] → W prg l env (k2_rm 7 157) s mid ([.ref h] : List Value).toArray blw mth cod H locs 0 0 Q (F0 mid 47 ls []) := by
            intro  S2  H locs ls m1 hPS_47 hP  hS hl
            refine z_aload_n C dX6_rail_47 hl 0 rfl ?_
            have hL_58 : ∀  (S3 : zS) (H : Heap) (locs : List Loc) (ls : Array Slot), (MS (P 5) (P 6 0) (stepSt (P 5) (P 6 0) P1 st) S3) → per S3 = step1P (P 5) (P 6 0) P1 st → MP g h ad S3 H → va_S (MA h ad) s.heap H locs → lv_has ls 1 [(0, .ref h)] → W prg l env (k2_rm 7 157) s mid ([.ref h] : List Value).toArray blw mth cod H locs 0 0 Q (F0 mid 58 ls []) := by
              intro  S3  H locs ls m2 hPS_58 hP  hS hl
              have q5 : S3 16 4 = P1 16 4 := (pe hPS_58 rfl).trans (by rw [(stepP_ok (T := P 5) (n := P 6 0) (st := st) iR).2.2.2])
              refine z_aload_n C dX6_rail_58 hl 0 rfl ?_
              refine m_geta C hK hP 16 (by decide) q1765 rfl (by decide) dX6_rail_59 ?_
              refine z_iconst C dX6_rail_62 ?_
              refine z_dup2_11 C dX6_rail_63 rfl rfl ?_
              refine m_iald C hK hP 16 (by decide) rfl (by have h9 : mlen 16 = 5 := rfl; omega) q5 dX6_rail_64 (fun r_64 => ?_)
              refine z_iconst C dX6_rail_65 ?_
              refine z_iadd C dX6_rail_66 ?_
              refine m_iast C hK hP hS 16 (by decide) rfl (by have h9 : mlen 16 = 5 := rfl; omega) (by omega) dX6_rail_67 (fun S_67 eS_67 H locs hP hS => ?_)
              have hS_67 := per_w2 rfl hPS_58 eS_67
              refine z_goto C 13 dX6_rail_68 (by decide) ?_
              exact hL_13 (k + 1) (stepSt (P 5) (P 6 0) P1 st) _ _ _ _ ls (by omega) (by omega) (m2.mv (Fr.up Fr.rf eS_67 (by decide : 16 ∈ [16])) rfl) (by exact (stepP_ok iR).1) (by exact (stepP_ok iR).2.1.trans i5) (by exact (congrFun (stepP_ok iR).2.2.1 0).trans i6) (by rw [zup_s, iL]; omega) (fun h9 => by have := (step_up (T := P 5) (P := P1) (fun _ => ⟨(iM.at c_17).2.2.2.2.2.1, (iM.at c_17).2.2.2.2.2.2⟩)).2 h9; have := iK c_17; omega) (by exact iE) hS_67 hP hS (lv_sub hl [0] rfl)
            refine m_pi C vX6_275 (mcX6_isGood l g h ad _ _ hPS_47 _ (P 5) (P 6 0) m1) hS hl ⟨Nat.le_of_ble_eq_true rfl, Nat.le_of_ble_eq_true rfl⟩ ⟨rfl, rfl⟩ hK hP rfl rfl (Nat.le_of_ble_eq_true rfl) dX6_rail_48 ⟨Nat.zero_le _, Nat.zero_le _⟩ (fun locs hS => ?_)
            refine z_if_eq C 58 dX6_rail_51 (by decide) z01_in (fun c_51 => ?_) (fun c_51 => ?_)
            · replace c_51 := z01_f c_51
              exact hL_58  _ _ _ ls (by rw [stepSt, endsS, if_neg c_51]; exact m1) hPS_47 hP hS (lv_sub hl [0] rfl)
            · replace c_51 := z01_t c_51
              refine z_aload_n C dX6_rail_54 hl 0 rfl ?_
              refine m_mv C vX6_285 (mcX6_ends l g h ad _ _ hPS_47 (P 5) (P 6 0) _ hN (by have q := (stepP_ok (T := P 5) (n := P 6 0) (st := st) iR).2.1; unfold stepP at q; rw [zup_k _ _ _ (by decide)] at q; rw [q]; exact i5) (by have q := (stepP_ok (T := P 5) (n := P 6 0) (st := st) iR).2.2.1; unfold stepP at q; rw [zup_k _ _ _ (by decide)] at q; rw [q]; exact i6) m1 c_51) hS hl ⟨Nat.le_of_ble_eq_true rfl, Nat.le_of_ble_eq_true rfl⟩ ⟨rfl, rfl⟩ hK hP (fun _ h9 => h9) rfl rfl (Nat.le_of_ble_eq_true rfl) dX6_rail_55 ⟨Nat.zero_le _, Nat.zero_le _⟩ (fun S_55 H locs pS_55 hP hS => ?_)
              have hS_55 : per S_55 = _ := (pS_55.2.pr rfl hPS_47)
              exact hL_58  _ _ _ ls pS_55.1 hS_55 hP hS (lv_sub hl [0] rfl)
          refine m_geta C hK hP 16 (by decide) q1765 rfl (by decide) dX6_rail_28 ?_
          refine z_iconst C dX6_rail_31 ?_
          refine m_iald C hK hP 16 (by decide) rfl (by have h9 : mlen 16 = 5 := rfl; omega) (pe hPS_13 rfl) dX6_rail_32 (fun r_32 => ?_)
          refine z_if_ne C 43 dX6_rail_33 (by decide) (by omega) (fun c_33 => ?_) (fun c_33 => ?_)
          · refine z_aload_n C dX6_rail_43 hl 0 rfl ?_
            refine m_mv C vX6_282 (mcX6_line l g h ad _ _ hPS_13 (P 5) (P 6 0) st hN i5 i6 iM iR) hS hl ⟨Nat.le_of_ble_eq_true rfl, Nat.le_of_ble_eq_true rfl⟩ ⟨rfl, rfl⟩ hK hP (fun _ h9 => h9) rfl rfl (Nat.le_of_ble_eq_true rfl) dX6_rail_44 ⟨Nat.zero_le _, Nat.zero_le _⟩ (fun S_44 H locs pS_44 hP hS => ?_)
            obtain ⟨hS_44, pS_44⟩ := pS_44
            exact hL_47  _ _ _ ls (by rw [step1, if_neg c_33]; exact pS_44) (by rw [step1P, if_neg c_33]; exact hS_44) hP hS (lv_sub hl [0] rfl)
          · refine z_aload_n C dX6_rail_36 hl 0 rfl ?_
            refine m_mv C vX6_279 (mcX6_railLine l g h ad _ _ hPS_13 (P 5) (P 6 0) st hN i5 i6 iM iR) hS hl ⟨Nat.le_of_ble_eq_true rfl, Nat.le_of_ble_eq_true rfl⟩ ⟨rfl, rfl⟩ hK hP (fun _ h9 => h9) rfl rfl (Nat.le_of_ble_eq_true rfl) dX6_rail_37 ⟨Nat.zero_le _, Nat.zero_le _⟩ (fun S_37 H locs pS_37 hP hS => ?_)
            obtain ⟨hS_37, pS_37⟩ := pS_37
            refine z_goto C 47 dX6_rail_40 (by decide) ?_
            exact hL_47  _ _ _ ls (by rw [step1, if_pos c_33]; exact pS_37) (by rw [step1P, if_pos c_33]; exact hS_37) hP hS (lv_sub hl [0] rfl)
  exact hL_13 _ 0 (0, sk (P 5) (P 6 0) 0) _ _ _ _ ls (Nat.lt_succ_self _) (by omega) pS_10.1 (by exact q9.1) (by exact q9.2.1) (by exact congrFun q9.2.2.1 0) (by exact q9.2.2.2) (fun _ => by have := (sk_in (T := P 5) (n := P 6 0) (a := 0) (by omega)).1; show (0 : Int) ≤ sk (P 5) (P 6 0) 0; omega) (by exact ⟨rfl, rfl⟩) hS_10 hP hS (lv_sub hl [0] rfl)
