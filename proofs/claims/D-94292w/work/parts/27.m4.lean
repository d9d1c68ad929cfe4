theorem vX6_365 : zT RX6 365 yX6_sizeOf cX6_sizeOf 3 (some .int) 1 := ⟨lw_S q2165 q2166 q149 q2167, by decide +kernel⟩
theorem vX6_354 : zV RX6 354 RX6 yX6_isRail cX6_isRail 1 (some .boolean) 0 := ⟨lw_V q2151 q2153 qs96 q149 q2154, rfl, by decide +kernel⟩
theorem vX6_357 : zV RX6 357 RX6 yX6_isSet cX6_isSet 2 (some .boolean) 1 := ⟨lw_V q2147 q2149 qs95 q149 q2150, rfl, by decide +kernel⟩
theorem vX6_362 : zV RX6 362 RX6 yX6_night cX6_night 5 none 0 := ⟨lw_V q2156 q2158 qs97 q149 q2159, rfl, by decide +kernel⟩
theorem vX6_368 : zV RX6 368 RX6 yX6_riskOf cX6_riskOf 5 (some .long) 1 := ⟨lw_V q2176 q2178 qs99 q149 q2179, rfl, by decide +kernel⟩
theorem vX6_372 : zV RX6 372 RX6 yX6_riskNow cX6_riskNow 2 (some .long) 1 := ⟨lw_V q2172 q2174 qs98 q149 q2175, rfl, by decide +kernel⟩
theorem vX6_379 : zV RX6 379 RX6 yX6_paidOf cX6_paidOf 3 (some .long) 1 := ⟨lw_V q2193 q2195 qs101 q149 q2196, rfl, by decide +kernel⟩
theorem vX6_382 : zV RX6 382 RX6 yX6_lossOf cX6_lossOf 2 (some .long) 1 := ⟨lw_V q2198 q2200 qs102 q149 q2201, rfl, by decide +kernel⟩
theorem vX6_385 : zV RX6 385 RX6 yX6_wages cX6_wages 1 (some .long) 0 := ⟨lw_V q2207 q2209 qs104 q149 q2210, rfl, by decide +kernel⟩
theorem vX6_389 : zV RX6 389 RX6 yX6_costOf cX6_costOf 2 (some .long) 1 := ⟨lw_V q2203 q2205 qs103 q149 q2206, rfl, by decide +kernel⟩
theorem vX6_394 : zV RX6 394 RX6 yX6_whatOf cX6_whatOf 3 (some .long) 2 := ⟨lw_V q2189 q2191 qs100 q149 q2192, rfl, by decide +kernel⟩
theorem vX6_398 : zV RX6 398 RX6 yX6_allNow cX6_allNow 5 (some .long) 1 := ⟨lw_V q2215 q2217 qs105 q149 q2218, rfl, by decide +kernel⟩
theorem mcX6_night (l : Launch) (g : mG) (h : Nat) (ad : Nat → Nat) (P S : zS) (hPS : per S = P)  (hW : WfR P 0) : mMV l g h ad yX6_night cX6_night 5 (k2_rm 4 95) [] S (fun S1 => Fr [33, 34, 35, 36, 37, 38] S S1 ∧ NightIs P S1) := by
  refine z_start (own := RX6) (by decide) rfl (Nat.le_of_ble_eq_true rfl) ?_
  intro prg env s mid blw mth cod ls Q C hQ hret hlk hnm hK hH hl
  have hP : MP g h ad S s.heap := hH
  have hS : va_S (MA h ad) s.heap s.heap [] := va_S.rf
  have hl : lv_has ls 5 [(0, .ref h)] := hl
  have w1 := hW.bikes
  have w3 := hW.thieves
  have w5 := nN_in hW
  have w6 := zpow_in (k := P 23 0) (M := 10) (by omega)
  refine z_aload_n C dX6_night_0 hl 0 rfl ?_
  refine z_iconst C dX6_night_1 ?_
  refine m_mv C vX6_343 (mcX6_lays l g h ad _ _ hPS _ (by assumption) (by omega)) hS hl ⟨Nat.le_of_ble_eq_true rfl, Nat.le_of_ble_eq_true rfl⟩ ⟨rfl, rfl⟩ hK hP (fun _ h9 => h9) rfl rfl (Nat.le_of_ble_eq_true rfl) dX6_night_2 ⟨Nat.zero_le _, Nat.zero_le _⟩ (fun S_2 H locs pS_2 hP hS => ?_)
  have hS_2 : per S_2 = P := (pS_2.1.pr rfl hPS)
  refine z_iconst C dX6_night_5 ?_
  refine z_aload_n C dX6_night_6 hl 0 rfl ?_
  refine m_geta C hK hP 23 (by decide) q1772 rfl (by decide) dX6_night_7 ?_
  refine z_iconst C dX6_night_10 ?_
  refine m_iald C hK hP 23 (by decide) rfl (by have h9 : mlen 23 = 5 := rfl; omega) (pe hS_2 rfl) dX6_night_11 (fun r_11 => ?_)
  refine z_ishl C dX6_night_12 (zshl1 (by omega)) ?_
  refine z_istore_n C dX6_night_13 rfl hl (by decide) rfl (fun ls hl => ?_)
  have hl : lv_has ls 5 [(1, _), (0, _)] := hl
  refine z_iconst C dX6_night_14 ?_
  refine z_istore_n C dX6_night_15 rfl hl (by decide) rfl (fun ls hl => ?_)
  have hl : lv_has ls 5 [(2, _), (1, _), (0, _)] := hl
  have hL_16 : ∀ (fuel : Nat) (k : Nat) (S1 : zS) (H : Heap) (locs : List Loc) (ls : Array Slot), nN P - k < fuel → (k ≤ nN P) → (Fr [33, 34, 35, 36, 37, 38] S S1) → (Laid P (-1) S1) → (∀ s : Nat, s < k → S1 36 (s : Int) = if s = 0 then 1000000000000 else 0) → per S1 = P → MP g h ad S1 H → va_S (MA h ad) s.heap H locs → lv_has ls 5 [(0, .ref h), (1, .int (iZ ((nN P : Nat) : Int))), (2, .int (iZ (k : Int)))] → W prg l env (k2_rm 4 95) s mid ([.ref h] : List Value).toArray blw mth cod H locs 0 0 Q (F0 mid 16 ls []) := by
    intro fuel
    induction fuel with
    | zero => intro k S1  H locs ls hm; exact absurd hm (Nat.not_lt_zero _)
    | succ fuel hL_16 =>
      intro k S1  H locs ls hm ik iF iL iP hPS_16 hP  hS hl
      refine z_iload_n C dX6_night_16 hl 2 rfl ?_
      refine z_iload_n C dX6_night_17 hl 1 rfl ?_
      refine z_icmp_ge C 44 dX6_night_18 (by decide) (by omega) (by omega) (fun c_18 => ?_) (fun c_18 => ?_)
      · refine z_iconst C dX6_night_44 ?_
        refine z_istore_n C dX6_night_45 rfl hl (by decide) rfl (fun ls hl => ?_)
        have hl : lv_has ls 5 [(2, _), (0, _), (1, _)] := hl
        have hL_46 : ∀ (fuel : Nat) (k : Nat) (S2 : zS) (H : Heap) (locs : List Loc) (ls : Array Slot), 60 - k < fuel → (k ≤ 60) → (Fr [33, 34, 35, 36, 37, 38] S S2) → (Laid P (-1) S2) → (∀ s : Nat, s < nN P → S2 36 (s : Int) = if s = 0 then 1000000000000 else 0) → (∀ j : Nat, j < k → S2 38 (j : Int) = 0) → per S2 = P → MP g h ad S2 H → va_S (MA h ad) s.heap H locs → lv_has ls 5 [(0, .ref h), (1, .int (iZ ((nN P : Nat) : Int))), (2, .int (iZ (k : Int)))] → W prg l env (k2_rm 4 95) s mid ([.ref h] : List Value).toArray blw mth cod H locs 0 0 Q (F0 mid 46 ls []) := by
          intro fuel
          induction fuel with
          | zero => intro k S2  H locs ls hm; exact absurd hm (Nat.not_lt_zero _)
          | succ fuel hL_46 =>
            intro k S2  H locs ls hm jk jF jL jP jH hPS_46 hP  hS hl
            refine z_iload_n C dX6_night_46 hl 2 rfl ?_
            refine z_bipush C dX6_night_47 rfl ?_
            refine z_icmp_ge C 65 dX6_night_49 (by decide) (by omega) (by omega) (fun c_49 => ?_) (fun c_49 => ?_)
            · refine z_iconst C dX6_night_65 ?_
              refine z_istore_n C dX6_night_66 rfl hl (by decide) rfl (fun ls hl => ?_)
              have hl : lv_has ls 5 [(2, _), (0, _), (1, _)] := hl
              have hL_67 : ∀ (fuel : Nat) (T : Nat) (S3 : zS) (H : Heap) (locs : List Loc) (ls : Array Slot), (P 25 0).toNat - T < fuel → ((T : Int) ≤ P 25 0) → (Fr [33, 34, 35, 36, 37, 38] S S3) → (Laid P (-1) S3) → (NightA P T 0 S3) → per S3 = P → MP g h ad S3 H → va_S (MA h ad) s.heap H locs → lv_has ls 5 [(0, .ref h), (1, .int (iZ ((nN P : Nat) : Int))), (2, .int (iZ (T : Int)))] → W prg l env (k2_rm 4 95) s mid ([.ref h] : List Value).toArray blw mth cod H locs 0 0 Q (F0 mid 67 ls []) := by
                intro fuel
                induction fuel with
                | zero => intro T S3  H locs ls hm; exact absurd hm (Nat.not_lt_zero _)
                | succ fuel hL_67 =>
                  intro T S3  H locs ls hm aT aF aL aN hPS_67 hP  hS hl
                  refine z_iload_n C dX6_night_67 hl 2 rfl ?_
                  refine z_aload_n C dX6_night_68 hl 0 rfl ?_
                  refine m_geta C hK hP 25 (by decide) q1774 rfl (by decide) dX6_night_69 ?_
                  refine z_iconst C dX6_night_72 ?_
                  refine m_iald C hK hP 25 (by decide) rfl (by have h9 : mlen 25 = 5 := rfl; omega) (pe hPS_67 rfl) dX6_night_73 (fun r_73 => ?_)
                  refine z_icmp_ge C 224 dX6_night_74 (by decide) (by omega) (by omega) (fun c_74 => ?_) (fun c_74 => ?_)
                  · exact m_mret_v C hQ hret hlk hS hP ⟨aF, NightA.all aN (by omega)⟩ dX6_night_224
                  · have w7 := hW.thief0 (t := T) ⟨by omega, by omega⟩
                    refine z_iconst C dX6_night_77 ?_
                    refine z_istore_n C dX6_night_78 rfl hl (by decide) rfl (fun ls hl => ?_)
                    have hl : lv_has ls 5 [(3, _), (0, _), (1, _), (2, _)] := hl
                    have hL_79 : ∀ (fuel : Nat) (k : Nat) (S4 : zS) (H : Heap) (locs : List Loc) (ls : Array Slot), nN P - k < fuel → (k ≤ nN P) → (Fr [33, 34, 35, 36, 37, 38] S S4) → (Laid P (-1) S4) → (NightA P T 0 S4) → (∀ s : Nat, s < k → S4 37 (s : Int) = nightF P T s * comesOf P T / 100) → per S4 = P → MP g h ad S4 H → va_S (MA h ad) s.heap H locs → lv_has ls 5 [(0, .ref h), (1, .int (iZ ((nN P : Nat) : Int))), (2, .int (iZ (T : Int))), (3, .int (iZ (k : Int)))] → W prg l env (k2_rm 4 95) s mid ([.ref h] : List Value).toArray blw mth cod H locs 0 0 Q (F0 mid 79 ls []) := by
                      intro fuel
                      induction fuel with
                      | zero => intro k S4  H locs ls hm; exact absurd hm (Nat.not_lt_zero _)
                      | succ fuel hL_79 =>
                        intro k S4  H locs ls hm bk bF bL bN bC hPS_79 hP  hS hl
                        refine z_iload_n C dX6_night_79 hl 3 rfl ?_
                        refine z_iload_n C dX6_night_80 hl 1 rfl ?_
                        refine z_icmp_ge C 118 dX6_night_81 (by decide) (by omega) (by omega) (fun c_81 => ?_) (fun c_81 => ?_)
                        · refine z_iconst C dX6_night_118 ?_
                          refine z_istore_n C dX6_night_119 rfl hl (by decide) rfl (fun ls hl => ?_)
                          have hl : lv_has ls 5 [(3, _), (0, _), (1, _), (2, _)] := hl
                          have hL_120 : ∀ (fuel : Nat) (k : Nat) (S5 : zS) (H : Heap) (locs : List Loc) (ls : Array Slot), nN P - k < fuel → (k ≤ nN P) → (Fr [33, 34, 35, 36, 37, 38] S S5) → (Laid P (-1) S5) → (NightA P T k S5) → (∀ s : Nat, s < nN P → S5 37 (s : Int) = nightF P T s * comesOf P T / 100) → per S5 = P → MP g h ad S5 H → va_S (MA h ad) s.heap H locs → lv_has ls 5 [(0, .ref h), (1, .int (iZ ((nN P : Nat) : Int))), (2, .int (iZ (T : Int))), (3, .int (iZ (k : Int)))] → W prg l env (k2_rm 4 95) s mid ([.ref h] : List Value).toArray blw mth cod H locs 0 0 Q (F0 mid 120 ls []) := by
                            intro fuel
                            induction fuel with
                            | zero => intro k S5  H locs ls hm; exact absurd hm (Nat.not_lt_zero _)
                            | succ fuel hL_120 =>
                              intro k S5  H locs ls hm ck cF cL cN cC hPS_120 hP  hS hl
                              refine z_iload_n C dX6_night_120 hl 3 rfl ?_
                              refine z_iload_n C dX6_night_121 hl 1 rfl ?_
                              refine z_icmp_ge C 218 dX6_night_122 (by decide) (by omega) (by omega) (fun c_122 => ?_) (fun c_122 => ?_)
                              · refine z_iinc C dX6_night_218 hl (by decide) 2 rfl rfl (fun ls hl => ?_)
                                have hl : lv_has ls 5 [(2, _), (0, _), (1, _), (3, _)] := hl
                                refine z_goto C 67 dX6_night_221 (by decide) ?_
                                exact hL_67 (T + 1) _ _ _ ls (by omega) (by omega) cF cL (NightA.row (by rw [show nN P = k by omega]; exact cN) (by omega) (by omega)) hPS_120 hP hS (lv_sub hl [1, 2, 0] rfl)
                              · have q1 := nightF_in hW (t := T) (s := k) (by omega) (by omega)
                                have q2 := cC k (by omega)
                                have q0 : 0 ≤ nightF P T k * comesOf P T / 100 ∧ nightF P T k * comesOf P T / 100 ≤ nightF P T k := come_in q1.1 w7.2.1
                                refine z_aload_n C dX6_night_125 hl 0 rfl ?_
                                refine m_geta C hK hP 37 (by decide) q1786 rfl (by decide) dX6_night_126 ?_
                                refine z_iload_n C dX6_night_129 hl 3 rfl ?_
                                refine m_lald C hK hP 37 (by decide) rfl (by have h9 : mlen 37 = 1024 := rfl; omega) rfl dX6_night_130 (fun r_130 => ?_)
                                refine z_lconst (v := 0) C dX6_night_131 rfl ?_
                                refine z_lcmp_ne C 139 dX6_night_132 dX6_night_133 (by decide) (by omega) (by omega) (fun c_132 => ?_) (fun c_132 => ?_)
                                · refine z_aload_n C dX6_night_139 hl 0 rfl ?_
                                  refine z_iload_n C dX6_night_140 hl 2 rfl ?_
                                  refine z_iload_n C dX6_night_141 hl 3 rfl ?_
                                  refine m_pi C vX6_346 (mcX6_takesOf l g h ad _ _ hPS_120 (-1) _ _ (by assumption) (cL.row (by omega)) (by omega) (by omega)) hS hl ⟨Nat.le_of_ble_eq_true rfl, Nat.le_of_ble_eq_true rfl⟩ ⟨rfl, rfl⟩ hK hP rfl rfl (Nat.le_of_ble_eq_true rfl) dX6_night_142 ⟨Nat.zero_le _, Nat.zero_le _⟩ (fun locs hS => ?_)
                                  have q3 := takes_in hW (-1) T k
                                  have q30 : bt1 (-1) = 0 := rfl
                                  refine z_istore C dX6_night_145 hl (by decide) rfl (fun ls hl => ?_)
                                  have hl : lv_has ls 5 [(4, _), (0, _), (1, _), (2, _), (3, _)] := hl
                                  refine z_iload C dX6_night_147 hl 0 rfl ?_
                                  refine z_iconst C dX6_night_149 ?_
                                  refine z_icmp_ne C 156 dX6_night_150 (by decide) (by omega) (by omega) (fun c_150 => ?_) (fun c_150 => ?_)
                                  · have q4 := or_lt_N hW (t := T) (i := k) (by omega) c_150
                                    have q5 := nstep_in hW (t := T) (i := k) (s := k) (by omega) (by omega) (by omega)
                                    have q50 := cN.1 k (by omega)
                                    have q6a := nstep_in hW (t := T) (i := k) (s := k ||| 2 ^ (takes P (-1) T k).toNat) (by omega) (by omega) q4
                                    have q6b := cN.1 _ q4
                                    have q8 := zpow_in (k := takes P (-1) T k) (M := 10) (by omega)
                                    have q9 := hasF_in hW (t := T) (by omega) (takes P (-1) T k) (i := k) (by omega)
                                    have q10 := cN.2.2.1 (takes P (-1) T k) (by omega) (by omega) (by omega)
                                    refine z_aload_n C dX6_night_156 hl 1 rfl ?_
                                    refine m_geta C hK hP 36 (by decide) q1785 rfl (by decide) dX6_night_157 ?_
                                    refine z_iload_n C dX6_night_160 hl 4 rfl ?_
                                    refine z_dup2_11 C dX6_night_161 rfl rfl ?_
                                    refine m_lald C hK hP 36 (by decide) rfl (by have h9 : mlen 36 = 1024 := rfl; omega) rfl dX6_night_162 (fun r_162 => ?_)
                                    refine z_aload_n C dX6_night_163 hl 1 rfl ?_
                                    refine m_geta C hK hP 37 (by decide) q1786 rfl (by decide) dX6_night_164 ?_
                                    refine z_iload_n C dX6_night_167 hl 4 rfl ?_
                                    refine m_lald C hK hP 37 (by decide) rfl (by have h9 : mlen 37 = 1024 := rfl; omega) rfl dX6_night_168 (fun r_168 => ?_)
                                    refine z_lsub C dX6_night_169 ?_
                                    refine m_last C hK hP hS 36 (by decide) rfl (by have h9 : mlen 36 = 1024 := rfl; omega) (by omega) dX6_night_170 (fun S_170 eS_170 H locs hP hS => ?_)
                                    have hS_170 := per_s rfl hPS_120 eS_170
                                    refine z_aload_n C dX6_night_171 hl 1 rfl ?_
                                    refine m_geta C hK hP 36 (by decide) q1785 rfl (by decide) dX6_night_172 ?_
                                    refine z_iload_n C dX6_night_175 hl 4 rfl ?_
                                    refine z_iconst C dX6_night_176 ?_
                                    refine z_iload C dX6_night_177 hl 0 rfl ?_
                                    refine z_ishl C dX6_night_179 (zshl1 (by omega)) ?_
                                    refine z_ior C dX6_night_180 (iZ_or _ _ (by omega) (by omega)) ?_
                                    refine z_dup2_11 C dX6_night_181 rfl rfl ?_
                                    refine m_lald C hK hP 36 (by decide) rfl (by have h9 : mlen 36 = 1024 := rfl; omega) rfl dX6_night_182 (fun r_182 => ?_)
                                    refine z_aload_n C dX6_night_183 hl 1 rfl ?_
                                    refine m_geta C hK hP 37 (by decide) q1786 rfl (by decide) dX6_night_184 ?_
                                    refine z_iload_n C dX6_night_187 hl 4 rfl ?_
                                    refine m_lald C hK hP 37 (by decide) rfl (by have h9 : mlen 37 = 1024 := rfl; omega) rfl dX6_night_188 (fun r_188 => ?_)
                                    refine z_ladd C dX6_night_189 ?_
                                    refine m_last C hK hP hS 36 (by decide) rfl (by have h9 : mlen 36 = 1024 := rfl; omega) (by rw [eS_170]; simp only [zup]; split <;> split <;> omega) dX6_night_190 (fun S_190 eS_190 H locs hP hS => ?_)
                                    have hS_190 := per_s rfl hS_170 eS_190
                                    refine z_aload_n C dX6_night_191 hl 1 rfl ?_
                                    refine m_geta C hK hP 38 (by decide) q1787 rfl (by decide) dX6_night_192 ?_
                                    refine z_bipush C dX6_night_195 rfl ?_
                                    refine z_iload_n C dX6_night_197 hl 3 rfl ?_
                                    refine z_imul C dX6_night_198 ?_
                                    refine z_iload C dX6_night_199 hl 0 rfl ?_
                                    refine z_iadd C dX6_night_201 ?_
                                    refine z_dup2_11 C dX6_night_202 rfl rfl ?_
                                    refine m_lald C hK hP 38 (by decide) rfl (by have h9 : mlen 38 = 60 := rfl; omega) rfl dX6_night_203 (fun r_203 => ?_)
                                    refine z_aload_n C dX6_night_204 hl 1 rfl ?_
                                    refine m_geta C hK hP 37 (by decide) q1786 rfl (by decide) dX6_night_205 ?_
                                    refine z_iload_n C dX6_night_208 hl 4 rfl ?_
                                    refine m_lald C hK hP 37 (by decide) rfl (by have h9 : mlen 37 = 1024 := rfl; omega) rfl dX6_night_209 (fun r_209 => ?_)
                                    refine z_ladd C dX6_night_210 ?_
                                    have q6 : S_190 38 (10 * (T : Int) + takes P (-1) T k) = hasF P T (takes P (-1) T k) k := by rw [eS_190, zup_k _ _ _ (by decide), eS_170, zup_k _ _ _ (by decide), q10]
                                    have q7 : S_190 37 (k : Int) = S5 37 (k : Int) := by rw [eS_190, zup_k _ _ _ (by decide), eS_170, zup_k _ _ _ (by decide)]
                                    refine m_last C hK hP hS 38 (by decide) rfl (by have h9 : mlen 38 = 60 := rfl; omega) (by rw [q6, q7]; omega) dX6_night_211 (fun S_211 eS_211 H locs hP hS => ?_)
                                    have hS_211 := per_s rfl hS_190 eS_211
                                    refine z_iinc C dX6_night_212 hl (by decide) 4 rfl rfl (fun ls hl => ?_)
                                    have hl : lv_has ls 5 [(3, _), (4, _), (0, _), (1, _), (2, _)] := hl
                                    refine z_goto C 120 dX6_night_215 (by decide) ?_
                                    exact hL_120 (k + 1) _ _ _ ls (by omega) (by omega) (Fr.up (Fr.up (Fr.up cF eS_170 (by decide)) eS_190 (by decide)) eS_211 (by decide)) (Laid.mv (Laid.mv (Laid.mv cL (Fr.up Fr.rf eS_170 (by decide : 36 ∈ [36])) (by decide) (by decide) (by decide)) (Fr.up Fr.rf eS_190 (by decide : 36 ∈ [36])) (by decide) (by decide) (by decide)) (Fr.up Fr.rf eS_211 (by decide : 38 ∈ [38])) (by decide) (by decide) (by decide)) (NightA.move hW cN (by omega) q2 (by omega) c_150 eS_170 eS_190 eS_211) (zkeep (zkeep (zkeep cC eS_170 (by decide)) eS_190 (by decide)) eS_211 (by decide)) hS_211 hP hS (lv_sub hl [2, 3, 4, 0] rfl)
                                  · refine z_goto C 212 dX6_night_153 (by decide) ?_
                                    refine z_iinc C dX6_night_212 hl (by decide) 4 rfl rfl (fun ls hl => ?_)
                                    have hl : lv_has ls 5 [(3, _), (4, _), (0, _), (1, _), (2, _)] := hl
                                    refine z_goto C 120 dX6_night_215 (by decide) ?_
                                    exact hL_120 (k + 1) _ _ _ ls (by omega) (by omega) cF cL (NightA.skip cN (Or.inr c_150)) cC hPS_120 hP hS (lv_sub hl [2, 3, 4, 0] rfl)
                                · refine z_goto C 212 dX6_night_136 (by decide) ?_
                                  refine z_iinc C dX6_night_212 hl (by decide) 3 rfl rfl (fun ls hl => ?_)
                                  have hl : lv_has ls 5 [(3, _), (0, _), (1, _), (2, _)] := hl
                                  refine z_goto C 120 dX6_night_215 (by decide) ?_
                                  exact hL_120 (k + 1) _ _ _ ls (by omega) (by omega) cF cL (NightA.skip cN (Or.inl (by omega))) cC hPS_120 hP hS (lv_sub hl [1, 2, 3, 0] rfl)
                          exact hL_120 _ 0 _ _ _ ls (Nat.lt_succ_self _) (by omega) bF bL bN (fun s hs => bC s (by omega)) hPS_79 hP hS (lv_sub hl [1, 2, 3, 0] rfl)
                        · have q1 : S4 36 (k : Int) = nightF P T k := bN.1 k (by omega)
                          have q2 := nightF_in hW (t := T) (s := k) (by omega) (by omega)
                          have q3 := zmul_in (A := 1000000000000) (B := 100) (by omega : 0 ≤ S4 36 (k : Int) ∧ _) w7.2.1
                          refine z_aload_n C dX6_night_84 hl 0 rfl ?_
                          refine m_geta C hK hP 37 (by decide) q1786 rfl (by decide) dX6_night_85 ?_
                          refine z_iload_n C dX6_night_88 hl 3 rfl ?_
                          refine z_aload_n C dX6_night_89 hl 0 rfl ?_
                          refine m_geta C hK hP 36 (by decide) q1785 rfl (by decide) dX6_night_90 ?_
                          refine z_iload_n C dX6_night_93 hl 3 rfl ?_
                          refine m_lald C hK hP 36 (by decide) rfl (by have h9 : mlen 36 = 1024 := rfl; omega) rfl dX6_night_94 (fun r_94 => ?_)
                          refine z_aload_n C dX6_night_95 hl 0 rfl ?_
                          refine m_geta C hK hP 26 (by decide) q1775 rfl (by decide) dX6_night_96 ?_
                          refine z_iconst C dX6_night_99 ?_
                          refine z_iload_n C dX6_night_100 hl 2 rfl ?_
                          refine z_imul C dX6_night_101 ?_
                          refine z_iconst C dX6_night_102 ?_
                          refine z_iadd C dX6_night_103 ?_
                          refine m_iald C hK hP 26 (by decide) rfl (by have h9 : mlen 26 = 150 := rfl; omega) (pe hPS_79 rfl) dX6_night_104 (fun r_104 => ?_)
                          refine z_i2l C dX6_night_105 (by omega) ?_
                          refine z_lmul C dX6_night_106 ?_
                          refine z_ldc2 (v := 100) C q2110 dX6_night_107 rfl ?_
                          refine z_ldiv C dX6_night_110 (by omega) (by omega) ?_
                          refine m_last C hK hP hS 37 (by decide) rfl (by have h9 : mlen 37 = 1024 := rfl; omega) (by omega) dX6_night_111 (fun S_111 eS_111 H locs hP hS => ?_)
                          have hS_111 := per_s rfl hPS_79 eS_111
                          refine z_iinc C dX6_night_112 hl (by decide) 3 rfl rfl (fun ls hl => ?_)
                          have hl : lv_has ls 5 [(3, _), (0, _), (1, _), (2, _)] := hl
                          refine z_goto C 79 dX6_night_115 (by decide) ?_
                          exact hL_79 (k + 1) _ _ _ ls (by omega) (by omega) (Fr.up bF eS_111 (by decide)) (Laid.mv bL (Fr.up Fr.rf eS_111 (by decide : 37 ∈ [37])) (by decide) (by decide) (by decide)) (NightA.mv bN (Fr.up Fr.rf eS_111 (by decide : 37 ∈ [37])) (by decide) (by decide)) (zfill bC eS_111 (by rw [q1])) hS_111 hP hS (lv_sub hl [1, 2, 3, 0] rfl)
                    exact hL_79 _ 0 _ _ _ ls (Nat.lt_succ_self _) (by omega) aF aL aN (fun s hs => absurd hs (Nat.not_lt_zero _)) hPS_67 hP hS (lv_sub hl [1, 2, 3, 0] rfl)
              exact hL_67 _ 0 _ _ _ ls (Nat.lt_succ_self _) (by omega) jF jL (NightA.zero jP (fun j h1 h2 => by have := jH j.toNat (by omega); rw [show ((j.toNat : Nat) : Int) = j by omega] at this; exact this) (by omega)) hPS_46 hP hS (lv_sub hl [1, 2, 0] rfl)
            · refine z_aload_n C dX6_night_52 hl 0 rfl ?_
              refine m_geta C hK hP 38 (by decide) q1787 rfl (by decide) dX6_night_53 ?_
              refine z_iload_n C dX6_night_56 hl 2 rfl ?_
              refine z_lconst (v := 0) C dX6_night_57 rfl ?_
              refine m_last C hK hP hS 38 (by decide) rfl (by have h9 : mlen 38 = 60 := rfl; omega) (by omega) dX6_night_58 (fun S_58 eS_58 H locs hP hS => ?_)
              have hS_58 := per_s rfl hPS_46 eS_58
              refine z_iinc C dX6_night_59 hl (by decide) 2 rfl rfl (fun ls hl => ?_)
              have hl : lv_has ls 5 [(2, _), (0, _), (1, _)] := hl
              refine z_goto C 46 dX6_night_62 (by decide) ?_
              exact hL_46 (k + 1) _ _ _ ls (by omega) (by omega) (Fr.up jF eS_58 (by decide)) (Laid.mv jL (Fr.up Fr.rf eS_58 (by decide : 38 ∈ [38])) (by decide) (by decide) (by decide)) (zkeep jP eS_58 (by decide)) (zfill jH eS_58 rfl) hS_58 hP hS (lv_sub hl [1, 2, 0] rfl)
        exact hL_46 _ 0 _ _ _ ls (Nat.lt_succ_self _) (by omega) iF iL (fun s hs => iP s (by omega)) (fun s hs => absurd hs (Nat.not_lt_zero _)) hPS_16 hP hS (lv_sub hl [1, 2, 0] rfl)
      · refine z_aload_n C dX6_night_21 hl 0 rfl ?_
        refine m_geta C hK hP 36 (by decide) q1785 rfl (by decide) dX6_night_22 ?_
        refine z_iload_n C dX6_night_25 hl 2 rfl ?_
        refine z_iload_n C dX6_night_26 hl 2 rfl ?_
        refine z_if_ne C 36 dX6_night_27 (by decide) (by omega) (fun c_27 => ?_) (fun c_27 => ?_)
        · refine z_lconst (v := 0) C dX6_night_36 rfl ?_
          refine m_last C hK hP hS 36 (by decide) rfl (by have h9 : mlen 36 = 1024 := rfl; omega) (by omega) dX6_night_37 (fun S_37 eS_37 H locs hP hS => ?_)
          have hS_37 := per_s rfl hPS_16 eS_37
          refine z_iinc C dX6_night_38 hl (by decide) 2 rfl rfl (fun ls hl => ?_)
          have hl : lv_has ls 5 [(2, _), (0, _), (1, _)] := hl
          refine z_goto C 16 dX6_night_41 (by decide) ?_
          exact hL_16 (k + 1) _ _ _ ls (by omega) (by omega) (Fr.up iF eS_37 (by decide)) (Laid.mv iL (Fr.up Fr.rf eS_37 (by decide : 36 ∈ [36])) (by decide) (by decide) (by decide)) (zfill iP eS_37 (by first | rw [if_pos (by omega)] | rw [if_neg (by omega)])) hS_37 hP hS (lv_sub hl [1, 2, 0] rfl)
        · refine z_ldc2 (v := 1000000000000) C q2160 dX6_night_30 rfl ?_
          refine z_goto C 37 dX6_night_33 (by decide) ?_
          refine m_last C hK hP hS 36 (by decide) rfl (by have h9 : mlen 36 = 1024 := rfl; omega) (by omega) dX6_night_37 (fun S_37 eS_37 H locs hP hS => ?_)
          have hS_37 := per_s rfl hPS_16 eS_37
          refine z_iinc C dX6_night_38 hl (by decide) 2 rfl rfl (fun ls hl => ?_)
          have hl : lv_has ls 5 [(2, _), (0, _), (1, _)] := hl
          refine z_goto C 16 dX6_night_41 (by decide) ?_
          exact hL_16 (k + 1) _ _ _ ls (by omega) (by omega) (Fr.up iF eS_37 (by decide)) (Laid.mv iL (Fr.up Fr.rf eS_37 (by decide : 36 ∈ [36])) (by decide) (by decide) (by decide)) (zfill iP eS_37 (by first | rw [if_pos (by omega)] | rw [if_neg (by omega)])) hS_37 hP hS (lv_sub hl [1, 2, 0] rfl)
  exact hL_16 _ 0 _ _ _ ls (Nat.lt_succ_self _) (by omega) (Fr.le pS_2.1 (by decide)) pS_2.2 (fun s hs => absurd hs (Nat.not_lt_zero _)) hS_2 hP hS (lv_sub hl [2, 1, 0] rfl)
theorem mcX6_isSet (l : Launch) (g : mG) (h : Nat) (ad : Nat → Nat) (P S : zS) (hPS : per S = P) (v : Int) (hW : WfR P 0) (hv : I32 v) : mPI l g h ad yX6_isSet cX6_isSet 2 .boolean (k2_rm 1 25) [.int (iZ v)] S (if isSt P v then 1 else 0) := by
  intro H0 hP
  refine z_start (own := RX6) (by decide) rfl (Nat.le_of_ble_eq_true rfl) ?_
  intro prg env s mid blw mth cod ls Q C hQ hret hlk hnm hK hH hl
  subst hH
  have hS : va_S nA s.heap s.heap [] := va_S.rf
  have hl : lv_has ls 2 [(0, .ref h), (1, .int (iZ v))] := hl
  have w1 := hW.bikes
  have w2 := hW.places
  have w5 := nN_in hW
  have w6 := zpow_in (k := P 23 0) (M := 10) (by omega)
  refine z_aload_n C dX6_isSet_0 hl 0 rfl ?_
  refine m_pi C vX6_354 (mcX6_isRail l g h ad _ _ hPS (by assumption)) hS hl ⟨Nat.le_of_ble_eq_true rfl, Nat.le_of_ble_eq_true rfl⟩ ⟨rfl, rfl⟩ hK hP rfl rfl (Nat.le_of_ble_eq_true rfl) dX6_isSet_1 ⟨Nat.zero_le _, Nat.zero_le _⟩ (fun locs hS => ?_)
  refine z_if_eq C 31 dX6_isSet_4 (by decide) z01_in (fun c_4 => ?_) (fun c_4 => ?_)
  · replace c_4 := z01_f c_4
    refine z_iconst C dX6_isSet_31 ?_
    exact z_pret_z C hQ hret hlk hS z01_any (by split <;> omega) dX6_isSet_32
  · replace c_4 := z01_t c_4
    refine z_iload_n C dX6_isSet_7 hl 1 rfl ?_
    refine z_i2l C dX6_isSet_8 (by omega) ?_
    refine z_lconst (v := 0) C dX6_isSet_9 rfl ?_
    refine z_iconst C dX6_isSet_10 ?_
    refine z_aload_n C dX6_isSet_11 hl 0 rfl ?_
    refine m_geta C hK hP 23 (by decide) q1772 rfl (by decide) dX6_isSet_12 ?_
    refine z_iconst C dX6_isSet_15 ?_
    refine m_iald C hK hP 23 (by decide) rfl (by have h9 : mlen 23 = 5 := rfl; omega) (pe hPS rfl) dX6_isSet_16 (fun r_16 => ?_)
    refine z_ishl C dX6_isSet_17 (zshl1 (by omega)) ?_
    refine z_iconst C dX6_isSet_18 ?_
    refine z_isub C dX6_isSet_19 ?_
    refine z_i2l C dX6_isSet_20 (by omega) ?_
    refine s_pi C vX6_119 (mcX6_in l _ _ _ (by omega) (by omega) (by omega)) hS hl ⟨Nat.le_of_ble_eq_true rfl, Nat.le_of_ble_eq_true rfl⟩ ⟨rfl, rfl⟩ rfl rfl (Nat.le_of_ble_eq_true rfl) dX6_isSet_21 ⟨Nat.zero_le _, Nat.zero_le _⟩ (fun locs hS => ?_)
    refine z_if_eq C 31 dX6_isSet_24 (by decide) z01_in (fun c_24 => ?_) (fun c_24 => ?_)
    · replace c_24 := z01_f c_24
      refine z_iconst C dX6_isSet_31 ?_
      exact z_pret_z C hQ hret hlk hS z01_any (by split <;> omega) dX6_isSet_32
    · replace c_24 := z01_t c_24
      refine z_iconst C dX6_isSet_27 ?_
      refine z_goto C 32 dX6_isSet_28 (by decide) ?_
      exact z_pret_z C hQ hret hlk hS z01_any (by split <;> omega) dX6_isSet_32
theorem mcX6_part (l : Launch) (g : mG) (h : Nat) (ad : Nat → Nat) (P S : zS) (hPS : per S = P) (v : Int) (hW : WfR P 0) (hv : I32 v) : mML l g h ad yX6_part cX6_part 2 (k2_rm 5 119) [.int (iZ v)] S (fun z1 S1 => z1 = aPart P v ∧ per S1 = P) := by
  refine z_start (own := RX6) (by decide) rfl (Nat.le_of_ble_eq_true rfl) ?_
  intro prg env s mid blw mth cod ls Q C hQ hret hlk hnm hK hH hl
  have hP : MP g h ad S s.heap := hH
  have hS : va_S (MA h ad) s.heap s.heap [] := va_S.rf
  have hl : lv_has ls 2 [(0, .ref h), (1, .int (iZ v))] := hl
  have w1 := hW.bikes
  have w2 := hW.places
  have w5 := nN_in hW
  have w6 := zpow_in (k := P 23 0) (M := 10) (by omega)
  refine z_aload_n C dX6_part_0 hl 0 rfl ?_
  refine z_iconst C dX6_part_1 ?_
  refine m_puti C hK hP hS 0 (by decide) q1749 rfl rfl (by omega) dX6_part_2 (fun S_2 eS_2 H locs hP hS => ?_)
  have hS_2 := per_s rfl hPS eS_2
  refine z_aload_n C dX6_part_5 hl 0 rfl ?_
  refine z_iload_n C dX6_part_6 hl 1 rfl ?_
  refine m_pi C vX6_357 (mcX6_isSet l g h ad _ _ hS_2 _ (by assumption) (by omega)) hS hl ⟨Nat.le_of_ble_eq_true rfl, Nat.le_of_ble_eq_true rfl⟩ ⟨rfl, rfl⟩ hK hP rfl rfl (Nat.le_of_ble_eq_true rfl) dX6_part_7 ⟨Nat.zero_le _, Nat.zero_le _⟩ (fun locs hS => ?_)
  refine z_if_ne C 17 dX6_part_10 (by decide) z01_in (fun c_10 => ?_) (fun c_10 => ?_)
  · replace c_10 := z01_t c_10
    refine z_aload_n C dX6_part_17 hl 0 rfl ?_
    refine m_mv C vX6_362 (mcX6_night l g h ad _ _ hS_2 (by assumption)) hS hl ⟨Nat.le_of_ble_eq_true rfl, Nat.le_of_ble_eq_true rfl⟩ ⟨rfl, rfl⟩ hK hP (fun _ h9 => h9) rfl rfl (Nat.le_of_ble_eq_true rfl) dX6_part_18 ⟨Nat.zero_le _, Nat.zero_le _⟩ (fun S_18 H locs pS_18 hP hS => ?_)
    have hS_18 : per S_18 = P := (pS_18.1.pr rfl hS_2)
    refine z_aload_n C dX6_part_21 hl 0 rfl ?_
    refine m_geta C hK hP 36 (by decide) q1785 rfl (by decide) dX6_part_22 ?_
    refine z_iload_n C dX6_part_25 hl 1 rfl ?_
    refine m_lald C hK hP 36 (by decide) rfl (by have h9 : mlen 36 = 1024 := rfl; omega) rfl dX6_part_26 (fun r_26 => ?_)
    exact m_mret_l C hQ hret hlk hS hP ⟨by rw [aPart, if_pos c_10, nightS, ← pS_18.2.1 v.toNat (by unfold nN; omega)]; congr 1; omega, hS_18⟩ dX6_part_27
  · replace c_10 := z01_f c_10
    refine z_ldc2 (v := -2) C q2155 dX6_part_13 rfl ?_
    exact m_mret_l C hQ hret hlk hS hP ⟨(if_neg (by assumption)).symm, hS_2⟩ dX6_part_16
theorem mcX6_sizeOf (l : Launch) (n : Nat) (hn : n < 1024) : sPI l yX6_sizeOf cX6_sizeOf 3 .int (k2_rm 0 0) [.int (iZ (n : Int))] ((bitsOf n : Int)) := by
  intro H0
  refine z_start (own := RX6) (by decide) rfl (Nat.le_of_ble_eq_true rfl) ?_
  intro prg env s mid blw mth cod ls Q C hQ hret hlk hnm hK hH hl
  subst hH
  have hS : va_S nA s.heap s.heap [] := va_S.rf
  have hl : lv_has ls 3 [(0, .int (iZ (n : Int)))] := hl
  refine z_iconst C dX6_sizeOf_0 ?_
  refine z_istore_n C dX6_sizeOf_1 rfl hl (by decide) rfl (fun ls hl => ?_)
  have hl : lv_has ls 3 [(1, _), (0, _)] := hl
  refine z_iload_n C dX6_sizeOf_2 hl 1 rfl ?_
  refine z_istore_n C dX6_sizeOf_3 rfl hl (by decide) rfl (fun ls hl => ?_)
  have hl : lv_has ls 3 [(2, _), (1, _), (0, _)] := hl
  have hL_4 : ∀ (fuel : Nat) (k v : Nat) (locs : List Loc) (ls : Array Slot), v < fuel → (v < 1024) → (k + bitsOf v = bitsOf n) → (k ≤ 2000) → va_S nA s.heap s.heap locs → lv_has ls 3 [(0, .int (iZ (n : Int))), (1, .int (iZ (k : Int))), (2, .int (iZ (v : Int)))] → W prg l env (k2_rm 0 0) s mid ([.int (iZ (n : Int))] : List Value).toArray blw mth cod s.heap locs 0 0 Q (F0 mid 4 ls []) := by
    intro fuel
    induction fuel with
    | zero => intro k v  locs ls hm; exact absurd hm (Nat.not_lt_zero _)
    | succ fuel hL_4 =>
      intro k v  locs ls hm iv iN iK  hS hl
      refine z_iload_n C dX6_sizeOf_4 hl 2 rfl ?_
      refine z_if_eq C 20 dX6_sizeOf_5 (by decide) (by omega) (fun c_5 => ?_) (fun c_5 => ?_)
      · refine z_iload_n C dX6_sizeOf_20 hl 1 rfl ?_
        exact z_pret_i C hQ hret hlk hS (by rw [show v = 0 by omega] at iN; have h0 : bitsOf 0 = 0 := rfl; omega) dX6_sizeOf_21
      · have q1 := bits_dec v (by omega) (by omega)
        have q2 : bitsOf v ≤ 10 := by unfold bitsOf; omega
        have q3 : bitsOf n ≤ 10 := by unfold bitsOf; omega
        refine z_iinc C dX6_sizeOf_8 hl (by decide) 1 rfl rfl (fun ls hl => ?_)
        have hl : lv_has ls 3 [(1, _), (0, _), (2, _)] := hl
        refine z_iload_n C dX6_sizeOf_11 hl 2 rfl ?_
        refine z_iload_n C dX6_sizeOf_12 hl 2 rfl ?_
        refine z_iconst C dX6_sizeOf_13 ?_
        refine z_isub C dX6_sizeOf_14 ?_
        refine z_iand C dX6_sizeOf_15 (by rw [show ((v : Int) - 1) = ((v - 1 : Nat) : Int) by omega]; exact iZ_and _ _ (by omega) (by omega)) ?_
        refine z_istore_n C dX6_sizeOf_16 rfl hl (by decide) rfl (fun ls hl => ?_)
        have hl : lv_has ls 3 [(2, _), (1, _), (0, _)] := hl
        refine z_goto C 4 dX6_sizeOf_17 (by decide) ?_
        exact hL_4 (k + 1) (v &&& (v - 1)) _ ls (by omega) (by omega) (by omega) (by omega)  hS (lv_sub hl [2, 1, 0] rfl)
  exact hL_4 (n + 1) 0 n _ ls (Nat.lt_succ_self _) (by omega) (Nat.zero_add _) (by omega)  hS (lv_sub hl [2, 1, 0] rfl)
theorem mcX6_many (l : Launch) (g : mG) (h : Nat) (ad : Nat → Nat) (P S : zS) (hPS : per S = P) (n : Int) (hW : WfR P 0) (hn : I32 n) : mML l g h ad yX6_many cX6_many 5 (k2_rm 5 119) [.int (iZ n)] S (fun z1 S1 => z1 = aMany P n ∧ per S1 = P) := by
  refine z_start (own := RX6) (by decide) rfl (Nat.le_of_ble_eq_true rfl) ?_
  intro prg env s mid blw mth cod ls Q C hQ hret hlk hnm hK hH hl
  have hP : MP g h ad S s.heap := hH
  have hS : va_S (MA h ad) s.heap s.heap [] := va_S.rf
  have hl : lv_has ls 5 [(0, .ref h), (1, .int (iZ n))] := hl
  have w1 := hW.bikes
  have w2 := hW.places
  have w5 := nN_in hW
  have w6 := zpow_in (k := P 23 0) (M := 10) (by omega)
  refine z_aload_n C dX6_many_0 hl 0 rfl ?_
  refine z_iconst C dX6_many_1 ?_
  refine m_puti C hK hP hS 0 (by decide) q1749 rfl rfl (by omega) dX6_many_2 (fun S_2 eS_2 H locs hP hS => ?_)
  have hS_2 := per_s rfl hPS eS_2
  refine z_aload_n C dX6_many_5 hl 0 rfl ?_
  refine m_pi C vX6_354 (mcX6_isRail l g h ad _ _ hS_2 (by assumption)) hS hl ⟨Nat.le_of_ble_eq_true rfl, Nat.le_of_ble_eq_true rfl⟩ ⟨rfl, rfl⟩ hK hP rfl rfl (Nat.le_of_ble_eq_true rfl) dX6_many_6 ⟨Nat.zero_le _, Nat.zero_le _⟩ (fun locs hS => ?_)
  refine z_if_eq C 28 dX6_many_9 (by decide) z01_in (fun c_9 => ?_) (fun c_9 => ?_)
  · replace c_9 := z01_f c_9
    refine z_ldc2 (v := -2) C q2155 dX6_many_28 rfl ?_
    exact m_mret_l C hQ hret hlk hS hP ⟨(if_neg (by omega)).symm, hS_2⟩ dX6_many_31
  · replace c_9 := z01_t c_9
    refine z_iload_n C dX6_many_12 hl 1 rfl ?_
    refine z_i2l C dX6_many_13 (by omega) ?_
    refine z_lconst (v := 0) C dX6_many_14 rfl ?_
    refine z_aload_n C dX6_many_15 hl 0 rfl ?_
    refine m_geta C hK hP 23 (by decide) q1772 rfl (by decide) dX6_many_16 ?_
    refine z_iconst C dX6_many_19 ?_
    refine m_iald C hK hP 23 (by decide) rfl (by have h9 : mlen 23 = 5 := rfl; omega) (pe hS_2 rfl) dX6_many_20 (fun r_20 => ?_)
    refine z_i2l C dX6_many_21 (by omega) ?_
    refine s_pi C vX6_119 (mcX6_in l _ _ _ (by omega) (by omega) (by omega)) hS hl ⟨Nat.le_of_ble_eq_true rfl, Nat.le_of_ble_eq_true rfl⟩ ⟨rfl, rfl⟩ rfl rfl (Nat.le_of_ble_eq_true rfl) dX6_many_22 ⟨Nat.zero_le _, Nat.zero_le _⟩ (fun locs hS => ?_)
    refine z_if_ne C 32 dX6_many_25 (by decide) z01_in (fun c_25 => ?_) (fun c_25 => ?_)
    · replace c_25 := z01_t c_25
      refine z_aload_n C dX6_many_32 hl 0 rfl ?_
      refine m_mv C vX6_362 (mcX6_night l g h ad _ _ hS_2 (by assumption)) hS hl ⟨Nat.le_of_ble_eq_true rfl, Nat.le_of_ble_eq_true rfl⟩ ⟨rfl, rfl⟩ hK hP (fun _ h9 => h9) rfl rfl (Nat.le_of_ble_eq_true rfl) dX6_many_33 ⟨Nat.zero_le _, Nat.zero_le _⟩ (fun S_33 H locs pS_33 hP hS => ?_)
      have hS_33 : per S_33 = P := (pS_33.1.pr rfl hS_2)
      refine z_lconst (v := 0) C dX6_many_36 rfl ?_
      refine z_lstore_n C dX6_many_37 rfl hl (by decide) rfl (fun ls hl => ?_)
      have hl : lv_has ls 5 [(2, _), (0, _), (1, _)] := hl
      refine z_iconst C dX6_many_38 ?_
      refine z_istore C dX6_many_39 hl (by decide) rfl (fun ls hl => ?_)
      have hl : lv_has ls 5 [(4, _), (2, _), (0, _), (1, _)] := hl
      have hL_41 : ∀ (fuel : Nat) (k : Nat) (v : Int) (H : Heap) (locs : List Loc) (ls : Array Slot), nN P - k < fuel → (k ≤ nN P) → (v = zsm (fun s => if (bitsOf s : Int) = n then nightS P s else 0) k) → MP g h ad S_33 H → va_S (MA h ad) s.heap H locs → lv_has ls 5 [(0, .ref h), (1, .int (iZ n)), (2, .long (lZ v)), (4, .int (iZ (k : Int)))] → W prg l env (k2_rm 5 119) s mid ([.ref h, .int (iZ n)] : List Value).toArray blw mth cod H locs 0 0 Q (F0 mid 41 ls []) := by
        intro fuel
        induction fuel with
        | zero => intro k v  H locs ls hm; exact absurd hm (Nat.not_lt_zero _)
        | succ fuel hL_41 =>
          intro k v  H locs ls hm ik iN hP  hS hl
          refine z_iload C dX6_many_41 hl 3 rfl ?_
          refine z_iconst C dX6_many_43 ?_
          refine z_aload_n C dX6_many_44 hl 0 rfl ?_
          refine m_geta C hK hP 23 (by decide) q1772 rfl (by decide) dX6_many_45 ?_
          refine z_iconst C dX6_many_48 ?_
          refine m_iald C hK hP 23 (by decide) rfl (by have h9 : mlen 23 = 5 := rfl; omega) (pe hS_33 rfl) dX6_many_49 (fun r_49 => ?_)
          refine z_ishl C dX6_many_50 (zshl1 (by omega)) ?_
          refine z_icmp_ge C 83 dX6_many_51 (by decide) (by omega) (by unfold nN at *; omega) (fun c_51 => ?_) (fun c_51 => ?_)
          · have q1 : nN P ≤ k := by unfold nN at *; omega
            refine z_lload_n C dX6_many_83 hl 2 rfl ?_
            exact m_mret_l C hQ hret hlk hS hP ⟨by rw [aMany, if_pos ⟨c_9, c_25⟩, iN, show k = nN P by omega], hS_33⟩ dX6_many_84
          · have q1 : k < nN P := by unfold nN at *; omega
            have q2 : bitsOf k ≤ 10 := by unfold bitsOf; omega
            refine z_lload_n C dX6_many_54 hl 2 rfl ?_
            refine z_iload C dX6_many_55 hl 3 rfl ?_
            refine s_pi C vX6_365 (mcX6_sizeOf l _ (by omega)) hS hl ⟨Nat.le_of_ble_eq_true rfl, Nat.le_of_ble_eq_true rfl⟩ ⟨rfl, rfl⟩ rfl rfl (Nat.le_of_ble_eq_true rfl) dX6_many_57 ⟨Nat.zero_le _, Nat.zero_le _⟩ (fun locs hS => ?_)
            refine z_iload_n C dX6_many_60 hl 1 rfl ?_
            refine z_icmp_ne C 74 dX6_many_61 (by decide) (by omega) (by omega) (fun c_61 => ?_) (fun c_61 => ?_)
            · refine z_lconst (v := 0) C dX6_many_74 rfl ?_
              refine z_ladd C dX6_many_75 ?_
              refine z_lstore_n C dX6_many_76 rfl hl (by decide) rfl (fun ls hl => ?_)
              have hl : lv_has ls 5 [(2, _), (0, _), (1, _), (4, _)] := hl
              refine z_iinc C dX6_many_77 hl (by decide) 3 rfl rfl (fun ls hl => ?_)
              have hl : lv_has ls 5 [(4, _), (2, _), (0, _), (1, _)] := hl
              refine z_goto C 41 dX6_many_80 (by decide) ?_
              exact hL_41 (k + 1) _ _ _ ls (by omega) (by omega) (by rw [zsm_s, ← iN, if_neg c_61]) hP hS (lv_sub hl [2, 3, 1, 0] rfl)
            · refine z_aload_n C dX6_many_64 hl 0 rfl ?_
              refine m_geta C hK hP 36 (by decide) q1785 rfl (by decide) dX6_many_65 ?_
              refine z_iload C dX6_many_68 hl 3 rfl ?_
              refine m_lald C hK hP 36 (by decide) rfl (by have h9 : mlen 36 = 1024 := rfl; omega) rfl dX6_many_70 (fun r_70 => ?_)
              refine z_goto C 75 dX6_many_71 (by decide) ?_
              refine z_ladd C dX6_many_75 ?_
              refine z_lstore_n C dX6_many_76 rfl hl (by decide) rfl (fun ls hl => ?_)
              have hl : lv_has ls 5 [(2, _), (0, _), (1, _), (4, _)] := hl
              refine z_iinc C dX6_many_77 hl (by decide) 3 rfl rfl (fun ls hl => ?_)
              have hl : lv_has ls 5 [(4, _), (2, _), (0, _), (1, _)] := hl
              refine z_goto C 41 dX6_many_80 (by decide) ?_
              exact hL_41 (k + 1) _ _ _ ls (by omega) (by omega) (by rw [zsm_s, ← iN, if_pos c_61, pS_33.2.1 k (by omega)]; rfl) hP hS (lv_sub hl [2, 3, 1, 0] rfl)
      exact hL_41 _ 0 0 _ _ ls (Nat.lt_succ_self _) (by omega) rfl hP hS (lv_sub hl [2, 3, 1, 0] rfl)
    · replace c_25 := z01_f c_25
      refine z_ldc2 (v := -2) C q2155 dX6_many_28 rfl ?_
      exact m_mret_l C hQ hret hlk hS hP ⟨(if_neg (by omega)).symm, hS_2⟩ dX6_many_31
theorem mcX6_riskOf (l : Launch) (g : mG) (h : Nat) (ad : Nat → Nat) (P S : zS) (hPS : per S = P) (b : Int) (hW : WfR P 0) (hN : NightIs P S) (hb : 0 ≤ b ∧ b < P 23 0) : mPL l g h ad yX6_riskOf cX6_riskOf 5 (k2_rm 0 0) [.int (iZ b)] S (risk P b) := by
  intro H0 hP
  refine z_start (own := RX6) (by decide) rfl (Nat.le_of_ble_eq_true rfl) ?_
  intro prg env s mid blw mth cod ls Q C hQ hret hlk hnm hK hH hl
  subst hH
  have hS : va_S nA s.heap s.heap [] := va_S.rf
  have hl : lv_has ls 5 [(0, .ref h), (1, .int (iZ b))] := hl
  have w1 := hW.bikes
  have w5 := nN_in hW
  have w6 := zpow_in (k := P 23 0) (M := 10) (by omega)
  refine z_lconst (v := 0) C dX6_riskOf_0 rfl ?_
  refine z_lstore_n C dX6_riskOf_1 rfl hl (by decide) rfl (fun ls hl => ?_)
  have hl : lv_has ls 5 [(2, _), (0, _), (1, _)] := hl
  refine z_iconst C dX6_riskOf_2 ?_
  refine z_istore C dX6_riskOf_3 hl (by decide) rfl (fun ls hl => ?_)
  have hl : lv_has ls 5 [(4, _), (2, _), (0, _), (1, _)] := hl
  have hL_5 : ∀ (fuel : Nat) (k : Nat) (v : Int) (locs : List Loc) (ls : Array Slot), nN P - k < fuel → (k ≤ nN P) → (v = zsm (fun s => if (s : Int) / 2 ^ b.toNat % 2 = 1 then nightS P s else 0) k) → va_S nA s.heap s.heap locs → lv_has ls 5 [(0, .ref h), (1, .int (iZ b)), (2, .long (lZ v)), (4, .int (iZ (k : Int)))] → W prg l env (k2_rm 0 0) s mid ([.ref h, .int (iZ b)] : List Value).toArray blw mth cod s.heap locs 0 0 Q (F0 mid 5 ls []) := by
    intro fuel
    induction fuel with
    | zero => intro k v  locs ls hm; exact absurd hm (Nat.not_lt_zero _)
    | succ fuel hL_5 =>
      intro k v  locs ls hm ik iN  hS hl
      refine z_iload C dX6_riskOf_5 hl 3 rfl ?_
      refine z_iconst C dX6_riskOf_7 ?_
      refine z_aload_n C dX6_riskOf_8 hl 0 rfl ?_
      refine m_geta C hK hP 23 (by decide) q1772 rfl (by decide) dX6_riskOf_9 ?_
      refine z_iconst C dX6_riskOf_12 ?_
      refine m_iald C hK hP 23 (by decide) rfl (by have h9 : mlen 23 = 5 := rfl; omega) (pe hPS rfl) dX6_riskOf_13 (fun r_13 => ?_)
      refine z_ishl C dX6_riskOf_14 (zshl1 (by omega)) ?_
      refine z_icmp_ge C 48 dX6_riskOf_15 (by decide) (by omega) (by unfold nN at *; omega) (fun c_15 => ?_) (fun c_15 => ?_)
      · have q1 : nN P ≤ k := by unfold nN at *; omega
        refine z_lload_n C dX6_riskOf_48 hl 2 rfl ?_
        exact z_pret_l C hQ hret hlk hS (by rw [risk, iN, show k = nN P by omega]) dX6_riskOf_49
      · have q1 : k < nN P := by unfold nN at *; omega
        refine z_lload_n C dX6_riskOf_18 hl 2 rfl ?_
        refine z_iload C dX6_riskOf_19 hl 3 rfl ?_
        refine z_iload_n C dX6_riskOf_21 hl 1 rfl ?_
        refine z_ishr C dX6_riskOf_22 (zshr (by omega) (by omega)) ?_
        refine z_iconst C dX6_riskOf_23 ?_
        refine z_iand C dX6_riskOf_24 (iZ_and1 _) ?_
        refine z_iconst C dX6_riskOf_25 ?_
        refine z_icmp_ne C 39 dX6_riskOf_26 (by decide) (by omega) (by omega) (fun c_26 => ?_) (fun c_26 => ?_)
        · refine z_lconst (v := 0) C dX6_riskOf_39 rfl ?_
          refine z_ladd C dX6_riskOf_40 ?_
          refine z_lstore_n C dX6_riskOf_41 rfl hl (by decide) rfl (fun ls hl => ?_)
          have hl : lv_has ls 5 [(2, _), (0, _), (1, _), (4, _)] := hl
          refine z_iinc C dX6_riskOf_42 hl (by decide) 3 rfl rfl (fun ls hl => ?_)
          have hl : lv_has ls 5 [(4, _), (2, _), (0, _), (1, _)] := hl
          refine z_goto C 5 dX6_riskOf_45 (by decide) ?_
          exact hL_5 (k + 1) _ _ ls (by omega) (by omega) (by rw [zsm_s, ← iN, if_neg c_26])  hS (lv_sub hl [2, 3, 1, 0] rfl)
        · refine z_aload_n C dX6_riskOf_29 hl 0 rfl ?_
          refine m_geta C hK hP 36 (by decide) q1785 rfl (by decide) dX6_riskOf_30 ?_
          refine z_iload C dX6_riskOf_33 hl 3 rfl ?_
          refine m_lald C hK hP 36 (by decide) rfl (by have h9 : mlen 36 = 1024 := rfl; omega) rfl dX6_riskOf_35 (fun r_35 => ?_)
          refine z_goto C 40 dX6_riskOf_36 (by decide) ?_
          refine z_ladd C dX6_riskOf_40 ?_
          refine z_lstore_n C dX6_riskOf_41 rfl hl (by decide) rfl (fun ls hl => ?_)
          have hl : lv_has ls 5 [(2, _), (0, _), (1, _), (4, _)] := hl
          refine z_iinc C dX6_riskOf_42 hl (by decide) 3 rfl rfl (fun ls hl => ?_)
          have hl : lv_has ls 5 [(4, _), (2, _), (0, _), (1, _)] := hl
          refine z_goto C 5 dX6_riskOf_45 (by decide) ?_
          exact hL_5 (k + 1) _ _ ls (by omega) (by omega) (by rw [zsm_s, ← iN, if_pos c_26, hN.1 k (by omega)]; rfl)  hS (lv_sub hl [2, 3, 1, 0] rfl)
  exact hL_5 _ 0 0 _ ls (Nat.lt_succ_self _) (by omega) rfl  hS (lv_sub hl [2, 3, 1, 0] rfl)
theorem mcX6_riskNow (l : Launch) (g : mG) (h : Nat) (ad : Nat → Nat) (P S : zS) (hPS : per S = P) (b : Int) (hW : WfR P 0) (hb : 0 ≤ b ∧ b < P 23 0) : mML l g h ad yX6_riskNow cX6_riskNow 2 (k2_rm 5 119) [.int (iZ b)] S (fun z1 S1 => z1 = risk P b ∧ Fr [33, 34, 35, 36, 37, 38] S S1) := by
  refine z_start (own := RX6) (by decide) rfl (Nat.le_of_ble_eq_true rfl) ?_
  intro prg env s mid blw mth cod ls Q C hQ hret hlk hnm hK hH hl
  have hP : MP g h ad S s.heap := hH
  have hS : va_S (MA h ad) s.heap s.heap [] := va_S.rf
  have hl : lv_has ls 2 [(0, .ref h), (1, .int (iZ b))] := hl
  refine z_aload_n C dX6_riskNow_0 hl 0 rfl ?_
  refine m_mv C vX6_362 (mcX6_night l g h ad _ _ hPS (by assumption)) hS hl ⟨Nat.le_of_ble_eq_true rfl, Nat.le_of_ble_eq_true rfl⟩ ⟨rfl, rfl⟩ hK hP (fun _ h9 => h9) rfl rfl (Nat.le_of_ble_eq_true rfl) dX6_riskNow_1 ⟨Nat.zero_le _, Nat.zero_le _⟩ (fun S_1 H locs pS_1 hP hS => ?_)
  have hS_1 : per S_1 = P := (pS_1.1.pr rfl hPS)
  refine z_aload_n C dX6_riskNow_4 hl 0 rfl ?_
  refine z_iload_n C dX6_riskNow_5 hl 1 rfl ?_
  refine m_pl C vX6_368 (mcX6_riskOf l g h ad _ _ hS_1 _ (by assumption) pS_1.2 (by omega)) hS hl ⟨Nat.le_of_ble_eq_true rfl, Nat.le_of_ble_eq_true rfl⟩ ⟨rfl, rfl⟩ hK hP rfl rfl (Nat.le_of_ble_eq_true rfl) dX6_riskNow_6 ⟨Nat.zero_le _, Nat.zero_le _⟩ (fun locs hS => ?_)
  exact m_mret_l C hQ hret hlk hS hP ⟨rfl, pS_1.1⟩ dX6_riskNow_9
theorem mcX6_risk (l : Launch) (g : mG) (h : Nat) (ad : Nat → Nat) (P S : zS) (hPS : per S = P) (b : Int) (hW : WfR P 0) (hb : I32 b) : mML l g h ad yX6_risk cX6_risk 2 (k2_rm 6 140) [.int (iZ b)] S (fun z1 S1 => z1 = aRisk P b ∧ per S1 = P) := by
  refine z_start (own := RX6) (by decide) rfl (Nat.le_of_ble_eq_true rfl) ?_
  intro prg env s mid blw mth cod ls Q C hQ hret hlk hnm hK hH hl
  have hP : MP g h ad S s.heap := hH
  have hS : va_S (MA h ad) s.heap s.heap [] := va_S.rf
  have hl : lv_has ls 2 [(0, .ref h), (1, .int (iZ b))] := hl
  have w1 := hW.bikes
  refine z_aload_n C dX6_risk_0 hl 0 rfl ?_
  refine z_iconst C dX6_risk_1 ?_
  refine m_puti C hK hP hS 0 (by decide) q1749 rfl rfl (by omega) dX6_risk_2 (fun S_2 eS_2 H locs hP hS => ?_)
  have hS_2 := per_s rfl hPS eS_2
  refine z_aload_n C dX6_risk_5 hl 0 rfl ?_
  refine z_iload_n C dX6_risk_6 hl 1 rfl ?_
  refine m_pi C vX6_318 (mcX6_isBike l g h ad _ _ hS_2 _ (by assumption) (by omega)) hS hl ⟨Nat.le_of_ble_eq_true rfl, Nat.le_of_ble_eq_true rfl⟩ ⟨rfl, rfl⟩ hK hP rfl rfl (Nat.le_of_ble_eq_true rfl) dX6_risk_7 ⟨Nat.zero_le _, Nat.zero_le _⟩ (fun locs hS => ?_)
  refine z_if_eq C 21 dX6_risk_10 (by decide) z01_in (fun c_10 => ?_) (fun c_10 => ?_)
  · replace c_10 := z01_f c_10
    refine z_ldc2 (v := -2) C q2155 dX6_risk_21 rfl ?_
    exact m_mret_l C hQ hret hlk hS hP ⟨by unfold aRisk; split <;> first | rfl | omega, hS_2⟩ dX6_risk_24
  · replace c_10 := z01_t c_10
    refine z_aload_n C dX6_risk_13 hl 0 rfl ?_
    refine z_iload_n C dX6_risk_14 hl 1 rfl ?_
    refine m_ml C vX6_372 (mcX6_riskNow l g h ad _ _ hS_2 _ (by assumption) (by omega)) hS hl ⟨Nat.le_of_ble_eq_true rfl, Nat.le_of_ble_eq_true rfl⟩ ⟨rfl, rfl⟩ hK hP (fun _ h9 => h9) rfl rfl (Nat.le_of_ble_eq_true rfl) dX6_risk_15 ⟨Nat.zero_le _, Nat.zero_le _⟩ (fun v_15 S_15 H locs pS_15 hP hS => ?_)
    obtain ⟨e_15, pS_15⟩ := pS_15
    subst e_15
    have hS_15 : per S_15 = P := (pS_15.pr rfl hS_2)
    refine z_goto C 24 dX6_risk_18 (by decide) ?_
    exact m_mret_l C hQ hret hlk hS hP ⟨by unfold aRisk; split <;> first | rfl | omega, hS_15⟩ dX6_risk_24
theorem mcX6_has (l : Launch) (g : mG) (h : Nat) (ad : Nat → Nat) (P S : zS) (hPS : per S = P) (t b : Int) (hW : WfR P 0) (ht : I32 t) (hb : I32 b) : mML l g h ad yX6_has cX6_has 3 (k2_rm 5 119) [.int (iZ t), .int (iZ b)] S (fun z1 S1 => z1 = aHas P t b ∧ per S1 = P) := by
  refine z_start (own := RX6) (by decide) rfl (Nat.le_of_ble_eq_true rfl) ?_
  intro prg env s mid blw mth cod ls Q C hQ hret hlk hnm hK hH hl
  have hP : MP g h ad S s.heap := hH
  have hS : va_S (MA h ad) s.heap s.heap [] := va_S.rf
  have hl : lv_has ls 3 [(0, .ref h), (1, .int (iZ t)), (2, .int (iZ b))] := hl
  have w1 := hW.bikes
  have w3 := hW.thieves
  refine z_aload_n C dX6_has_0 hl 0 rfl ?_
  refine z_iconst C dX6_has_1 ?_
  refine m_puti C hK hP hS 0 (by decide) q1749 rfl rfl (by omega) dX6_has_2 (fun S_2 eS_2 H locs hP hS => ?_)
  have hS_2 := per_s rfl hPS eS_2
  refine z_aload_n C dX6_has_5 hl 0 rfl ?_
  refine z_iload_n C dX6_has_6 hl 1 rfl ?_
  refine m_pi C vX6_330 (mcX6_isThief l g h ad _ _ hS_2 _ (by assumption) (by omega)) hS hl ⟨Nat.le_of_ble_eq_true rfl, Nat.le_of_ble_eq_true rfl⟩ ⟨rfl, rfl⟩ hK hP rfl rfl (Nat.le_of_ble_eq_true rfl) dX6_has_7 ⟨Nat.zero_le _, Nat.zero_le _⟩ (fun locs hS => ?_)
  refine z_if_eq C 21 dX6_has_10 (by decide) z01_in (fun c_10 => ?_) (fun c_10 => ?_)
  · replace c_10 := z01_f c_10
    refine z_ldc2 (v := -2) C q2155 dX6_has_21 rfl ?_
    exact m_mret_l C hQ hret hlk hS hP ⟨(if_neg (by omega)).symm, hS_2⟩ dX6_has_24
  · replace c_10 := z01_t c_10
    refine z_aload_n C dX6_has_13 hl 0 rfl ?_
    refine z_iload_n C dX6_has_14 hl 2 rfl ?_
    refine m_pi C vX6_318 (mcX6_isBike l g h ad _ _ hS_2 _ (by assumption) (by omega)) hS hl ⟨Nat.le_of_ble_eq_true rfl, Nat.le_of_ble_eq_true rfl⟩ ⟨rfl, rfl⟩ hK hP rfl rfl (Nat.le_of_ble_eq_true rfl) dX6_has_15 ⟨Nat.zero_le _, Nat.zero_le _⟩ (fun locs hS => ?_)
    refine z_if_ne C 25 dX6_has_18 (by decide) z01_in (fun c_18 => ?_) (fun c_18 => ?_)
    · replace c_18 := z01_t c_18
      refine z_aload_n C dX6_has_25 hl 0 rfl ?_
      refine m_mv C vX6_362 (mcX6_night l g h ad _ _ hS_2 (by assumption)) hS hl ⟨Nat.le_of_ble_eq_true rfl, Nat.le_of_ble_eq_true rfl⟩ ⟨rfl, rfl⟩ hK hP (fun _ h9 => h9) rfl rfl (Nat.le_of_ble_eq_true rfl) dX6_has_26 ⟨Nat.zero_le _, Nat.zero_le _⟩ (fun S_26 H locs pS_26 hP hS => ?_)
      have hS_26 : per S_26 = P := (pS_26.1.pr rfl hS_2)
      refine z_aload_n C dX6_has_29 hl 0 rfl ?_
      refine m_geta C hK hP 38 (by decide) q1787 rfl (by decide) dX6_has_30 ?_
      refine z_bipush C dX6_has_33 rfl ?_
      refine z_iload_n C dX6_has_35 hl 1 rfl ?_
      refine z_imul C dX6_has_36 ?_
      refine z_iload_n C dX6_has_37 hl 2 rfl ?_
      refine z_iadd C dX6_has_38 ?_
      refine m_lald C hK hP 38 (by decide) rfl (by have h9 : mlen 38 = 60 := rfl; omega) rfl dX6_has_39 (fun r_39 => ?_)
      exact m_mret_l C hQ hret hlk hS hP ⟨by rw [aHas, if_pos ⟨c_10, c_18⟩, ← pS_26.2.2 t b (by omega) (by omega) (by omega) (by omega)], hS_26⟩ dX6_has_40
    · replace c_18 := z01_f c_18
      refine z_ldc2 (v := -2) C q2155 dX6_has_21 rfl ?_
      exact m_mret_l C hQ hret hlk hS hP ⟨(if_neg (by omega)).symm, hS_2⟩ dX6_has_24
theorem mcX6_paidOf (l : Launch) (g : mG) (h : Nat) (ad : Nat → Nat) (P S : zS) (hPS : per S = P) (b : Int) (hW : WfR P 0) (hb : 0 ≤ b ∧ b < P 23 0) : mPL l g h ad yX6_paidOf cX6_paidOf 3 (k2_rm 1 21) [.int (iZ b)] S (paid P b) := by
  intro H0 hP
  refine z_start (own := RX6) (by decide) rfl (Nat.le_of_ble_eq_true rfl) ?_
  intro prg env s mid blw mth cod ls Q C hQ hret hlk hnm hK hH hl
  subst hH
  have hS : va_S nA s.heap s.heap [] := va_S.rf
  have hl : lv_has ls 3 [(0, .ref h), (1, .int (iZ b))] := hl
  have w1 := hW.bikes
  have w2 := hW.bike hb
  have w3 := hW.locks
  have w4 := hW.set
  have w40 : 0 ≤ P 27 0 ∧ P 27 0 ≤ 999 := w4.1
  refine z_iconst C dX6_paidOf_0 ?_
  refine z_iload_n C dX6_paidOf_1 hl 1 rfl ?_
  refine s_pi C vX6_323 (mcX6_at l _ _) hS hl ⟨Nat.le_of_ble_eq_true rfl, Nat.le_of_ble_eq_true rfl⟩ ⟨rfl, rfl⟩ rfl rfl (Nat.le_of_ble_eq_true rfl) dX6_paidOf_2 ⟨Nat.zero_le _, Nat.zero_le _⟩ (fun locs hS => ?_)
  refine z_istore_n C dX6_paidOf_5 rfl hl (by decide) rfl (fun ls hl => ?_)
  have hl : lv_has ls 3 [(2, _), (0, _), (1, _)] := hl
  refine z_ldc2 (v := 1000) C q2197 dX6_paidOf_6 rfl ?_
  refine z_aload_n C dX6_paidOf_9 hl 1 rfl ?_
  refine m_geta C hK hP 24 (by decide) q1773 rfl (by decide) dX6_paidOf_10 ?_
  refine z_iload_n C dX6_paidOf_13 hl 0 rfl ?_
  refine z_iconst C dX6_paidOf_14 ?_
  refine z_iadd C dX6_paidOf_15 ?_
  refine m_iald C hK hP 24 (by decide) rfl (by have h9 : mlen 24 = 250 := rfl; omega) (pe hPS rfl) dX6_paidOf_16 (fun r_16 => ?_)
  refine z_iconst C dX6_paidOf_17 ?_
  refine z_icmp_ne C 25 dX6_paidOf_18 (by decide) (by omega) (by omega) (fun c_18 => ?_) (fun c_18 => ?_)
  · have w7 := hW.price (i := P 24 (5 * (10 * 0 + b) + 3)) (by omega)
    rw [show (5 * 0 + P 24 (5 * (10 * 0 + b) + 3) : Int) = P 24 (5 * (10 * 0 + b) + 3) by omega] at w7
    refine z_aload_n C dX6_paidOf_25 hl 1 rfl ?_
    refine m_geta C hK hP 22 (by decide) q1771 rfl (by decide) dX6_paidOf_26 ?_
    refine z_iconst C dX6_paidOf_29 ?_
    refine z_aload_n C dX6_paidOf_30 hl 1 rfl ?_
    refine m_geta C hK hP 24 (by decide) q1773 rfl (by decide) dX6_paidOf_31 ?_
    refine z_iload_n C dX6_paidOf_34 hl 0 rfl ?_
    refine z_iconst C dX6_paidOf_35 ?_
    refine z_iadd C dX6_paidOf_36 ?_
    refine m_iald C hK hP 24 (by decide) rfl (by have h9 : mlen 24 = 250 := rfl; omega) (pe hPS rfl) dX6_paidOf_37 (fun r_37 => ?_)
    refine z_imul C dX6_paidOf_38 ?_
    refine m_iald C hK hP 22 (by decide) rfl (by have h9 : mlen 22 = 100 := rfl; omega) (pe hPS rfl) dX6_paidOf_39 (fun r_39 => ?_)
    refine z_aload_n C dX6_paidOf_40 hl 1 rfl ?_
    refine m_geta C hK hP 24 (by decide) q1773 rfl (by decide) dX6_paidOf_41 ?_
    refine z_iload_n C dX6_paidOf_44 hl 0 rfl ?_
    refine z_iconst C dX6_paidOf_45 ?_
    refine z_iadd C dX6_paidOf_46 ?_
    refine m_iald C hK hP 24 (by decide) rfl (by have h9 : mlen 24 = 250 := rfl; omega) (pe hPS rfl) dX6_paidOf_47 (fun r_47 => ?_)
    refine z_iconst C dX6_paidOf_48 ?_
    refine z_icmp_ne C 61 dX6_paidOf_49 (by decide) (by omega) (by omega) (fun c_49 => ?_) (fun c_49 => ?_)
    · refine z_iconst C dX6_paidOf_61 ?_
      refine z_iadd C dX6_paidOf_62 ?_
      refine z_i2l C dX6_paidOf_63 (by omega) ?_
      refine z_lmul C dX6_paidOf_64 ?_
      exact z_pret_l C hQ hret hlk hS (by rw [paid]; (first | rw [if_pos (by assumption)] | rw [if_neg (by assumption)]); (first | rw [if_pos (by assumption)] | rw [if_neg (by assumption)])) dX6_paidOf_65
    · refine z_aload_n C dX6_paidOf_52 hl 1 rfl ?_
      refine m_geta C hK hP 27 (by decide) q1776 rfl (by decide) dX6_paidOf_53 ?_
      refine z_iconst C dX6_paidOf_56 ?_
      refine m_iald C hK hP 27 (by decide) rfl (by have h9 : mlen 27 = 35 := rfl; omega) (pe hPS rfl) dX6_paidOf_57 (fun r_57 => ?_)
      refine z_goto C 62 dX6_paidOf_58 (by decide) ?_
      refine z_iadd C dX6_paidOf_62 ?_
      refine z_i2l C dX6_paidOf_63 (by omega) ?_
      refine z_lmul C dX6_paidOf_64 ?_
      exact z_pret_l C hQ hret hlk hS (by rw [paid]; (first | rw [if_pos (by assumption)] | rw [if_neg (by assumption)]); (first | rw [if_pos (by assumption)] | rw [if_neg (by assumption)])) dX6_paidOf_65
  · refine z_iconst C dX6_paidOf_21 ?_
    refine z_goto C 40 dX6_paidOf_22 (by decide) ?_
    refine z_aload_n C dX6_paidOf_40 hl 1 rfl ?_
    refine m_geta C hK hP 24 (by decide) q1773 rfl (by decide) dX6_paidOf_41 ?_
    refine z_iload_n C dX6_paidOf_44 hl 0 rfl ?_
    refine z_iconst C dX6_paidOf_45 ?_
    refine z_iadd C dX6_paidOf_46 ?_
    refine m_iald C hK hP 24 (by decide) rfl (by have h9 : mlen 24 = 250 := rfl; omega) (pe hPS rfl) dX6_paidOf_47 (fun r_47 => ?_)
    refine z_iconst C dX6_paidOf_48 ?_
    refine z_icmp_ne C 61 dX6_paidOf_49 (by decide) (by omega) (by omega) (fun c_49 => ?_) (fun c_49 => ?_)
    · refine z_iconst C dX6_paidOf_61 ?_
      refine z_iadd C dX6_paidOf_62 ?_
      refine z_i2l C dX6_paidOf_63 (by omega) ?_
      refine z_lmul C dX6_paidOf_64 ?_
      exact z_pret_l C hQ hret hlk hS (by rw [paid]; (first | rw [if_pos (by assumption)] | rw [if_neg (by assumption)]); (first | rw [if_pos (by assumption)] | rw [if_neg (by assumption)])) dX6_paidOf_65
    · refine z_aload_n C dX6_paidOf_52 hl 1 rfl ?_
      refine m_geta C hK hP 27 (by decide) q1776 rfl (by decide) dX6_paidOf_53 ?_
      refine z_iconst C dX6_paidOf_56 ?_
      refine m_iald C hK hP 27 (by decide) rfl (by have h9 : mlen 27 = 35 := rfl; omega) (pe hPS rfl) dX6_paidOf_57 (fun r_57 => ?_)
      refine z_goto C 62 dX6_paidOf_58 (by decide) ?_
      refine z_iadd C dX6_paidOf_62 ?_
      refine z_i2l C dX6_paidOf_63 (by omega) ?_
      refine z_lmul C dX6_paidOf_64 ?_
      exact z_pret_l C hQ hret hlk hS (by rw [paid]; (first | rw [if_pos (by assumption)] | rw [if_neg (by assumption)]); (first | rw [if_pos (by assumption)] | rw [if_neg (by assumption)])) dX6_paidOf_65
theorem mcX6_lossOf (l : Launch) (g : mG) (h : Nat) (ad : Nat → Nat) (P S : zS) (hPS : per S = P) (b : Int) (hW : WfR P 0) (hN : NightIs P S) (hb : 0 ≤ b ∧ b < P 23 0) : mPL l g h ad yX6_lossOf cX6_lossOf 2 (k2_rm 1 24) [.int (iZ b)] S (loss P b) := by
  intro H0 hP
  refine z_start (own := RX6) (by decide) rfl (Nat.le_of_ble_eq_true rfl) ?_
  intro prg env s mid blw mth cod ls Q C hQ hret hlk hnm hK hH hl
  subst hH
  have hS : va_S nA s.heap s.heap [] := va_S.rf
  have hl : lv_has ls 2 [(0, .ref h), (1, .int (iZ b))] := hl
  have w1 := hW.bikes
  have w2 := hW.bike hb
  have w3 := zmul_in hW.nights w2.1
  have w4 := lossM_in hW hb
  refine z_aload_n C dX6_lossOf_0 hl 0 rfl ?_
  refine m_geta C hK hP 18 (by decide) q1767 rfl (by decide) dX6_lossOf_1 ?_
  refine z_iconst C dX6_lossOf_4 ?_
  refine m_iald C hK hP 18 (by decide) rfl (by have h9 : mlen 18 = 5 := rfl; omega) (pe hPS rfl) dX6_lossOf_5 (fun r_5 => ?_)
  refine z_aload_n C dX6_lossOf_6 hl 0 rfl ?_
  refine m_geta C hK hP 24 (by decide) q1773 rfl (by decide) dX6_lossOf_7 ?_
  refine z_iconst C dX6_lossOf_10 ?_
  refine z_iload_n C dX6_lossOf_11 hl 1 rfl ?_
  refine s_pi C vX6_323 (mcX6_at l _ _) hS hl ⟨Nat.le_of_ble_eq_true rfl, Nat.le_of_ble_eq_true rfl⟩ ⟨rfl, rfl⟩ rfl rfl (Nat.le_of_ble_eq_true rfl) dX6_lossOf_12 ⟨Nat.zero_le _, Nat.zero_le _⟩ (fun locs hS => ?_)
  refine m_iald C hK hP 24 (by decide) rfl (by have h9 : mlen 24 = 250 := rfl; omega) (pe hPS rfl) dX6_lossOf_15 (fun r_15 => ?_)
  refine z_imul C dX6_lossOf_16 ?_
  refine z_i2l C dX6_lossOf_17 (by omega) ?_
  refine z_aload_n C dX6_lossOf_18 hl 0 rfl ?_
  refine z_iload_n C dX6_lossOf_19 hl 1 rfl ?_
  refine m_pl C vX6_368 (mcX6_riskOf l g h ad _ _ hPS _ (by assumption) hN (by omega)) hS hl ⟨Nat.le_of_ble_eq_true rfl, Nat.le_of_ble_eq_true rfl⟩ ⟨rfl, rfl⟩ hK hP rfl rfl (Nat.le_of_ble_eq_true rfl) dX6_lossOf_20 ⟨Nat.zero_le _, Nat.zero_le _⟩ (fun locs hS => ?_)
  refine z_lmul C dX6_lossOf_23 ?_
  refine z_ldc2 (v := 1000000000) C q2202 dX6_lossOf_24 rfl ?_
  refine z_ldiv C dX6_lossOf_27 (by omega) (by omega) ?_
  exact z_pret_l C hQ hret hlk hS rfl dX6_lossOf_28
theorem mcX6_wages (l : Launch) (g : mG) (h : Nat) (ad : Nat → Nat) (P S : zS) (hPS : per S = P)  (hW : WfR P 0) : mPL l g h ad yX6_wages cX6_wages 1 (k2_rm 0 0) [] S (wages P) := by
  intro H0 hP
  refine z_start (own := RX6) (by decide) rfl (Nat.le_of_ble_eq_true rfl) ?_
  intro prg env s mid blw mth cod ls Q C hQ hret hlk hnm hK hH hl
  subst hH
  have hS : va_S nA s.heap s.heap [] := va_S.rf
  have hl : lv_has ls 1 [(0, .ref h)] := hl
  have w2 : 0 ≤ P 27 4 ∧ P 27 4 ≤ 999 := hW.set.2.2.2.2.1
  have w3 := hW.nights
  refine z_ldc2 (v := 1000) C q2197 dX6_wages_0 rfl ?_
  refine z_aload_n C dX6_wages_3 hl 0 rfl ?_
  refine m_geta C hK hP 27 (by decide) q1776 rfl (by decide) dX6_wages_4 ?_
  refine z_iconst C dX6_wages_7 ?_
  refine m_iald C hK hP 27 (by decide) rfl (by have h9 : mlen 27 = 35 := rfl; omega) (pe hPS rfl) dX6_wages_8 (fun r_8 => ?_)
  refine z_i2l C dX6_wages_9 (by omega) ?_
  refine z_lmul C dX6_wages_10 ?_
  refine z_aload_n C dX6_wages_11 hl 0 rfl ?_
  refine m_geta C hK hP 18 (by decide) q1767 rfl (by decide) dX6_wages_12 ?_
  refine z_iconst C dX6_wages_15 ?_
  refine m_iald C hK hP 18 (by decide) rfl (by have h9 : mlen 18 = 5 := rfl; omega) (pe hPS rfl) dX6_wages_16 (fun r_16 => ?_)
  refine z_i2l C dX6_wages_17 (by omega) ?_
  refine z_lmul C dX6_wages_18 ?_
  exact z_pret_l C hQ hret hlk hS rfl dX6_wages_19
theorem mcX6_costOf (l : Launch) (g : mG) (h : Nat) (ad : Nat → Nat) (P S : zS) (hPS : per S = P) (b : Int) (hW : WfR P 0) (hN : NightIs P S) (hb : 0 ≤ b ∧ b < P 23 0) : mPL l g h ad yX6_costOf cX6_costOf 2 (k2_rm 2 45) [.int (iZ b)] S (cost P b) := by
  intro H0 hP
  refine z_start (own := RX6) (by decide) rfl (Nat.le_of_ble_eq_true rfl) ?_
  intro prg env s mid blw mth cod ls Q C hQ hret hlk hnm hK hH hl
  subst hH
  have hS : va_S nA s.heap s.heap [] := va_S.rf
  have hl : lv_has ls 2 [(0, .ref h), (1, .int (iZ b))] := hl
  have w1 := hW.bikes
  have w2 := wages_in hW
  have w4 : 0 ≤ P 27 6 ∧ P 27 6 ≤ 1 := hW.set.2.2.2.2.2.2
  refine z_aload_n C dX6_costOf_0 hl 0 rfl ?_
  refine z_iload_n C dX6_costOf_1 hl 1 rfl ?_
  refine m_pl C vX6_379 (mcX6_paidOf l g h ad _ _ hPS _ (by assumption) (by omega)) hS hl ⟨Nat.le_of_ble_eq_true rfl, Nat.le_of_ble_eq_true rfl⟩ ⟨rfl, rfl⟩ hK hP rfl rfl (Nat.le_of_ble_eq_true rfl) dX6_costOf_2 ⟨Nat.zero_le _, Nat.zero_le _⟩ (fun locs hS => ?_)
  refine z_aload_n C dX6_costOf_5 hl 0 rfl ?_
  refine z_iload_n C dX6_costOf_6 hl 1 rfl ?_
  refine m_pl C vX6_382 (mcX6_lossOf l g h ad _ _ hPS _ (by assumption) hN (by omega)) hS hl ⟨Nat.le_of_ble_eq_true rfl, Nat.le_of_ble_eq_true rfl⟩ ⟨rfl, rfl⟩ hK hP rfl rfl (Nat.le_of_ble_eq_true rfl) dX6_costOf_7 ⟨Nat.zero_le _, Nat.zero_le _⟩ (fun locs hS => ?_)
  refine z_ladd C dX6_costOf_10 ?_
  refine z_aload_n C dX6_costOf_11 hl 0 rfl ?_
  refine m_geta C hK hP 27 (by decide) q1776 rfl (by decide) dX6_costOf_12 ?_
  refine z_bipush C dX6_costOf_15 rfl ?_
  refine m_iald C hK hP 27 (by decide) rfl (by have h9 : mlen 27 = 35 := rfl; omega) (pe hPS rfl) dX6_costOf_17 (fun r_17 => ?_)
  refine z_iconst C dX6_costOf_18 ?_
  refine z_icmp_ne C 37 dX6_costOf_19 (by decide) (by omega) (by omega) (fun c_19 => ?_) (fun c_19 => ?_)
  · refine z_lconst (v := 0) C dX6_costOf_37 rfl ?_
    refine z_ladd C dX6_costOf_38 ?_
    exact z_pret_l C hQ hret hlk hS (by rw [cost]; first | rw [if_pos (by assumption)] | rw [if_neg (by assumption)]) dX6_costOf_39
  · refine z_aload_n C dX6_costOf_22 hl 0 rfl ?_
    refine m_pl C vX6_385 (mcX6_wages l g h ad _ _ hPS (by assumption)) hS hl ⟨Nat.le_of_ble_eq_true rfl, Nat.le_of_ble_eq_true rfl⟩ ⟨rfl, rfl⟩ hK hP rfl rfl (Nat.le_of_ble_eq_true rfl) dX6_costOf_23 ⟨Nat.zero_le _, Nat.zero_le _⟩ (fun locs hS => ?_)
    refine z_aload_n C dX6_costOf_26 hl 0 rfl ?_
    refine m_geta C hK hP 23 (by decide) q1772 rfl (by decide) dX6_costOf_27 ?_
    refine z_iconst C dX6_costOf_30 ?_
    refine m_iald C hK hP 23 (by decide) rfl (by have h9 : mlen 23 = 5 := rfl; omega) (pe hPS rfl) dX6_costOf_31 (fun r_31 => ?_)
    refine z_i2l C dX6_costOf_32 (by omega) ?_
    refine z_ldiv C dX6_costOf_33 (by omega) (by omega) ?_
    refine z_goto C 38 dX6_costOf_34 (by decide) ?_
    refine z_ladd C dX6_costOf_38 ?_
    exact z_pret_l C hQ hret hlk hS (by rw [cost]; first | rw [if_pos (by assumption)] | rw [if_neg (by assumption)]) dX6_costOf_39
theorem mcX6_whatOf (l : Launch) (g : mG) (h : Nat) (ad : Nat → Nat) (P S : zS) (hPS : per S = P) (b w : Int) (hW : WfR P 0) (hN : NightIs P S) (hb : 0 ≤ b ∧ b < P 23 0) (hw : 0 ≤ w ∧ w ≤ 2) : mPL l g h ad yX6_whatOf cX6_whatOf 3 (k2_rm 3 66) [.int (iZ b), .int (iZ w)] S (whatOf P b w) := by
  intro H0 hP
  refine z_start (own := RX6) (by decide) rfl (Nat.le_of_ble_eq_true rfl) ?_
  intro prg env s mid blw mth cod ls Q C hQ hret hlk hnm hK hH hl
  subst hH
  have hS : va_S nA s.heap s.heap [] := va_S.rf
  have hl : lv_has ls 3 [(0, .ref h), (1, .int (iZ b)), (2, .int (iZ w))] := hl
  refine z_iload_n C dX6_whatOf_0 hl 2 rfl ?_
  refine z_if_ne C 12 dX6_whatOf_1 (by decide) (by omega) (fun c_1 => ?_) (fun c_1 => ?_)
  · refine z_iload_n C dX6_whatOf_12 hl 2 rfl ?_
    refine z_iconst C dX6_whatOf_13 ?_
    refine z_icmp_ne C 25 dX6_whatOf_14 (by decide) (by omega) (by omega) (fun c_14 => ?_) (fun c_14 => ?_)
    · refine z_aload_n C dX6_whatOf_25 hl 0 rfl ?_
      refine z_iload_n C dX6_whatOf_26 hl 1 rfl ?_
      refine m_pl C vX6_389 (mcX6_costOf l g h ad _ _ hPS _ (by assumption) hN (by omega)) hS hl ⟨Nat.le_of_ble_eq_true rfl, Nat.le_of_ble_eq_true rfl⟩ ⟨rfl, rfl⟩ hK hP rfl rfl (Nat.le_of_ble_eq_true rfl) dX6_whatOf_27 ⟨Nat.zero_le _, Nat.zero_le _⟩ (fun locs hS => ?_)
      exact z_pret_l C hQ hret hlk hS (by rw [whatOf]; first | rw [if_pos (by assumption)] | rw [if_neg (by assumption), if_pos (by assumption)] | rw [if_neg (by assumption), if_neg (by assumption)]) dX6_whatOf_30
    · refine z_aload_n C dX6_whatOf_17 hl 0 rfl ?_
      refine z_iload_n C dX6_whatOf_18 hl 1 rfl ?_
      refine m_pl C vX6_382 (mcX6_lossOf l g h ad _ _ hPS _ (by assumption) hN (by omega)) hS hl ⟨Nat.le_of_ble_eq_true rfl, Nat.le_of_ble_eq_true rfl⟩ ⟨rfl, rfl⟩ hK hP rfl rfl (Nat.le_of_ble_eq_true rfl) dX6_whatOf_19 ⟨Nat.zero_le _, Nat.zero_le _⟩ (fun locs hS => ?_)
      refine z_goto C 30 dX6_whatOf_22 (by decide) ?_
      exact z_pret_l C hQ hret hlk hS (by rw [whatOf]; first | rw [if_pos (by assumption)] | rw [if_neg (by assumption), if_pos (by assumption)] | rw [if_neg (by assumption), if_neg (by assumption)]) dX6_whatOf_30
  · refine z_aload_n C dX6_whatOf_4 hl 0 rfl ?_
    refine z_iload_n C dX6_whatOf_5 hl 1 rfl ?_
    refine m_pl C vX6_379 (mcX6_paidOf l g h ad _ _ hPS _ (by assumption) (by omega)) hS hl ⟨Nat.le_of_ble_eq_true rfl, Nat.le_of_ble_eq_true rfl⟩ ⟨rfl, rfl⟩ hK hP rfl rfl (Nat.le_of_ble_eq_true rfl) dX6_whatOf_6 ⟨Nat.zero_le _, Nat.zero_le _⟩ (fun locs hS => ?_)
    refine z_goto C 30 dX6_whatOf_9 (by decide) ?_
    exact z_pret_l C hQ hret hlk hS (by rw [whatOf]; first | rw [if_pos (by assumption)] | rw [if_neg (by assumption), if_pos (by assumption)] | rw [if_neg (by assumption), if_neg (by assumption)]) dX6_whatOf_30
theorem mcX6_cost (l : Launch) (g : mG) (h : Nat) (ad : Nat → Nat) (P S : zS) (hPS : per S = P) (b w : Int) (hW : WfR P 0) (hb : I32 b) (hw : I32 w) : mML l g h ad yX6_cost cX6_cost 3 (k2_rm 5 119) [.int (iZ b), .int (iZ w)] S (fun z1 S1 => z1 = aCost P b w ∧ per S1 = P) := by
  refine z_start (own := RX6) (by decide) rfl (Nat.le_of_ble_eq_true rfl) ?_
  intro prg env s mid blw mth cod ls Q C hQ hret hlk hnm hK hH hl
  have hP : MP g h ad S s.heap := hH
  have hS : va_S (MA h ad) s.heap s.heap [] := va_S.rf
  have hl : lv_has ls 3 [(0, .ref h), (1, .int (iZ b)), (2, .int (iZ w))] := hl
  have w1 := hW.bikes
  refine z_aload_n C dX6_cost_0 hl 0 rfl ?_
  refine z_iconst C dX6_cost_1 ?_
  refine m_puti C hK hP hS 0 (by decide) q1749 rfl rfl (by omega) dX6_cost_2 (fun S_2 eS_2 H locs hP hS => ?_)
  have hS_2 := per_s rfl hPS eS_2
  refine z_aload_n C dX6_cost_5 hl 0 rfl ?_
  refine z_iload_n C dX6_cost_6 hl 1 rfl ?_
  refine m_pi C vX6_318 (mcX6_isBike l g h ad _ _ hS_2 _ (by assumption) (by omega)) hS hl ⟨Nat.le_of_ble_eq_true rfl, Nat.le_of_ble_eq_true rfl⟩ ⟨rfl, rfl⟩ hK hP rfl rfl (Nat.le_of_ble_eq_true rfl) dX6_cost_7 ⟨Nat.zero_le _, Nat.zero_le _⟩ (fun locs hS => ?_)
  refine z_if_eq C 25 dX6_cost_10 (by decide) z01_in (fun c_10 => ?_) (fun c_10 => ?_)
  · replace c_10 := z01_f c_10
    refine z_ldc2 (v := -2) C q2155 dX6_cost_25 rfl ?_
    exact m_mret_l C hQ hret hlk hS hP ⟨(if_neg (by omega)).symm, hS_2⟩ dX6_cost_28
  · replace c_10 := z01_t c_10
    refine z_iload_n C dX6_cost_13 hl 2 rfl ?_
    refine z_i2l C dX6_cost_14 (by omega) ?_
    refine z_lconst (v := 0) C dX6_cost_15 rfl ?_
    refine z_ldc2 (v := 2) C q2188 dX6_cost_16 rfl ?_
    refine s_pi C vX6_119 (mcX6_in l _ _ _ (by omega) (by omega) (by omega)) hS hl ⟨Nat.le_of_ble_eq_true rfl, Nat.le_of_ble_eq_true rfl⟩ ⟨rfl, rfl⟩ rfl rfl (Nat.le_of_ble_eq_true rfl) dX6_cost_19 ⟨Nat.zero_le _, Nat.zero_le _⟩ (fun locs hS => ?_)
    refine z_if_ne C 29 dX6_cost_22 (by decide) z01_in (fun c_22 => ?_) (fun c_22 => ?_)
    · replace c_22 := z01_t c_22
      refine z_aload_n C dX6_cost_29 hl 0 rfl ?_
      refine m_mv C vX6_362 (mcX6_night l g h ad _ _ hS_2 (by assumption)) hS hl ⟨Nat.le_of_ble_eq_true rfl, Nat.le_of_ble_eq_true rfl⟩ ⟨rfl, rfl⟩ hK hP (fun _ h9 => h9) rfl rfl (Nat.le_of_ble_eq_true rfl) dX6_cost_30 ⟨Nat.zero_le _, Nat.zero_le _⟩ (fun S_30 H locs pS_30 hP hS => ?_)
      have hS_30 : per S_30 = P := (pS_30.1.pr rfl hS_2)
      refine z_aload_n C dX6_cost_33 hl 0 rfl ?_
      refine z_iload_n C dX6_cost_34 hl 1 rfl ?_
      refine z_iload_n C dX6_cost_35 hl 2 rfl ?_
      refine m_pl C vX6_394 (mcX6_whatOf l g h ad _ _ hS_30 _ _ (by assumption) pS_30.2 (by omega) (by omega)) hS hl ⟨Nat.le_of_ble_eq_true rfl, Nat.le_of_ble_eq_true rfl⟩ ⟨rfl, rfl⟩ hK hP rfl rfl (Nat.le_of_ble_eq_true rfl) dX6_cost_36 ⟨Nat.zero_le _, Nat.zero_le _⟩ (fun locs hS => ?_)
      exact m_mret_l C hQ hret hlk hS hP ⟨(if_pos ⟨c_10, c_22⟩).symm, hS_30⟩ dX6_cost_39
    · replace c_22 := z01_f c_22
      refine z_ldc2 (v := -2) C q2155 dX6_cost_25 rfl ?_
      exact m_mret_l C hQ hret hlk hS hP ⟨(if_neg (by omega)).symm, hS_2⟩ dX6_cost_28
theorem mcX6_allNow (l : Launch) (g : mG) (h : Nat) (ad : Nat → Nat) (P S : zS) (hPS : per S = P) (w : Int) (hW : WfR P 0) (hw : 0 ≤ w ∧ w ≤ 2) : mML l g h ad yX6_allNow cX6_allNow 5 (k2_rm 5 119) [.int (iZ w)] S (fun z1 S1 => z1 = allOf P w ∧ Fr [33, 34, 35, 36, 37, 38] S S1) := by
  refine z_start (own := RX6) (by decide) rfl (Nat.le_of_ble_eq_true rfl) ?_
  intro prg env s mid blw mth cod ls Q C hQ hret hlk hnm hK hH hl
  have hP : MP g h ad S s.heap := hH
  have hS : va_S (MA h ad) s.heap s.heap [] := va_S.rf
  have hl : lv_has ls 5 [(0, .ref h), (1, .int (iZ w))] := hl
  have w1 := hW.bikes
  refine z_aload_n C dX6_allNow_0 hl 0 rfl ?_
  refine m_mv C vX6_362 (mcX6_night l g h ad _ _ hPS (by assumption)) hS hl ⟨Nat.le_of_ble_eq_true rfl, Nat.le_of_ble_eq_true rfl⟩ ⟨rfl, rfl⟩ hK hP (fun _ h9 => h9) rfl rfl (Nat.le_of_ble_eq_true rfl) dX6_allNow_1 ⟨Nat.zero_le _, Nat.zero_le _⟩ (fun S_1 H locs pS_1 hP hS => ?_)
  have hS_1 : per S_1 = P := (pS_1.1.pr rfl hPS)
  refine z_lconst (v := 0) C dX6_allNow_4 rfl ?_
  refine z_lstore_n C dX6_allNow_5 rfl hl (by decide) rfl (fun ls hl => ?_)
  have hl : lv_has ls 5 [(2, _), (0, _), (1, _)] := hl
  refine z_iconst C dX6_allNow_6 ?_
  refine z_istore C dX6_allNow_7 hl (by decide) rfl (fun ls hl => ?_)
  have hl : lv_has ls 5 [(4, _), (2, _), (0, _), (1, _)] := hl
  have hL_9 : ∀ (fuel : Nat) (k : Nat) (v : Int) (H : Heap) (locs : List Loc) (ls : Array Slot), (P 23 0).toNat - k < fuel → ((k : Int) ≤ P 23 0) → (v = zsm (fun b => whatOf P b w) k) → MP g h ad S_1 H → va_S (MA h ad) s.heap H locs → lv_has ls 5 [(0, .ref h), (1, .int (iZ w)), (2, .long (lZ v)), (4, .int (iZ (k : Int)))] → W prg l env (k2_rm 5 119) s mid ([.ref h, .int (iZ w)] : List Value).toArray blw mth cod H locs 0 0 Q (F0 mid 9 ls []) := by
    intro fuel
    induction fuel with
    | zero => intro k v  H locs ls hm; exact absurd hm (Nat.not_lt_zero _)
    | succ fuel hL_9 =>
      intro k v  H locs ls hm ik iN hP  hS hl
      refine z_iload C dX6_allNow_9 hl 3 rfl ?_
      refine z_aload_n C dX6_allNow_11 hl 0 rfl ?_
      refine m_geta C hK hP 23 (by decide) q1772 rfl (by decide) dX6_allNow_12 ?_
      refine z_iconst C dX6_allNow_15 ?_
      refine m_iald C hK hP 23 (by decide) rfl (by have h9 : mlen 23 = 5 := rfl; omega) (pe hS_1 rfl) dX6_allNow_16 (fun r_16 => ?_)
      refine z_icmp_ge C 36 dX6_allNow_17 (by decide) (by omega) (by omega) (fun c_17 => ?_) (fun c_17 => ?_)
      · refine z_lload_n C dX6_allNow_36 hl 2 rfl ?_
        exact m_mret_l C hQ hret hlk hS hP ⟨by rw [allOf, iN, show (P 23 0).toNat = k by omega], pS_1.1⟩ dX6_allNow_37
      · refine z_lload_n C dX6_allNow_20 hl 2 rfl ?_
        refine z_aload_n C dX6_allNow_21 hl 0 rfl ?_
        refine z_iload C dX6_allNow_22 hl 3 rfl ?_
        refine z_iload_n C dX6_allNow_24 hl 1 rfl ?_
        refine m_pl C vX6_394 (mcX6_whatOf l g h ad _ _ hS_1 _ _ (by assumption) pS_1.2 (by omega) (by omega)) hS hl ⟨Nat.le_of_ble_eq_true rfl, Nat.le_of_ble_eq_true rfl⟩ ⟨rfl, rfl⟩ hK hP rfl rfl (Nat.le_of_ble_eq_true rfl) dX6_allNow_25 ⟨Nat.zero_le _, Nat.zero_le _⟩ (fun locs hS => ?_)
        refine z_ladd C dX6_allNow_28 ?_
        refine z_lstore_n C dX6_allNow_29 rfl hl (by decide) rfl (fun ls hl => ?_)
        have hl : lv_has ls 5 [(2, _), (0, _), (1, _), (4, _)] := hl
        refine z_iinc C dX6_allNow_30 hl (by decide) 3 rfl rfl (fun ls hl => ?_)
        have hl : lv_has ls 5 [(4, _), (2, _), (0, _), (1, _)] := hl
        refine z_goto C 9 dX6_allNow_33 (by decide) ?_
        exact hL_9 (k + 1) _ _ _ ls (by omega) (by omega) (by rw [zsm_s, ← iN]) hP hS (lv_sub hl [2, 3, 1, 0] rfl)
  exact hL_9 _ 0 0 _ _ ls (Nat.lt_succ_self _) (by omega) rfl hP hS (lv_sub hl [2, 3, 1, 0] rfl)
theorem mcX6_all (l : Launch) (g : mG) (h : Nat) (ad : Nat → Nat) (P S : zS) (hPS : per S = P) (w : Int) (hW : WfR P 0) (hw : I32 w) : mML l g h ad yX6_all cX6_all 2 (k2_rm 6 143) [.int (iZ w)] S (fun z1 S1 => z1 = aAll P w ∧ per S1 = P) := by
  refine z_start (own := RX6) (by decide) rfl (Nat.le_of_ble_eq_true rfl) ?_
  intro prg env s mid blw mth cod ls Q C hQ hret hlk hnm hK hH hl
  have hP : MP g h ad S s.heap := hH
  have hS : va_S (MA h ad) s.heap s.heap [] := va_S.rf
  have hl : lv_has ls 2 [(0, .ref h), (1, .int (iZ w))] := hl
  have w1 := hW.bikes
  have w2 := hW.places
  refine z_aload_n C dX6_all_0 hl 0 rfl ?_
  refine z_iconst C dX6_all_1 ?_
  refine m_puti C hK hP hS 0 (by decide) q1749 rfl rfl (by omega) dX6_all_2 (fun S_2 eS_2 H locs hP hS => ?_)
  have hS_2 := per_s rfl hPS eS_2
  refine z_aload_n C dX6_all_5 hl 0 rfl ?_
  refine m_pi C vX6_354 (mcX6_isRail l g h ad _ _ hS_2 (by assumption)) hS hl ⟨Nat.le_of_ble_eq_true rfl, Nat.le_of_ble_eq_true rfl⟩ ⟨rfl, rfl⟩ hK hP rfl rfl (Nat.le_of_ble_eq_true rfl) dX6_all_6 ⟨Nat.zero_le _, Nat.zero_le _⟩ (fun locs hS => ?_)
  refine z_if_eq C 32 dX6_all_9 (by decide) z01_in (fun c_9 => ?_) (fun c_9 => ?_)
  · replace c_9 := z01_f c_9
    refine z_ldc2 (v := -2) C q2155 dX6_all_32 rfl ?_
    exact m_mret_l C hQ hret hlk hS hP ⟨by unfold aAll; split <;> first | rfl | omega, hS_2⟩ dX6_all_35
  · replace c_9 := z01_t c_9
    refine z_iload_n C dX6_all_12 hl 1 rfl ?_
    refine z_i2l C dX6_all_13 (by omega) ?_
    refine z_lconst (v := 0) C dX6_all_14 rfl ?_
    refine z_ldc2 (v := 2) C q2188 dX6_all_15 rfl ?_
    refine s_pi C vX6_119 (mcX6_in l _ _ _ (by omega) (by omega) (by omega)) hS hl ⟨Nat.le_of_ble_eq_true rfl, Nat.le_of_ble_eq_true rfl⟩ ⟨rfl, rfl⟩ rfl rfl (Nat.le_of_ble_eq_true rfl) dX6_all_18 ⟨Nat.zero_le _, Nat.zero_le _⟩ (fun locs hS => ?_)
    refine z_if_eq C 32 dX6_all_21 (by decide) z01_in (fun c_21 => ?_) (fun c_21 => ?_)
    · replace c_21 := z01_f c_21
      refine z_ldc2 (v := -2) C q2155 dX6_all_32 rfl ?_
      exact m_mret_l C hQ hret hlk hS hP ⟨by unfold aAll; split <;> first | rfl | omega, hS_2⟩ dX6_all_35
    · replace c_21 := z01_t c_21
      refine z_aload_n C dX6_all_24 hl 0 rfl ?_
      refine z_iload_n C dX6_all_25 hl 1 rfl ?_
      refine m_ml C vX6_398 (mcX6_allNow l g h ad _ _ hS_2 _ (by assumption) (by omega)) hS hl ⟨Nat.le_of_ble_eq_true rfl, Nat.le_of_ble_eq_true rfl⟩ ⟨rfl, rfl⟩ hK hP (fun _ h9 => h9) rfl rfl (Nat.le_of_ble_eq_true rfl) dX6_all_26 ⟨Nat.zero_le _, Nat.zero_le _⟩ (fun v_26 S_26 H locs pS_26 hP hS => ?_)
      obtain ⟨e_26, pS_26⟩ := pS_26
      subst e_26
      have hS_26 : per S_26 = P := (pS_26.pr rfl hS_2)
      refine z_goto C 35 dX6_all_29 (by decide) ?_
      exact m_mret_l C hQ hret hlk hS hP ⟨by unfold aAll; split <;> first | rfl | omega, hS_26⟩ dX6_all_35
theorem mcX6_costNow (l : Launch) (g : mG) (h : Nat) (ad : Nat → Nat) (P S : zS) (hPS : per S = P) (b : Int) (hW : WfR P 0) (hb : 0 ≤ b ∧ b < P 23 0) : mML l g h ad yX6_costNow cX6_costNow 2 (k2_rm 5 119) [.int (iZ b)] S (fun z1 S1 => z1 = cost P b ∧ Fr [33, 34, 35, 36, 37, 38] S S1) := by
  refine z_start (own := RX6) (by decide) rfl (Nat.le_of_ble_eq_true rfl) ?_
  intro prg env s mid blw mth cod ls Q C hQ hret hlk hnm hK hH hl
  have hP : MP g h ad S s.heap := hH
  have hS : va_S (MA h ad) s.heap s.heap [] := va_S.rf
  have hl : lv_has ls 2 [(0, .ref h), (1, .int (iZ b))] := hl
  refine z_aload_n C dX6_costNow_0 hl 0 rfl ?_
  refine m_mv C vX6_362 (mcX6_night l g h ad _ _ hPS (by assumption)) hS hl ⟨Nat.le_of_ble_eq_true rfl, Nat.le_of_ble_eq_true rfl⟩ ⟨rfl, rfl⟩ hK hP (fun _ h9 => h9) rfl rfl (Nat.le_of_ble_eq_true rfl) dX6_costNow_1 ⟨Nat.zero_le _, Nat.zero_le _⟩ (fun S_1 H locs pS_1 hP hS => ?_)
  have hS_1 : per S_1 = P := (pS_1.1.pr rfl hPS)
  refine z_aload_n C dX6_costNow_4 hl 0 rfl ?_
  refine z_iload_n C dX6_costNow_5 hl 1 rfl ?_
  refine m_pl C vX6_389 (mcX6_costOf l g h ad _ _ hS_1 _ (by assumption) pS_1.2 (by omega)) hS hl ⟨Nat.le_of_ble_eq_true rfl, Nat.le_of_ble_eq_true rfl⟩ ⟨rfl, rfl⟩ hK hP rfl rfl (Nat.le_of_ble_eq_true rfl) dX6_costNow_6 ⟨Nat.zero_le _, Nat.zero_le _⟩ (fun locs hS => ?_)
  exact m_mret_l C hQ hret hlk hS hP ⟨rfl, pS_1.1⟩ dX6_costNow_9
