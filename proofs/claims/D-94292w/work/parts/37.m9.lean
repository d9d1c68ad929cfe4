theorem vX6_481 : zT RX6 481 yX6_state cX6_state 2 (some .int) 2 := ⟨lw_S q2415 q2416 q149 q2417, by decide +kernel⟩
theorem vX6_487 : zV RX6 487 RX6 yX6_thiefGoes cX6_thiefGoes 12 none 2 := ⟨lw_V q2418 q2420 qs128 q149 q2421, rfl, by decide +kernel⟩
theorem vX6_492 : zV RX6 492 RX6 yX6_whyNot cX6_whyNot 4 (some .int) 3 := ⟨lw_V q2406 q2408 qs126 q149 q2409, rfl, by decide +kernel⟩
theorem vX6_495 : zV RX6 495 RX6 yX6_baits cX6_baits 10 none 3 := ⟨lw_V q2411 q2413 qs127 q149 q2414, rfl, by decide +kernel⟩
theorem mcX6_state (l : Launch) (gn c : Int) : sPI l yX6_state cX6_state 2 .int (k2_rm 0 0) [.int (iZ gn), .int (iZ c)] (64 * gn + c) := by
  intro H0
  refine z_start (own := RX6) (by decide) rfl (Nat.le_of_ble_eq_true rfl) ?_
  intro prg env s mid blw mth cod ls Q C hQ hret hlk hnm hK hH hl
  subst hH
  have hS : va_S nA s.heap s.heap [] := va_S.rf
  have hl : lv_has ls 2 [(0, .int (iZ gn)), (1, .int (iZ c))] := hl
  refine z_bipush C dX6_state_0 rfl ?_
  refine z_iload_n C dX6_state_2 hl 0 rfl ?_
  refine z_imul C dX6_state_3 ?_
  refine z_iload_n C dX6_state_4 hl 1 rfl ?_
  refine z_iadd C dX6_state_5 ?_
  exact z_pret_i C hQ hret hlk hS rfl dX6_state_6
theorem mcX6_thiefGoes (l : Launch) (g : mG) (h : Nat) (ad : Nat → Nat) (P S : zS) (hPS : per S = P) (sm : Int) (t : Nat) (hn : Int) (F : Nat → Int) (hW : WfR P 0) (hs : 0 ≤ sm) (ht : (t : Int) < P 25 0) (hh : 0 ≤ hn ∧ hn ≤ 100) (hF : BOk P F) (hL : Laid P sm S) (hI : BIs P F S) : mMV l g h ad yX6_thiefGoes cX6_thiefGoes 12 (k2_rm 1 26) [.int (iZ (t : Int)), .int (iZ hn)] S (fun S1 => BIs P (bGo P sm t hn F) S1 ∧ Fr [44, 45] S S1) := by
  refine z_start (own := RX6) (by decide) rfl (Nat.le_of_ble_eq_true rfl) ?_
  intro prg env s mid blw mth cod ls Q C hQ hret hlk hnm hK hH hl
  have hP : MP g h ad S s.heap := hH
  have hS : va_S (MA h ad) s.heap s.heap [] := va_S.rf
  have hl : lv_has ls 12 [(0, .ref h), (1, .int (iZ (t : Int))), (2, .int (iZ hn))] := hl
  have w1 := hW.bikes
  have w3 := hW.thieves
  have w5 := nS_in hW
  have w6 := nC_in hW
  have w7 := hW.thief0 (t := t) ⟨by omega, ht⟩
  refine z_iconst C dX6_thiefGoes_0 ?_
  refine z_aload_n C dX6_thiefGoes_1 hl 0 rfl ?_
  refine m_geta C hK hP 23 (by decide) q1772 rfl (by decide) dX6_thiefGoes_2 ?_
  refine z_iconst C dX6_thiefGoes_5 ?_
  refine m_iald C hK hP 23 (by decide) rfl (by have h9 : mlen 23 = 5 := rfl; omega) (pe hPS rfl) dX6_thiefGoes_6 (fun r_6 => ?_)
  refine z_ishl C dX6_thiefGoes_7 (zshl2b (by omega)) ?_
  refine z_istore_n C dX6_thiefGoes_8 rfl hl (by decide) rfl (fun ls hl => ?_)
  have hl : lv_has ls 12 [(3, _), (0, _), (1, _), (2, _)] := hl
  refine z_iconst C dX6_thiefGoes_9 ?_
  refine z_aload_n C dX6_thiefGoes_10 hl 1 rfl ?_
  refine m_geta C hK hP 25 (by decide) q1774 rfl (by decide) dX6_thiefGoes_11 ?_
  refine z_iconst C dX6_thiefGoes_14 ?_
  refine m_iald C hK hP 25 (by decide) rfl (by have h9 : mlen 25 = 5 := rfl; omega) (pe hPS rfl) dX6_thiefGoes_15 (fun r_15 => ?_)
  refine z_ishl C dX6_thiefGoes_16 (zshl1 (by omega)) ?_
  refine z_istore C dX6_thiefGoes_17 hl (by decide) rfl (fun ls hl => ?_)
  have hl : lv_has ls 12 [(4, _), (3, _), (0, _), (1, _), (2, _)] := hl
  refine z_iconst C dX6_thiefGoes_19 ?_
  refine z_istore C dX6_thiefGoes_20 hl (by decide) rfl (fun ls hl => ?_)
  have hl : lv_has ls 12 [(5, _), (4, _), (3, _), (0, _), (1, _), (2, _)] := hl
  have hL_22 : ∀ (fuel : Nat) (k : Nat) (S1 : zS) (H : Heap) (locs : List Loc) (ls : Array Slot), nS P - k < fuel → (k ≤ nS P) → (TIs P 45 (bV P t F) k 0 S1) → (BIs P F S1) → (Fr [44, 45] S S1) → per S1 = P → MP g h ad S1 H → va_S (MA h ad) s.heap H locs → lv_has ls 12 [(0, .ref h), (1, .int (iZ (t : Int))), (2, .int (iZ hn)), (3, .int (iZ ((nS P : Nat) : Int))), (4, .int (iZ ((nC P : Nat) : Int))), (5, .int (iZ (k : Int)))] → W prg l env (k2_rm 1 26) s mid ([.ref h, .int (iZ (t : Int)), .int (iZ hn)] : List Value).toArray blw mth cod H locs 0 0 Q (F0 mid 22 ls []) := by
    intro fuel
    induction fuel with
    | zero => intro k S1  H locs ls hm; exact absurd hm (Nat.not_lt_zero _)
    | succ fuel hL_22 =>
      intro k S1  H locs ls hm ik iC i4 iF hPS_22 hP  hS hl
      refine z_iload C dX6_thiefGoes_22 hl 5 rfl ?_
      refine z_iload_n C dX6_thiefGoes_24 hl 3 rfl ?_
      refine z_icmp_ge C 104 dX6_thiefGoes_25 (by decide) (by omega) (by omega) (fun c_25 => ?_) (fun c_25 => ?_)
      · refine z_iconst C dX6_thiefGoes_104 ?_
        refine z_istore C dX6_thiefGoes_105 hl (by decide) rfl (fun ls hl => ?_)
        have hl : lv_has ls 12 [(5, _), (0, _), (1, _), (2, _), (3, _), (4, _)] := hl
        have hL_107 : ∀ (fuel : Nat) (k : Nat) (S3 : zS) (H : Heap) (locs : List Loc) (ls : Array Slot), nS P - k < fuel → (k ≤ nS P) → (BIs P (bSt P sm t hn F (64 * k)) S3) → (TIs P 45 (bV P t F) (nS P) 0 S3) → (Laid P sm S3) → (Fr [44, 45] S S3) → per S3 = P → MP g h ad S3 H → va_S (MA h ad) s.heap H locs → lv_has ls 12 [(0, .ref h), (1, .int (iZ (t : Int))), (2, .int (iZ hn)), (3, .int (iZ ((nS P : Nat) : Int))), (4, .int (iZ ((nC P : Nat) : Int))), (5, .int (iZ (k : Int)))] → W prg l env (k2_rm 1 26) s mid ([.ref h, .int (iZ (t : Int)), .int (iZ hn)] : List Value).toArray blw mth cod H locs 0 0 Q (F0 mid 107 ls []) := by
          intro fuel
          induction fuel with
          | zero => intro k S3  H locs ls hm; exact absurd hm (Nat.not_lt_zero _)
          | succ fuel hL_107 =>
            intro k S3  H locs ls hm ak aI aC aL aF hPS_107 hP  hS hl
            refine z_iload C dX6_thiefGoes_107 hl 5 rfl ?_
            refine z_iload_n C dX6_thiefGoes_109 hl 3 rfl ?_
            refine z_icmp_ge C 271 dX6_thiefGoes_110 (by decide) (by omega) (by omega) (fun c_110 => ?_) (fun c_110 => ?_)
            · exact m_mret_v C hQ hret hlk hS hP ⟨by rw [bGo, show nS P = k by omega]; exact aI, aF⟩ dX6_thiefGoes_271
            · refine z_aload_n C dX6_thiefGoes_113 hl 0 rfl ?_
              refine z_iload_n C dX6_thiefGoes_114 hl 1 rfl ?_
              refine z_iload C dX6_thiefGoes_115 hl 5 rfl ?_
              have q4 := takes_in hW sm t k
              have q5 : bt1 sm = 1 := by unfold bt1; rw [if_neg (by omega)]
              refine m_pi C vX6_346 (mcX6_takesOf l g h ad _ _ hPS_107 sm _ _ (by assumption) (aL.row (by omega)) (by omega) (by omega)) hS hl ⟨Nat.le_of_ble_eq_true rfl, Nat.le_of_ble_eq_true rfl⟩ ⟨rfl, rfl⟩ hK hP rfl rfl (Nat.le_of_ble_eq_true rfl) dX6_thiefGoes_117 ⟨Nat.zero_le _, Nat.zero_le _⟩ (fun locs hS => ?_)
              refine z_istore C dX6_thiefGoes_120 hl (by decide) rfl (fun ls hl => ?_)
              have hl : lv_has ls 12 [(6, _), (0, _), (1, _), (2, _), (3, _), (4, _), (5, _)] := hl
              refine z_iload C dX6_thiefGoes_122 hl 0 rfl ?_
              refine z_iconst C dX6_thiefGoes_124 ?_
              refine z_icmp_ne C 131 dX6_thiefGoes_125 (by decide) (by omega) (by omega) (fun c_125 => ?_) (fun c_125 => ?_)
              · have q6 := zpow_in (k := takes P sm t k) (M := 10) (by omega)
                have q7 : k ||| 2 ^ (takes P sm t k).toNat < nS P := Nat.or_lt_two_pow (by unfold nS at *; omega) (Nat.pow_lt_pow_right (by decide) (by omega))
                refine z_iconst C dX6_thiefGoes_131 ?_
                refine z_istore C dX6_thiefGoes_132 hl (by decide) rfl (fun ls hl => ?_)
                have hl : lv_has ls 12 [(7, _), (6, _), (0, _), (1, _), (2, _), (3, _), (4, _), (5, _)] := hl
                have hL_134 : ∀ (fuel : Nat) (m : Nat) (S4 : zS) (H : Heap) (locs : List Loc) (ls : Array Slot), nC P - m < fuel → (m ≤ nC P) → (BIs P (bSt P sm t hn F (64 * k + m)) S4) → (TIs P 45 (bV P t F) (nS P) 0 S4) → (Laid P sm S4) → (Fr [44, 45] S S4) → per S4 = P → MP g h ad S4 H → va_S (MA h ad) s.heap H locs → lv_has ls 12 [(0, .ref h), (1, .int (iZ (t : Int))), (2, .int (iZ hn)), (3, .int (iZ ((nS P : Nat) : Int))), (4, .int (iZ ((nC P : Nat) : Int))), (5, .int (iZ (k : Int))), (6, .int (iZ (takes P sm (t : Int) (k : Int)))), (7, .int (iZ (m : Int)))] → W prg l env (k2_rm 1 26) s mid ([.ref h, .int (iZ (t : Int)), .int (iZ hn)] : List Value).toArray blw mth cod H locs 0 0 Q (F0 mid 134 ls []) := by
                  intro fuel
                  induction fuel with
                  | zero => intro m S4  H locs ls hm; exact absurd hm (Nat.not_lt_zero _)
                  | succ fuel hL_134 =>
                    intro m S4  H locs ls hm bm bI bC bL bF hPS_134 hP  hS hl
                    refine z_iload C dX6_thiefGoes_134 hl 7 rfl ?_
                    refine z_iload C dX6_thiefGoes_136 hl 4 rfl ?_
                    refine z_icmp_ge C 265 dX6_thiefGoes_138 (by decide) (by omega) (by omega) (fun c_138 => ?_) (fun c_138 => ?_)
                    · refine z_iinc C dX6_thiefGoes_265 hl (by decide) 5 rfl rfl (fun ls hl => ?_)
                      have hl : lv_has ls 12 [(5, _), (0, _), (1, _), (2, _), (3, _), (4, _), (6, _), (7, _)] := hl
                      refine z_goto C 107 dX6_thiefGoes_268 (by decide) ?_
                      exact hL_107 (k + 1) _ _ _ ls (by omega) (by omega) (by rw [bSt_row (c := m) (fun y h1 h2 z => dlt_off _ _ _ (hF.2.1 _ (fun z2 => by have := z2.2; omega)) z) (by omega)]; exact bI) bC bL bF hPS_134 hP hS (lv_sub hl [1, 2, 3, 4, 5, 0] rfl)
                    · have q8 : m ||| 2 ^ t < nC P := Nat.or_lt_two_pow (by unfold nC at *; omega) (Nat.pow_lt_pow_right (by decide) (by omega))
                      have q9 : 2 ^ t ≤ 2 ^ 6 := Nat.pow_le_pow_right (by decide) (by omega)
                      have p1 := bC k m (Or.inl (by omega)) (by omega)
                      have p2 := bV_in hW ht hF.1 (64 * k + m)
                      have p3 := hF.in (64 * k + m)
                      have p4 := bH_in hW ht hF.1 sm hh (64 * k + m)
                      have p5 := (bSt_ok hW hs ht hh hF (64 * k + m) (by omega)).1
                      have p6 := bI k m (by omega) (by omega)
                      have p9 := p5.in (64 * k + m)
                      have p10 := bI _ _ q7 q8
                      have p11 := p5.in (64 * (k ||| 2 ^ (takes P sm t k).toNat) + (m ||| 2 ^ t))
                      have p12 := bI _ m q7 (by omega)
                      have p13 := p5.in (64 * (k ||| 2 ^ (takes P sm t k).toNat) + m)
                      have p14 : bB P sm t (64 * k + m) = takes P sm t k := bB_at _ _ _ _ (by omega)
                      refine z_aload_n C dX6_thiefGoes_141 hl 0 rfl ?_
                      refine m_geta C hK hP 45 (by decide) q1794 rfl (by decide) dX6_thiefGoes_142 ?_
                      refine z_iload C dX6_thiefGoes_145 hl 5 rfl ?_
                      refine z_iload C dX6_thiefGoes_147 hl 7 rfl ?_
                      refine s_pi C vX6_481 (mcX6_state l _ _) hS hl ⟨Nat.le_of_ble_eq_true rfl, Nat.le_of_ble_eq_true rfl⟩ ⟨rfl, rfl⟩ rfl rfl (Nat.le_of_ble_eq_true rfl) dX6_thiefGoes_149 ⟨Nat.zero_le _, Nat.zero_le _⟩ (fun locs hS => ?_)
                      refine m_lald C hK hP 45 (by decide) rfl (by have h9 : mlen 45 = 131072 := rfl; omega) p1 dX6_thiefGoes_152 (fun r_152 => ?_)
                      refine z_lstore C dX6_thiefGoes_153 hl (by decide) rfl (fun ls hl => ?_)
                      have hl : lv_has ls 12 [(8, _), (0, _), (1, _), (2, _), (3, _), (4, _), (5, _), (6, _), (7, _)] := hl
                      refine z_lload C dX6_thiefGoes_155 hl 0 rfl ?_
                      refine z_lconst (v := 0) C dX6_thiefGoes_157 rfl ?_
                      refine z_lcmp_ne C 165 dX6_thiefGoes_158 dX6_thiefGoes_159 (by decide) (by omega) (by omega) (fun c_158 => ?_) (fun c_158 => ?_)
                      · refine z_iload C dX6_thiefGoes_165 hl 7 rfl ?_
                        refine z_aload_n C dX6_thiefGoes_167 hl 1 rfl ?_
                        refine m_geta C hK hP 23 (by decide) q1772 rfl (by decide) dX6_thiefGoes_168 ?_
                        refine z_iconst C dX6_thiefGoes_171 ?_
                        refine m_iald C hK hP 23 (by decide) rfl (by have h9 : mlen 23 = 5 := rfl; omega) (pe hPS_134 rfl) dX6_thiefGoes_172 (fun r_172 => ?_)
                        refine z_icmp_ne C 188 dX6_thiefGoes_173 (by decide) (by omega) (by omega) (fun c_173 => ?_) (fun c_173 => ?_)
                        · have p8 : bH P sm t hn F (64 * k + m) = 0 := by unfold bH; rw [if_neg (by rw [p14]; exact c_173)]
                          refine z_lconst (v := 0) C dX6_thiefGoes_188 rfl ?_
                          refine z_lstore C dX6_thiefGoes_189 hl (by decide) rfl (fun ls hl => ?_)
                          have hl : lv_has ls 12 [(10, _), (8, _), (0, _), (1, _), (2, _), (3, _), (4, _), (5, _), (6, _), (7, _)] := hl
                          refine z_aload_n C dX6_thiefGoes_191 hl 2 rfl ?_
                          refine m_geta C hK hP 44 (by decide) q1793 rfl (by decide) dX6_thiefGoes_192 ?_
                          refine z_iload C dX6_thiefGoes_195 hl 7 rfl ?_
                          refine z_iload C dX6_thiefGoes_197 hl 9 rfl ?_
                          refine s_pi C vX6_481 (mcX6_state l _ _) hS hl ⟨Nat.le_of_ble_eq_true rfl, Nat.le_of_ble_eq_true rfl⟩ ⟨rfl, rfl⟩ rfl rfl (Nat.le_of_ble_eq_true rfl) dX6_thiefGoes_199 ⟨Nat.zero_le _, Nat.zero_le _⟩ (fun locs hS => ?_)
                          refine z_dup2_11 C dX6_thiefGoes_202 rfl rfl ?_
                          refine m_lald C hK hP 44 (by decide) rfl (by have h9 : mlen 44 = 131072 := rfl; omega) rfl dX6_thiefGoes_203 (fun r_203 => ?_)
                          refine z_lload C dX6_thiefGoes_204 hl 1 rfl ?_
                          refine z_lsub C dX6_thiefGoes_206 ?_
                          refine m_last C hK hP hS 44 (by decide) rfl (by have h9 : mlen 44 = 131072 := rfl; omega) (by omega) dX6_thiefGoes_207 (fun S_207 eS_207 H locs hP hS => ?_)
                          have hS_207 := per_s rfl hPS_134 eS_207
                          refine z_aload_n C dX6_thiefGoes_208 hl 2 rfl ?_
                          refine m_geta C hK hP 44 (by decide) q1793 rfl (by decide) dX6_thiefGoes_209 ?_
                          refine z_iload C dX6_thiefGoes_212 hl 7 rfl ?_
                          refine z_iconst C dX6_thiefGoes_214 ?_
                          refine z_iload C dX6_thiefGoes_215 hl 8 rfl ?_
                          refine z_ishl C dX6_thiefGoes_217 (zshl1 (by omega)) ?_
                          refine z_ior C dX6_thiefGoes_218 (iZ_or _ _ (by omega) (by omega)) ?_
                          refine z_iload C dX6_thiefGoes_219 hl 9 rfl ?_
                          refine z_iconst C dX6_thiefGoes_221 ?_
                          refine z_iload_n C dX6_thiefGoes_222 hl 3 rfl ?_
                          refine z_ishl C dX6_thiefGoes_223 (zshl1N (by omega)) ?_
                          refine z_ior C dX6_thiefGoes_224 (iZ_or _ _ (by omega) (by omega)) ?_
                          refine s_pi C vX6_481 (mcX6_state l _ _) hS hl ⟨Nat.le_of_ble_eq_true rfl, Nat.le_of_ble_eq_true rfl⟩ ⟨rfl, rfl⟩ rfl rfl (Nat.le_of_ble_eq_true rfl) dX6_thiefGoes_225 ⟨Nat.zero_le _, Nat.zero_le _⟩ (fun locs hS => ?_)
                          refine z_dup2_11 C dX6_thiefGoes_228 rfl rfl ?_
                          refine m_lald C hK hP 44 (by decide) rfl (by have h9 : mlen 44 = 131072 := rfl; omega) rfl dX6_thiefGoes_229 (fun r_229 => ?_)
                          refine z_lload C dX6_thiefGoes_230 hl 0 rfl ?_
                          refine z_ladd C dX6_thiefGoes_232 ?_
                          refine m_last C hK hP hS 44 (by decide) rfl (by have h9 : mlen 44 = 131072 := rfl; omega) (by rw [eS_207]; unfold zup; simp only [true_and]; (repeat' split) <;> omega) dX6_thiefGoes_233 (fun S_233 eS_233 H locs hP hS => ?_)
                          have hS_233 := per_s rfl hS_207 eS_233
                          refine z_aload_n C dX6_thiefGoes_234 hl 2 rfl ?_
                          refine m_geta C hK hP 44 (by decide) q1793 rfl (by decide) dX6_thiefGoes_235 ?_
                          refine z_iload C dX6_thiefGoes_238 hl 7 rfl ?_
                          refine z_iconst C dX6_thiefGoes_240 ?_
                          refine z_iload C dX6_thiefGoes_241 hl 8 rfl ?_
                          refine z_ishl C dX6_thiefGoes_243 (zshl1 (by omega)) ?_
                          refine z_ior C dX6_thiefGoes_244 (iZ_or _ _ (by omega) (by omega)) ?_
                          refine z_iload C dX6_thiefGoes_245 hl 9 rfl ?_
                          refine s_pi C vX6_481 (mcX6_state l _ _) hS hl ⟨Nat.le_of_ble_eq_true rfl, Nat.le_of_ble_eq_true rfl⟩ ⟨rfl, rfl⟩ rfl rfl (Nat.le_of_ble_eq_true rfl) dX6_thiefGoes_247 ⟨Nat.zero_le _, Nat.zero_le _⟩ (fun locs hS => ?_)
                          refine z_dup2_11 C dX6_thiefGoes_250 rfl rfl ?_
                          refine m_lald C hK hP 44 (by decide) rfl (by have h9 : mlen 44 = 131072 := rfl; omega) rfl dX6_thiefGoes_251 (fun r_251 => ?_)
                          refine z_lload C dX6_thiefGoes_252 hl 1 rfl ?_
                          refine z_lload C dX6_thiefGoes_254 hl 0 rfl ?_
                          refine z_lsub C dX6_thiefGoes_256 ?_
                          refine z_ladd C dX6_thiefGoes_257 ?_
                          refine m_last C hK hP hS 44 (by decide) rfl (by have h9 : mlen 44 = 131072 := rfl; omega) (by rw [eS_233, eS_207]; unfold zup; simp only [true_and]; (repeat' split) <;> omega) dX6_thiefGoes_258 (fun S_258 eS_258 H locs hP hS => ?_)
                          have hS_258 := per_s rfl hS_233 eS_258
                          refine z_iinc C dX6_thiefGoes_259 hl (by decide) 9 rfl rfl (fun ls hl => ?_)
                          have hl : lv_has ls 12 [(7, _), (10, _), (8, _), (0, _), (1, _), (2, _), (3, _), (4, _), (5, _), (6, _)] := hl
                          refine z_goto C 134 dX6_thiefGoes_262 (by decide) ?_
                          exact hL_134 (m + 1) _ _ _ ls (by omega) (by omega) (BIs.move (S1 := S_207) (S2 := S_233) (G := k) (C := m) (b := (takes P sm (t : Int) (k : Int)).toNat) hW bI (by omega) (by omega) (by omega) eS_207 (by rw [p8]; exact eS_233) (by rw [p8]; exact eS_258)) (bC.mv (Fr.up (Fr.up (Fr.up Fr.rf eS_207 (by decide : 44 ∈ [44])) eS_233 (by decide)) eS_258 (by decide)) (by decide)) (bL.mv (Fr.up (Fr.up (Fr.up Fr.rf eS_207 (by decide : 44 ∈ [44])) eS_233 (by decide)) eS_258 (by decide)) (by decide) (by decide) (by decide)) (Fr.up (Fr.up (Fr.up bF eS_207 (by decide)) eS_233 (by decide)) eS_258 (by decide)) hS_258 hP hS (lv_sub hl [3, 4, 5, 6, 7, 8, 9, 0] rfl)
                        · have p7 := zmul_in (A := 1000000000000) (B := 100) ⟨p2.1, by omega⟩ hh
                          have p8 : bH P sm t hn F (64 * k + m) = bV P t F (64 * k + m) * hn / 100 := by unfold bH; rw [if_pos (by rw [p14]; exact c_173)]
                          refine z_lload C dX6_thiefGoes_176 hl 0 rfl ?_
                          refine z_iload_n C dX6_thiefGoes_178 hl 3 rfl ?_
                          refine z_i2l C dX6_thiefGoes_179 (by omega) ?_
                          refine z_lmul C dX6_thiefGoes_180 ?_
                          refine z_ldc2 (v := 100) C q2110 dX6_thiefGoes_181 rfl ?_
                          refine z_ldiv C dX6_thiefGoes_184 (by omega) (by omega) ?_
                          refine z_goto C 189 dX6_thiefGoes_185 (by decide) ?_
                          refine z_lstore C dX6_thiefGoes_189 hl (by decide) rfl (fun ls hl => ?_)
                          have hl : lv_has ls 12 [(10, _), (8, _), (0, _), (1, _), (2, _), (3, _), (4, _), (5, _), (6, _), (7, _)] := hl
                          refine z_aload_n C dX6_thiefGoes_191 hl 2 rfl ?_
                          refine m_geta C hK hP 44 (by decide) q1793 rfl (by decide) dX6_thiefGoes_192 ?_
                          refine z_iload C dX6_thiefGoes_195 hl 7 rfl ?_
                          refine z_iload C dX6_thiefGoes_197 hl 9 rfl ?_
                          refine s_pi C vX6_481 (mcX6_state l _ _) hS hl ⟨Nat.le_of_ble_eq_true rfl, Nat.le_of_ble_eq_true rfl⟩ ⟨rfl, rfl⟩ rfl rfl (Nat.le_of_ble_eq_true rfl) dX6_thiefGoes_199 ⟨Nat.zero_le _, Nat.zero_le _⟩ (fun locs hS => ?_)
                          refine z_dup2_11 C dX6_thiefGoes_202 rfl rfl ?_
                          refine m_lald C hK hP 44 (by decide) rfl (by have h9 : mlen 44 = 131072 := rfl; omega) rfl dX6_thiefGoes_203 (fun r_203 => ?_)
                          refine z_lload C dX6_thiefGoes_204 hl 1 rfl ?_
                          refine z_lsub C dX6_thiefGoes_206 ?_
                          refine m_last C hK hP hS 44 (by decide) rfl (by have h9 : mlen 44 = 131072 := rfl; omega) (by omega) dX6_thiefGoes_207 (fun S_207 eS_207 H locs hP hS => ?_)
                          have hS_207 := per_s rfl hPS_134 eS_207
                          refine z_aload_n C dX6_thiefGoes_208 hl 2 rfl ?_
                          refine m_geta C hK hP 44 (by decide) q1793 rfl (by decide) dX6_thiefGoes_209 ?_
                          refine z_iload C dX6_thiefGoes_212 hl 7 rfl ?_
                          refine z_iconst C dX6_thiefGoes_214 ?_
                          refine z_iload C dX6_thiefGoes_215 hl 8 rfl ?_
                          refine z_ishl C dX6_thiefGoes_217 (zshl1 (by omega)) ?_
                          refine z_ior C dX6_thiefGoes_218 (iZ_or _ _ (by omega) (by omega)) ?_
                          refine z_iload C dX6_thiefGoes_219 hl 9 rfl ?_
                          refine z_iconst C dX6_thiefGoes_221 ?_
                          refine z_iload_n C dX6_thiefGoes_222 hl 3 rfl ?_
                          refine z_ishl C dX6_thiefGoes_223 (zshl1N (by omega)) ?_
                          refine z_ior C dX6_thiefGoes_224 (iZ_or _ _ (by omega) (by omega)) ?_
                          refine s_pi C vX6_481 (mcX6_state l _ _) hS hl ⟨Nat.le_of_ble_eq_true rfl, Nat.le_of_ble_eq_true rfl⟩ ⟨rfl, rfl⟩ rfl rfl (Nat.le_of_ble_eq_true rfl) dX6_thiefGoes_225 ⟨Nat.zero_le _, Nat.zero_le _⟩ (fun locs hS => ?_)
                          refine z_dup2_11 C dX6_thiefGoes_228 rfl rfl ?_
                          refine m_lald C hK hP 44 (by decide) rfl (by have h9 : mlen 44 = 131072 := rfl; omega) rfl dX6_thiefGoes_229 (fun r_229 => ?_)
                          refine z_lload C dX6_thiefGoes_230 hl 0 rfl ?_
                          refine z_ladd C dX6_thiefGoes_232 ?_
                          refine m_last C hK hP hS 44 (by decide) rfl (by have h9 : mlen 44 = 131072 := rfl; omega) (by rw [eS_207]; unfold zup; simp only [true_and]; (repeat' split) <;> omega) dX6_thiefGoes_233 (fun S_233 eS_233 H locs hP hS => ?_)
                          have hS_233 := per_s rfl hS_207 eS_233
                          refine z_aload_n C dX6_thiefGoes_234 hl 2 rfl ?_
                          refine m_geta C hK hP 44 (by decide) q1793 rfl (by decide) dX6_thiefGoes_235 ?_
                          refine z_iload C dX6_thiefGoes_238 hl 7 rfl ?_
                          refine z_iconst C dX6_thiefGoes_240 ?_
                          refine z_iload C dX6_thiefGoes_241 hl 8 rfl ?_
                          refine z_ishl C dX6_thiefGoes_243 (zshl1 (by omega)) ?_
                          refine z_ior C dX6_thiefGoes_244 (iZ_or _ _ (by omega) (by omega)) ?_
                          refine z_iload C dX6_thiefGoes_245 hl 9 rfl ?_
                          refine s_pi C vX6_481 (mcX6_state l _ _) hS hl ⟨Nat.le_of_ble_eq_true rfl, Nat.le_of_ble_eq_true rfl⟩ ⟨rfl, rfl⟩ rfl rfl (Nat.le_of_ble_eq_true rfl) dX6_thiefGoes_247 ⟨Nat.zero_le _, Nat.zero_le _⟩ (fun locs hS => ?_)
                          refine z_dup2_11 C dX6_thiefGoes_250 rfl rfl ?_
                          refine m_lald C hK hP 44 (by decide) rfl (by have h9 : mlen 44 = 131072 := rfl; omega) rfl dX6_thiefGoes_251 (fun r_251 => ?_)
                          refine z_lload C dX6_thiefGoes_252 hl 1 rfl ?_
                          refine z_lload C dX6_thiefGoes_254 hl 0 rfl ?_
                          refine z_lsub C dX6_thiefGoes_256 ?_
                          refine z_ladd C dX6_thiefGoes_257 ?_
                          refine m_last C hK hP hS 44 (by decide) rfl (by have h9 : mlen 44 = 131072 := rfl; omega) (by rw [eS_233, eS_207]; unfold zup; simp only [true_and]; (repeat' split) <;> omega) dX6_thiefGoes_258 (fun S_258 eS_258 H locs hP hS => ?_)
                          have hS_258 := per_s rfl hS_233 eS_258
                          refine z_iinc C dX6_thiefGoes_259 hl (by decide) 9 rfl rfl (fun ls hl => ?_)
                          have hl : lv_has ls 12 [(7, _), (10, _), (8, _), (0, _), (1, _), (2, _), (3, _), (4, _), (5, _), (6, _)] := hl
                          refine z_goto C 134 dX6_thiefGoes_262 (by decide) ?_
                          exact hL_134 (m + 1) _ _ _ ls (by omega) (by omega) (BIs.move (S1 := S_207) (S2 := S_233) (G := k) (C := m) (b := (takes P sm (t : Int) (k : Int)).toNat) hW bI (by omega) (by omega) (by omega) eS_207 (by rw [p8]; exact eS_233) (by rw [p8]; exact eS_258)) (bC.mv (Fr.up (Fr.up (Fr.up Fr.rf eS_207 (by decide : 44 ∈ [44])) eS_233 (by decide)) eS_258 (by decide)) (by decide)) (bL.mv (Fr.up (Fr.up (Fr.up Fr.rf eS_207 (by decide : 44 ∈ [44])) eS_233 (by decide)) eS_258 (by decide)) (by decide) (by decide) (by decide)) (Fr.up (Fr.up (Fr.up bF eS_207 (by decide)) eS_233 (by decide)) eS_258 (by decide)) hS_258 hP hS (lv_sub hl [3, 4, 5, 6, 7, 8, 9, 0] rfl)
                      · refine z_goto C 259 dX6_thiefGoes_162 (by decide) ?_
                        refine z_iinc C dX6_thiefGoes_259 hl (by decide) 8 rfl rfl (fun ls hl => ?_)
                        have hl : lv_has ls 12 [(7, _), (8, _), (0, _), (1, _), (2, _), (3, _), (4, _), (5, _), (6, _)] := hl
                        refine z_goto C 134 dX6_thiefGoes_262 (by decide) ?_
                        exact hL_134 (m + 1) _ _ _ ls (by omega) (by omega) (by rw [show 64 * k + (m + 1) = 64 * k + m + 1 from rfl, bSt_skip c_158]; exact bI) bC bL bF hPS_134 hP hS (lv_sub hl [2, 3, 4, 5, 6, 7, 8, 0] rfl)
                exact hL_134 _ 0 _ _ _ ls (Nat.lt_succ_self _) (by omega) aI aC aL aF hPS_107 hP hS (lv_sub hl [2, 3, 4, 5, 6, 7, 1, 0] rfl)
              · refine z_goto C 265 dX6_thiefGoes_128 (by decide) ?_
                refine z_iinc C dX6_thiefGoes_265 hl (by decide) 6 rfl rfl (fun ls hl => ?_)
                have hl : lv_has ls 12 [(5, _), (6, _), (0, _), (1, _), (2, _), (3, _), (4, _)] := hl
                refine z_goto C 107 dX6_thiefGoes_268 (by decide) ?_
                exact hL_107 (k + 1) _ _ _ ls (by omega) (by omega) (by rw [bSt_row (c := 0) (fun y h1 h2 z => by unfold dlt; rw [if_pos (by rw [bB_at _ _ _ _ (by omega)]; exact c_125)]) (by omega)]; exact aI) aC aL aF hPS_107 hP hS (lv_sub hl [2, 3, 4, 5, 6, 0] rfl)
        exact hL_107 _ 0 _ _ _ ls (Nat.lt_succ_self _) (by omega) (by rw [Nat.mul_zero, bSt_0]; exact i4) (by rw [show nS P = k by omega]; exact iC) (hL.mv iF (by decide) (by decide) (by decide)) iF hPS_22 hP hS (lv_sub hl [1, 2, 3, 4, 5, 0] rfl)
      · refine z_iconst C dX6_thiefGoes_28 ?_
        refine z_istore C dX6_thiefGoes_29 hl (by decide) rfl (fun ls hl => ?_)
        have hl : lv_has ls 12 [(6, _), (0, _), (1, _), (2, _), (3, _), (4, _), (5, _)] := hl
        have hL_31 : ∀ (fuel : Nat) (m : Nat) (S2 : zS) (H : Heap) (locs : List Loc) (ls : Array Slot), nC P - m < fuel → (m ≤ nC P) → (TIs P 45 (bV P t F) k m S2) → (BIs P F S2) → (Fr [44, 45] S S2) → per S2 = P → MP g h ad S2 H → va_S (MA h ad) s.heap H locs → lv_has ls 12 [(0, .ref h), (1, .int (iZ (t : Int))), (2, .int (iZ hn)), (3, .int (iZ ((nS P : Nat) : Int))), (4, .int (iZ ((nC P : Nat) : Int))), (5, .int (iZ (k : Int))), (6, .int (iZ (m : Int)))] → W prg l env (k2_rm 1 26) s mid ([.ref h, .int (iZ (t : Int)), .int (iZ hn)] : List Value).toArray blw mth cod H locs 0 0 Q (F0 mid 31 ls []) := by
          intro fuel
          induction fuel with
          | zero => intro m S2  H locs ls hm; exact absurd hm (Nat.not_lt_zero _)
          | succ fuel hL_31 =>
            intro m S2  H locs ls hm jm jC j4 jF hPS_31 hP  hS hl
            refine z_iload C dX6_thiefGoes_31 hl 6 rfl ?_
            refine z_iload C dX6_thiefGoes_33 hl 4 rfl ?_
            refine z_icmp_ge C 98 dX6_thiefGoes_35 (by decide) (by omega) (by omega) (fun c_35 => ?_) (fun c_35 => ?_)
            · refine z_iinc C dX6_thiefGoes_98 hl (by decide) 5 rfl rfl (fun ls hl => ?_)
              have hl : lv_has ls 12 [(5, _), (0, _), (1, _), (2, _), (3, _), (4, _), (6, _)] := hl
              refine z_goto C 22 dX6_thiefGoes_101 (by decide) ?_
              exact hL_22 (k + 1) _ _ _ ls (by omega) (by omega) (jC.row (by omega)) j4 jF hPS_31 hP hS (lv_sub hl [1, 2, 3, 4, 5, 0] rfl)
            · refine z_aload_n C dX6_thiefGoes_38 hl 0 rfl ?_
              refine m_geta C hK hP 45 (by decide) q1794 rfl (by decide) dX6_thiefGoes_39 ?_
              refine z_iload C dX6_thiefGoes_42 hl 5 rfl ?_
              refine z_iload C dX6_thiefGoes_44 hl 6 rfl ?_
              refine s_pi C vX6_481 (mcX6_state l _ _) hS hl ⟨Nat.le_of_ble_eq_true rfl, Nat.le_of_ble_eq_true rfl⟩ ⟨rfl, rfl⟩ rfl rfl (Nat.le_of_ble_eq_true rfl) dX6_thiefGoes_46 ⟨Nat.zero_le _, Nat.zero_le _⟩ (fun locs hS => ?_)
              refine z_iload C dX6_thiefGoes_49 hl 6 rfl ?_
              refine z_iload_n C dX6_thiefGoes_51 hl 1 rfl ?_
              refine z_ishr C dX6_thiefGoes_52 (iZ_shr (by omega) (by omega)) ?_
              refine z_iconst C dX6_thiefGoes_53 ?_
              refine z_iand C dX6_thiefGoes_54 (iZ_and1 _) ?_
              refine z_iconst C dX6_thiefGoes_55 ?_
              refine z_icmp_ne C 63 dX6_thiefGoes_56 (by decide) (by omega) (by omega) (fun c_56 => ?_) (fun c_56 => ?_)
              · have q1 := j4 k m (by omega) (by omega)
                have q2 := hF.in (64 * k + m)
                have q3 := zmul_in q2 w7.2.1
                refine z_aload_n C dX6_thiefGoes_63 hl 0 rfl ?_
                refine m_geta C hK hP 44 (by decide) q1793 rfl (by decide) dX6_thiefGoes_64 ?_
                refine z_iload C dX6_thiefGoes_67 hl 5 rfl ?_
                refine z_iload C dX6_thiefGoes_69 hl 6 rfl ?_
                refine s_pi C vX6_481 (mcX6_state l _ _) hS hl ⟨Nat.le_of_ble_eq_true rfl, Nat.le_of_ble_eq_true rfl⟩ ⟨rfl, rfl⟩ rfl rfl (Nat.le_of_ble_eq_true rfl) dX6_thiefGoes_71 ⟨Nat.zero_le _, Nat.zero_le _⟩ (fun locs hS => ?_)
                refine m_lald C hK hP 44 (by decide) rfl (by have h9 : mlen 44 = 131072 := rfl; omega) rfl dX6_thiefGoes_74 (fun r_74 => ?_)
                refine z_aload_n C dX6_thiefGoes_75 hl 0 rfl ?_
                refine m_geta C hK hP 26 (by decide) q1775 rfl (by decide) dX6_thiefGoes_76 ?_
                refine z_iconst C dX6_thiefGoes_79 ?_
                refine z_iload_n C dX6_thiefGoes_80 hl 1 rfl ?_
                refine z_imul C dX6_thiefGoes_81 ?_
                refine z_iconst C dX6_thiefGoes_82 ?_
                refine z_iadd C dX6_thiefGoes_83 ?_
                refine m_iald C hK hP 26 (by decide) rfl (by have h9 : mlen 26 = 150 := rfl; omega) (pe hPS_31 rfl) dX6_thiefGoes_84 (fun r_84 => ?_)
                refine z_i2l C dX6_thiefGoes_85 (by omega) ?_
                refine z_lmul C dX6_thiefGoes_86 ?_
                refine z_ldc2 (v := 100) C q2110 dX6_thiefGoes_87 rfl ?_
                refine z_ldiv C dX6_thiefGoes_90 (by rw [q1]; omega) (by omega) ?_
                refine m_last C hK hP hS 45 (by decide) rfl (by have h9 : mlen 45 = 131072 := rfl; omega) (by first | omega | (rw [q1]; omega)) dX6_thiefGoes_91 (fun S_91 eS_91 H locs hP hS => ?_)
                have hS_91 := per_s rfl hPS_31 eS_91
                refine z_iinc C dX6_thiefGoes_92 hl (by decide) 6 rfl rfl (fun ls hl => ?_)
                have hl : lv_has ls 12 [(6, _), (0, _), (1, _), (2, _), (3, _), (4, _), (5, _)] := hl
                refine z_goto C 31 dX6_thiefGoes_95 (by decide) ?_
                exact hL_31 (m + 1) _ _ _ ls (by omega) (by omega) (jC.up w6.2 (by omega) eS_91 (by rw [bV_at _ _ _ _ (by omega), if_neg c_56, q1])) (j4.mv (Fr.up Fr.rf eS_91 (by decide : 45 ∈ [45])) (by decide)) (Fr.up jF eS_91 (by decide)) hS_91 hP hS (lv_sub hl [1, 2, 3, 4, 5, 6, 0] rfl)
              · refine z_lconst (v := 0) C dX6_thiefGoes_59 rfl ?_
                refine z_goto C 91 dX6_thiefGoes_60 (by decide) ?_
                refine m_last C hK hP hS 45 (by decide) rfl (by have h9 : mlen 45 = 131072 := rfl; omega) (by first | omega | (rw [q1]; omega)) dX6_thiefGoes_91 (fun S_91 eS_91 H locs hP hS => ?_)
                have hS_91 := per_s rfl hPS_31 eS_91
                refine z_iinc C dX6_thiefGoes_92 hl (by decide) 6 rfl rfl (fun ls hl => ?_)
                have hl : lv_has ls 12 [(6, _), (0, _), (1, _), (2, _), (3, _), (4, _), (5, _)] := hl
                refine z_goto C 31 dX6_thiefGoes_95 (by decide) ?_
                exact hL_31 (m + 1) _ _ _ ls (by omega) (by omega) (jC.up w6.2 (by omega) eS_91 (by rw [bV_at _ _ _ _ (by omega), if_pos c_56])) (j4.mv (Fr.up Fr.rf eS_91 (by decide : 45 ∈ [45])) (by decide)) (Fr.up jF eS_91 (by decide)) hS_91 hP hS (lv_sub hl [1, 2, 3, 4, 5, 6, 0] rfl)
        exact hL_31 _ 0 _ _ _ ls (Nat.lt_succ_self _) (by omega) iC i4 iF hPS_22 hP hS (lv_sub hl [1, 2, 3, 4, 5, 6, 0] rfl)
  exact hL_22 _ 0 _ _ _ ls (Nat.lt_succ_self _) (by omega) (fun g c h1 h2 => by omega) hI Fr.rf hPS hP hS (lv_sub hl [3, 4, 5, 2, 1, 0] rfl)
theorem mcX6_baits (l : Launch) (g : mG) (h : Nat) (ad : Nat → Nat) (P S : zS) (hPS : per S = P) (pl sm hn : Int) (hW : WfR P 0) (hs : 0 ≤ sm ∧ sm ≤ 9999) (hh : 0 ≤ hn ∧ hn ≤ 100) : mMV l g h ad yX6_baits cX6_baits 10 (k2_rm 4 95) [.int (iZ pl), .int (iZ sm), .int (iZ hn)] S (fun S1 => S1 47 0 = bL P sm hn (P 18 0).toNat ∧ (∀ c : Nat, c < nC P → S1 46 (c : Int) = bN P sm hn (P 18 0).toNat c) ∧ Fr [33, 34, 35, 44, 45, 46, 47] S S1) := by
  refine z_start (own := RX6) (by decide) rfl (Nat.le_of_ble_eq_true rfl) ?_
  intro prg env s mid blw mth cod ls Q C hQ hret hlk hnm hK hH hl
  have hP : MP g h ad S s.heap := hH
  have hS : va_S (MA h ad) s.heap s.heap [] := va_S.rf
  have hl : lv_has ls 10 [(0, .ref h), (1, .int (iZ pl)), (2, .int (iZ sm)), (3, .int (iZ hn))] := hl
  have w1 := hW.bikes
  have w3 := hW.thieves
  have w5 := nS_in hW
  have w6 := nC_in hW
  have w8 := hW.nights
  refine z_aload_n C dX6_baits_0 hl 0 rfl ?_
  refine z_iload_n C dX6_baits_1 hl 2 rfl ?_
  refine m_mv C vX6_343 (mcX6_lays l g h ad _ _ hPS _ (by assumption) (by omega)) hS hl ⟨Nat.le_of_ble_eq_true rfl, Nat.le_of_ble_eq_true rfl⟩ ⟨rfl, rfl⟩ hK hP (fun _ h9 => h9) rfl rfl (Nat.le_of_ble_eq_true rfl) dX6_baits_2 ⟨Nat.zero_le _, Nat.zero_le _⟩ (fun S_2 H locs pS_2 hP hS => ?_)
  have hS_2 : per S_2 = P := (pS_2.1.pr rfl hPS)
  refine z_iconst C dX6_baits_5 ?_
  refine z_aload_n C dX6_baits_6 hl 0 rfl ?_
  refine m_geta C hK hP 23 (by decide) q1772 rfl (by decide) dX6_baits_7 ?_
  refine z_iconst C dX6_baits_10 ?_
  refine m_iald C hK hP 23 (by decide) rfl (by have h9 : mlen 23 = 5 := rfl; omega) (pe hS_2 rfl) dX6_baits_11 (fun r_11 => ?_)
  refine z_ishl C dX6_baits_12 (zshl2b (by omega)) ?_
  refine z_istore C dX6_baits_13 hl (by decide) rfl (fun ls hl => ?_)
  have hl : lv_has ls 10 [(4, _), (0, _), (1, _), (2, _), (3, _)] := hl
  refine z_iconst C dX6_baits_15 ?_
  refine z_aload_n C dX6_baits_16 hl 1 rfl ?_
  refine m_geta C hK hP 25 (by decide) q1774 rfl (by decide) dX6_baits_17 ?_
  refine z_iconst C dX6_baits_20 ?_
  refine m_iald C hK hP 25 (by decide) rfl (by have h9 : mlen 25 = 5 := rfl; omega) (pe hS_2 rfl) dX6_baits_21 (fun r_21 => ?_)
  refine z_ishl C dX6_baits_22 (zshl1 (by omega)) ?_
  refine z_istore C dX6_baits_23 hl (by decide) rfl (fun ls hl => ?_)
  have hl : lv_has ls 10 [(5, _), (4, _), (0, _), (1, _), (2, _), (3, _)] := hl
  refine z_aload_n C dX6_baits_25 hl 2 rfl ?_
  refine z_lconst (v := 0) C dX6_baits_26 rfl ?_
  refine m_putl C hK hP hS 47 (by decide) q1796 rfl rfl (by omega) dX6_baits_27 (fun S_27 eS_27 H locs hP hS => ?_)
  have hS_27 := per_s rfl hS_2 eS_27
  refine z_iconst C dX6_baits_30 ?_
  refine z_istore C dX6_baits_31 hl (by decide) rfl (fun ls hl => ?_)
  have hl : lv_has ls 10 [(6, _), (5, _), (4, _), (0, _), (1, _), (2, _), (3, _)] := hl
  have hL_33 : ∀ (fuel : Nat) (k : Nat) (S1 : zS) (H : Heap) (locs : List Loc) (ls : Array Slot), nC P - k < fuel → (k ≤ nC P) → (∀ s : Nat, s < k → S1 46 (s : Int) = if s = 0 then 1000000000000 else 0) → (S1 47 0 = 0) → (Laid P sm S1) → (Fr [33, 34, 35, 44, 45, 46, 47] S S1) → per S1 = P → MP g h ad S1 H → va_S (MA h ad) s.heap H locs → lv_has ls 10 [(0, .ref h), (1, .int (iZ pl)), (2, .int (iZ sm)), (3, .int (iZ hn)), (4, .int (iZ ((nS P : Nat) : Int))), (5, .int (iZ ((nC P : Nat) : Int))), (6, .int (iZ (k : Int)))] → W prg l env (k2_rm 4 95) s mid ([.ref h, .int (iZ pl), .int (iZ sm), .int (iZ hn)] : List Value).toArray blw mth cod H locs 0 0 Q (F0 mid 33 ls []) := by
    intro fuel
    induction fuel with
    | zero => intro k S1  H locs ls hm; exact absurd hm (Nat.not_lt_zero _)
    | succ fuel hL_33 =>
      intro k S1  H locs ls hm ik iB i47 iL iF hPS_33 hP  hS hl
      refine z_iload C dX6_baits_33 hl 6 rfl ?_
      refine z_iload C dX6_baits_35 hl 5 rfl ?_
      refine z_icmp_ge C 65 dX6_baits_37 (by decide) (by omega) (by omega) (fun c_37 => ?_) (fun c_37 => ?_)
      · refine z_iconst C dX6_baits_65 ?_
        refine z_istore C dX6_baits_66 hl (by decide) rfl (fun ls hl => ?_)
        have hl : lv_has ls 10 [(6, _), (0, _), (1, _), (2, _), (3, _), (4, _), (5, _)] := hl
        have hL_68 : ∀ (fuel : Nat) (n : Nat) (S2 : zS) (H : Heap) (locs : List Loc) (ls : Array Slot), (P 18 0).toNat - n < fuel → ((n : Int) ≤ P 18 0) → (∀ c : Nat, c < nC P → S2 46 (c : Int) = bN P sm hn n c) → (S2 47 0 = bL P sm hn n) → (Laid P sm S2) → (Fr [33, 34, 35, 44, 45, 46, 47] S S2) → per S2 = P → MP g h ad S2 H → va_S (MA h ad) s.heap H locs → lv_has ls 10 [(0, .ref h), (1, .int (iZ pl)), (2, .int (iZ sm)), (3, .int (iZ hn)), (4, .int (iZ ((nS P : Nat) : Int))), (5, .int (iZ ((nC P : Nat) : Int))), (6, .int (iZ (n : Int)))] → W prg l env (k2_rm 4 95) s mid ([.ref h, .int (iZ pl), .int (iZ sm), .int (iZ hn)] : List Value).toArray blw mth cod H locs 0 0 Q (F0 mid 68 ls []) := by
          intro fuel
          induction fuel with
          | zero => intro n S2  H locs ls hm; exact absurd hm (Nat.not_lt_zero _)
          | succ fuel hL_68 =>
            intro n S2  H locs ls hm jn jB j47 jL jF hPS_68 hP  hS hl
            have o1 := bN_ok hW hs.1 hh n
            have o2 := bT_ok hW hs.1 hh o1 (P 25 0).toNat (by omega)
            refine z_iload C dX6_baits_68 hl 6 rfl ?_
            refine z_aload_n C dX6_baits_70 hl 0 rfl ?_
            refine m_geta C hK hP 18 (by decide) q1767 rfl (by decide) dX6_baits_71 ?_
            refine z_iconst C dX6_baits_74 ?_
            refine m_iald C hK hP 18 (by decide) rfl (by have h9 : mlen 18 = 5 := rfl; omega) (pe hPS_68 rfl) dX6_baits_75 (fun r_75 => ?_)
            refine z_icmp_ge C 329 dX6_baits_76 (by decide) (by omega) (by omega) (fun c_76 => ?_) (fun c_76 => ?_)
            · exact m_mret_v C hQ hret hlk hS hP ⟨by rw [show (P 18 0).toNat = n by omega]; exact j47, fun c hc => by rw [show (P 18 0).toNat = n by omega]; exact jB c hc, jF⟩ dX6_baits_329
            · refine z_iconst C dX6_baits_79 ?_
              refine z_istore C dX6_baits_80 hl (by decide) rfl (fun ls hl => ?_)
              have hl : lv_has ls 10 [(7, _), (0, _), (1, _), (2, _), (3, _), (4, _), (5, _), (6, _)] := hl
              have hL_82 : ∀ (fuel : Nat) (k : Nat) (S3 : zS) (H : Heap) (locs : List Loc) (ls : Array Slot), nS P - k < fuel → (k ≤ nS P) → (TIs P 44 (bN P sm hn n) k 0 S3) → (∀ c : Nat, c < nC P → S3 46 (c : Int) = bN P sm hn n c) → (S3 47 0 = bL P sm hn n) → (Laid P sm S3) → (Fr [33, 34, 35, 44, 45, 46, 47] S S3) → per S3 = P → MP g h ad S3 H → va_S (MA h ad) s.heap H locs → lv_has ls 10 [(0, .ref h), (1, .int (iZ pl)), (2, .int (iZ sm)), (3, .int (iZ hn)), (4, .int (iZ ((nS P : Nat) : Int))), (5, .int (iZ ((nC P : Nat) : Int))), (6, .int (iZ (n : Int))), (7, .int (iZ (k : Int)))] → W prg l env (k2_rm 4 95) s mid ([.ref h, .int (iZ pl), .int (iZ sm), .int (iZ hn)] : List Value).toArray blw mth cod H locs 0 0 Q (F0 mid 82 ls []) := by
                intro fuel
                induction fuel with
                | zero => intro k S3  H locs ls hm; exact absurd hm (Nat.not_lt_zero _)
                | succ fuel hL_82 =>
                  intro k S3  H locs ls hm ak aI aB a47 aL aF hPS_82 hP  hS hl
                  refine z_iload C dX6_baits_82 hl 7 rfl ?_
                  refine z_iload C dX6_baits_84 hl 4 rfl ?_
                  refine z_icmp_ge C 139 dX6_baits_86 (by decide) (by omega) (by omega) (fun c_86 => ?_) (fun c_86 => ?_)
                  · refine z_iconst C dX6_baits_139 ?_
                    refine z_istore C dX6_baits_140 hl (by decide) rfl (fun ls hl => ?_)
                    have hl : lv_has ls 10 [(7, _), (0, _), (1, _), (2, _), (3, _), (4, _), (5, _), (6, _)] := hl
                    have hL_142 : ∀ (fuel : Nat) (T : Nat) (S5 : zS) (H : Heap) (locs : List Loc) (ls : Array Slot), (P 25 0).toNat - T < fuel → ((T : Int) ≤ P 25 0) → (BIs P (bT P sm hn (bN P sm hn n) T) S5) → (S5 47 0 = bL P sm hn n) → (Laid P sm S5) → (Fr [33, 34, 35, 44, 45, 46, 47] S S5) → per S5 = P → MP g h ad S5 H → va_S (MA h ad) s.heap H locs → lv_has ls 10 [(0, .ref h), (1, .int (iZ pl)), (2, .int (iZ sm)), (3, .int (iZ hn)), (4, .int (iZ ((nS P : Nat) : Int))), (5, .int (iZ ((nC P : Nat) : Int))), (6, .int (iZ (n : Int))), (7, .int (iZ (T : Int)))] → W prg l env (k2_rm 4 95) s mid ([.ref h, .int (iZ pl), .int (iZ sm), .int (iZ hn)] : List Value).toArray blw mth cod H locs 0 0 Q (F0 mid 142 ls []) := by
                      intro fuel
                      induction fuel with
                      | zero => intro T S5  H locs ls hm; exact absurd hm (Nat.not_lt_zero _)
                      | succ fuel hL_142 =>
                        intro T S5  H locs ls hm cT cI c47 cL cF hPS_142 hP  hS hl
                        refine z_iload C dX6_baits_142 hl 7 rfl ?_
                        refine z_aload_n C dX6_baits_144 hl 0 rfl ?_
                        refine m_geta C hK hP 25 (by decide) q1774 rfl (by decide) dX6_baits_145 ?_
                        refine z_iconst C dX6_baits_148 ?_
                        refine m_iald C hK hP 25 (by decide) rfl (by have h9 : mlen 25 = 5 := rfl; omega) (pe hPS_142 rfl) dX6_baits_149 (fun r_149 => ?_)
                        refine z_icmp_ge C 166 dX6_baits_150 (by decide) (by omega) (by omega) (fun c_150 => ?_) (fun c_150 => ?_)
                        · refine z_iconst C dX6_baits_166 ?_
                          refine z_istore C dX6_baits_167 hl (by decide) rfl (fun ls hl => ?_)
                          have hl : lv_has ls 10 [(7, _), (0, _), (1, _), (2, _), (3, _), (4, _), (5, _), (6, _)] := hl
                          have hL_169 : ∀ (fuel : Nat) (k : Nat) (S6 : zS) (H : Heap) (locs : List Loc) (ls : Array Slot), nC P - k < fuel → (k ≤ nC P) → (∀ s : Nat, s < k → S6 46 (s : Int) = 0) → (BIs P (bT P sm hn (bN P sm hn n) (P 25 0).toNat) S6) → (S6 47 0 = bL P sm hn n) → (Laid P sm S6) → (Fr [33, 34, 35, 44, 45, 46, 47] S S6) → per S6 = P → MP g h ad S6 H → va_S (MA h ad) s.heap H locs → lv_has ls 10 [(0, .ref h), (1, .int (iZ pl)), (2, .int (iZ sm)), (3, .int (iZ hn)), (4, .int (iZ ((nS P : Nat) : Int))), (5, .int (iZ ((nC P : Nat) : Int))), (6, .int (iZ (n : Int))), (7, .int (iZ (k : Int)))] → W prg l env (k2_rm 4 95) s mid ([.ref h, .int (iZ pl), .int (iZ sm), .int (iZ hn)] : List Value).toArray blw mth cod H locs 0 0 Q (F0 mid 169 ls []) := by
                            intro fuel
                            induction fuel with
                            | zero => intro k S6  H locs ls hm; exact absurd hm (Nat.not_lt_zero _)
                            | succ fuel hL_169 =>
                              intro k S6  H locs ls hm dk dZ dI d47 dL dF hPS_169 hP  hS hl
                              refine z_iload C dX6_baits_169 hl 7 rfl ?_
                              refine z_iload C dX6_baits_171 hl 5 rfl ?_
                              refine z_icmp_ge C 190 dX6_baits_173 (by decide) (by omega) (by omega) (fun c_173 => ?_) (fun c_173 => ?_)
                              · refine z_iconst C dX6_baits_190 ?_
                                refine z_istore C dX6_baits_191 hl (by decide) rfl (fun ls hl => ?_)
                                have hl : lv_has ls 10 [(7, _), (0, _), (1, _), (2, _), (3, _), (4, _), (5, _), (6, _)] := hl
                                have hL_193 : ∀ (fuel : Nat) (k : Nat) (S7 : zS) (H : Heap) (locs : List Loc) (ls : Array Slot), nS P - k < fuel → (k ≤ nS P) → (YIs P (bT P sm hn (bN P sm hn n) (P 25 0).toNat) k 0 S7) → (S7 47 0 = bL P sm hn n + zsm (fun x => bT P sm hn (bN P sm hn n) (P 25 0).toNat x * wOf P (x / 64)) (64 * k)) → (BIs P (bT P sm hn (bN P sm hn n) (P 25 0).toNat) S7) → (Laid P sm S7) → (Fr [33, 34, 35, 44, 45, 46, 47] S S7) → per S7 = P → MP g h ad S7 H → va_S (MA h ad) s.heap H locs → lv_has ls 10 [(0, .ref h), (1, .int (iZ pl)), (2, .int (iZ sm)), (3, .int (iZ hn)), (4, .int (iZ ((nS P : Nat) : Int))), (5, .int (iZ ((nC P : Nat) : Int))), (6, .int (iZ (n : Int))), (7, .int (iZ (k : Int)))] → W prg l env (k2_rm 4 95) s mid ([.ref h, .int (iZ pl), .int (iZ sm), .int (iZ hn)] : List Value).toArray blw mth cod H locs 0 0 Q (F0 mid 193 ls []) := by
                                  intro fuel
                                  induction fuel with
                                  | zero => intro k S7  H locs ls hm; exact absurd hm (Nat.not_lt_zero _)
                                  | succ fuel hL_193 =>
                                    intro k S7  H locs ls hm ek eB e47 eI eL eF hPS_193 hP  hS hl
                                    refine z_iload C dX6_baits_193 hl 7 rfl ?_
                                    refine z_iload C dX6_baits_195 hl 4 rfl ?_
                                    refine z_icmp_ge C 323 dX6_baits_197 (by decide) (by omega) (by omega) (fun c_197 => ?_) (fun c_197 => ?_)
                                    · refine z_iinc C dX6_baits_323 hl (by decide) 6 rfl rfl (fun ls hl => ?_)
                                      have hl : lv_has ls 10 [(6, _), (0, _), (1, _), (2, _), (3, _), (4, _), (5, _), (7, _)] := hl
                                      refine z_goto C 68 dX6_baits_326 (by decide) ?_
                                      exact hL_68 (n + 1) _ _ _ ls (by omega) (by omega) (fun c hc => by show S7 46 (c : Int) = (if c < 64 then zsm (fun g => bT P sm hn (bN P sm hn n) (P 25 0).toNat (64 * g + c)) (nS P) else 0); have := eB c hc; rw [if_neg (by omega)] at this; rw [if_pos (by omega), show nS P = k by omega]; exact this) (by rw [bL, show nS P = k by omega]; exact e47) eL eF hPS_193 hP hS (lv_sub hl [1, 2, 3, 4, 5, 6, 0] rfl)
                                    · refine z_iconst C dX6_baits_200 ?_
                                      refine z_istore C dX6_baits_201 hl (by decide) rfl (fun ls hl => ?_)
                                      have hl : lv_has ls 10 [(8, _), (0, _), (1, _), (2, _), (3, _), (4, _), (5, _), (6, _), (7, _)] := hl
                                      refine z_iconst C dX6_baits_203 ?_
                                      refine z_istore C dX6_baits_204 hl (by decide) rfl (fun ls hl => ?_)
                                      have hl : lv_has ls 10 [(9, _), (8, _), (0, _), (1, _), (2, _), (3, _), (4, _), (5, _), (6, _), (7, _)] := hl
                                      have hL_206 : ∀ (fuel : Nat) (b : Nat) (w : Int) (H : Heap) (locs : List Loc) (ls : Array Slot), (P 23 0).toNat - b < fuel → ((b : Int) ≤ P 23 0) → (w = zsm (fun b => if k / 2 ^ b % 2 = 1 then P 24 (5 * (10 * 0 + (b : Int))) else 0) b) → MP g h ad S7 H → va_S (MA h ad) s.heap H locs → lv_has ls 10 [(0, .ref h), (1, .int (iZ pl)), (2, .int (iZ sm)), (3, .int (iZ hn)), (4, .int (iZ ((nS P : Nat) : Int))), (5, .int (iZ ((nC P : Nat) : Int))), (6, .int (iZ (n : Int))), (7, .int (iZ (k : Int))), (8, .int (iZ w)), (9, .int (iZ (b : Int)))] → W prg l env (k2_rm 4 95) s mid ([.ref h, .int (iZ pl), .int (iZ sm), .int (iZ hn)] : List Value).toArray blw mth cod H locs 0 0 Q (F0 mid 206 ls []) := by
                                        intro fuel
                                        induction fuel with
                                        | zero => intro b w  H locs ls hm; exact absurd hm (Nat.not_lt_zero _)
                                        | succ fuel hL_206 =>
                                          intro b w  H locs ls hm fb fw hP  hS hl
                                          refine z_iload C dX6_baits_206 hl 9 rfl ?_
                                          refine z_aload_n C dX6_baits_208 hl 0 rfl ?_
                                          refine m_geta C hK hP 23 (by decide) q1772 rfl (by decide) dX6_baits_209 ?_
                                          refine z_iconst C dX6_baits_212 ?_
                                          refine m_iald C hK hP 23 (by decide) rfl (by have h9 : mlen 23 = 5 := rfl; omega) (pe hPS_193 rfl) dX6_baits_213 (fun r_213 => ?_)
                                          refine z_icmp_ge C 254 dX6_baits_214 (by decide) (by omega) (by omega) (fun c_214 => ?_) (fun c_214 => ?_)
                                          · refine z_iconst C dX6_baits_254 ?_
                                            refine z_istore C dX6_baits_255 hl (by decide) rfl (fun ls hl => ?_)
                                            have hl : lv_has ls 10 [(9, _), (0, _), (1, _), (2, _), (3, _), (4, _), (5, _), (6, _), (7, _), (8, _)] := hl
                                            have hL_257 : ∀ (fuel : Nat) (m : Nat) (S8 : zS) (H : Heap) (locs : List Loc) (ls : Array Slot), nC P - m < fuel → (m ≤ nC P) → (YIs P (bT P sm hn (bN P sm hn n) (P 25 0).toNat) k m S8) → (S8 47 0 = bL P sm hn n + zsm (fun x => bT P sm hn (bN P sm hn n) (P 25 0).toNat x * wOf P (x / 64)) (64 * k + m)) → (BIs P (bT P sm hn (bN P sm hn n) (P 25 0).toNat) S8) → (Laid P sm S8) → (Fr [33, 34, 35, 44, 45, 46, 47] S S8) → per S8 = P → MP g h ad S8 H → va_S (MA h ad) s.heap H locs → lv_has ls 10 [(0, .ref h), (1, .int (iZ pl)), (2, .int (iZ sm)), (3, .int (iZ hn)), (4, .int (iZ ((nS P : Nat) : Int))), (5, .int (iZ ((nC P : Nat) : Int))), (6, .int (iZ (n : Int))), (7, .int (iZ (k : Int))), (8, .int (iZ (wOf P k))), (9, .int (iZ (m : Int)))] → W prg l env (k2_rm 4 95) s mid ([.ref h, .int (iZ pl), .int (iZ sm), .int (iZ hn)] : List Value).toArray blw mth cod H locs 0 0 Q (F0 mid 257 ls []) := by
                                              intro fuel
                                              induction fuel with
                                              | zero => intro m S8  H locs ls hm; exact absurd hm (Nat.not_lt_zero _)
                                              | succ fuel hL_257 =>
                                                intro m S8  H locs ls hm gm gB g47 gI gL gF hPS_257 hP  hS hl
                                                refine z_iload C dX6_baits_257 hl 9 rfl ?_
                                                refine z_iload C dX6_baits_259 hl 5 rfl ?_
                                                refine z_icmp_ge C 317 dX6_baits_261 (by decide) (by omega) (by omega) (fun c_261 => ?_) (fun c_261 => ?_)
                                                · refine z_iinc C dX6_baits_317 hl (by decide) 7 rfl rfl (fun ls hl => ?_)
                                                  have hl : lv_has ls 10 [(7, _), (0, _), (1, _), (2, _), (3, _), (4, _), (5, _), (6, _), (8, _), (9, _)] := hl
                                                  refine z_goto C 193 dX6_baits_320 (by decide) ?_
                                                  exact hL_193 (k + 1) _ _ _ ls (by omega) (by omega) (gB.row (by omega)) (by rw [bLrow o2 (m := m) (by omega) (by omega)]; exact g47) gI gL gF hPS_257 hP hS (lv_sub hl [1, 2, 3, 4, 5, 6, 7, 0] rfl)
                                                · have p1 := gI k m (by omega) (by omega)
                                                  have p2 := bLt_in hW o2 (n := 64 * k + m) (by omega)
                                                  have p3 := bLt_in hW o2 (n := 64 * k + m + 1) (by omega)
                                                  have p4 := bL_in hW hs.1 hh n
                                                  have p5 := gB m (by omega)
                                                  rw [if_neg (by omega)] at p5
                                                  have p6 := wOf_in hW k
                                                  have p7 := bcol_in o2 m k
                                                  have p9 := o2.in (64 * k + m)
                                                  have p8 : zsm (fun x => bT P sm hn (bN P sm hn n) (P 25 0).toNat x * wOf P (x / 64)) (64 * k + m + 1) = zsm (fun x => bT P sm hn (bN P sm hn n) (P 25 0).toNat x * wOf P (x / 64)) (64 * k + m) + bT P sm hn (bN P sm hn n) (P 25 0).toNat (64 * k + m) * wOf P k := by rw [zsm_s, show (64 * k + m) / 64 = k by omega]
                                                  refine z_aload_n C dX6_baits_264 hl 0 rfl ?_
                                                  refine m_geta C hK hP 46 (by decide) q1795 rfl (by decide) dX6_baits_265 ?_
                                                  refine z_iload C dX6_baits_268 hl 9 rfl ?_
                                                  refine z_dup2_11 C dX6_baits_270 rfl rfl ?_
                                                  refine m_lald C hK hP 46 (by decide) rfl (by have h9 : mlen 46 = 64 := rfl; omega) rfl dX6_baits_271 (fun r_271 => ?_)
                                                  refine z_aload_n C dX6_baits_272 hl 0 rfl ?_
                                                  refine m_geta C hK hP 44 (by decide) q1793 rfl (by decide) dX6_baits_273 ?_
                                                  refine z_iload C dX6_baits_276 hl 7 rfl ?_
                                                  refine z_iload C dX6_baits_278 hl 9 rfl ?_
                                                  refine s_pi C vX6_481 (mcX6_state l _ _) hS hl ⟨Nat.le_of_ble_eq_true rfl, Nat.le_of_ble_eq_true rfl⟩ ⟨rfl, rfl⟩ rfl rfl (Nat.le_of_ble_eq_true rfl) dX6_baits_280 ⟨Nat.zero_le _, Nat.zero_le _⟩ (fun locs hS => ?_)
                                                  refine m_lald C hK hP 44 (by decide) rfl (by have h9 : mlen 44 = 131072 := rfl; omega) rfl dX6_baits_283 (fun r_283 => ?_)
                                                  refine z_ladd C dX6_baits_284 ?_
                                                  refine m_last C hK hP hS 46 (by decide) rfl (by have h9 : mlen 46 = 64 := rfl; omega) (by omega) dX6_baits_285 (fun S_285 eS_285 H locs hP hS => ?_)
                                                  have hS_285 := per_s rfl hPS_257 eS_285
                                                  have k1 : S_285 47 0 = S8 47 0 := by rw [eS_285, zup_k _ _ _ (by decide)]
                                                  have k2 : S_285 44 (64 * (k : Int) + (m : Int)) = S8 44 (64 * (k : Int) + (m : Int)) := by rw [eS_285, zup_k _ _ _ (by decide)]
                                                  refine z_aload_n C dX6_baits_286 hl 0 rfl ?_
                                                  refine z_dup C dX6_baits_287 rfl ?_
                                                  refine m_getl C hK hP 47 (by decide) q1796 rfl rfl rfl dX6_baits_288 (fun r_288 => ?_)
                                                  refine z_aload_n C dX6_baits_291 hl 0 rfl ?_
                                                  refine m_geta C hK hP 44 (by decide) q1793 rfl (by decide) dX6_baits_292 ?_
                                                  refine z_iload C dX6_baits_295 hl 7 rfl ?_
                                                  refine z_iload C dX6_baits_297 hl 9 rfl ?_
                                                  refine s_pi C vX6_481 (mcX6_state l _ _) hS hl ⟨Nat.le_of_ble_eq_true rfl, Nat.le_of_ble_eq_true rfl⟩ ⟨rfl, rfl⟩ rfl rfl (Nat.le_of_ble_eq_true rfl) dX6_baits_299 ⟨Nat.zero_le _, Nat.zero_le _⟩ (fun locs hS => ?_)
                                                  refine m_lald C hK hP 44 (by decide) rfl (by have h9 : mlen 44 = 131072 := rfl; omega) rfl dX6_baits_302 (fun r_302 => ?_)
                                                  refine z_iload C dX6_baits_303 hl 8 rfl ?_
                                                  refine z_i2l C dX6_baits_305 (by omega) ?_
                                                  refine z_lmul C dX6_baits_306 ?_
                                                  refine z_ladd C dX6_baits_307 ?_
                                                  refine m_putl C hK hP hS 47 (by decide) q1796 rfl rfl (by rw [k1, k2, g47, p1]; omega) dX6_baits_308 (fun S_308 eS_308 H locs hP hS => ?_)
                                                  have hS_308 := per_s rfl hS_285 eS_308
                                                  refine z_iinc C dX6_baits_311 hl (by decide) 9 rfl rfl (fun ls hl => ?_)
                                                  have hl : lv_has ls 10 [(9, _), (0, _), (1, _), (2, _), (3, _), (4, _), (5, _), (6, _), (7, _), (8, _)] := hl
                                                  refine z_goto C 257 dX6_baits_314 (by decide) ?_
                                                  exact hL_257 (m + 1) _ _ _ ls (by omega) (by omega) ((gB.up (by omega) (by rw [← p1]; exact eS_285)).mv (Fr.up Fr.rf eS_308 (by decide : 47 ∈ [47])) (by decide)) (by rw [eS_308, zup_s, k1, k2, g47, p1]; show _ = _ + zsm _ (64 * k + m + 1); rw [p8]; omega) (gI.mv (Fr.up (Fr.up Fr.rf eS_285 (by decide : 46 ∈ [46, 47])) eS_308 (by decide)) (by decide)) (gL.mv (Fr.up (Fr.up Fr.rf eS_285 (by decide : 46 ∈ [46, 47])) eS_308 (by decide)) (by decide) (by decide) (by decide)) (Fr.up (Fr.up gF eS_285 (by decide)) eS_308 (by decide)) hS_308 hP hS (lv_sub hl [1, 2, 3, 4, 5, 6, 7, 8, 9, 0] rfl)
                                            obtain rfl : w = wOf P k := by rw [fw]; unfold wOf; rw [show (P 23 0).toNat = b by omega]
                                            exact hL_257 _ 0 _ _ _ ls (Nat.lt_succ_self _) (by omega) eB e47 eI eL eF hPS_193 hP hS (lv_sub hl [1, 2, 3, 4, 5, 6, 7, 8, 9, 0] rfl)
                                          · have w9 := (hW.bike (b := b) ⟨by omega, by omega⟩).1
                                            refine z_iload C dX6_baits_217 hl 8 rfl ?_
                                            refine z_iload C dX6_baits_219 hl 7 rfl ?_
                                            refine z_iload C dX6_baits_221 hl 9 rfl ?_
                                            refine z_ishr C dX6_baits_223 (iZ_shr (by omega) (by omega)) ?_
                                            refine z_iconst C dX6_baits_224 ?_
                                            refine z_iand C dX6_baits_225 (iZ_and1 _) ?_
                                            refine z_iconst C dX6_baits_226 ?_
                                            refine z_icmp_ne C 244 dX6_baits_227 (by decide) (by omega) (by omega) (fun c_227 => ?_) (fun c_227 => ?_)
                                            · refine z_iconst C dX6_baits_244 ?_
                                              refine z_iadd C dX6_baits_245 ?_
                                              refine z_istore C dX6_baits_246 hl (by decide) rfl (fun ls hl => ?_)
                                              have hl : lv_has ls 10 [(8, _), (0, _), (1, _), (2, _), (3, _), (4, _), (5, _), (6, _), (7, _), (9, _)] := hl
                                              refine z_iinc C dX6_baits_248 hl (by decide) 9 rfl rfl (fun ls hl => ?_)
                                              have hl : lv_has ls 10 [(9, _), (8, _), (0, _), (1, _), (2, _), (3, _), (4, _), (5, _), (6, _), (7, _)] := hl
                                              refine z_goto C 206 dX6_baits_251 (by decide) ?_
                                              exact hL_206 (b + 1) _ _ _ ls (by omega) (by omega) (by rw [zsm_s, if_neg (fun z => c_227 (natbit.mpr z)), ← fw]) hP hS (lv_sub hl [2, 3, 4, 5, 6, 7, 8, 9, 1, 0] rfl)
                                            · refine z_aload_n C dX6_baits_230 hl 0 rfl ?_
                                              refine m_geta C hK hP 24 (by decide) q1773 rfl (by decide) dX6_baits_231 ?_
                                              refine z_iconst C dX6_baits_234 ?_
                                              refine z_iload C dX6_baits_235 hl 9 rfl ?_
                                              refine s_pi C vX6_323 (mcX6_at l _ _) hS hl ⟨Nat.le_of_ble_eq_true rfl, Nat.le_of_ble_eq_true rfl⟩ ⟨rfl, rfl⟩ rfl rfl (Nat.le_of_ble_eq_true rfl) dX6_baits_237 ⟨Nat.zero_le _, Nat.zero_le _⟩ (fun locs hS => ?_)
                                              refine m_iald C hK hP 24 (by decide) rfl (by have h9 : mlen 24 = 250 := rfl; omega) (pe hPS_193 rfl) dX6_baits_240 (fun r_240 => ?_)
                                              refine z_goto C 245 dX6_baits_241 (by decide) ?_
                                              refine z_iadd C dX6_baits_245 ?_
                                              refine z_istore C dX6_baits_246 hl (by decide) rfl (fun ls hl => ?_)
                                              have hl : lv_has ls 10 [(8, _), (0, _), (1, _), (2, _), (3, _), (4, _), (5, _), (6, _), (7, _), (9, _)] := hl
                                              refine z_iinc C dX6_baits_248 hl (by decide) 9 rfl rfl (fun ls hl => ?_)
                                              have hl : lv_has ls 10 [(9, _), (8, _), (0, _), (1, _), (2, _), (3, _), (4, _), (5, _), (6, _), (7, _)] := hl
                                              refine z_goto C 206 dX6_baits_251 (by decide) ?_
                                              exact hL_206 (b + 1) _ _ _ ls (by omega) (by omega) (by rw [zsm_s, if_pos (natbit.mp c_227), ← fw]) hP hS (lv_sub hl [2, 3, 4, 5, 6, 7, 8, 9, 1, 0] rfl)
                                      exact hL_206 _ 0 0 _ _ ls (Nat.lt_succ_self _) (by omega) rfl hP hS (lv_sub hl [2, 3, 4, 5, 6, 7, 8, 9, 1, 0] rfl)
                                exact hL_193 _ 0 _ _ _ ls (Nat.lt_succ_self _) (by omega) (fun c hc => by rw [if_neg (by omega)]; exact dZ c (by omega)) (by rw [d47]; show _ = _ + 0; omega) dI dL dF hPS_169 hP hS (lv_sub hl [1, 2, 3, 4, 5, 6, 7, 0] rfl)
                              · refine z_aload_n C dX6_baits_176 hl 0 rfl ?_
                                refine m_geta C hK hP 46 (by decide) q1795 rfl (by decide) dX6_baits_177 ?_
                                refine z_iload C dX6_baits_180 hl 7 rfl ?_
                                refine z_lconst (v := 0) C dX6_baits_182 rfl ?_
                                refine m_last C hK hP hS 46 (by decide) rfl (by have h9 : mlen 46 = 64 := rfl; omega) (by omega) dX6_baits_183 (fun S_183 eS_183 H locs hP hS => ?_)
                                have hS_183 := per_s rfl hPS_169 eS_183
                                refine z_iinc C dX6_baits_184 hl (by decide) 7 rfl rfl (fun ls hl => ?_)
                                have hl : lv_has ls 10 [(7, _), (0, _), (1, _), (2, _), (3, _), (4, _), (5, _), (6, _)] := hl
                                refine z_goto C 169 dX6_baits_187 (by decide) ?_
                                exact hL_169 (k + 1) _ _ _ ls (by omega) (by omega) (zfill dZ eS_183 rfl) (dI.mv (Fr.up Fr.rf eS_183 (by decide : 46 ∈ [46])) (by decide)) (by rw [eS_183, zup_k _ _ _ (by decide)]; exact d47) (Laid.mv dL (Fr.up Fr.rf eS_183 (by decide : 46 ∈ [46])) (by decide) (by decide) (by decide)) (Fr.up dF eS_183 (by decide)) hS_183 hP hS (lv_sub hl [1, 2, 3, 4, 5, 6, 7, 0] rfl)
                          exact hL_169 _ 0 _ _ _ ls (Nat.lt_succ_self _) (by omega) (fun s hs => absurd hs (Nat.not_lt_zero _)) (by rw [show (P 25 0).toNat = T by omega]; exact cI) c47 cL cF hPS_142 hP hS (lv_sub hl [1, 2, 3, 4, 5, 6, 7, 0] rfl)
                        · refine z_aload_n C dX6_baits_153 hl 0 rfl ?_
                          refine z_iload C dX6_baits_154 hl 7 rfl ?_
                          refine z_iload_n C dX6_baits_156 hl 3 rfl ?_
                          refine m_mv C vX6_487 (mcX6_thiefGoes l g h ad _ _ hPS_142 sm T hn _ (by assumption) hs.1 (by omega) hh (bT_ok hW hs.1 hh o1 T (by omega)) cL cI) hS hl ⟨Nat.le_of_ble_eq_true rfl, Nat.le_of_ble_eq_true rfl⟩ ⟨rfl, rfl⟩ hK hP (fun _ h9 => h9) rfl rfl (Nat.le_of_ble_eq_true rfl) dX6_baits_157 ⟨Nat.zero_le _, Nat.zero_le _⟩ (fun S_157 H locs pS_157 hP hS => ?_)
                          have hS_157 : per S_157 = P := (pS_157.2.pr rfl hPS_142)
                          refine z_iinc C dX6_baits_160 hl (by decide) 7 rfl rfl (fun ls hl => ?_)
                          have hl : lv_has ls 10 [(7, _), (0, _), (1, _), (2, _), (3, _), (4, _), (5, _), (6, _)] := hl
                          refine z_goto C 142 dX6_baits_163 (by decide) ?_
                          exact hL_142 (T + 1) _ _ _ ls (by omega) (by omega) pS_157.1 (by rw [pS_157.2 47 (by decide)]; exact c47) (cL.mv pS_157.2 (by decide) (by decide) (by decide)) ((cF.le (by decide)).tr (pS_157.2.le (by decide))) hS_157 hP hS (lv_sub hl [1, 2, 3, 4, 5, 6, 7, 0] rfl)
                    exact hL_142 _ 0 _ _ _ ls (Nat.lt_succ_self _) (by omega) (aI.all (by omega)) a47 aL aF hPS_82 hP hS (lv_sub hl [1, 2, 3, 4, 5, 6, 7, 0] rfl)
                  · refine z_iconst C dX6_baits_89 ?_
                    refine z_istore C dX6_baits_90 hl (by decide) rfl (fun ls hl => ?_)
                    have hl : lv_has ls 10 [(8, _), (0, _), (1, _), (2, _), (3, _), (4, _), (5, _), (6, _), (7, _)] := hl
                    have hL_92 : ∀ (fuel : Nat) (m : Nat) (S4 : zS) (H : Heap) (locs : List Loc) (ls : Array Slot), nC P - m < fuel → (m ≤ nC P) → (TIs P 44 (bN P sm hn n) k m S4) → (∀ c : Nat, c < nC P → S4 46 (c : Int) = bN P sm hn n c) → (S4 47 0 = bL P sm hn n) → (Laid P sm S4) → (Fr [33, 34, 35, 44, 45, 46, 47] S S4) → per S4 = P → MP g h ad S4 H → va_S (MA h ad) s.heap H locs → lv_has ls 10 [(0, .ref h), (1, .int (iZ pl)), (2, .int (iZ sm)), (3, .int (iZ hn)), (4, .int (iZ ((nS P : Nat) : Int))), (5, .int (iZ ((nC P : Nat) : Int))), (6, .int (iZ (n : Int))), (7, .int (iZ (k : Int))), (8, .int (iZ (m : Int)))] → W prg l env (k2_rm 4 95) s mid ([.ref h, .int (iZ pl), .int (iZ sm), .int (iZ hn)] : List Value).toArray blw mth cod H locs 0 0 Q (F0 mid 92 ls []) := by
                      intro fuel
                      induction fuel with
                      | zero => intro m S4  H locs ls hm; exact absurd hm (Nat.not_lt_zero _)
                      | succ fuel hL_92 =>
                        intro m S4  H locs ls hm bm bI bB b47 bL bF hPS_92 hP  hS hl
                        refine z_iload C dX6_baits_92 hl 8 rfl ?_
                        refine z_iload C dX6_baits_94 hl 5 rfl ?_
                        refine z_icmp_ge C 133 dX6_baits_96 (by decide) (by omega) (by omega) (fun c_96 => ?_) (fun c_96 => ?_)
                        · refine z_iinc C dX6_baits_133 hl (by decide) 7 rfl rfl (fun ls hl => ?_)
                          have hl : lv_has ls 10 [(7, _), (0, _), (1, _), (2, _), (3, _), (4, _), (5, _), (6, _), (8, _)] := hl
                          refine z_goto C 82 dX6_baits_136 (by decide) ?_
                          exact hL_82 (k + 1) _ _ _ ls (by omega) (by omega) (bI.row (by omega)) bB b47 bL bF hPS_92 hP hS (lv_sub hl [1, 2, 3, 4, 5, 6, 7, 0] rfl)
                        · have p1 := bB m (by omega)
                          have p2 := o1.in m
                          refine z_aload_n C dX6_baits_99 hl 0 rfl ?_
                          refine m_geta C hK hP 44 (by decide) q1793 rfl (by decide) dX6_baits_100 ?_
                          refine z_iload C dX6_baits_103 hl 7 rfl ?_
                          refine z_iload C dX6_baits_105 hl 8 rfl ?_
                          refine s_pi C vX6_481 (mcX6_state l _ _) hS hl ⟨Nat.le_of_ble_eq_true rfl, Nat.le_of_ble_eq_true rfl⟩ ⟨rfl, rfl⟩ rfl rfl (Nat.le_of_ble_eq_true rfl) dX6_baits_107 ⟨Nat.zero_le _, Nat.zero_le _⟩ (fun locs hS => ?_)
                          refine z_iload C dX6_baits_110 hl 7 rfl ?_
                          refine z_if_ne C 125 dX6_baits_112 (by decide) (by omega) (fun c_112 => ?_) (fun c_112 => ?_)
                          · refine z_lconst (v := 0) C dX6_baits_125 rfl ?_
                            refine m_last C hK hP hS 44 (by decide) rfl (by have h9 : mlen 44 = 131072 := rfl; omega) (by omega) dX6_baits_126 (fun S_126 eS_126 H locs hP hS => ?_)
                            have hS_126 := per_s rfl hPS_92 eS_126
                            refine z_iinc C dX6_baits_127 hl (by decide) 8 rfl rfl (fun ls hl => ?_)
                            have hl : lv_has ls 10 [(8, _), (0, _), (1, _), (2, _), (3, _), (4, _), (5, _), (6, _), (7, _)] := hl
                            refine z_goto C 92 dX6_baits_130 (by decide) ?_
                            exact hL_92 (m + 1) _ _ _ ls (by omega) (by omega) (bI.up w6.2 (by omega) eS_126 (bN_hi _ _ _ _ (by omega)).symm) (zkeep bB eS_126 (by decide)) (by rw [eS_126, zup_k _ _ _ (by decide)]; exact b47) (Laid.mv bL (Fr.up Fr.rf eS_126 (by decide : 44 ∈ [44])) (by decide) (by decide) (by decide)) (Fr.up bF eS_126 (by decide)) hS_126 hP hS (lv_sub hl [1, 2, 3, 4, 5, 6, 7, 8, 0] rfl)
                          · refine z_aload_n C dX6_baits_115 hl 0 rfl ?_
                            refine m_geta C hK hP 46 (by decide) q1795 rfl (by decide) dX6_baits_116 ?_
                            refine z_iload C dX6_baits_119 hl 8 rfl ?_
                            refine m_lald C hK hP 46 (by decide) rfl (by have h9 : mlen 46 = 64 := rfl; omega) rfl dX6_baits_121 (fun r_121 => ?_)
                            refine z_goto C 126 dX6_baits_122 (by decide) ?_
                            refine m_last C hK hP hS 44 (by decide) rfl (by have h9 : mlen 44 = 131072 := rfl; omega) (by omega) dX6_baits_126 (fun S_126 eS_126 H locs hP hS => ?_)
                            have hS_126 := per_s rfl hPS_92 eS_126
                            refine z_iinc C dX6_baits_127 hl (by decide) 8 rfl rfl (fun ls hl => ?_)
                            have hl : lv_has ls 10 [(8, _), (0, _), (1, _), (2, _), (3, _), (4, _), (5, _), (6, _), (7, _)] := hl
                            refine z_goto C 92 dX6_baits_130 (by decide) ?_
                            exact hL_92 (m + 1) _ _ _ ls (by omega) (by omega) (bI.up w6.2 (by omega) eS_126 (by rw [p1, show 64 * k + m = m by omega])) (zkeep bB eS_126 (by decide)) (by rw [eS_126, zup_k _ _ _ (by decide)]; exact b47) (Laid.mv bL (Fr.up Fr.rf eS_126 (by decide : 44 ∈ [44])) (by decide) (by decide) (by decide)) (Fr.up bF eS_126 (by decide)) hS_126 hP hS (lv_sub hl [1, 2, 3, 4, 5, 6, 7, 8, 0] rfl)
                    exact hL_92 _ 0 _ _ _ ls (Nat.lt_succ_self _) (by omega) aI aB a47 aL aF hPS_82 hP hS (lv_sub hl [1, 2, 3, 4, 5, 6, 7, 8, 0] rfl)
              exact hL_82 _ 0 _ _ _ ls (Nat.lt_succ_self _) (by omega) (fun g c h1 h2 => by omega) jB j47 jL jF hPS_68 hP hS (lv_sub hl [1, 2, 3, 4, 5, 6, 7, 0] rfl)
        exact hL_68 _ 0 _ _ _ ls (Nat.lt_succ_self _) (by omega) (fun c hc => iB c (by omega)) i47 iL iF hPS_33 hP hS (lv_sub hl [1, 2, 3, 4, 5, 6, 0] rfl)
      · refine z_aload_n C dX6_baits_40 hl 0 rfl ?_
        refine m_geta C hK hP 46 (by decide) q1795 rfl (by decide) dX6_baits_41 ?_
        refine z_iload C dX6_baits_44 hl 6 rfl ?_
        refine z_iload C dX6_baits_46 hl 6 rfl ?_
        refine z_if_ne C 57 dX6_baits_48 (by decide) (by omega) (fun c_48 => ?_) (fun c_48 => ?_)
        · refine z_lconst (v := 0) C dX6_baits_57 rfl ?_
          refine m_last C hK hP hS 46 (by decide) rfl (by have h9 : mlen 46 = 64 := rfl; omega) (by omega) dX6_baits_58 (fun S_58 eS_58 H locs hP hS => ?_)
          have hS_58 := per_s rfl hPS_33 eS_58
          refine z_iinc C dX6_baits_59 hl (by decide) 6 rfl rfl (fun ls hl => ?_)
          have hl : lv_has ls 10 [(6, _), (0, _), (1, _), (2, _), (3, _), (4, _), (5, _)] := hl
          refine z_goto C 33 dX6_baits_62 (by decide) ?_
          exact hL_33 (k + 1) _ _ _ ls (by omega) (by omega) (zfill iB eS_58 (by first | rw [if_pos (by omega)] | rw [if_neg (by omega)])) (by rw [eS_58, zup_k _ _ _ (by decide)]; exact i47) (Laid.mv iL (Fr.up Fr.rf eS_58 (by decide : 46 ∈ [46])) (by decide) (by decide) (by decide)) (Fr.up iF eS_58 (by decide)) hS_58 hP hS (lv_sub hl [1, 2, 3, 4, 5, 6, 0] rfl)
        · refine z_ldc2 (v := 1000000000000) C q2160 dX6_baits_51 rfl ?_
          refine z_goto C 58 dX6_baits_54 (by decide) ?_
          refine m_last C hK hP hS 46 (by decide) rfl (by have h9 : mlen 46 = 64 := rfl; omega) (by omega) dX6_baits_58 (fun S_58 eS_58 H locs hP hS => ?_)
          have hS_58 := per_s rfl hPS_33 eS_58
          refine z_iinc C dX6_baits_59 hl (by decide) 6 rfl rfl (fun ls hl => ?_)
          have hl : lv_has ls 10 [(6, _), (0, _), (1, _), (2, _), (3, _), (4, _), (5, _)] := hl
          refine z_goto C 33 dX6_baits_62 (by decide) ?_
          exact hL_33 (k + 1) _ _ _ ls (by omega) (by omega) (zfill iB eS_58 (by first | rw [if_pos (by omega)] | rw [if_neg (by omega)])) (by rw [eS_58, zup_k _ _ _ (by decide)]; exact i47) (Laid.mv iL (Fr.up Fr.rf eS_58 (by decide : 46 ∈ [46])) (by decide) (by decide) (by decide)) (Fr.up iF eS_58 (by decide)) hS_58 hP hS (lv_sub hl [1, 2, 3, 4, 5, 6, 0] rfl)
  exact hL_33 _ 0 _ _ _ ls (Nat.lt_succ_self _) (by omega) (fun s hs => absurd hs (Nat.not_lt_zero _)) (by rw [eS_27, zup_s]) (Laid.mv pS_2.2 (Fr.up Fr.rf eS_27 (by decide : 47 ∈ [47])) (by decide) (by decide) (by decide)) (Fr.up (pS_2.1.le (by decide)) eS_27 (by decide)) hS_27 hP hS (lv_sub hl [3, 4, 5, 6, 2, 1, 0] rfl)
theorem mcX6_whyNot (l : Launch) (g : mG) (h : Nat) (ad : Nat → Nat) (P S : zS) (hPS : per S = P) (pl sm hn : Int) (hW : WfR P 0) (h1 : I32 pl) (h2 : I32 sm) (h3 : I32 hn) : mPI l g h ad yX6_whyNot cX6_whyNot 4 .int (k2_rm 2 46) [.int (iZ pl), .int (iZ sm), .int (iZ hn)] S (whyF P pl sm hn) := by
  intro H0 hP
  refine z_start (own := RX6) (by decide) rfl (Nat.le_of_ble_eq_true rfl) ?_
  intro prg env s mid blw mth cod ls Q C hQ hret hlk hnm hK hH hl
  subst hH
  have hS : va_S nA s.heap s.heap [] := va_S.rf
  have hl : lv_has ls 4 [(0, .ref h), (1, .int (iZ pl)), (2, .int (iZ sm)), (3, .int (iZ hn))] := hl
  have w2 := hW.places
  have w1 := hW.bikes
  have w9 : -1 ≤ stands P pl ∧ stands P pl < 10 := by have := stN_ok P pl (P 23 0).toNat 0; unfold stands; omega
  refine z_aload_n C dX6_whyNot_0 hl 0 rfl ?_
  refine z_iload_n C dX6_whyNot_1 hl 1 rfl ?_
  refine m_pi C vX6_312 (mcX6_isPlace l g h ad _ _ hPS _ (by assumption) (by omega)) hS hl ⟨Nat.le_of_ble_eq_true rfl, Nat.le_of_ble_eq_true rfl⟩ ⟨rfl, rfl⟩ hK hP rfl rfl (Nat.le_of_ble_eq_true rfl) dX6_whyNot_2 ⟨Nat.zero_le _, Nat.zero_le _⟩ (fun locs hS => ?_)
  refine z_if_eq C 32 dX6_whyNot_5 (by decide) z01_in (fun c_5 => ?_) (fun c_5 => ?_)
  · replace c_5 := z01_f c_5
    refine z_bipush C dX6_whyNot_32 rfl ?_
    exact z_pret_i C hQ hret hlk hS (by unfold whyF; first | rw [if_neg (by omega)] | (rw [if_pos ⟨by omega, by omega, by omega⟩]; first | rw [if_pos (by assumption)] | rw [if_neg (by assumption)])) dX6_whyNot_34
  · replace c_5 := z01_t c_5
    refine z_iload_n C dX6_whyNot_8 hl 2 rfl ?_
    refine z_i2l C dX6_whyNot_9 (by omega) ?_
    refine z_lconst (v := 0) C dX6_whyNot_10 rfl ?_
    refine z_ldc2 (v := 9999) C q2410 dX6_whyNot_11 rfl ?_
    refine s_pi C vX6_119 (mcX6_in l _ _ _ (by omega) (by omega) (by omega)) hS hl ⟨Nat.le_of_ble_eq_true rfl, Nat.le_of_ble_eq_true rfl⟩ ⟨rfl, rfl⟩ rfl rfl (Nat.le_of_ble_eq_true rfl) dX6_whyNot_14 ⟨Nat.zero_le _, Nat.zero_le _⟩ (fun locs hS => ?_)
    refine z_if_eq C 32 dX6_whyNot_17 (by decide) z01_in (fun c_17 => ?_) (fun c_17 => ?_)
    · replace c_17 := z01_f c_17
      refine z_bipush C dX6_whyNot_32 rfl ?_
      exact z_pret_i C hQ hret hlk hS (by unfold whyF; first | rw [if_neg (by omega)] | (rw [if_pos ⟨by omega, by omega, by omega⟩]; first | rw [if_pos (by assumption)] | rw [if_neg (by assumption)])) dX6_whyNot_34
    · replace c_17 := z01_t c_17
      refine z_iload_n C dX6_whyNot_20 hl 3 rfl ?_
      refine z_i2l C dX6_whyNot_21 (by omega) ?_
      refine z_lconst (v := 0) C dX6_whyNot_22 rfl ?_
      refine z_ldc2 (v := 100) C q2110 dX6_whyNot_23 rfl ?_
      refine s_pi C vX6_119 (mcX6_in l _ _ _ (by omega) (by omega) (by omega)) hS hl ⟨Nat.le_of_ble_eq_true rfl, Nat.le_of_ble_eq_true rfl⟩ ⟨rfl, rfl⟩ rfl rfl (Nat.le_of_ble_eq_true rfl) dX6_whyNot_26 ⟨Nat.zero_le _, Nat.zero_le _⟩ (fun locs hS => ?_)
      refine z_if_ne C 35 dX6_whyNot_29 (by decide) z01_in (fun c_29 => ?_) (fun c_29 => ?_)
      · replace c_29 := z01_t c_29
        refine z_aload_n C dX6_whyNot_35 hl 0 rfl ?_
        refine z_iload_n C dX6_whyNot_36 hl 1 rfl ?_
        refine m_pi C vX6_461 (mcX6_standsAt l g h ad _ _ hPS _ (by assumption) (by omega)) hS hl ⟨Nat.le_of_ble_eq_true rfl, Nat.le_of_ble_eq_true rfl⟩ ⟨rfl, rfl⟩ hK hP rfl rfl (Nat.le_of_ble_eq_true rfl) dX6_whyNot_37 ⟨Nat.zero_le _, Nat.zero_le _⟩ (fun locs hS => ?_)
        refine z_iconst C dX6_whyNot_40 ?_
        refine z_icmp_eq C 49 dX6_whyNot_41 (by decide) (by omega) (by omega) (fun c_41 => ?_) (fun c_41 => ?_)
        · refine z_iconst C dX6_whyNot_49 ?_
          exact z_pret_i C hQ hret hlk hS (by unfold whyF; first | rw [if_neg (by omega)] | (rw [if_pos ⟨by omega, by omega, by omega⟩]; first | rw [if_pos (by assumption)] | rw [if_neg (by assumption)])) dX6_whyNot_50
        · refine z_bipush C dX6_whyNot_44 rfl ?_
          refine z_goto C 50 dX6_whyNot_46 (by decide) ?_
          exact z_pret_i C hQ hret hlk hS (by unfold whyF; first | rw [if_neg (by omega)] | (rw [if_pos ⟨by omega, by omega, by omega⟩]; first | rw [if_pos (by assumption)] | rw [if_neg (by assumption)])) dX6_whyNot_50
      · replace c_29 := z01_f c_29
        refine z_bipush C dX6_whyNot_32 rfl ?_
        exact z_pret_i C hQ hret hlk hS (by unfold whyF; first | rw [if_neg (by omega)] | (rw [if_pos ⟨by omega, by omega, by omega⟩]; first | rw [if_pos (by assumption)] | rw [if_neg (by assumption)])) dX6_whyNot_34
theorem mcX6_bait (l : Launch) (g : mG) (h : Nat) (ad : Nat → Nat) (P S : zS) (hPS : per S = P) (pl sm hn : Int) (hW : WfR P 0) (h1 : I32 pl) (h2 : I32 sm) (h3 : I32 hn) : mML l g h ad yX6_bait cX6_bait 5 (k2_rm 5 124) [.int (iZ pl), .int (iZ sm), .int (iZ hn)] S (fun z1 S1 => z1 = aBait P pl sm hn ∧ per S1 = P) := by
  refine z_start (own := RX6) (by decide) rfl (Nat.le_of_ble_eq_true rfl) ?_
  intro prg env s mid blw mth cod ls Q C hQ hret hlk hnm hK hH hl
  have hP : MP g h ad S s.heap := hH
  have hS : va_S (MA h ad) s.heap s.heap [] := va_S.rf
  have hl : lv_has ls 5 [(0, .ref h), (1, .int (iZ pl)), (2, .int (iZ sm)), (3, .int (iZ hn))] := hl
  have q1 := whyF_in P pl sm hn
  have w2 := hW.places
  refine z_aload_n C dX6_bait_0 hl 0 rfl ?_
  refine z_iconst C dX6_bait_1 ?_
  refine m_puti C hK hP hS 0 (by decide) q1749 rfl rfl (by omega) dX6_bait_2 (fun S_2 eS_2 H locs hP hS => ?_)
  have hS_2 := per_s rfl hPS eS_2
  refine z_aload_n C dX6_bait_5 hl 0 rfl ?_
  refine z_iload_n C dX6_bait_6 hl 1 rfl ?_
  refine z_iload_n C dX6_bait_7 hl 2 rfl ?_
  refine z_iload_n C dX6_bait_8 hl 3 rfl ?_
  refine m_pi C vX6_492 (mcX6_whyNot l g h ad _ _ hS_2 _ _ _ (by assumption) (by omega) (by omega) (by omega)) hS hl ⟨Nat.le_of_ble_eq_true rfl, Nat.le_of_ble_eq_true rfl⟩ ⟨rfl, rfl⟩ hK hP rfl rfl (Nat.le_of_ble_eq_true rfl) dX6_bait_9 ⟨Nat.zero_le _, Nat.zero_le _⟩ (fun locs hS => ?_)
  refine z_istore C dX6_bait_12 hl (by decide) rfl (fun ls hl => ?_)
  have hl : lv_has ls 5 [(4, _), (0, _), (1, _), (2, _), (3, _)] := hl
  refine z_iload C dX6_bait_14 hl 0 rfl ?_
  refine z_if_eq C 23 dX6_bait_16 (by decide) (by omega) (fun c_16 => ?_) (fun c_16 => ?_)
  · refine z_aload_n C dX6_bait_23 hl 1 rfl ?_
    refine z_iload_n C dX6_bait_24 hl 2 rfl ?_
    refine z_iload_n C dX6_bait_25 hl 3 rfl ?_
    refine z_iload_n C dX6_bait_26 hl 4 rfl ?_
    have q2 := whyF_0 c_16
    refine m_mv C vX6_495 (mcX6_baits l g h ad _ _ hS_2 _ _ _ (by assumption) q2.1.2.1 q2.1.2.2) hS hl ⟨Nat.le_of_ble_eq_true rfl, Nat.le_of_ble_eq_true rfl⟩ ⟨rfl, rfl⟩ hK hP (fun _ h9 => h9) rfl rfl (Nat.le_of_ble_eq_true rfl) dX6_bait_27 ⟨Nat.zero_le _, Nat.zero_le _⟩ (fun S_27 H locs pS_27 hP hS => ?_)
    have hS_27 : per S_27 = P := (pS_27.2.2.pr rfl hS_2)
    have q3 := bL_in hW q2.1.2.1.1 q2.1.2.2 (P 18 0).toNat
    have q4 := pS_27.1
    have q5 := hW.nights
    refine z_aload_n C dX6_bait_30 hl 1 rfl ?_
    refine m_getl C hK hP 47 (by decide) q1796 rfl rfl rfl dX6_bait_31 (fun r_31 => ?_)
    refine z_ldc2 (v := 1000000000) C q2202 dX6_bait_34 rfl ?_
    refine z_ldiv C dX6_bait_37 (by omega) (by omega) ?_
    exact m_mret_l C hQ hret hlk hS hP ⟨by rw [aBait, if_pos q2.1, if_pos q2.2, ← pS_27.1], hS_27⟩ dX6_bait_38
  · refine z_iload C dX6_bait_19 hl 0 rfl ?_
    refine z_i2l C dX6_bait_21 (by omega) ?_
    exact m_mret_l C hQ hret hlk hS hP ⟨whyF_bait c_16, hS_2⟩ dX6_bait_22
theorem mcX6_caught (l : Launch) (g : mG) (h : Nat) (ad : Nat → Nat) (P S : zS) (hPS : per S = P) (t pl sm hn : Int) (hW : WfR P 0) (h0 : I32 t) (h1 : I32 pl) (h2 : I32 sm) (h3 : I32 hn) : mML l g h ad yX6_caught cX6_caught 9 (k2_rm 5 124) [.int (iZ t), .int (iZ pl), .int (iZ sm), .int (iZ hn)] S (fun z1 S1 => z1 = aCaught P t pl sm hn ∧ per S1 = P) := by
  refine z_start (own := RX6) (by decide) rfl (Nat.le_of_ble_eq_true rfl) ?_
  intro prg env s mid blw mth cod ls Q C hQ hret hlk hnm hK hH hl
  have hP : MP g h ad S s.heap := hH
  have hS : va_S (MA h ad) s.heap s.heap [] := va_S.rf
  have hl : lv_has ls 9 [(0, .ref h), (1, .int (iZ t)), (2, .int (iZ pl)), (3, .int (iZ sm)), (4, .int (iZ hn))] := hl
  have q1 := whyF_in P pl sm hn
  have w2 := hW.places
  have w3 := hW.thieves
  have w6 := nC_in hW
  have w7 := hW.nights
  refine z_aload_n C dX6_caught_0 hl 0 rfl ?_
  refine z_iconst C dX6_caught_1 ?_
  refine m_puti C hK hP hS 0 (by decide) q1749 rfl rfl (by omega) dX6_caught_2 (fun S_2 eS_2 H locs hP hS => ?_)
  have hS_2 := per_s rfl hPS eS_2
  refine z_aload_n C dX6_caught_5 hl 0 rfl ?_
  refine z_iload_n C dX6_caught_6 hl 1 rfl ?_
  refine m_pi C vX6_330 (mcX6_isThief l g h ad _ _ hS_2 _ (by assumption) (by omega)) hS hl ⟨Nat.le_of_ble_eq_true rfl, Nat.le_of_ble_eq_true rfl⟩ ⟨rfl, rfl⟩ hK hP rfl rfl (Nat.le_of_ble_eq_true rfl) dX6_caught_7 ⟨Nat.zero_le _, Nat.zero_le _⟩ (fun locs hS => ?_)
  refine z_if_ne C 17 dX6_caught_10 (by decide) z01_in (fun c_10 => ?_) (fun c_10 => ?_)
  · replace c_10 := z01_t c_10
    refine z_aload_n C dX6_caught_17 hl 0 rfl ?_
    refine z_iload_n C dX6_caught_18 hl 2 rfl ?_
    refine z_iload_n C dX6_caught_19 hl 3 rfl ?_
    refine z_iload C dX6_caught_20 hl 4 rfl ?_
    refine m_pi C vX6_492 (mcX6_whyNot l g h ad _ _ hS_2 _ _ _ (by assumption) (by omega) (by omega) (by omega)) hS hl ⟨Nat.le_of_ble_eq_true rfl, Nat.le_of_ble_eq_true rfl⟩ ⟨rfl, rfl⟩ hK hP rfl rfl (Nat.le_of_ble_eq_true rfl) dX6_caught_22 ⟨Nat.zero_le _, Nat.zero_le _⟩ (fun locs hS => ?_)
    refine z_istore C dX6_caught_25 hl (by decide) rfl (fun ls hl => ?_)
    have hl : lv_has ls 9 [(5, _), (0, _), (1, _), (2, _), (3, _), (4, _)] := hl
    refine z_iload C dX6_caught_27 hl 0 rfl ?_
    refine z_if_eq C 36 dX6_caught_29 (by decide) (by omega) (fun c_29 => ?_) (fun c_29 => ?_)
    · refine z_aload_n C dX6_caught_36 hl 1 rfl ?_
      refine z_iload_n C dX6_caught_37 hl 3 rfl ?_
      refine z_iload_n C dX6_caught_38 hl 4 rfl ?_
      refine z_iload C dX6_caught_39 hl 5 rfl ?_
      have q2 := whyF_0 c_29
      refine m_mv C vX6_495 (mcX6_baits l g h ad _ _ hS_2 _ _ _ (by assumption) q2.1.2.1 q2.1.2.2) hS hl ⟨Nat.le_of_ble_eq_true rfl, Nat.le_of_ble_eq_true rfl⟩ ⟨rfl, rfl⟩ hK hP (fun _ h9 => h9) rfl rfl (Nat.le_of_ble_eq_true rfl) dX6_caught_41 ⟨Nat.zero_le _, Nat.zero_le _⟩ (fun S_41 H locs pS_41 hP hS => ?_)
      have hS_41 : per S_41 = P := (pS_41.2.2.pr rfl hS_2)
      refine z_lconst (v := 0) C dX6_caught_44 rfl ?_
      refine z_lstore C dX6_caught_45 hl (by decide) rfl (fun ls hl => ?_)
      have hl : lv_has ls 9 [(6, _), (5, _), (0, _), (1, _), (2, _), (3, _), (4, _)] := hl
      refine z_iconst C dX6_caught_47 ?_
      refine z_istore C dX6_caught_48 hl (by decide) rfl (fun ls hl => ?_)
      have hl : lv_has ls 9 [(8, _), (6, _), (5, _), (0, _), (1, _), (2, _), (3, _), (4, _)] := hl
      have hL_50 : ∀ (fuel : Nat) (k : Nat) (u : Int) (S1 : zS) (H : Heap) (locs : List Loc) (ls : Array Slot), nC P - k < fuel → (k ≤ nC P) → (u = cauF P t.toNat (bN P sm hn (P 18 0).toNat) k) → (∀ c : Nat, c < nC P → S1 46 (c : Int) = bN P sm hn (P 18 0).toNat c) → per S1 = P → MP g h ad S1 H → va_S (MA h ad) s.heap H locs → lv_has ls 9 [(0, .ref h), (1, .int (iZ t)), (2, .int (iZ pl)), (3, .int (iZ sm)), (4, .int (iZ hn)), (6, .long (lZ u)), (8, .int (iZ (k : Int)))] → W prg l env (k2_rm 5 124) s mid ([.ref h, .int (iZ t), .int (iZ pl), .int (iZ sm), .int (iZ hn)] : List Value).toArray blw mth cod H locs 0 0 Q (F0 mid 50 ls []) := by
        intro fuel
        induction fuel with
        | zero => intro k u S1  H locs ls hm; exact absurd hm (Nat.not_lt_zero _)
        | succ fuel hL_50 =>
          intro k u S1  H locs ls hm ik iN iB hPS_50 hP  hS hl
          refine z_iload C dX6_caught_50 hl 6 rfl ?_
          refine z_iconst C dX6_caught_52 ?_
          refine z_aload_n C dX6_caught_53 hl 0 rfl ?_
          refine m_geta C hK hP 25 (by decide) q1774 rfl (by decide) dX6_caught_54 ?_
          refine z_iconst C dX6_caught_57 ?_
          refine m_iald C hK hP 25 (by decide) rfl (by have h9 : mlen 25 = 5 := rfl; omega) (pe hPS_50 rfl) dX6_caught_58 (fun r_58 => ?_)
          refine z_ishl C dX6_caught_59 (zshl1 (by omega)) ?_
          have q3 : ((2 ^ (P 25 0).toNat : Nat) : Int) = ((nC P : Nat) : Int) := rfl
          refine z_icmp_ge C 95 dX6_caught_60 (by decide) (by omega) (by omega) (fun c_60 => ?_) (fun c_60 => ?_)
          · refine z_lload C dX6_caught_95 hl 5 rfl ?_
            exact m_mret_l C hQ hret hlk hS hP ⟨by rw [aCaught, if_pos ⟨c_10, q2.1⟩, if_pos q2.2, iN, show nC P = k by omega], hPS_50⟩ dX6_caught_97
          · refine z_lload C dX6_caught_63 hl 5 rfl ?_
            refine z_iload C dX6_caught_65 hl 6 rfl ?_
            refine z_iload_n C dX6_caught_67 hl 1 rfl ?_
            refine z_ishr C dX6_caught_68 (zshr (by omega) (by omega)) ?_
            refine z_iconst C dX6_caught_69 ?_
            refine z_iand C dX6_caught_70 (iZ_and1 _) ?_
            refine z_iconst C dX6_caught_71 ?_
            refine z_icmp_ne C 85 dX6_caught_72 (by decide) (by omega) (by omega) (fun c_72 => ?_) (fun c_72 => ?_)
            · refine z_lconst (v := 0) C dX6_caught_85 rfl ?_
              refine z_ladd C dX6_caught_86 ?_
              refine z_lstore C dX6_caught_87 hl (by decide) rfl (fun ls hl => ?_)
              have hl : lv_has ls 9 [(6, _), (0, _), (1, _), (2, _), (3, _), (4, _), (8, _)] := hl
              refine z_iinc C dX6_caught_89 hl (by decide) 6 rfl rfl (fun ls hl => ?_)
              have hl : lv_has ls 9 [(8, _), (6, _), (0, _), (1, _), (2, _), (3, _), (4, _)] := hl
              refine z_goto C 50 dX6_caught_92 (by decide) ?_
              exact hL_50 (k + 1) _ _ _ _ ls (by omega) (by omega) (by rw [cauF, zsm_s, if_neg c_72, iN]; rfl) iB hPS_50 hP hS (lv_sub hl [2, 3, 4, 5, 6, 1, 0] rfl)
            · refine z_aload_n C dX6_caught_75 hl 0 rfl ?_
              refine m_geta C hK hP 46 (by decide) q1795 rfl (by decide) dX6_caught_76 ?_
              refine z_iload C dX6_caught_79 hl 6 rfl ?_
              refine m_lald C hK hP 46 (by decide) rfl (by have h9 : mlen 46 = 64 := rfl; omega) rfl dX6_caught_81 (fun r_81 => ?_)
              refine z_goto C 86 dX6_caught_82 (by decide) ?_
              refine z_ladd C dX6_caught_86 ?_
              refine z_lstore C dX6_caught_87 hl (by decide) rfl (fun ls hl => ?_)
              have hl : lv_has ls 9 [(6, _), (0, _), (1, _), (2, _), (3, _), (4, _), (8, _)] := hl
              refine z_iinc C dX6_caught_89 hl (by decide) 6 rfl rfl (fun ls hl => ?_)
              have hl : lv_has ls 9 [(8, _), (6, _), (0, _), (1, _), (2, _), (3, _), (4, _)] := hl
              refine z_goto C 50 dX6_caught_92 (by decide) ?_
              exact hL_50 (k + 1) _ _ _ _ ls (by omega) (by omega) (by rw [cauF, zsm_s, if_pos c_72, iN, iB k (by omega)]; rfl) iB hPS_50 hP hS (lv_sub hl [2, 3, 4, 5, 6, 1, 0] rfl)
      exact hL_50 _ 0 0 _ _ _ ls (Nat.lt_succ_self _) (by omega) rfl pS_41.2.1 hS_41 hP hS (lv_sub hl [3, 4, 5, 6, 7, 1, 0] rfl)
    · refine z_iload C dX6_caught_32 hl 0 rfl ?_
      refine z_i2l C dX6_caught_34 (by omega) ?_
      exact m_mret_l C hQ hret hlk hS hP ⟨whyF_caught c_10 c_29, hS_2⟩ dX6_caught_35
  · replace c_10 := z01_f c_10
    refine z_ldc2 (v := -2) C q2155 dX6_caught_13 rfl ?_
    exact m_mret_l C hQ hret hlk hS hP ⟨(if_neg (fun z => c_10 z.1)).symm, hS_2⟩ dX6_caught_16
theorem mcX6_lures (l : Launch) (g : mG) (h : Nat) (ad : Nat → Nat) (P S : zS) (hPS : per S = P) (pl : Int) (hW : WfR P 0) (h1 : I32 pl) : mMI l g h ad yX6_lures cX6_lures 5 .int (k2_rm 4 95) [.int (iZ pl)] S (fun z1 S1 => z1 = aLures P pl ∧ per S1 = P) := by
  refine z_start (own := RX6) (by decide) rfl (Nat.le_of_ble_eq_true rfl) ?_
  intro prg env s mid blw mth cod ls Q C hQ hret hlk hnm hK hH hl
  have hP : MP g h ad S s.heap := hH
  have hS : va_S (MA h ad) s.heap s.heap [] := va_S.rf
  have hl : lv_has ls 5 [(0, .ref h), (1, .int (iZ pl))] := hl
  have q1 := whyF_in P pl 0 0
  have w2 := hW.places
  have w3 := hW.thieves
  have w1 := hW.bikes
  refine z_aload_n C dX6_lures_0 hl 0 rfl ?_
  refine z_iconst C dX6_lures_1 ?_
  refine m_puti C hK hP hS 0 (by decide) q1749 rfl rfl (by omega) dX6_lures_2 (fun S_2 eS_2 H locs hP hS => ?_)
  have hS_2 := per_s rfl hPS eS_2
  refine z_aload_n C dX6_lures_5 hl 0 rfl ?_
  refine z_iload_n C dX6_lures_6 hl 1 rfl ?_
  refine z_iconst C dX6_lures_7 ?_
  refine z_iconst C dX6_lures_8 ?_
  refine m_pi C vX6_492 (mcX6_whyNot l g h ad _ _ hS_2 _ _ _ (by assumption) (by omega) (by omega) (by omega)) hS hl ⟨Nat.le_of_ble_eq_true rfl, Nat.le_of_ble_eq_true rfl⟩ ⟨rfl, rfl⟩ hK hP rfl rfl (Nat.le_of_ble_eq_true rfl) dX6_lures_9 ⟨Nat.zero_le _, Nat.zero_le _⟩ (fun locs hS => ?_)
  refine z_istore_n C dX6_lures_12 rfl hl (by decide) rfl (fun ls hl => ?_)
  have hl : lv_has ls 5 [(2, _), (0, _), (1, _)] := hl
  refine z_iload_n C dX6_lures_13 hl 0 rfl ?_
  refine z_if_eq C 19 dX6_lures_14 (by decide) (by omega) (fun c_14 => ?_) (fun c_14 => ?_)
  · have q2 := whyF_0 c_14
    refine z_aload_n C dX6_lures_19 hl 1 rfl ?_
    refine z_iconst C dX6_lures_20 ?_
    refine m_mv C vX6_343 (mcX6_lays l g h ad _ _ hS_2 _ (by assumption) (by omega)) hS hl ⟨Nat.le_of_ble_eq_true rfl, Nat.le_of_ble_eq_true rfl⟩ ⟨rfl, rfl⟩ hK hP (fun _ h9 => h9) rfl rfl (Nat.le_of_ble_eq_true rfl) dX6_lures_21 ⟨Nat.zero_le _, Nat.zero_le _⟩ (fun S_21 H locs pS_21 hP hS => ?_)
    have hS_21 : per S_21 = P := (pS_21.1.pr rfl hS_2)
    refine z_iconst C dX6_lures_24 ?_
    refine z_istore_n C dX6_lures_25 rfl hl (by decide) rfl (fun ls hl => ?_)
    have hl : lv_has ls 5 [(3, _), (2, _), (0, _), (1, _)] := hl
    have hL_26 : ∀ (fuel : Nat) (s9 : Nat) (S1 : zS) (H : Heap) (locs : List Loc) (ls : Array Slot), 10000 - s9 < fuel → (s9 ≤ 10000) → (lurF P s9 (10000 - s9) = lurF P 0 10000) → (LaidN P S1) → per S1 = P → MP g h ad S1 H → va_S (MA h ad) s.heap H locs → lv_has ls 5 [(0, .ref h), (1, .int (iZ pl)), (3, .int (iZ (s9 : Int)))] → W prg l env (k2_rm 4 95) s mid ([.ref h, .int (iZ pl)] : List Value).toArray blw mth cod H locs 0 0 Q (F0 mid 26 ls []) := by
      intro fuel
      induction fuel with
      | zero => intro s9 S1  H locs ls hm; exact absurd hm (Nat.not_lt_zero _)
      | succ fuel hL_26 =>
        intro s9 S1  H locs ls hm is iR iL hPS_26 hP  hS hl
        refine z_iload_n C dX6_lures_26 hl 2 rfl ?_
        refine z_sipush C dX6_lures_27 rfl ?_
        refine z_icmp_gt C 95 dX6_lures_30 (by decide) (by omega) (by omega) (fun c_30 => ?_) (fun c_30 => ?_)
        · refine z_iconst C dX6_lures_95 ?_
          exact m_mret_i C hQ hret hlk hS hP ⟨by rw [aLures, if_pos q2.1.1, if_pos q2.2, ← iR, show 10000 - s9 = 0 by omega]; rfl, hPS_26⟩ dX6_lures_96
        · refine z_iconst C dX6_lures_33 ?_
          refine z_istore C dX6_lures_34 hl (by decide) rfl (fun ls hl => ?_)
          have hl : lv_has ls 5 [(4, _), (0, _), (1, _), (3, _)] := hl
          have hL_36 : ∀ (fuel : Nat) (T : Nat) (S2 : zS) (H : Heap) (locs : List Loc) (ls : Array Slot), (P 25 0).toNat - T < fuel → ((T : Int) ≤ P 25 0) → (lurT P s9 T = false) → (LaidN P S2) → per S2 = P → MP g h ad S2 H → va_S (MA h ad) s.heap H locs → lv_has ls 5 [(0, .ref h), (1, .int (iZ pl)), (3, .int (iZ (s9 : Int))), (4, .int (iZ (T : Int)))] → W prg l env (k2_rm 4 95) s mid ([.ref h, .int (iZ pl)] : List Value).toArray blw mth cod H locs 0 0 Q (F0 mid 36 ls []) := by
            intro fuel
            induction fuel with
            | zero => intro T S2  H locs ls hm; exact absurd hm (Nat.not_lt_zero _)
            | succ fuel hL_36 =>
              intro T S2  H locs ls hm jT jR jL hPS_36 hP  hS hl
              refine z_iload C dX6_lures_36 hl 3 rfl ?_
              refine z_aload_n C dX6_lures_38 hl 0 rfl ?_
              refine m_geta C hK hP 25 (by decide) q1774 rfl (by decide) dX6_lures_39 ?_
              refine z_iconst C dX6_lures_42 ?_
              refine m_iald C hK hP 25 (by decide) rfl (by have h9 : mlen 25 = 5 := rfl; omega) (pe hPS_36 rfl) dX6_lures_43 (fun r_43 => ?_)
              refine z_icmp_ge C 89 dX6_lures_44 (by decide) (by omega) (by omega) (fun c_44 => ?_) (fun c_44 => ?_)
              · refine z_iinc C dX6_lures_89 hl (by decide) 2 rfl rfl (fun ls hl => ?_)
                have hl : lv_has ls 5 [(3, _), (0, _), (1, _), (4, _)] := hl
                refine z_goto C 26 dX6_lures_92 (by decide) ?_
                exact hL_26 (s9 + 1) _ _ _ ls (by omega) (by omega) (by rw [← iR, show 10000 - s9 = (10000 - (s9 + 1)) + 1 by omega, lurF_miss (by rw [show (P 25 0).toNat = T by omega]; exact jR)]) jL hPS_36 hP hS (lv_sub hl [1, 2, 0] rfl)
              · refine z_aload_n C dX6_lures_47 hl 0 rfl ?_
                refine m_geta C hK hP 34 (by decide) q1783 rfl (by decide) dX6_lures_48 ?_
                refine z_bipush C dX6_lures_51 rfl ?_
                refine z_iload C dX6_lures_53 hl 3 rfl ?_
                refine z_imul C dX6_lures_55 ?_
                refine z_aload_n C dX6_lures_56 hl 0 rfl ?_
                refine m_geta C hK hP 23 (by decide) q1772 rfl (by decide) dX6_lures_57 ?_
                refine z_iconst C dX6_lures_60 ?_
                refine m_iald C hK hP 23 (by decide) rfl (by have h9 : mlen 23 = 5 := rfl; omega) (pe hPS_36 rfl) dX6_lures_61 (fun r_61 => ?_)
                refine z_iadd C dX6_lures_62 ?_
                refine z_iload_n C dX6_lures_63 hl 2 rfl ?_
                refine m_iast C hK hP hS 34 (by decide) rfl (by have h9 : mlen 34 = 66 := rfl; omega) (by omega) dX6_lures_64 (fun S_64 eS_64 H locs hP hS => ?_)
                have hS_64 := per_s rfl hPS_36 eS_64
                have q4 := jL.one ⟨by omega, by omega⟩ ⟨by omega, by omega⟩ (by omega) eS_64
                refine z_aload_n C dX6_lures_65 hl 0 rfl ?_
                refine z_iload C dX6_lures_66 hl 3 rfl ?_
                refine z_iconst C dX6_lures_68 ?_
                refine m_pi C vX6_346 (mcX6_takesOf l g h ad _ _ hS_64 (s9 : Int) _ _ (by assumption) q4.2 (by omega) (by omega)) hS hl ⟨Nat.le_of_ble_eq_true rfl, Nat.le_of_ble_eq_true rfl⟩ ⟨rfl, rfl⟩ hK hP rfl rfl (Nat.le_of_ble_eq_true rfl) dX6_lures_69 ⟨Nat.zero_le _, Nat.zero_le _⟩ (fun locs hS => ?_)
                have q5 := takes_in hW s9 T 0
                have q6 := bt1_in s9
                refine z_aload_n C dX6_lures_72 hl 0 rfl ?_
                refine m_geta C hK hP 23 (by decide) q1772 rfl (by decide) dX6_lures_73 ?_
                refine z_iconst C dX6_lures_76 ?_
                refine m_iald C hK hP 23 (by decide) rfl (by have h9 : mlen 23 = 5 := rfl; omega) (pe hS_64 rfl) dX6_lures_77 (fun r_77 => ?_)
                refine z_icmp_ne C 83 dX6_lures_78 (by decide) (by omega) (by omega) (fun c_78 => ?_) (fun c_78 => ?_)
                · refine z_iinc C dX6_lures_83 hl (by decide) 3 rfl rfl (fun ls hl => ?_)
                  have hl : lv_has ls 5 [(4, _), (0, _), (1, _), (3, _)] := hl
                  refine z_goto C 36 dX6_lures_86 (by decide) ?_
                  exact hL_36 (T + 1) _ _ _ ls (by omega) (by omega) (by rw [lurT, jR, decide_eq_false c_78]; rfl) q4.1 hS_64 hP hS (lv_sub hl [1, 2, 3, 0] rfl)
                · refine z_iload_n C dX6_lures_81 hl 2 rfl ?_
                  exact m_mret_i C hQ hret hlk hS hP ⟨by rw [aLures, if_pos q2.1.1, if_pos q2.2, ← iR, show 10000 - s9 = (10000 - s9 - 1) + 1 by omega, lurF_hit (lurT_mono (a := T + 1) (by rw [lurT, decide_eq_true c_78, Bool.or_true]) (by omega))], hS_64⟩ dX6_lures_82
          exact hL_36 _ 0 _ _ _ ls (Nat.lt_succ_self _) (by omega) rfl iL hPS_26 hP hS (lv_sub hl [1, 2, 3, 0] rfl)
    exact hL_26 _ 0 _ _ _ ls (Nat.lt_succ_self _) (by omega) rfl (pS_21.2.toN (by omega)) hS_21 hP hS (lv_sub hl [2, 3, 0] rfl)
  · refine z_iload_n C dX6_lures_17 hl 0 rfl ?_
    exact m_mret_i C hQ hret hlk hS hP ⟨whyF_lures c_14, hS_2⟩ dX6_lures_18
