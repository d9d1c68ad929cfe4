theorem vX6_119 : zT RX6 119 yX6_in cX6_in 6 (some .boolean) 3 := ⟨lw_S q1912 q1913 q149 q1914, by decide +kernel⟩
theorem vX6_299 : zT RX6 299 yX6_apart cX6_apart 2 (some .int) 2 := ⟨lw_S q2080 q2081 q149 q2082, by decide +kernel⟩
theorem vX6_302 : zT RX6 302 yX6_above cX6_above 1 (some .int) 1 := ⟨lw_S q2083 q2084 q149 q2085, by decide +kernel⟩
theorem mcX6_in (l : Launch) (v lo hi : Int) (hv : I64 v) (h1 : I64 lo) (h2 : I64 hi) : sPI l yX6_in cX6_in 6 .boolean (k2_rm 0 0) [.long (lZ v), .long (lZ lo), .long (lZ hi)] (if lo ≤ v ∧ v ≤ hi then 1 else 0) := by
  intro H0
  refine z_start (own := RX6) (by decide) rfl (Nat.le_of_ble_eq_true rfl) ?_
  intro prg env s mid blw mth cod ls Q C hQ hret hlk hnm hK hH hl
  subst hH
  have hS : va_S nA s.heap s.heap [] := va_S.rf
  have hl : lv_has ls 6 [(0, .long (lZ v)), (2, .long (lZ lo)), (4, .long (lZ hi))] := hl
  refine z_lload_n C dX6_in_0 hl 0 rfl ?_
  refine z_lload_n C dX6_in_1 hl 1 rfl ?_
  refine z_lcmp_lt C 17 dX6_in_2 dX6_in_3 (by decide) (by omega) (by omega) (fun c_2 => ?_) (fun c_2 => ?_)
  · refine z_iconst C dX6_in_17 ?_
    exact z_pret_z C hQ hret hlk hS z01_any (by split <;> omega) dX6_in_18
  · refine z_lload_n C dX6_in_6 hl 0 rfl ?_
    refine z_lload C dX6_in_7 hl 2 rfl ?_
    refine z_lcmp_gt C 17 dX6_in_9 dX6_in_10 (by decide) (by omega) (by omega) (fun c_9 => ?_) (fun c_9 => ?_)
    · refine z_iconst C dX6_in_17 ?_
      exact z_pret_z C hQ hret hlk hS z01_any (by split <;> omega) dX6_in_18
    · refine z_iconst C dX6_in_13 ?_
      refine z_goto C 18 dX6_in_14 (by decide) ?_
      exact z_pret_z C hQ hret hlk hS z01_any (by split <;> omega) dX6_in_18
theorem mcX6_isSlot (l : Launch) (v : Int) (hv : I32 v) : sPI l yX6_isSlot cX6_isSlot 1 .boolean (k2_rm 1 25) [.int (iZ v)] (if 0 ≤ v ∧ v ≤ 3 then 1 else 0) := by
  intro H0
  refine z_start (own := RX6) (by decide) rfl (Nat.le_of_ble_eq_true rfl) ?_
  intro prg env s mid blw mth cod ls Q C hQ hret hlk hnm hK hH hl
  subst hH
  have hS : va_S nA s.heap s.heap [] := va_S.rf
  have hl : lv_has ls 1 [(0, .int (iZ v))] := hl
  refine z_iload_n C dX6_isSlot_0 hl 0 rfl ?_
  refine z_i2l C dX6_isSlot_1 (by omega) ?_
  refine z_lconst (v := 0) C dX6_isSlot_2 rfl ?_
  refine z_ldc2 (v := 3) C q1911 dX6_isSlot_3 rfl ?_
  refine s_pi C vX6_119 (mcX6_in l _ _ _ (by omega) (by omega) (by omega)) hS hl ⟨Nat.le_of_ble_eq_true rfl, Nat.le_of_ble_eq_true rfl⟩ ⟨rfl, rfl⟩ rfl rfl (Nat.le_of_ble_eq_true rfl) dX6_isSlot_6 ⟨Nat.zero_le _, Nat.zero_le _⟩ (fun locs hS => ?_)
  exact z_pret_z C hQ hret hlk hS z01_any rfl dX6_isSlot_9
theorem mcX6_apart (l : Launch) (a b : Int) (ha : I32 a) (hb : I32 b) : sPI l yX6_apart cX6_apart 2 .int (k2_rm 0 0) [.int (iZ a), .int (iZ b)] (zapart a b) := by
  intro H0
  refine z_start (own := RX6) (by decide) rfl (Nat.le_of_ble_eq_true rfl) ?_
  intro prg env s mid blw mth cod ls Q C hQ hret hlk hnm hK hH hl
  subst hH
  have hS : va_S nA s.heap s.heap [] := va_S.rf
  have hl : lv_has ls 2 [(0, .int (iZ a)), (1, .int (iZ b))] := hl
  refine z_iload_n C dX6_apart_0 hl 0 rfl ?_
  refine z_iload_n C dX6_apart_1 hl 1 rfl ?_
  refine z_icmp_ge C 11 dX6_apart_2 (by decide) (by omega) (by omega) (fun c_2 => ?_) (fun c_2 => ?_)
  · refine z_iload_n C dX6_apart_11 hl 0 rfl ?_
    refine z_iload_n C dX6_apart_12 hl 1 rfl ?_
    refine z_isub C dX6_apart_13 ?_
    exact z_pret_i C hQ hret hlk hS (by unfold zapart; split <;> omega) dX6_apart_14
  · refine z_iload_n C dX6_apart_5 hl 1 rfl ?_
    refine z_iload_n C dX6_apart_6 hl 0 rfl ?_
    refine z_isub C dX6_apart_7 ?_
    refine z_goto C 14 dX6_apart_8 (by decide) ?_
    exact z_pret_i C hQ hret hlk hS (by unfold zapart; split <;> omega) dX6_apart_14
theorem mcX6_above (l : Launch) (v : Int) (hv : I32 v) : sPI l yX6_above cX6_above 1 .int (k2_rm 0 0) [.int (iZ v)] (zabove v) := by
  intro H0
  refine z_start (own := RX6) (by decide) rfl (Nat.le_of_ble_eq_true rfl) ?_
  intro prg env s mid blw mth cod ls Q C hQ hret hlk hnm hK hH hl
  subst hH
  have hS : va_S nA s.heap s.heap [] := va_S.rf
  have hl : lv_has ls 1 [(0, .int (iZ v))] := hl
  refine z_iload_n C dX6_above_0 hl 0 rfl ?_
  refine z_if_le C 8 dX6_above_1 (by decide) (by omega) (fun c_1 => ?_) (fun c_1 => ?_)
  · refine z_iconst C dX6_above_8 ?_
    exact z_pret_i C hQ hret hlk hS (by unfold zabove; split <;> omega) dX6_above_9
  · refine z_iload_n C dX6_above_4 hl 0 rfl ?_
    refine z_goto C 9 dX6_above_5 (by decide) ?_
    exact z_pret_i C hQ hret hlk hS (by unfold zabove; split <;> omega) dX6_above_9
theorem mcX6_at (l : Launch) (r b : Int) : sPI l yX6_at cX6_at 2 .int (k2_rm 0 0) [.int (iZ r), .int (iZ b)] (5 * (10 * r + b)) := by
  intro H0
  refine z_start (own := RX6) (by decide) rfl (Nat.le_of_ble_eq_true rfl) ?_
  intro prg env s mid blw mth cod ls Q C hQ hret hlk hnm hK hH hl
  subst hH
  have hS : va_S nA s.heap s.heap [] := va_S.rf
  have hl : lv_has ls 2 [(0, .int (iZ r)), (1, .int (iZ b))] := hl
  refine z_iconst C dX6_at_0 ?_
  refine z_bipush C dX6_at_1 rfl ?_
  refine z_iload_n C dX6_at_3 hl 0 rfl ?_
  refine z_imul C dX6_at_4 ?_
  refine z_iload_n C dX6_at_5 hl 1 rfl ?_
  refine z_iadd C dX6_at_6 ?_
  refine z_imul C dX6_at_7 ?_
  exact z_pret_i C hQ hret hlk hS rfl dX6_at_8
theorem mcX6_lightOf (l : Launch) (g : mG) (h : Nat) (ad : Nat → Nat) (P S : zS) (hPS : per S = P) (r pl : Int) (hr : 0 ≤ r ∧ r ≤ 4) (hp : 0 ≤ pl ∧ pl ≤ 19) (hW : WfR P r) : mPI l g h ad yX6_lightOf cX6_lightOf 6 .int (k2_rm 1 21) [.int (iZ r), .int (iZ pl)] S (light P r pl) := by
  intro H0 hP
  refine z_start (own := RX6) (by decide) rfl (Nat.le_of_ble_eq_true rfl) ?_
  intro prg env s mid blw mth cod ls Q C hQ hret hlk hnm hK hH hl
  subst hH
  have hS : va_S nA s.heap s.heap [] := va_S.rf
  have hl : lv_has ls 6 [(0, .ref h), (1, .int (iZ r)), (2, .int (iZ pl))] := hl
  have w1 := hW.lamps
  have w2 := hW.more
  have w3 := zapart_in hW.more.1 hp
  refine z_aload_n C dX6_lightOf_0 hl 0 rfl ?_
  refine m_geta C hK hP 27 (by decide) q1776 rfl (by decide) dX6_lightOf_1 ?_
  refine z_bipush C dX6_lightOf_4 rfl ?_
  refine z_iload_n C dX6_lightOf_6 hl 1 rfl ?_
  refine z_imul C dX6_lightOf_7 ?_
  refine z_bipush C dX6_lightOf_8 rfl ?_
  refine z_iadd C dX6_lightOf_10 ?_
  refine m_iald C hK hP 27 (by decide) rfl (by have h9 : mlen 27 = 35 := rfl; omega) (pe hPS rfl) dX6_lightOf_11 (fun r_11 => ?_)
  refine z_iconst C dX6_lightOf_12 ?_
  refine z_icmp_ne C 30 dX6_lightOf_13 (by decide) (by omega) (by omega) (fun c_13 => ?_) (fun c_13 => ?_)
  · refine z_iconst C dX6_lightOf_30 ?_
    refine z_istore_n C dX6_lightOf_31 rfl hl (by decide) rfl (fun ls hl => ?_)
    have hl : lv_has ls 6 [(3, _), (0, _), (1, _), (2, _)] := hl
    refine z_iconst C dX6_lightOf_32 ?_
    refine z_istore C dX6_lightOf_33 hl (by decide) rfl (fun ls hl => ?_)
    have hl : lv_has ls 6 [(4, _), (3, _), (0, _), (1, _), (2, _)] := hl
    have hL_35 : ∀ (fuel : Nat) (k : Nat) (n : Int) (locs : List Loc) (ls : Array Slot), (P 19 r).toNat - k < fuel → ((k : Int) ≤ P 19 r) → (n = (if P 27 (7 * r + 6) = 1 then P 27 (7 * r + 5) else 0) + zsm (lightF P r pl) k) → va_S nA s.heap s.heap locs → lv_has ls 6 [(0, .ref h), (1, .int (iZ r)), (2, .int (iZ pl)), (3, .int (iZ n)), (4, .int (iZ (k : Int)))] → W prg l env (k2_rm 1 21) s mid ([.ref h, .int (iZ r), .int (iZ pl)] : List Value).toArray blw mth cod s.heap locs 0 0 Q (F0 mid 35 ls []) := by
      intro fuel
      induction fuel with
      | zero => intro k n  locs ls hm; exact absurd hm (Nat.not_lt_zero _)
      | succ fuel hL_35 =>
        intro k n  locs ls hm ik iN  hS hl
        refine z_iload C dX6_lightOf_35 hl 4 rfl ?_
        refine z_aload_n C dX6_lightOf_37 hl 0 rfl ?_
        refine m_geta C hK hP 19 (by decide) q1768 rfl (by decide) dX6_lightOf_38 ?_
        refine z_iload_n C dX6_lightOf_41 hl 1 rfl ?_
        refine m_iald C hK hP 19 (by decide) rfl (by have h9 : mlen 19 = 5 := rfl; omega) (pe hPS rfl) dX6_lightOf_42 (fun r_42 => ?_)
        refine z_icmp_ge C 89 dX6_lightOf_43 (by decide) (by omega) (by omega) (fun c_43 => ?_) (fun c_43 => ?_)
        · refine z_iload_n C dX6_lightOf_89 hl 3 rfl ?_
          refine z_aload_n C dX6_lightOf_90 hl 0 rfl ?_
          refine m_geti C hK hP 32 (by decide) q1781 rfl (Or.inl rfl) (pe hPS rfl) dX6_lightOf_91 (fun r_91 => ?_)
          refine z_aload_n C dX6_lightOf_94 hl 0 rfl ?_
          refine m_geti C hK hP 31 (by decide) q1780 rfl (Or.inl rfl) (pe hPS rfl) dX6_lightOf_95 (fun r_95 => ?_)
          refine z_iload_n C dX6_lightOf_98 hl 2 rfl ?_
          refine s_pi C vX6_299 (mcX6_apart l _ _ (by omega) (by omega)) hS hl ⟨Nat.le_of_ble_eq_true rfl, Nat.le_of_ble_eq_true rfl⟩ ⟨rfl, rfl⟩ rfl rfl (Nat.le_of_ble_eq_true rfl) dX6_lightOf_99 ⟨Nat.zero_le _, Nat.zero_le _⟩ (fun locs hS => ?_)
          refine z_isub C dX6_lightOf_102 ?_
          refine s_pi C vX6_302 (mcX6_above l _ (by omega)) hS hl ⟨Nat.le_of_ble_eq_true rfl, Nat.le_of_ble_eq_true rfl⟩ ⟨rfl, rfl⟩ rfl rfl (Nat.le_of_ble_eq_true rfl) dX6_lightOf_103 ⟨Nat.zero_le _, Nat.zero_le _⟩ (fun locs hS => ?_)
          refine z_iadd C dX6_lightOf_106 ?_
          exact z_pret_i C hQ hret hlk hS (by rw [light, iN]; congr 3; omega) dX6_lightOf_107
        · have w4 := hW.lamp (i := k) ⟨by omega, by omega⟩
          have w5 := zapart_in w4.1 hp
          refine z_iconst C dX6_lightOf_46 ?_
          refine z_iconst C dX6_lightOf_47 ?_
          refine z_iload_n C dX6_lightOf_48 hl 1 rfl ?_
          refine z_imul C dX6_lightOf_49 ?_
          refine z_iload C dX6_lightOf_50 hl 4 rfl ?_
          refine z_iadd C dX6_lightOf_52 ?_
          refine z_imul C dX6_lightOf_53 ?_
          refine z_istore C dX6_lightOf_54 hl (by decide) rfl (fun ls hl => ?_)
          have hl : lv_has ls 6 [(5, _), (0, _), (1, _), (2, _), (3, _), (4, _)] := hl
          refine z_iload_n C dX6_lightOf_56 hl 4 rfl ?_
          refine z_aload_n C dX6_lightOf_57 hl 1 rfl ?_
          refine m_geta C hK hP 20 (by decide) q1769 rfl (by decide) dX6_lightOf_58 ?_
          refine z_iload C dX6_lightOf_61 hl 0 rfl ?_
          refine z_iconst C dX6_lightOf_63 ?_
          refine z_iadd C dX6_lightOf_64 ?_
          refine m_iald C hK hP 20 (by decide) rfl (by have h9 : mlen 20 = 40 := rfl; omega) (pe hPS rfl) dX6_lightOf_65 (fun r_65 => ?_)
          refine z_aload_n C dX6_lightOf_66 hl 1 rfl ?_
          refine m_geta C hK hP 20 (by decide) q1769 rfl (by decide) dX6_lightOf_67 ?_
          refine z_iload C dX6_lightOf_70 hl 0 rfl ?_
          refine m_iald C hK hP 20 (by decide) rfl (by have h9 : mlen 20 = 40 := rfl; omega) (pe hPS rfl) dX6_lightOf_72 (fun r_72 => ?_)
          refine z_iload_n C dX6_lightOf_73 hl 3 rfl ?_
          refine s_pi C vX6_299 (mcX6_apart l _ _ (by omega) (by omega)) hS hl ⟨Nat.le_of_ble_eq_true rfl, Nat.le_of_ble_eq_true rfl⟩ ⟨rfl, rfl⟩ rfl rfl (Nat.le_of_ble_eq_true rfl) dX6_lightOf_74 ⟨Nat.zero_le _, Nat.zero_le _⟩ (fun locs hS => ?_)
          refine z_isub C dX6_lightOf_77 ?_
          refine s_pi C vX6_302 (mcX6_above l _ (by omega)) hS hl ⟨Nat.le_of_ble_eq_true rfl, Nat.le_of_ble_eq_true rfl⟩ ⟨rfl, rfl⟩ rfl rfl (Nat.le_of_ble_eq_true rfl) dX6_lightOf_78 ⟨Nat.zero_le _, Nat.zero_le _⟩ (fun locs hS => ?_)
          refine z_iadd C dX6_lightOf_81 ?_
          refine z_istore_n C dX6_lightOf_82 rfl hl (by decide) rfl (fun ls hl => ?_)
          have hl : lv_has ls 6 [(3, _), (5, _), (0, _), (1, _), (2, _), (4, _)] := hl
          refine z_iinc C dX6_lightOf_83 hl (by decide) 5 rfl rfl (fun ls hl => ?_)
          have hl : lv_has ls 6 [(4, _), (3, _), (5, _), (0, _), (1, _), (2, _)] := hl
          refine z_goto C 35 dX6_lightOf_86 (by decide) ?_
          exact hL_35 (k + 1) _ _ ls (by omega) (by omega) (by rw [zsm_s, ← Int.add_assoc, ← iN]; rfl)  hS (lv_sub hl [3, 4, 5, 1, 0] rfl)
    exact hL_35 _ 0 _ _ ls (Nat.lt_succ_self _) (by omega) (by (first | rw [if_pos (by assumption)] | rw [if_neg (by assumption)]); simp [zsm])  hS (lv_sub hl [2, 3, 4, 1, 0] rfl)
  · refine z_aload_n C dX6_lightOf_16 hl 0 rfl ?_
    refine m_geta C hK hP 27 (by decide) q1776 rfl (by decide) dX6_lightOf_17 ?_
    refine z_bipush C dX6_lightOf_20 rfl ?_
    refine z_iload_n C dX6_lightOf_22 hl 1 rfl ?_
    refine z_imul C dX6_lightOf_23 ?_
    refine z_iconst C dX6_lightOf_24 ?_
    refine z_iadd C dX6_lightOf_25 ?_
    refine m_iald C hK hP 27 (by decide) rfl (by have h9 : mlen 27 = 35 := rfl; omega) (pe hPS rfl) dX6_lightOf_26 (fun r_26 => ?_)
    refine z_goto C 31 dX6_lightOf_27 (by decide) ?_
    refine z_istore_n C dX6_lightOf_31 rfl hl (by decide) rfl (fun ls hl => ?_)
    have hl : lv_has ls 6 [(3, _), (0, _), (1, _), (2, _)] := hl
    refine z_iconst C dX6_lightOf_32 ?_
    refine z_istore C dX6_lightOf_33 hl (by decide) rfl (fun ls hl => ?_)
    have hl : lv_has ls 6 [(4, _), (3, _), (0, _), (1, _), (2, _)] := hl
    have hL_35 : ∀ (fuel : Nat) (k : Nat) (n : Int) (locs : List Loc) (ls : Array Slot), (P 19 r).toNat - k < fuel → ((k : Int) ≤ P 19 r) → (n = (if P 27 (7 * r + 6) = 1 then P 27 (7 * r + 5) else 0) + zsm (lightF P r pl) k) → va_S nA s.heap s.heap locs → lv_has ls 6 [(0, .ref h), (1, .int (iZ r)), (2, .int (iZ pl)), (3, .int (iZ n)), (4, .int (iZ (k : Int)))] → W prg l env (k2_rm 1 21) s mid ([.ref h, .int (iZ r), .int (iZ pl)] : List Value).toArray blw mth cod s.heap locs 0 0 Q (F0 mid 35 ls []) := by
      intro fuel
      induction fuel with
      | zero => intro k n  locs ls hm; exact absurd hm (Nat.not_lt_zero _)
      | succ fuel hL_35 =>
        intro k n  locs ls hm ik iN  hS hl
        refine z_iload C dX6_lightOf_35 hl 4 rfl ?_
        refine z_aload_n C dX6_lightOf_37 hl 0 rfl ?_
        refine m_geta C hK hP 19 (by decide) q1768 rfl (by decide) dX6_lightOf_38 ?_
        refine z_iload_n C dX6_lightOf_41 hl 1 rfl ?_
        refine m_iald C hK hP 19 (by decide) rfl (by have h9 : mlen 19 = 5 := rfl; omega) (pe hPS rfl) dX6_lightOf_42 (fun r_42 => ?_)
        refine z_icmp_ge C 89 dX6_lightOf_43 (by decide) (by omega) (by omega) (fun c_43 => ?_) (fun c_43 => ?_)
        · refine z_iload_n C dX6_lightOf_89 hl 3 rfl ?_
          refine z_aload_n C dX6_lightOf_90 hl 0 rfl ?_
          refine m_geti C hK hP 32 (by decide) q1781 rfl (Or.inl rfl) (pe hPS rfl) dX6_lightOf_91 (fun r_91 => ?_)
          refine z_aload_n C dX6_lightOf_94 hl 0 rfl ?_
          refine m_geti C hK hP 31 (by decide) q1780 rfl (Or.inl rfl) (pe hPS rfl) dX6_lightOf_95 (fun r_95 => ?_)
          refine z_iload_n C dX6_lightOf_98 hl 2 rfl ?_
          refine s_pi C vX6_299 (mcX6_apart l _ _ (by omega) (by omega)) hS hl ⟨Nat.le_of_ble_eq_true rfl, Nat.le_of_ble_eq_true rfl⟩ ⟨rfl, rfl⟩ rfl rfl (Nat.le_of_ble_eq_true rfl) dX6_lightOf_99 ⟨Nat.zero_le _, Nat.zero_le _⟩ (fun locs hS => ?_)
          refine z_isub C dX6_lightOf_102 ?_
          refine s_pi C vX6_302 (mcX6_above l _ (by omega)) hS hl ⟨Nat.le_of_ble_eq_true rfl, Nat.le_of_ble_eq_true rfl⟩ ⟨rfl, rfl⟩ rfl rfl (Nat.le_of_ble_eq_true rfl) dX6_lightOf_103 ⟨Nat.zero_le _, Nat.zero_le _⟩ (fun locs hS => ?_)
          refine z_iadd C dX6_lightOf_106 ?_
          exact z_pret_i C hQ hret hlk hS (by rw [light, iN]; congr 3; omega) dX6_lightOf_107
        · have w4 := hW.lamp (i := k) ⟨by omega, by omega⟩
          have w5 := zapart_in w4.1 hp
          refine z_iconst C dX6_lightOf_46 ?_
          refine z_iconst C dX6_lightOf_47 ?_
          refine z_iload_n C dX6_lightOf_48 hl 1 rfl ?_
          refine z_imul C dX6_lightOf_49 ?_
          refine z_iload C dX6_lightOf_50 hl 4 rfl ?_
          refine z_iadd C dX6_lightOf_52 ?_
          refine z_imul C dX6_lightOf_53 ?_
          refine z_istore C dX6_lightOf_54 hl (by decide) rfl (fun ls hl => ?_)
          have hl : lv_has ls 6 [(5, _), (0, _), (1, _), (2, _), (3, _), (4, _)] := hl
          refine z_iload_n C dX6_lightOf_56 hl 4 rfl ?_
          refine z_aload_n C dX6_lightOf_57 hl 1 rfl ?_
          refine m_geta C hK hP 20 (by decide) q1769 rfl (by decide) dX6_lightOf_58 ?_
          refine z_iload C dX6_lightOf_61 hl 0 rfl ?_
          refine z_iconst C dX6_lightOf_63 ?_
          refine z_iadd C dX6_lightOf_64 ?_
          refine m_iald C hK hP 20 (by decide) rfl (by have h9 : mlen 20 = 40 := rfl; omega) (pe hPS rfl) dX6_lightOf_65 (fun r_65 => ?_)
          refine z_aload_n C dX6_lightOf_66 hl 1 rfl ?_
          refine m_geta C hK hP 20 (by decide) q1769 rfl (by decide) dX6_lightOf_67 ?_
          refine z_iload C dX6_lightOf_70 hl 0 rfl ?_
          refine m_iald C hK hP 20 (by decide) rfl (by have h9 : mlen 20 = 40 := rfl; omega) (pe hPS rfl) dX6_lightOf_72 (fun r_72 => ?_)
          refine z_iload_n C dX6_lightOf_73 hl 3 rfl ?_
          refine s_pi C vX6_299 (mcX6_apart l _ _ (by omega) (by omega)) hS hl ⟨Nat.le_of_ble_eq_true rfl, Nat.le_of_ble_eq_true rfl⟩ ⟨rfl, rfl⟩ rfl rfl (Nat.le_of_ble_eq_true rfl) dX6_lightOf_74 ⟨Nat.zero_le _, Nat.zero_le _⟩ (fun locs hS => ?_)
          refine z_isub C dX6_lightOf_77 ?_
          refine s_pi C vX6_302 (mcX6_above l _ (by omega)) hS hl ⟨Nat.le_of_ble_eq_true rfl, Nat.le_of_ble_eq_true rfl⟩ ⟨rfl, rfl⟩ rfl rfl (Nat.le_of_ble_eq_true rfl) dX6_lightOf_78 ⟨Nat.zero_le _, Nat.zero_le _⟩ (fun locs hS => ?_)
          refine z_iadd C dX6_lightOf_81 ?_
          refine z_istore_n C dX6_lightOf_82 rfl hl (by decide) rfl (fun ls hl => ?_)
          have hl : lv_has ls 6 [(3, _), (5, _), (0, _), (1, _), (2, _), (4, _)] := hl
          refine z_iinc C dX6_lightOf_83 hl (by decide) 5 rfl rfl (fun ls hl => ?_)
          have hl : lv_has ls 6 [(4, _), (3, _), (5, _), (0, _), (1, _), (2, _)] := hl
          refine z_goto C 35 dX6_lightOf_86 (by decide) ?_
          exact hL_35 (k + 1) _ _ ls (by omega) (by omega) (by rw [zsm_s, ← Int.add_assoc, ← iN]; rfl)  hS (lv_sub hl [3, 4, 5, 1, 0] rfl)
    exact hL_35 _ 0 _ _ ls (Nat.lt_succ_self _) (by omega) (by (first | rw [if_pos (by assumption)] | rw [if_neg (by assumption)]); simp [zsm])  hS (lv_sub hl [2, 3, 4, 1, 0] rfl)
