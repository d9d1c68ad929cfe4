theorem vX6_198 : zV RX6 198 RX6 yX6_number cX6_number 5 (some .int) 3 := ⟨lw_V q1993 q1995 qs73 q149 q1996, rfl, by decide +kernel⟩
theorem mcX6_lampLine (l : Launch) (g : mG) (h : Nat) (ad : Nat → Nat) (P S : zS) (hPS : per S = P) (T : Int → Int) (nn : Int) (st : rS) (hnn : 0 ≤ nn ∧ nn ≤ 1600) (h5 : P 5 = T) (h6 : P 6 0 = nn) (hM : MS T nn st S) (hR : RdOk P) (hc : P 19 4 < 4) : mMV l g h ad yX6_lampLine cX6_lampLine 2 (k2_rm 5 112) [] S (fun S1 => per S1 = lampP T nn P st ∧ MS T nn (lampSt T nn P st) S1) := by
  refine z_start (own := RX6) (by decide) rfl (Nat.le_of_ble_eq_true rfl) ?_
  intro prg env s mid blw mth cod ls Q C hQ hret hlk hnm hK hH hl
  have hP : MP g h ad S s.heap := hH
  have hS : va_S (MA h ad) s.heap s.heap [] := va_S.rf
  have hl : lv_has ls 2 [(0, .ref h)] := hl
  have r9 := hR
  unfold RdOk at r9
  refine z_iconst C dX6_lampLine_0 ?_
  refine z_bipush C dX6_lampLine_1 rfl ?_
  refine z_aload_n C dX6_lampLine_3 hl 0 rfl ?_
  refine m_geta C hK hP 19 (by decide) q1768 rfl (by decide) dX6_lampLine_4 ?_
  refine z_iconst C dX6_lampLine_7 ?_
  refine m_iald C hK hP 19 (by decide) rfl (by have h9 : mlen 19 = 5 := rfl; omega) (pe hPS rfl) dX6_lampLine_8 (fun r_8 => ?_)
  refine z_iadd C dX6_lampLine_9 ?_
  refine z_imul C dX6_lampLine_10 ?_
  refine z_istore_n C dX6_lampLine_11 rfl hl (by decide) rfl (fun ls hl => ?_)
  have hl : lv_has ls 2 [(1, _), (0, _)] := hl
  refine z_aload_n C dX6_lampLine_12 hl 1 rfl ?_
  refine m_geta C hK hP 20 (by decide) q1769 rfl (by decide) dX6_lampLine_13 ?_
  refine z_iload_n C dX6_lampLine_16 hl 0 rfl ?_
  refine z_aload_n C dX6_lampLine_17 hl 1 rfl ?_
  refine z_ldc2 (v := 47) C q2029 dX6_lampLine_18 rfl ?_
  refine z_iconst C dX6_lampLine_21 ?_
  refine z_aload_n C dX6_lampLine_22 hl 1 rfl ?_
  refine m_geta C hK hP 17 (by decide) q1766 rfl (by decide) dX6_lampLine_23 ?_
  refine z_iconst C dX6_lampLine_26 ?_
  refine m_iald C hK hP 17 (by decide) rfl (by have h9 : mlen 17 = 5 := rfl; omega) (pe hPS rfl) dX6_lampLine_27 (fun r_27 => ?_)
  refine z_iconst C dX6_lampLine_28 ?_
  refine z_isub C dX6_lampLine_29 ?_
  refine m_mi C vX6_198 (mcX6_number l g h ad _ _ hPS T nn _ _ _ _ hnn (by simp [zup_k, h5]) (by simp [zup_k, h6]) hM (by omega) (by omega) (by omega)) hS hl ⟨Nat.le_of_ble_eq_true rfl, Nat.le_of_ble_eq_true rfl⟩ ⟨rfl, rfl⟩ hK hP (fun _ h9 => h9) rfl rfl (Nat.le_of_ble_eq_true rfl) dX6_lampLine_30 ⟨Nat.zero_le _, Nat.zero_le _⟩ (fun v_30 S_30 H locs pS_30 hP hS => ?_)
  obtain ⟨e_30, pS_30⟩ := pS_30
  subst e_30
  have hS_30 : per S_30 = P := (pS_30.2.2.pr rfl hPS)
  have q0 := pS_30.1
  refine m_iast C hK hP hS 20 (by decide) rfl (by have h9 : mlen 20 = 40 := rfl; omega) (by omega) dX6_lampLine_33 (fun S_33 eS_33 H locs hP hS => ?_)
  have hS_33 := per_w2 rfl hS_30 eS_33
  refine z_aload_n C dX6_lampLine_34 hl 1 rfl ?_
  refine m_geta C hK hP 20 (by decide) q1769 rfl (by decide) dX6_lampLine_35 ?_
  refine z_iload_n C dX6_lampLine_38 hl 0 rfl ?_
  refine z_iconst C dX6_lampLine_39 ?_
  refine z_iadd C dX6_lampLine_40 ?_
  refine z_aload_n C dX6_lampLine_41 hl 1 rfl ?_
  refine z_ldc2 (v := 38446238) C q2030 dX6_lampLine_42 rfl ?_
  refine z_iconst C dX6_lampLine_45 ?_
  refine z_bipush C dX6_lampLine_46 rfl ?_
  refine m_mi C vX6_198 (mcX6_number l g h ad _ _ hS_33 T nn _ _ _ _ hnn (by simp [zup_k, h5]) (by simp [zup_k, h6]) (pS_30.2.1.mv (Fr.up Fr.rf eS_33 (by decide : 20 ∈ ([20] : List Nat))) rfl) (by omega) (by omega) (by omega)) hS hl ⟨Nat.le_of_ble_eq_true rfl, Nat.le_of_ble_eq_true rfl⟩ ⟨rfl, rfl⟩ hK hP (fun _ h9 => h9) rfl rfl (Nat.le_of_ble_eq_true rfl) dX6_lampLine_48 ⟨Nat.zero_le _, Nat.zero_le _⟩ (fun v_48 S_48 H locs pS_48 hP hS => ?_)
  obtain ⟨e_48, pS_48⟩ := pS_48
  subst e_48
  have hS_48 : per S_48 = _ := (pS_48.2.2.pr rfl hS_33)
  have q2 := pS_48.1
  refine m_iast C hK hP hS 20 (by decide) rfl (by have h9 : mlen 20 = 40 := rfl; omega) (by omega) dX6_lampLine_51 (fun S_51 eS_51 H locs hP hS => ?_)
  have hS_51 := per_w2 rfl hS_48 eS_51
  have q1 : S_51 19 4 = P 19 4 := (pe hS_51 rfl).trans (by simp [zup_k])
  refine z_aload_n C dX6_lampLine_52 hl 1 rfl ?_
  refine m_geta C hK hP 19 (by decide) q1768 rfl (by decide) dX6_lampLine_53 ?_
  refine z_iconst C dX6_lampLine_56 ?_
  refine z_dup2_11 C dX6_lampLine_57 rfl rfl ?_
  refine m_iald C hK hP 19 (by decide) rfl (by have h9 : mlen 19 = 5 := rfl; omega) q1 dX6_lampLine_58 (fun r_58 => ?_)
  refine z_iconst C dX6_lampLine_59 ?_
  refine z_iadd C dX6_lampLine_60 ?_
  refine m_iast C hK hP hS 19 (by decide) rfl (by have h9 : mlen 19 = 5 := rfl; omega) (by omega) dX6_lampLine_61 (fun S_61 eS_61 H locs hP hS => ?_)
  have hS_61 := per_w2 rfl hS_51 eS_61
  exact m_mret_v C hQ hret hlk hS hP ⟨hS_61, (pS_48.2.1.mv (Fr.up (Fr.up Fr.rf eS_51 (by decide : 20 ∈ ([20, 19] : List Nat))) eS_61 (by decide : 19 ∈ ([20, 19] : List Nat))) rfl)⟩ dX6_lampLine_62
theorem mcX6_lockLine (l : Launch) (g : mG) (h : Nat) (ad : Nat → Nat) (P S : zS) (hPS : per S = P) (T : Int → Int) (nn : Int) (st : rS) (hnn : 0 ≤ nn ∧ nn ≤ 1600) (h5 : P 5 = T) (h6 : P 6 0 = nn) (hM : MS T nn st S) (hR : RdOk P) (hc : P 21 4 < 5) : mMV l g h ad yX6_lockLine cX6_lockLine 2 (k2_rm 5 112) [] S (fun S1 => per S1 = lockP T nn P st ∧ MS T nn (lockSt T nn st) S1) := by
  refine z_start (own := RX6) (by decide) rfl (Nat.le_of_ble_eq_true rfl) ?_
  intro prg env s mid blw mth cod ls Q C hQ hret hlk hnm hK hH hl
  have hP : MP g h ad S s.heap := hH
  have hS : va_S (MA h ad) s.heap s.heap [] := va_S.rf
  have hl : lv_has ls 2 [(0, .ref h)] := hl
  have r9 := hR
  unfold RdOk at r9
  refine z_iconst C dX6_lockLine_0 ?_
  refine z_bipush C dX6_lockLine_1 rfl ?_
  refine z_aload_n C dX6_lockLine_3 hl 0 rfl ?_
  refine m_geta C hK hP 21 (by decide) q1770 rfl (by decide) dX6_lockLine_4 ?_
  refine z_iconst C dX6_lockLine_7 ?_
  refine m_iald C hK hP 21 (by decide) rfl (by have h9 : mlen 21 = 5 := rfl; omega) (pe hPS rfl) dX6_lockLine_8 (fun r_8 => ?_)
  refine z_iadd C dX6_lockLine_9 ?_
  refine z_imul C dX6_lockLine_10 ?_
  refine z_istore_n C dX6_lockLine_11 rfl hl (by decide) rfl (fun ls hl => ?_)
  have hl : lv_has ls 2 [(1, _), (0, _)] := hl
  refine z_aload_n C dX6_lockLine_12 hl 1 rfl ?_
  refine m_geta C hK hP 22 (by decide) q1771 rfl (by decide) dX6_lockLine_13 ?_
  refine z_iload_n C dX6_lockLine_16 hl 0 rfl ?_
  refine z_aload_n C dX6_lockLine_17 hl 1 rfl ?_
  refine z_ldc2 (v := 8863997) C q2012 dX6_lockLine_18 rfl ?_
  refine z_iconst C dX6_lockLine_21 ?_
  refine z_sipush C dX6_lockLine_22 rfl ?_
  refine m_mi C vX6_198 (mcX6_number l g h ad _ _ hPS T nn _ _ _ _ hnn (by simp [zup_k, h5]) (by simp [zup_k, h6]) hM (by omega) (by omega) (by omega)) hS hl ⟨Nat.le_of_ble_eq_true rfl, Nat.le_of_ble_eq_true rfl⟩ ⟨rfl, rfl⟩ hK hP (fun _ h9 => h9) rfl rfl (Nat.le_of_ble_eq_true rfl) dX6_lockLine_25 ⟨Nat.zero_le _, Nat.zero_le _⟩ (fun v_25 S_25 H locs pS_25 hP hS => ?_)
  obtain ⟨e_25, pS_25⟩ := pS_25
  subst e_25
  have hS_25 : per S_25 = P := (pS_25.2.2.pr rfl hPS)
  have q0 := pS_25.1
  refine m_iast C hK hP hS 22 (by decide) rfl (by have h9 : mlen 22 = 100 := rfl; omega) (by omega) dX6_lockLine_28 (fun S_28 eS_28 H locs hP hS => ?_)
  have hS_28 := per_w2 rfl hS_25 eS_28
  refine z_aload_n C dX6_lockLine_29 hl 1 rfl ?_
  refine m_geta C hK hP 22 (by decide) q1771 rfl (by decide) dX6_lockLine_30 ?_
  refine z_iload_n C dX6_lockLine_33 hl 0 rfl ?_
  refine z_iconst C dX6_lockLine_34 ?_
  refine z_iadd C dX6_lockLine_35 ?_
  refine z_aload_n C dX6_lockLine_36 hl 1 rfl ?_
  refine z_ldc2 (v := 74917) C q2035 dX6_lockLine_37 rfl ?_
  refine z_iconst C dX6_lockLine_40 ?_
  refine z_sipush C dX6_lockLine_41 rfl ?_
  refine m_mi C vX6_198 (mcX6_number l g h ad _ _ hS_28 T nn _ _ _ _ hnn (by simp [zup_k, h5]) (by simp [zup_k, h6]) (pS_25.2.1.mv (Fr.up Fr.rf eS_28 (by decide : 22 ∈ ([22] : List Nat))) rfl) (by omega) (by omega) (by omega)) hS hl ⟨Nat.le_of_ble_eq_true rfl, Nat.le_of_ble_eq_true rfl⟩ ⟨rfl, rfl⟩ hK hP (fun _ h9 => h9) rfl rfl (Nat.le_of_ble_eq_true rfl) dX6_lockLine_44 ⟨Nat.zero_le _, Nat.zero_le _⟩ (fun v_44 S_44 H locs pS_44 hP hS => ?_)
  obtain ⟨e_44, pS_44⟩ := pS_44
  subst e_44
  have hS_44 : per S_44 = _ := (pS_44.2.2.pr rfl hS_28)
  have q2 := pS_44.1
  refine m_iast C hK hP hS 22 (by decide) rfl (by have h9 : mlen 22 = 100 := rfl; omega) (by omega) dX6_lockLine_47 (fun S_47 eS_47 H locs hP hS => ?_)
  have hS_47 := per_w2 rfl hS_44 eS_47
  refine z_aload_n C dX6_lockLine_48 hl 1 rfl ?_
  refine m_geta C hK hP 22 (by decide) q1771 rfl (by decide) dX6_lockLine_49 ?_
  refine z_iload_n C dX6_lockLine_52 hl 0 rfl ?_
  refine z_iconst C dX6_lockLine_53 ?_
  refine z_iadd C dX6_lockLine_54 ?_
  refine z_aload_n C dX6_lockLine_55 hl 1 rfl ?_
  refine z_iconst C dX6_lockLine_56 ?_
  refine z_sipush C dX6_lockLine_57 rfl ?_
  refine m_mi C vX6_189 (mcX6_number_2 l g h ad _ _ hS_47 T nn _ _ _ hnn (by simp [zup_k, h5]) (by simp [zup_k, h6]) (pS_44.2.1.mv (Fr.up Fr.rf eS_47 (by decide : 22 ∈ ([22] : List Nat))) rfl) (by omega) (by omega)) hS hl ⟨Nat.le_of_ble_eq_true rfl, Nat.le_of_ble_eq_true rfl⟩ ⟨rfl, rfl⟩ hK hP (fun _ h9 => h9) rfl rfl (Nat.le_of_ble_eq_true rfl) dX6_lockLine_60 ⟨Nat.zero_le _, Nat.zero_le _⟩ (fun v_60 S_60 H locs pS_60 hP hS => ?_)
  obtain ⟨e_60, pS_60⟩ := pS_60
  subst e_60
  have hS_60 : per S_60 = _ := (pS_60.2.2.pr rfl hS_47)
  have q3 := pS_60.1
  refine m_iast C hK hP hS 22 (by decide) rfl (by have h9 : mlen 22 = 100 := rfl; omega) (by omega) dX6_lockLine_63 (fun S_63 eS_63 H locs hP hS => ?_)
  have hS_63 := per_w2 rfl hS_60 eS_63
  refine z_aload_n C dX6_lockLine_64 hl 1 rfl ?_
  refine m_geta C hK hP 22 (by decide) q1771 rfl (by decide) dX6_lockLine_65 ?_
  refine z_iload_n C dX6_lockLine_68 hl 0 rfl ?_
  refine z_iconst C dX6_lockLine_69 ?_
  refine z_iadd C dX6_lockLine_70 ?_
  refine z_aload_n C dX6_lockLine_71 hl 1 rfl ?_
  refine z_iconst C dX6_lockLine_72 ?_
  refine z_sipush C dX6_lockLine_73 rfl ?_
  refine m_mi C vX6_189 (mcX6_number_2 l g h ad _ _ hS_63 T nn _ _ _ hnn (by simp [zup_k, h5]) (by simp [zup_k, h6]) (pS_60.2.1.mv (Fr.up Fr.rf eS_63 (by decide : 22 ∈ ([22] : List Nat))) rfl) (by omega) (by omega)) hS hl ⟨Nat.le_of_ble_eq_true rfl, Nat.le_of_ble_eq_true rfl⟩ ⟨rfl, rfl⟩ hK hP (fun _ h9 => h9) rfl rfl (Nat.le_of_ble_eq_true rfl) dX6_lockLine_76 ⟨Nat.zero_le _, Nat.zero_le _⟩ (fun v_76 S_76 H locs pS_76 hP hS => ?_)
  obtain ⟨e_76, pS_76⟩ := pS_76
  subst e_76
  have hS_76 : per S_76 = _ := (pS_76.2.2.pr rfl hS_63)
  have q4 := pS_76.1
  refine m_iast C hK hP hS 22 (by decide) rfl (by have h9 : mlen 22 = 100 := rfl; omega) (by omega) dX6_lockLine_79 (fun S_79 eS_79 H locs hP hS => ?_)
  have hS_79 := per_w2 rfl hS_76 eS_79
  have q1 : S_79 21 4 = P 21 4 := (pe hS_79 rfl).trans (by simp [zup_k])
  refine z_aload_n C dX6_lockLine_80 hl 1 rfl ?_
  refine m_geta C hK hP 21 (by decide) q1770 rfl (by decide) dX6_lockLine_81 ?_
  refine z_iconst C dX6_lockLine_84 ?_
  refine z_dup2_11 C dX6_lockLine_85 rfl rfl ?_
  refine m_iald C hK hP 21 (by decide) rfl (by have h9 : mlen 21 = 5 := rfl; omega) q1 dX6_lockLine_86 (fun r_86 => ?_)
  refine z_iconst C dX6_lockLine_87 ?_
  refine z_iadd C dX6_lockLine_88 ?_
  refine m_iast C hK hP hS 21 (by decide) rfl (by have h9 : mlen 21 = 5 := rfl; omega) (by omega) dX6_lockLine_89 (fun S_89 eS_89 H locs hP hS => ?_)
  have hS_89 := per_w2 rfl hS_79 eS_89
  exact m_mret_v C hQ hret hlk hS hP ⟨hS_89, (pS_76.2.1.mv (Fr.up (Fr.up Fr.rf eS_79 (by decide : 22 ∈ ([22, 21] : List Nat))) eS_89 (by decide : 21 ∈ ([22, 21] : List Nat))) rfl)⟩ dX6_lockLine_90
theorem mcX6_railLine (l : Launch) (g : mG) (h : Nat) (ad : Nat → Nat) (P S : zS) (hPS : per S = P) (T : Int → Int) (nn : Int) (st : rS) (hnn : 0 ≤ nn ∧ nn ≤ 1600) (h5 : P 5 = T) (h6 : P 6 0 = nn) (hM : MS T nn st S) (hR : RdOk P) : mMV l g h ad yX6_railLine cX6_railLine 1 (k2_rm 5 112) [] S (fun S1 => per S1 = railP T nn P st ∧ MS T nn (railSt T nn st) S1) := by
  refine z_start (own := RX6) (by decide) rfl (Nat.le_of_ble_eq_true rfl) ?_
  intro prg env s mid blw mth cod ls Q C hQ hret hlk hnm hK hH hl
  have hP : MP g h ad S s.heap := hH
  have hS : va_S (MA h ad) s.heap s.heap [] := va_S.rf
  have hl : lv_has ls 1 [(0, .ref h)] := hl
  have r9 := hR
  unfold RdOk at r9
  refine z_aload_n C dX6_railLine_0 hl 0 rfl ?_
  refine z_ldc2 (v := 355278) C q1975 dX6_railLine_1 rfl ?_
  refine m_mv C vX6_185 (mcX6_asks l g h ad _ _ hPS T nn _ _ hnn (by simp [zup_k, h5]) (by simp [zup_k, h6]) hM (by omega)) hS hl ⟨Nat.le_of_ble_eq_true rfl, Nat.le_of_ble_eq_true rfl⟩ ⟨rfl, rfl⟩ hK hP (fun _ h9 => h9) rfl rfl (Nat.le_of_ble_eq_true rfl) dX6_railLine_4 ⟨Nat.zero_le _, Nat.zero_le _⟩ (fun S_4 H locs pS_4 hP hS => ?_)
  have hS_4 : per S_4 = P := (pS_4.2.pr rfl hPS)
  refine z_aload_n C dX6_railLine_7 hl 0 rfl ?_
  refine m_geta C hK hP 17 (by decide) q1766 rfl (by decide) dX6_railLine_8 ?_
  refine z_iconst C dX6_railLine_11 ?_
  refine z_aload_n C dX6_railLine_12 hl 0 rfl ?_
  refine z_ldc2 (v := 235981828) C q1992 dX6_railLine_13 rfl ?_
  refine z_iconst C dX6_railLine_16 ?_
  refine z_bipush C dX6_railLine_17 rfl ?_
  refine m_mi C vX6_198 (mcX6_number l g h ad _ _ hS_4 T nn _ _ _ _ hnn (by simp [zup_k, h5]) (by simp [zup_k, h6]) pS_4.1 (by omega) (by omega) (by omega)) hS hl ⟨Nat.le_of_ble_eq_true rfl, Nat.le_of_ble_eq_true rfl⟩ ⟨rfl, rfl⟩ hK hP (fun _ h9 => h9) rfl rfl (Nat.le_of_ble_eq_true rfl) dX6_railLine_19 ⟨Nat.zero_le _, Nat.zero_le _⟩ (fun v_19 S_19 H locs pS_19 hP hS => ?_)
  obtain ⟨e_19, pS_19⟩ := pS_19
  subst e_19
  have hS_19 : per S_19 = P := (pS_19.2.2.pr rfl hS_4)
  have q0 := pS_19.1
  refine m_iast C hK hP hS 17 (by decide) rfl (by have h9 : mlen 17 = 5 := rfl; omega) (by omega) dX6_railLine_22 (fun S_22 eS_22 H locs hP hS => ?_)
  have hS_22 := per_w2 rfl hS_19 eS_22
  refine z_aload_n C dX6_railLine_23 hl 0 rfl ?_
  refine m_geta C hK hP 18 (by decide) q1767 rfl (by decide) dX6_railLine_24 ?_
  refine z_iconst C dX6_railLine_27 ?_
  refine z_aload_n C dX6_railLine_28 hl 0 rfl ?_
  refine z_ldc2 (v := 205811839) C q2001 dX6_railLine_29 rfl ?_
  refine z_iconst C dX6_railLine_32 ?_
  refine z_bipush C dX6_railLine_33 rfl ?_
  refine m_mi C vX6_198 (mcX6_number l g h ad _ _ hS_22 T nn _ _ _ _ hnn (by simp [zup_k, h5]) (by simp [zup_k, h6]) (pS_19.2.1.mv (Fr.up Fr.rf eS_22 (by decide : 17 ∈ ([17] : List Nat))) rfl) (by omega) (by omega) (by omega)) hS hl ⟨Nat.le_of_ble_eq_true rfl, Nat.le_of_ble_eq_true rfl⟩ ⟨rfl, rfl⟩ hK hP (fun _ h9 => h9) rfl rfl (Nat.le_of_ble_eq_true rfl) dX6_railLine_35 ⟨Nat.zero_le _, Nat.zero_le _⟩ (fun v_35 S_35 H locs pS_35 hP hS => ?_)
  obtain ⟨e_35, pS_35⟩ := pS_35
  subst e_35
  have hS_35 : per S_35 = _ := (pS_35.2.2.pr rfl hS_22)
  have q2 := pS_35.1
  refine m_iast C hK hP hS 18 (by decide) rfl (by have h9 : mlen 18 = 5 := rfl; omega) (by omega) dX6_railLine_38 (fun S_38 eS_38 H locs hP hS => ?_)
  have hS_38 := per_w2 rfl hS_35 eS_38
  exact m_mret_v C hQ hret hlk hS hP ⟨hS_38, (pS_35.2.1.mv (Fr.up Fr.rf eS_38 (by decide : 18 ∈ ([18] : List Nat))) rfl)⟩ dX6_railLine_39
theorem mcX6_bikeLine (l : Launch) (g : mG) (h : Nat) (ad : Nat → Nat) (P S : zS) (hPS : per S = P) (T : Int → Int) (nn : Int) (st : rS) (hnn : 0 ≤ nn ∧ nn ≤ 1600) (h5 : P 5 = T) (h6 : P 6 0 = nn) (hM : MS T nn st S) (hR : RdOk P) (hc : P 23 4 < 10) : mMV l g h ad yX6_bikeLine cX6_bikeLine 4 (k2_rm 5 112) [] S (fun S1 => per S1 = bikeP T nn P st ∧ MS T nn (bikeSt T nn P st) S1) := by
  refine z_start (own := RX6) (by decide) rfl (Nat.le_of_ble_eq_true rfl) ?_
  intro prg env s mid blw mth cod ls Q C hQ hret hlk hnm hK hH hl
  have hP : MP g h ad S s.heap := hH
  have hS : va_S (MA h ad) s.heap s.heap [] := va_S.rf
  have hl : lv_has ls 4 [(0, .ref h)] := hl
  have r9 := hR
  unfold RdOk at r9
  refine z_iconst C dX6_bikeLine_0 ?_
  refine z_bipush C dX6_bikeLine_1 rfl ?_
  refine z_aload_n C dX6_bikeLine_3 hl 0 rfl ?_
  refine m_geta C hK hP 23 (by decide) q1772 rfl (by decide) dX6_bikeLine_4 ?_
  refine z_iconst C dX6_bikeLine_7 ?_
  refine m_iald C hK hP 23 (by decide) rfl (by have h9 : mlen 23 = 5 := rfl; omega) (pe hPS rfl) dX6_bikeLine_8 (fun r_8 => ?_)
  refine z_iadd C dX6_bikeLine_9 ?_
  refine z_imul C dX6_bikeLine_10 ?_
  refine z_istore_n C dX6_bikeLine_11 rfl hl (by decide) rfl (fun ls hl => ?_)
  have hl : lv_has ls 4 [(1, _), (0, _)] := hl
  refine z_aload_n C dX6_bikeLine_12 hl 1 rfl ?_
  refine m_geta C hK hP 24 (by decide) q1773 rfl (by decide) dX6_bikeLine_13 ?_
  refine z_iload_n C dX6_bikeLine_16 hl 0 rfl ?_
  refine z_aload_n C dX6_bikeLine_17 hl 1 rfl ?_
  refine z_ldc2 (v := 12532058) C q2040 dX6_bikeLine_18 rfl ?_
  refine z_iconst C dX6_bikeLine_21 ?_
  refine z_sipush C dX6_bikeLine_22 rfl ?_
  refine m_mi C vX6_198 (mcX6_number l g h ad _ _ hPS T nn _ _ _ _ hnn (by simp [zup_k, h5]) (by simp [zup_k, h6]) hM (by omega) (by omega) (by omega)) hS hl ⟨Nat.le_of_ble_eq_true rfl, Nat.le_of_ble_eq_true rfl⟩ ⟨rfl, rfl⟩ hK hP (fun _ h9 => h9) rfl rfl (Nat.le_of_ble_eq_true rfl) dX6_bikeLine_25 ⟨Nat.zero_le _, Nat.zero_le _⟩ (fun v_25 S_25 H locs pS_25 hP hS => ?_)
  obtain ⟨e_25, pS_25⟩ := pS_25
  subst e_25
  have hS_25 : per S_25 = P := (pS_25.2.2.pr rfl hPS)
  have q0 := pS_25.1
  refine m_iast C hK hP hS 24 (by decide) rfl (by have h9 : mlen 24 = 250 := rfl; omega) (by omega) dX6_bikeLine_28 (fun S_28 eS_28 H locs hP hS => ?_)
  have hS_28 := per_w2 rfl hS_25 eS_28
  refine z_aload_n C dX6_bikeLine_29 hl 1 rfl ?_
  refine m_geta C hK hP 24 (by decide) q1773 rfl (by decide) dX6_bikeLine_30 ?_
  refine z_iload_n C dX6_bikeLine_33 hl 0 rfl ?_
  refine z_iconst C dX6_bikeLine_34 ?_
  refine z_iadd C dX6_bikeLine_35 ?_
  refine z_aload_n C dX6_bikeLine_36 hl 1 rfl ?_
  refine z_ldc2 (v := 10199809) C q2041 dX6_bikeLine_37 rfl ?_
  refine z_iconst C dX6_bikeLine_40 ?_
  refine z_sipush C dX6_bikeLine_41 rfl ?_
  refine m_mi C vX6_198 (mcX6_number l g h ad _ _ hS_28 T nn _ _ _ _ hnn (by simp [zup_k, h5]) (by simp [zup_k, h6]) (pS_25.2.1.mv (Fr.up Fr.rf eS_28 (by decide : 24 ∈ ([24] : List Nat))) rfl) (by omega) (by omega) (by omega)) hS hl ⟨Nat.le_of_ble_eq_true rfl, Nat.le_of_ble_eq_true rfl⟩ ⟨rfl, rfl⟩ hK hP (fun _ h9 => h9) rfl rfl (Nat.le_of_ble_eq_true rfl) dX6_bikeLine_44 ⟨Nat.zero_le _, Nat.zero_le _⟩ (fun v_44 S_44 H locs pS_44 hP hS => ?_)
  obtain ⟨e_44, pS_44⟩ := pS_44
  subst e_44
  have hS_44 : per S_44 = _ := (pS_44.2.2.pr rfl hS_28)
  have q2 := pS_44.1
  refine m_iast C hK hP hS 24 (by decide) rfl (by have h9 : mlen 24 = 250 := rfl; omega) (by omega) dX6_bikeLine_47 (fun S_47 eS_47 H locs hP hS => ?_)
  have hS_47 := per_w2 rfl hS_44 eS_47
  refine z_aload_n C dX6_bikeLine_48 hl 1 rfl ?_
  refine z_ldc2 (v := 47) C q2029 dX6_bikeLine_49 rfl ?_
  refine m_mv C vX6_185 (mcX6_asks l g h ad _ _ hS_47 T nn _ _ hnn (by simp [zup_k, h5]) (by simp [zup_k, h6]) (pS_44.2.1.mv (Fr.up Fr.rf eS_47 (by decide : 24 ∈ ([24] : List Nat))) rfl) (by omega)) hS hl ⟨Nat.le_of_ble_eq_true rfl, Nat.le_of_ble_eq_true rfl⟩ ⟨rfl, rfl⟩ hK hP (fun _ h9 => h9) rfl rfl (Nat.le_of_ble_eq_true rfl) dX6_bikeLine_52 ⟨Nat.zero_le _, Nat.zero_le _⟩ (fun S_52 H locs pS_52 hP hS => ?_)
  have hS_52 : per S_52 = _ := (pS_52.2.pr rfl hS_47)
  have q1 : S_52 23 4 = P 23 4 := (pe hS_52 rfl).trans (by simp [zup_k])
  have q3 : MS T nn (bike3 T nn st) S_52 := pS_52.1
  refine z_iconst C dX6_bikeLine_55 ?_
  refine z_istore_n C dX6_bikeLine_56 rfl hl (by decide) rfl (fun ls hl => ?_)
  have hl : lv_has ls 4 [(2, _), (1, _), (0, _)] := hl
  refine z_iconst C dX6_bikeLine_57 ?_
  refine z_istore_n C dX6_bikeLine_58 rfl hl (by decide) rfl (fun ls hl => ?_)
  have hl : lv_has ls 4 [(3, _), (2, _), (1, _), (0, _)] := hl
  have hL_59 : ∀ (fuel : Nat) (k : Nat) (u : Int) (H : Heap) (locs : List Loc) (ls : Array Slot), (P 23 4).toNat - k < fuel → ((k : Int) ≤ P 23 4) → (u = stdN P (S_52 10 0) k) → MP g h ad S_52 H → va_S (MA h ad) s.heap H locs → lv_has ls 4 [(0, .ref h), (1, .int (iZ (5 * (40 + P 23 4)))), (2, .int (iZ u)), (3, .int (iZ (k : Int)))] → W prg l env (k2_rm 5 112) s mid ([.ref h] : List Value).toArray blw mth cod H locs 0 0 Q (F0 mid 59 ls []) := by
    intro fuel
    induction fuel with
    | zero => intro k u  H locs ls hm; exact absurd hm (Nat.not_lt_zero _)
    | succ fuel hL_59 =>
      intro k u  H locs ls hm ik iu hP  hS hl
      refine z_iload_n C dX6_bikeLine_59 hl 3 rfl ?_
      refine z_aload_n C dX6_bikeLine_60 hl 0 rfl ?_
      refine m_geta C hK hP 23 (by decide) q1772 rfl (by decide) dX6_bikeLine_61 ?_
      refine z_iconst C dX6_bikeLine_64 ?_
      refine m_iald C hK hP 23 (by decide) rfl (by have h9 : mlen 23 = 5 := rfl; omega) q1 dX6_bikeLine_65 (fun r_65 => ?_)
      refine z_icmp_ge C 105 dX6_bikeLine_66 (by decide) (by omega) (by omega) (fun c_66 => ?_) (fun c_66 => ?_)
      · have q4 := stdN_in P (S_52 10 0) k
        have hL_129 : ∀  (S3 : zS) (H : Heap) (locs : List Loc) (ls : Array Slot), (MS T nn (bike4 T nn P st) S3) → per S3 = zup (zup P 24 (5 * (40 + P 23 4)) (numWV T nn st 12532058 0 9999)) 24 (5 * (40 + P 23 4) + 1) (numWV T nn (bike1 T nn st) 10199809 0 9999) → MP g h ad S3 H → va_S (MA h ad) s.heap H locs → lv_has ls 4 [(0, .ref h), (1, .int (iZ (5 * (40 + P 23 4))))] → W prg l env (k2_rm 5 112) s mid ([.ref h] : List Value).toArray blw mth cod H locs 0 0 Q (F0 mid 129 ls []) := by
          intro  S3  H locs ls m4 hPS_129 hP  hS hl
          have q8 : S3 17 4 = P 17 4 := (pe hPS_129 rfl).trans (by simp [zup_k])
          refine z_aload_n C dX6_bikeLine_129 hl 0 rfl ?_
          refine m_geta C hK hP 24 (by decide) q1773 rfl (by decide) dX6_bikeLine_130 ?_
          refine z_iload_n C dX6_bikeLine_133 hl 1 rfl ?_
          refine z_iconst C dX6_bikeLine_134 ?_
          refine z_iadd C dX6_bikeLine_135 ?_
          refine z_aload_n C dX6_bikeLine_136 hl 0 rfl ?_
          refine z_iconst C dX6_bikeLine_137 ?_
          refine z_aload_n C dX6_bikeLine_138 hl 0 rfl ?_
          refine m_geta C hK hP 17 (by decide) q1766 rfl (by decide) dX6_bikeLine_139 ?_
          refine z_iconst C dX6_bikeLine_142 ?_
          refine m_iald C hK hP 17 (by decide) rfl (by have h9 : mlen 17 = 5 := rfl; omega) q8 dX6_bikeLine_143 (fun r_143 => ?_)
          refine z_iconst C dX6_bikeLine_144 ?_
          refine z_isub C dX6_bikeLine_145 ?_
          refine m_mi C vX6_189 (mcX6_number_2 l g h ad _ _ hPS_129 T nn _ _ _ hnn (by simp [zup_k, h5]) (by simp [zup_k, h6]) m4 (by omega) (by omega)) hS hl ⟨Nat.le_of_ble_eq_true rfl, Nat.le_of_ble_eq_true rfl⟩ ⟨rfl, rfl⟩ hK hP (fun _ h9 => h9) rfl rfl (Nat.le_of_ble_eq_true rfl) dX6_bikeLine_146 ⟨Nat.zero_le _, Nat.zero_le _⟩ (fun v_146 S_146 H locs pS_146 hP hS => ?_)
          obtain ⟨e_146, pS_146⟩ := pS_146
          subst e_146
          have hS_146 : per S_146 = _ := (pS_146.2.2.pr rfl hPS_129)
          have q9 := pS_146.1
          refine m_iast C hK hP hS 24 (by decide) rfl (by have h9 : mlen 24 = 250 := rfl; omega) (by omega) dX6_bikeLine_149 (fun S_149 eS_149 H locs hP hS => ?_)
          have hS_149 := per_w2 rfl hS_146 eS_149
          refine z_aload_n C dX6_bikeLine_150 hl 0 rfl ?_
          refine m_geta C hK hP 24 (by decide) q1773 rfl (by decide) dX6_bikeLine_151 ?_
          refine z_iload_n C dX6_bikeLine_154 hl 1 rfl ?_
          refine z_iconst C dX6_bikeLine_155 ?_
          refine z_iadd C dX6_bikeLine_156 ?_
          refine z_aload_n C dX6_bikeLine_157 hl 0 rfl ?_
          refine z_ldc2 (v := 247223) C q2018 dX6_bikeLine_158 rfl ?_
          refine m_mi C vX6_179 (mcX6_takes l g h ad _ _ hS_149 T nn _ _ hnn (by simp [zup_k, h5]) (by simp [zup_k, h6]) (pS_146.2.1.mv (Fr.up Fr.rf eS_149 (by decide : 24 ∈ ([24] : List Nat))) rfl) (by omega)) hS hl ⟨Nat.le_of_ble_eq_true rfl, Nat.le_of_ble_eq_true rfl⟩ ⟨rfl, rfl⟩ hK hP (fun _ h9 => h9) rfl rfl (Nat.le_of_ble_eq_true rfl) dX6_bikeLine_161 ⟨Nat.zero_le _, Nat.zero_le _⟩ (fun v_161 S_161 H locs pS_161 hP hS => ?_)
          obtain ⟨e_161, pS_161⟩ := pS_161
          subst e_161
          have hS_161 : per S_161 = _ := (pS_161.2.pr rfl hS_149)
          have q10 : S_161 21 4 = P 21 4 := (pe hS_161 rfl).trans (by simp [zup_k])
          have hL_185 : ∀  (S4 : zS) (H : Heap) (locs : List Loc) (ls : Array Slot), (MS T nn (bike7 T nn P st) S4) → per S4 = zup (zup (zup (zup P 24 (5 * (40 + P 23 4)) (numWV T nn st 12532058 0 9999)) 24 (5 * (40 + P 23 4) + 1) (numWV T nn (bike1 T nn st) 10199809 0 9999)) 24 (5 * (40 + P 23 4) + 2) (numV T nn (bike4 T nn P st) 0 (P 17 4 - 1))) 24 (5 * (40 + P 23 4) + 3) (bikeL T nn P st) → MP g h ad S4 H → va_S (MA h ad) s.heap H locs → lv_has ls 4 [(0, .ref h), (1, .int (iZ (5 * (40 + P 23 4))))] → W prg l env (k2_rm 5 112) s mid ([.ref h] : List Value).toArray blw mth cod H locs 0 0 Q (F0 mid 185 ls []) := by
            intro  S4  H locs ls m7 hPS_185 hP  hS hl
            refine z_aload_n C dX6_bikeLine_185 hl 0 rfl ?_
            refine m_geta C hK hP 24 (by decide) q1773 rfl (by decide) dX6_bikeLine_186 ?_
            refine z_iload_n C dX6_bikeLine_189 hl 1 rfl ?_
            refine z_iconst C dX6_bikeLine_190 ?_
            refine z_iadd C dX6_bikeLine_191 ?_
            refine z_aload_n C dX6_bikeLine_192 hl 0 rfl ?_
            refine z_ldc2 (v := 187429684) C q2042 dX6_bikeLine_193 rfl ?_
            refine m_mi C vX6_179 (mcX6_takes l g h ad _ _ hPS_185 T nn _ _ hnn (by simp [zup_k, h5]) (by simp [zup_k, h6]) m7 (by omega)) hS hl ⟨Nat.le_of_ble_eq_true rfl, Nat.le_of_ble_eq_true rfl⟩ ⟨rfl, rfl⟩ hK hP (fun _ h9 => h9) rfl rfl (Nat.le_of_ble_eq_true rfl) dX6_bikeLine_196 ⟨Nat.zero_le _, Nat.zero_le _⟩ (fun v_196 S_196 H locs pS_196 hP hS => ?_)
            obtain ⟨e_196, pS_196⟩ := pS_196
            subst e_196
            have hS_196 : per S_196 = _ := (pS_196.2.pr rfl hPS_185)
            refine z_if_eq C 206 dX6_bikeLine_199 (by decide) z01_in (fun c_199 => ?_) (fun c_199 => ?_)
            · replace c_199 := z01_f c_199
              refine z_iconst C dX6_bikeLine_206 ?_
              refine m_iast C hK hP hS 24 (by decide) rfl (by have h9 : mlen 24 = 250 := rfl; omega) (by omega) dX6_bikeLine_207 (fun S_207 eS_207 H locs hP hS => ?_)
              have hS_207 := per_w2 rfl hS_196 eS_207
              have q11 : S_207 23 4 = P 23 4 := (pe hS_207 rfl).trans (by simp [zup_k])
              refine z_aload_n C dX6_bikeLine_208 hl 0 rfl ?_
              refine m_geta C hK hP 23 (by decide) q1772 rfl (by decide) dX6_bikeLine_209 ?_
              refine z_iconst C dX6_bikeLine_212 ?_
              refine z_dup2_11 C dX6_bikeLine_213 rfl rfl ?_
              refine m_iald C hK hP 23 (by decide) rfl (by have h9 : mlen 23 = 5 := rfl; omega) q11 dX6_bikeLine_214 (fun r_214 => ?_)
              refine z_iconst C dX6_bikeLine_215 ?_
              refine z_iadd C dX6_bikeLine_216 ?_
              refine m_iast C hK hP hS 23 (by decide) rfl (by have h9 : mlen 23 = 5 := rfl; omega) (by omega) dX6_bikeLine_217 (fun S_217 eS_217 H locs hP hS => ?_)
              have hS_217 := per_w2 rfl hS_207 eS_217
              exact m_mret_v C hQ hret hlk hS hP ⟨by rw [hS_217]; first | (rw [bikeP, bikeM, if_pos (show isW T nn (bike7 T nn P st) 187429684 from c_199)] <;> rfl) | (rw [bikeP, bikeM, if_neg (show ¬ isW T nn (bike7 T nn P st) 187429684 from c_199)] <;> rfl), (pS_196.1.mv (Fr.up (Fr.up Fr.rf eS_207 (by decide : 24 ∈ ([24, 23] : List Nat))) eS_217 (by decide : 23 ∈ ([24, 23] : List Nat))) rfl)⟩ dX6_bikeLine_218
            · replace c_199 := z01_t c_199
              refine z_iconst C dX6_bikeLine_202 ?_
              refine z_goto C 207 dX6_bikeLine_203 (by decide) ?_
              refine m_iast C hK hP hS 24 (by decide) rfl (by have h9 : mlen 24 = 250 := rfl; omega) (by omega) dX6_bikeLine_207 (fun S_207 eS_207 H locs hP hS => ?_)
              have hS_207 := per_w2 rfl hS_196 eS_207
              have q11 : S_207 23 4 = P 23 4 := (pe hS_207 rfl).trans (by simp [zup_k])
              refine z_aload_n C dX6_bikeLine_208 hl 0 rfl ?_
              refine m_geta C hK hP 23 (by decide) q1772 rfl (by decide) dX6_bikeLine_209 ?_
              refine z_iconst C dX6_bikeLine_212 ?_
              refine z_dup2_11 C dX6_bikeLine_213 rfl rfl ?_
              refine m_iald C hK hP 23 (by decide) rfl (by have h9 : mlen 23 = 5 := rfl; omega) q11 dX6_bikeLine_214 (fun r_214 => ?_)
              refine z_iconst C dX6_bikeLine_215 ?_
              refine z_iadd C dX6_bikeLine_216 ?_
              refine m_iast C hK hP hS 23 (by decide) rfl (by have h9 : mlen 23 = 5 := rfl; omega) (by omega) dX6_bikeLine_217 (fun S_217 eS_217 H locs hP hS => ?_)
              have hS_217 := per_w2 rfl hS_207 eS_217
              exact m_mret_v C hQ hret hlk hS hP ⟨by rw [hS_217]; first | (rw [bikeP, bikeM, if_pos (show isW T nn (bike7 T nn P st) 187429684 from c_199)] <;> rfl) | (rw [bikeP, bikeM, if_neg (show ¬ isW T nn (bike7 T nn P st) 187429684 from c_199)] <;> rfl), (pS_196.1.mv (Fr.up (Fr.up Fr.rf eS_207 (by decide : 24 ∈ ([24, 23] : List Nat))) eS_217 (by decide : 23 ∈ ([24, 23] : List Nat))) rfl)⟩ dX6_bikeLine_218
          refine z_if_eq C 183 dX6_bikeLine_164 (by decide) z01_in (fun c_164 => ?_) (fun c_164 => ?_)
          · replace c_164 := z01_f c_164
            refine z_iconst C dX6_bikeLine_183 ?_
            refine m_iast C hK hP hS 24 (by decide) rfl (by have h9 : mlen 24 = 250 := rfl; omega) (by omega) dX6_bikeLine_184 (fun S_184 eS_184 H locs hP hS => ?_)
            have hS_184 := per_w2 rfl hS_161 eS_184
            exact hL_185  _ _ _ ls (by rw [bike7, if_neg (show ¬ isW T nn (bike5 T nn P st) 247223 from c_164)]; exact (pS_161.1.mv (Fr.up Fr.rf eS_184 (by decide : 24 ∈ ([24] : List Nat))) rfl)) (by rw [hS_184, bikeL, if_neg (show ¬ isW T nn (bike5 T nn P st) 247223 from c_164)]) hP hS (lv_sub hl [0, 1] rfl)
          · replace c_164 := z01_t c_164
            refine z_aload_n C dX6_bikeLine_167 hl 0 rfl ?_
            refine z_iconst C dX6_bikeLine_168 ?_
            refine z_aload_n C dX6_bikeLine_169 hl 0 rfl ?_
            refine m_geta C hK hP 21 (by decide) q1770 rfl (by decide) dX6_bikeLine_170 ?_
            refine z_iconst C dX6_bikeLine_173 ?_
            refine m_iald C hK hP 21 (by decide) rfl (by have h9 : mlen 21 = 5 := rfl; omega) q10 dX6_bikeLine_174 (fun r_174 => ?_)
            refine z_iconst C dX6_bikeLine_175 ?_
            refine z_isub C dX6_bikeLine_176 ?_
            refine m_mi C vX6_189 (mcX6_number_2 l g h ad _ _ hS_161 T nn _ _ _ hnn (by simp [zup_k, h5]) (by simp [zup_k, h6]) pS_161.1 (by omega) (by omega)) hS hl ⟨Nat.le_of_ble_eq_true rfl, Nat.le_of_ble_eq_true rfl⟩ ⟨rfl, rfl⟩ hK hP (fun _ h9 => h9) rfl rfl (Nat.le_of_ble_eq_true rfl) dX6_bikeLine_177 ⟨Nat.zero_le _, Nat.zero_le _⟩ (fun v_177 S_177 H locs pS_177 hP hS => ?_)
            obtain ⟨e_177, pS_177⟩ := pS_177
            subst e_177
            have hS_177 : per S_177 = _ := (pS_177.2.2.pr rfl hS_161)
            have q12 := pS_177.1
            refine z_goto C 184 dX6_bikeLine_180 (by decide) ?_
            refine m_iast C hK hP hS 24 (by decide) rfl (by have h9 : mlen 24 = 250 := rfl; omega) (by omega) dX6_bikeLine_184 (fun S_184 eS_184 H locs hP hS => ?_)
            have hS_184 := per_w2 rfl hS_177 eS_184
            exact hL_185  _ _ _ ls (by rw [bike7, if_pos (show isW T nn (bike5 T nn P st) 247223 from c_164)]; exact (pS_177.2.1.mv (Fr.up Fr.rf eS_184 (by decide : 24 ∈ ([24] : List Nat))) rfl)) (by rw [hS_184, bikeL, if_pos (show isW T nn (bike5 T nn P st) 247223 from c_164)] <;> rfl) hP hS (lv_sub hl [0, 1] rfl)
        refine z_aload_n C dX6_bikeLine_105 hl 0 rfl ?_
        refine m_geti C hK hP 12 (by decide) q1761 rfl (Or.inl rfl) q3.1 dX6_bikeLine_106 (fun r_106 => ?_)
        refine z_if_ne C 129 dX6_bikeLine_109 (by decide) (by omega) (fun c_109 => ?_) (fun c_109 => ?_)
        · exact hL_129  _ _ _ ls (by rw [bike4, if_neg (fun z => c_109 z.1)]; exact q3) hS_52 hP hS (lv_sub hl [0, 1] rfl)
        · have q7 : S_52 10 0 = tkV T nn (bike3 T nn st).2 := (q3.at c_109).2.2.2.1
          refine z_aload_n C dX6_bikeLine_112 hl 0 rfl ?_
          refine m_geti C hK hP 8 (by decide) q1757 rfl (Or.inl rfl) (q3.at c_109).2.1 dX6_bikeLine_113 (fun r_113 => ?_)
          refine z_iconst C dX6_bikeLine_116 ?_
          refine z_icmp_ne C 129 dX6_bikeLine_117 (by decide) (by omega) (by omega) (fun c_117 => ?_) (fun c_117 => ?_)
          · exact hL_129  _ _ _ ls (by rw [bike4, if_neg (fun z => c_117 z.2.1)]; exact q3) hS_52 hP hS (lv_sub hl [0, 1] rfl)
          · refine z_iload_n C dX6_bikeLine_120 hl 2 rfl ?_
            refine z_if_eq C 129 dX6_bikeLine_121 (by decide) (by omega) (fun c_121 => ?_) (fun c_121 => ?_)
            · exact hL_129  _ _ _ ls (by rw [bike4, if_neg (fun z => by have q6 := z.2.2; rw [show (P 23 4).toNat = k by omega, ← q7] at q6; omega)]; exact q3) hS_52 hP hS (lv_sub hl [0, 1] rfl)
            · refine z_aload_n C dX6_bikeLine_124 hl 0 rfl ?_
              refine z_iconst C dX6_bikeLine_125 ?_
              refine m_mv C vX6_182 (mcX6_fails l g h ad _ _ hS_52 T nn _ _ q3 (by omega)) hS hl ⟨Nat.le_of_ble_eq_true rfl, Nat.le_of_ble_eq_true rfl⟩ ⟨rfl, rfl⟩ hK hP (fun _ h9 => h9) rfl rfl (Nat.le_of_ble_eq_true rfl) dX6_bikeLine_126 ⟨Nat.zero_le _, Nat.zero_le _⟩ (fun S_126 H locs pS_126 hP hS => ?_)
              have hS_126 : per S_126 = _ := (pS_126.2.pr rfl hS_52)
              exact hL_129  _ _ _ ls (by rw [bike4, if_pos ⟨c_109, c_117, by rw [show (P 23 4).toNat = k by omega, ← q7]; omega⟩]; exact pS_126.1) hS_126 hP hS (lv_sub hl [0, 1] rfl)
      · have q4 := stdN_in P (S_52 10 0) k
        have q5 : S_52 24 (5 * (40 + (k : Int)) + 2) = P 24 (5 * (40 + (k : Int)) + 2) := (pe hS_52 rfl).trans (by rw [zup_n _ _ _ _ (by omega), zup_n _ _ _ _ (by omega)])
        refine z_iload_n C dX6_bikeLine_69 hl 2 rfl ?_
        refine z_if_ne C 93 dX6_bikeLine_70 (by decide) (by omega) (fun c_70 => ?_) (fun c_70 => ?_)
        · refine z_iconst C dX6_bikeLine_93 ?_
          refine z_goto C 98 dX6_bikeLine_94 (by decide) ?_
          refine z_istore_n C dX6_bikeLine_98 rfl hl (by decide) rfl (fun ls hl => ?_)
          have hl : lv_has ls 4 [(2, _), (0, _), (1, _), (3, _)] := hl
          refine z_iinc C dX6_bikeLine_99 hl (by decide) 3 rfl rfl (fun ls hl => ?_)
          have hl : lv_has ls 4 [(3, _), (2, _), (0, _), (1, _)] := hl
          refine z_goto C 59 dX6_bikeLine_102 (by decide) ?_
          exact hL_59 (k + 1) _ _ _ ls (by omega) (by omega) (by rw [stdN, if_pos (by omega)]) hP hS (lv_sub hl [2, 3, 1, 0] rfl)
        · refine z_aload_n C dX6_bikeLine_73 hl 0 rfl ?_
          refine m_geta C hK hP 24 (by decide) q1773 rfl (by decide) dX6_bikeLine_74 ?_
          refine z_iconst C dX6_bikeLine_77 ?_
          refine z_bipush C dX6_bikeLine_78 rfl ?_
          refine z_iload_n C dX6_bikeLine_80 hl 3 rfl ?_
          refine z_iadd C dX6_bikeLine_81 ?_
          refine z_imul C dX6_bikeLine_82 ?_
          refine z_iconst C dX6_bikeLine_83 ?_
          refine z_iadd C dX6_bikeLine_84 ?_
          refine m_iald C hK hP 24 (by decide) rfl (by have h9 : mlen 24 = 250 := rfl; omega) q5 dX6_bikeLine_85 (fun r_85 => ?_)
          refine z_aload_n C dX6_bikeLine_86 hl 0 rfl ?_
          refine m_geti C hK hP 10 (by decide) q1759 rfl (Or.inl rfl) rfl dX6_bikeLine_87 (fun r_87 => ?_)
          refine z_icmp_ne C 97 dX6_bikeLine_90 (by decide) (by omega) (by omega) (fun c_90 => ?_) (fun c_90 => ?_)
          · refine z_iconst C dX6_bikeLine_97 ?_
            refine z_istore_n C dX6_bikeLine_98 rfl hl (by decide) rfl (fun ls hl => ?_)
            have hl : lv_has ls 4 [(2, _), (0, _), (1, _), (3, _)] := hl
            refine z_iinc C dX6_bikeLine_99 hl (by decide) 3 rfl rfl (fun ls hl => ?_)
            have hl : lv_has ls 4 [(3, _), (2, _), (0, _), (1, _)] := hl
            refine z_goto C 59 dX6_bikeLine_102 (by decide) ?_
            exact hL_59 (k + 1) _ _ _ ls (by omega) (by omega) (by rw [stdN, if_neg (by omega)]) hP hS (lv_sub hl [2, 3, 1, 0] rfl)
          · refine z_iconst C dX6_bikeLine_93 ?_
            refine z_goto C 98 dX6_bikeLine_94 (by decide) ?_
            refine z_istore_n C dX6_bikeLine_98 rfl hl (by decide) rfl (fun ls hl => ?_)
            have hl : lv_has ls 4 [(2, _), (0, _), (1, _), (3, _)] := hl
            refine z_iinc C dX6_bikeLine_99 hl (by decide) 3 rfl rfl (fun ls hl => ?_)
            have hl : lv_has ls 4 [(3, _), (2, _), (0, _), (1, _)] := hl
            refine z_goto C 59 dX6_bikeLine_102 (by decide) ?_
            exact hL_59 (k + 1) _ _ _ ls (by omega) (by omega) (by rw [stdN, if_pos (by omega)]) hP hS (lv_sub hl [2, 3, 1, 0] rfl)
  exact hL_59 _ 0 0 _ _ ls (Nat.lt_succ_self _) (by omega) rfl hP hS (lv_sub hl [3, 2, 1, 0] rfl)
theorem mcX6_thiefLine (l : Launch) (g : mG) (h : Nat) (ad : Nat → Nat) (P S : zS) (hPS : per S = P) (T : Int → Int) (nn : Int) (st : rS) (hnn : 0 ≤ nn ∧ nn ≤ 1600) (h5 : P 5 = T) (h6 : P 6 0 = nn) (hM : MS T nn st S) (hR : RdOk P) (hc : P 25 4 < 6) : mMV l g h ad yX6_thiefLine cX6_thiefLine 3 (k2_rm 5 112) [] S (fun S1 => per S1 = thiefP T nn P st ∧ MS T nn (thiefSt T nn P st) S1) := by
  refine z_start (own := RX6) (by decide) rfl (Nat.le_of_ble_eq_true rfl) ?_
  intro prg env s mid blw mth cod ls Q C hQ hret hlk hnm hK hH hl
  have hP : MP g h ad S s.heap := hH
  have hS : va_S (MA h ad) s.heap s.heap [] := va_S.rf
  have hl : lv_has ls 3 [(0, .ref h)] := hl
  have r9 := hR
  unfold RdOk at r9
  refine z_iconst C dX6_thiefLine_0 ?_
  refine z_bipush C dX6_thiefLine_1 rfl ?_
  refine z_aload_n C dX6_thiefLine_3 hl 0 rfl ?_
  refine m_geta C hK hP 25 (by decide) q1774 rfl (by decide) dX6_thiefLine_4 ?_
  refine z_iconst C dX6_thiefLine_7 ?_
  refine m_iald C hK hP 25 (by decide) rfl (by have h9 : mlen 25 = 5 := rfl; omega) (pe hPS rfl) dX6_thiefLine_8 (fun r_8 => ?_)
  refine z_iadd C dX6_thiefLine_9 ?_
  refine z_imul C dX6_thiefLine_10 ?_
  refine z_istore_n C dX6_thiefLine_11 rfl hl (by decide) rfl (fun ls hl => ?_)
  have hl : lv_has ls 3 [(1, _), (0, _)] := hl
  refine z_aload_n C dX6_thiefLine_12 hl 1 rfl ?_
  refine m_geta C hK hP 26 (by decide) q1775 rfl (by decide) dX6_thiefLine_13 ?_
  refine z_iload_n C dX6_thiefLine_16 hl 0 rfl ?_
  refine z_aload_n C dX6_thiefLine_17 hl 1 rfl ?_
  refine z_ldc2 (v := 405012) C q2047 dX6_thiefLine_18 rfl ?_
  refine z_iconst C dX6_thiefLine_21 ?_
  refine z_iconst C dX6_thiefLine_22 ?_
  refine m_mi C vX6_198 (mcX6_number l g h ad _ _ hPS T nn _ _ _ _ hnn (by simp [zup_k, h5]) (by simp [zup_k, h6]) hM (by omega) (by omega) (by omega)) hS hl ⟨Nat.le_of_ble_eq_true rfl, Nat.le_of_ble_eq_true rfl⟩ ⟨rfl, rfl⟩ hK hP (fun _ h9 => h9) rfl rfl (Nat.le_of_ble_eq_true rfl) dX6_thiefLine_23 ⟨Nat.zero_le _, Nat.zero_le _⟩ (fun v_23 S_23 H locs pS_23 hP hS => ?_)
  obtain ⟨e_23, pS_23⟩ := pS_23
  subst e_23
  have hS_23 : per S_23 = P := (pS_23.2.2.pr rfl hPS)
  have q0 := pS_23.1
  refine m_iast C hK hP hS 26 (by decide) rfl (by have h9 : mlen 26 = 150 := rfl; omega) (by omega) dX6_thiefLine_26 (fun S_26 eS_26 H locs hP hS => ?_)
  have hS_26 := per_w2 rfl hS_23 eS_26
  refine z_aload_n C dX6_thiefLine_27 hl 1 rfl ?_
  refine m_geta C hK hP 26 (by decide) q1775 rfl (by decide) dX6_thiefLine_28 ?_
  refine z_iload_n C dX6_thiefLine_31 hl 0 rfl ?_
  refine z_iconst C dX6_thiefLine_32 ?_
  refine z_iadd C dX6_thiefLine_33 ?_
  refine z_aload_n C dX6_thiefLine_34 hl 1 rfl ?_
  refine z_ldc2 (v := 1899199) C q2048 dX6_thiefLine_35 rfl ?_
  refine z_iconst C dX6_thiefLine_38 ?_
  refine z_bipush C dX6_thiefLine_39 rfl ?_
  refine m_mi C vX6_198 (mcX6_number l g h ad _ _ hS_26 T nn _ _ _ _ hnn (by simp [zup_k, h5]) (by simp [zup_k, h6]) (pS_23.2.1.mv (Fr.up Fr.rf eS_26 (by decide : 26 ∈ ([26] : List Nat))) rfl) (by omega) (by omega) (by omega)) hS hl ⟨Nat.le_of_ble_eq_true rfl, Nat.le_of_ble_eq_true rfl⟩ ⟨rfl, rfl⟩ hK hP (fun _ h9 => h9) rfl rfl (Nat.le_of_ble_eq_true rfl) dX6_thiefLine_41 ⟨Nat.zero_le _, Nat.zero_le _⟩ (fun v_41 S_41 H locs pS_41 hP hS => ?_)
  obtain ⟨e_41, pS_41⟩ := pS_41
  subst e_41
  have hS_41 : per S_41 = _ := (pS_41.2.2.pr rfl hS_26)
  have q2 := pS_41.1
  refine m_iast C hK hP hS 26 (by decide) rfl (by have h9 : mlen 26 = 150 := rfl; omega) (by omega) dX6_thiefLine_44 (fun S_44 eS_44 H locs hP hS => ?_)
  have hS_44 := per_w2 rfl hS_41 eS_44
  refine z_aload_n C dX6_thiefLine_45 hl 1 rfl ?_
  refine m_geta C hK hP 26 (by decide) q1775 rfl (by decide) dX6_thiefLine_46 ?_
  refine z_iload_n C dX6_thiefLine_49 hl 0 rfl ?_
  refine z_iconst C dX6_thiefLine_50 ?_
  refine z_iadd C dX6_thiefLine_51 ?_
  refine z_aload_n C dX6_thiefLine_52 hl 1 rfl ?_
  refine z_ldc2 (v := 3288295) C q2049 dX6_thiefLine_53 rfl ?_
  refine z_iconst C dX6_thiefLine_56 ?_
  refine z_bipush C dX6_thiefLine_57 rfl ?_
  refine m_mi C vX6_198 (mcX6_number l g h ad _ _ hS_44 T nn _ _ _ _ hnn (by simp [zup_k, h5]) (by simp [zup_k, h6]) (pS_41.2.1.mv (Fr.up Fr.rf eS_44 (by decide : 26 ∈ ([26] : List Nat))) rfl) (by omega) (by omega) (by omega)) hS hl ⟨Nat.le_of_ble_eq_true rfl, Nat.le_of_ble_eq_true rfl⟩ ⟨rfl, rfl⟩ hK hP (fun _ h9 => h9) rfl rfl (Nat.le_of_ble_eq_true rfl) dX6_thiefLine_59 ⟨Nat.zero_le _, Nat.zero_le _⟩ (fun v_59 S_59 H locs pS_59 hP hS => ?_)
  obtain ⟨e_59, pS_59⟩ := pS_59
  subst e_59
  have hS_59 : per S_59 = _ := (pS_59.2.2.pr rfl hS_44)
  have q3 := pS_59.1
  refine m_iast C hK hP hS 26 (by decide) rfl (by have h9 : mlen 26 = 150 := rfl; omega) (by omega) dX6_thiefLine_62 (fun S_62 eS_62 H locs hP hS => ?_)
  have hS_62 := per_w2 rfl hS_59 eS_62
  have m3 : MS T nn (thief3 T nn st) S_62 := (pS_59.2.1.mv (Fr.up Fr.rf eS_62 (by decide : 26 ∈ ([26] : List Nat))) rfl)
  have hL_107 : ∀ (u : Int) (H : Heap) (locs : List Loc) (ls : Array Slot), (u = thiefW T nn st) → MP g h ad S_62 H → va_S (MA h ad) s.heap H locs → lv_has ls 3 [(0, .ref h), (1, .int (iZ (5 * (24 + P 25 4)))), (2, .int (iZ u))] → W prg l env (k2_rm 5 112) s mid ([.ref h] : List Value).toArray blw mth cod H locs 0 0 Q (F0 mid 107 ls []) := by
    intro u  H locs ls iu hP  hS hl
    subst iu
    have q4 := thiefW_in T nn st
    refine z_iload_n C dX6_thiefLine_107 hl 2 rfl ?_
    have hL_117 : ∀  (S3 : zS) (H : Heap) (locs : List Loc) (ls : Array Slot), (MS T nn (thief4 T nn st) S3) → per S3 = zup (zup (zup P 26 (5 * (24 + P 25 4)) (numWV T nn st 405012 0 2)) 26 (5 * (24 + P 25 4) + 1) (numWV T nn (thief1 T nn st) 1899199 0 100)) 26 (5 * (24 + P 25 4) + 2) (numWV T nn (thief2 T nn st) 3288295 0 99) → MP g h ad S3 H → va_S (MA h ad) s.heap H locs → lv_has ls 3 [(0, .ref h), (1, .int (iZ (5 * (24 + P 25 4)))), (2, .int (iZ (thiefW T nn st)))] → W prg l env (k2_rm 5 112) s mid ([.ref h] : List Value).toArray blw mth cod H locs 0 0 Q (F0 mid 117 ls []) := by
      intro  S3  H locs ls m4 hPS_117 hP  hS hl
      refine z_aload_n C dX6_thiefLine_117 hl 0 rfl ?_
      have hL_128 : ∀  (S4 : zS) (H : Heap) (locs : List Loc) (ls : Array Slot), (MS T nn (thief5 T nn st) S4) → per S4 = zup (zup (zup P 26 (5 * (24 + P 25 4)) (numWV T nn st 405012 0 2)) 26 (5 * (24 + P 25 4) + 1) (numWV T nn (thief1 T nn st) 1899199 0 100)) 26 (5 * (24 + P 25 4) + 2) (numWV T nn (thief2 T nn st) 3288295 0 99) → MP g h ad S4 H → va_S (MA h ad) s.heap H locs → lv_has ls 3 [(0, .ref h), (1, .int (iZ (5 * (24 + P 25 4)))), (2, .int (iZ (thiefW T nn st)))] → W prg l env (k2_rm 5 112) s mid ([.ref h] : List Value).toArray blw mth cod H locs 0 0 Q (F0 mid 128 ls []) := by
        intro  S4  H locs ls m5 hPS_128 hP  hS hl
        refine z_aload_n C dX6_thiefLine_128 hl 0 rfl ?_
        refine m_geta C hK hP 26 (by decide) q1775 rfl (by decide) dX6_thiefLine_129 ?_
        refine z_iload_n C dX6_thiefLine_132 hl 1 rfl ?_
        refine z_iconst C dX6_thiefLine_133 ?_
        refine z_iadd C dX6_thiefLine_134 ?_
        refine z_iload_n C dX6_thiefLine_135 hl 2 rfl ?_
        refine m_iast C hK hP hS 26 (by decide) rfl (by have h9 : mlen 26 = 150 := rfl; omega) (by omega) dX6_thiefLine_136 (fun S_136 eS_136 H locs hP hS => ?_)
        have hS_136 := per_w2 rfl hPS_128 eS_136
        have q5 : S_136 23 4 = P 23 4 := (pe hS_136 rfl).trans (by simp [zup_k])
        refine z_aload_n C dX6_thiefLine_137 hl 0 rfl ?_
        refine m_geta C hK hP 26 (by decide) q1775 rfl (by decide) dX6_thiefLine_138 ?_
        refine z_iload_n C dX6_thiefLine_141 hl 1 rfl ?_
        refine z_iconst C dX6_thiefLine_142 ?_
        refine z_iadd C dX6_thiefLine_143 ?_
        refine z_iload_n C dX6_thiefLine_144 hl 2 rfl ?_
        refine z_iconst C dX6_thiefLine_145 ?_
        refine z_icmp_ne C 165 dX6_thiefLine_146 (by decide) (by omega) (by omega) (fun c_146 => ?_) (fun c_146 => ?_)
        · refine z_iconst C dX6_thiefLine_165 ?_
          refine m_iast C hK hP hS 26 (by decide) rfl (by have h9 : mlen 26 = 150 := rfl; omega) (by omega) dX6_thiefLine_166 (fun S_166 eS_166 H locs hP hS => ?_)
          have hS_166 := per_w2 rfl hS_136 eS_166
          have q6 : S_166 25 4 = P 25 4 := (pe hS_166 rfl).trans (by simp [zup_k])
          refine z_aload_n C dX6_thiefLine_167 hl 0 rfl ?_
          refine m_geta C hK hP 25 (by decide) q1774 rfl (by decide) dX6_thiefLine_168 ?_
          refine z_iconst C dX6_thiefLine_171 ?_
          refine z_dup2_11 C dX6_thiefLine_172 rfl rfl ?_
          refine m_iald C hK hP 25 (by decide) rfl (by have h9 : mlen 25 = 5 := rfl; omega) q6 dX6_thiefLine_173 (fun r_173 => ?_)
          refine z_iconst C dX6_thiefLine_174 ?_
          refine z_iadd C dX6_thiefLine_175 ?_
          refine m_iast C hK hP hS 25 (by decide) rfl (by have h9 : mlen 25 = 5 := rfl; omega) (by omega) dX6_thiefLine_176 (fun S_176 eS_176 H locs hP hS => ?_)
          have hS_176 := per_w2 rfl hS_166 eS_176
          exact m_mret_v C hQ hret hlk hS hP ⟨by rw [hS_176]; first | (rw [thiefP, thiefL, if_pos c_146] <;> rfl) | (rw [thiefP, thiefL, if_neg c_146]), by first | (rw [thiefSt, if_pos c_146]; exact (pS_159.2.1.mv (Fr.up (Fr.up Fr.rf eS_166 (by decide : 26 ∈ ([26, 25] : List Nat))) eS_176 (by decide : 25 ∈ ([26, 25] : List Nat))) rfl)) | (rw [thiefSt, if_neg c_146]; exact (m5.mv (Fr.up (Fr.up (Fr.up Fr.rf eS_136 (by decide : 26 ∈ ([26, 26, 25] : List Nat))) eS_166 (by decide : 26 ∈ ([26, 26, 25] : List Nat))) eS_176 (by decide : 25 ∈ ([26, 26, 25] : List Nat))) rfl))⟩ dX6_thiefLine_177
        · refine z_aload_n C dX6_thiefLine_149 hl 0 rfl ?_
          refine z_iconst C dX6_thiefLine_150 ?_
          refine z_aload_n C dX6_thiefLine_151 hl 0 rfl ?_
          refine m_geta C hK hP 23 (by decide) q1772 rfl (by decide) dX6_thiefLine_152 ?_
          refine z_iconst C dX6_thiefLine_155 ?_
          refine m_iald C hK hP 23 (by decide) rfl (by have h9 : mlen 23 = 5 := rfl; omega) q5 dX6_thiefLine_156 (fun r_156 => ?_)
          refine z_iconst C dX6_thiefLine_157 ?_
          refine z_isub C dX6_thiefLine_158 ?_
          refine m_mi C vX6_189 (mcX6_number_2 l g h ad _ _ hS_136 T nn _ _ _ hnn (by simp [zup_k, h5]) (by simp [zup_k, h6]) (m5.mv (Fr.up Fr.rf eS_136 (by decide : 26 ∈ ([26] : List Nat))) rfl) (by omega) (by omega)) hS hl ⟨Nat.le_of_ble_eq_true rfl, Nat.le_of_ble_eq_true rfl⟩ ⟨rfl, rfl⟩ hK hP (fun _ h9 => h9) rfl rfl (Nat.le_of_ble_eq_true rfl) dX6_thiefLine_159 ⟨Nat.zero_le _, Nat.zero_le _⟩ (fun v_159 S_159 H locs pS_159 hP hS => ?_)
          obtain ⟨e_159, pS_159⟩ := pS_159
          subst e_159
          have hS_159 : per S_159 = _ := (pS_159.2.2.pr rfl hS_136)
          have q7 := pS_159.1
          refine z_goto C 166 dX6_thiefLine_162 (by decide) ?_
          refine m_iast C hK hP hS 26 (by decide) rfl (by have h9 : mlen 26 = 150 := rfl; omega) (by omega) dX6_thiefLine_166 (fun S_166 eS_166 H locs hP hS => ?_)
          have hS_166 := per_w2 rfl hS_159 eS_166
          have q6 : S_166 25 4 = P 25 4 := (pe hS_166 rfl).trans (by simp [zup_k])
          refine z_aload_n C dX6_thiefLine_167 hl 0 rfl ?_
          refine m_geta C hK hP 25 (by decide) q1774 rfl (by decide) dX6_thiefLine_168 ?_
          refine z_iconst C dX6_thiefLine_171 ?_
          refine z_dup2_11 C dX6_thiefLine_172 rfl rfl ?_
          refine m_iald C hK hP 25 (by decide) rfl (by have h9 : mlen 25 = 5 := rfl; omega) q6 dX6_thiefLine_173 (fun r_173 => ?_)
          refine z_iconst C dX6_thiefLine_174 ?_
          refine z_iadd C dX6_thiefLine_175 ?_
          refine m_iast C hK hP hS 25 (by decide) rfl (by have h9 : mlen 25 = 5 := rfl; omega) (by omega) dX6_thiefLine_176 (fun S_176 eS_176 H locs hP hS => ?_)
          have hS_176 := per_w2 rfl hS_166 eS_176
          exact m_mret_v C hQ hret hlk hS hP ⟨by rw [hS_176]; first | (rw [thiefP, thiefL, if_pos c_146] <;> rfl) | (rw [thiefP, thiefL, if_neg c_146]), by first | (rw [thiefSt, if_pos c_146]; exact (pS_159.2.1.mv (Fr.up (Fr.up Fr.rf eS_166 (by decide : 26 ∈ ([26, 25] : List Nat))) eS_176 (by decide : 25 ∈ ([26, 25] : List Nat))) rfl)) | (rw [thiefSt, if_neg c_146]; exact (m5.mv (Fr.up (Fr.up (Fr.up Fr.rf eS_136 (by decide : 26 ∈ ([26, 26, 25] : List Nat))) eS_166 (by decide : 26 ∈ ([26, 26, 25] : List Nat))) eS_176 (by decide : 25 ∈ ([26, 26, 25] : List Nat))) rfl))⟩ dX6_thiefLine_177
      refine m_geti C hK hP 12 (by decide) q1761 rfl (Or.inl rfl) m4.1 dX6_thiefLine_118 (fun r_118 => ?_)
      refine z_if_ne C 128 dX6_thiefLine_121 (by decide) (by omega) (fun c_121 => ?_) (fun c_121 => ?_)
      · exact hL_128  _ _ _ ls (by rw [thief5, nextS, if_neg c_121]; exact m4) hPS_117 hP hS (lv_sub hl [0, 1, 2] rfl)
      · refine z_aload_n C dX6_thiefLine_124 hl 0 rfl ?_
        refine m_mv C vX6_176 (mcX6_next l g h ad _ _ hPS_117 (tkE T nn (thief4 T nn st).2) (by simp [zup_k, h6]; exact hnn) (m4.at c_121).1 (by have q33 := tkE_in (T := T) (m4.at c_121).2.2.2.2.2.2; have q34 := (m4.at c_121).2.2.2.2.2.1; simp [zup_k, h6]; omega)) hS hl ⟨Nat.le_of_ble_eq_true rfl, Nat.le_of_ble_eq_true rfl⟩ ⟨rfl, rfl⟩ hK hP (fun _ h9 => h9) rfl rfl (Nat.le_of_ble_eq_true rfl) dX6_thiefLine_125 ⟨Nat.zero_le _, Nat.zero_le _⟩ (fun S_125 H locs pS_125 hP hS => ?_)
        have hS_125 : per S_125 = _ := (pS_125.2.pr rfl hPS_117)
        have m50 : MS T nn (nextS T nn (thief4 T nn st)) S_125 := by
          have q := pS_125.1
          simp [zup_k, h5, h6] at q
          rw [nextS, if_pos c_121]
          exact MS.go q (by rw [pS_125.2 12 (by decide)]; exact (m4.1).trans c_121)
        exact hL_128  _ _ _ ls m50 hS_125 hP hS (lv_sub hl [0, 1, 2] rfl)
    refine z_iconst C dX6_thiefLine_108 ?_
    refine z_icmp_ne C 117 dX6_thiefLine_109 (by decide) (by omega) (by omega) (fun c_109 => ?_) (fun c_109 => ?_)
    · exact hL_117  _ _ _ ls (by rw [thief4, if_neg c_109]; exact m3) hS_62 hP hS (lv_sub hl [0, 1, 2] rfl)
    · refine z_aload_n C dX6_thiefLine_112 hl 0 rfl ?_
      refine z_iconst C dX6_thiefLine_113 ?_
      refine m_mv C vX6_182 (mcX6_fails l g h ad _ _ hS_62 T nn _ _ m3 (by omega)) hS hl ⟨Nat.le_of_ble_eq_true rfl, Nat.le_of_ble_eq_true rfl⟩ ⟨rfl, rfl⟩ hK hP (fun _ h9 => h9) rfl rfl (Nat.le_of_ble_eq_true rfl) dX6_thiefLine_114 ⟨Nat.zero_le _, Nat.zero_le _⟩ (fun S_114 H locs pS_114 hP hS => ?_)
      have hS_114 : per S_114 = _ := (pS_114.2.pr rfl hS_62)
      exact hL_117  _ _ _ ls (by rw [thief4, if_pos c_109]; exact pS_114.1) hS_114 hP hS (lv_sub hl [0, 1, 2] rfl)
  refine z_aload_n C dX6_thiefLine_63 hl 1 rfl ?_
  refine z_ldc2 (v := 43544) C q2050 dX6_thiefLine_64 rfl ?_
  refine m_pi C vX6_172 (mcX6_is l g h ad _ _ hS_62 T nn _ _ m3 (by omega)) hS hl ⟨Nat.le_of_ble_eq_true rfl, Nat.le_of_ble_eq_true rfl⟩ ⟨rfl, rfl⟩ hK hP rfl rfl (Nat.le_of_ble_eq_true rfl) dX6_thiefLine_67 ⟨Nat.zero_le _, Nat.zero_le _⟩ (fun locs hS => ?_)
  refine z_if_eq C 77 dX6_thiefLine_70 (by decide) z01_in (fun c_70 => ?_) (fun c_70 => ?_)
  · replace c_70 := z01_f c_70
    refine z_aload_n C dX6_thiefLine_77 hl 1 rfl ?_
    refine z_ldc2 (v := 1132) C q2051 dX6_thiefLine_78 rfl ?_
    refine m_pi C vX6_172 (mcX6_is l g h ad _ _ hS_62 T nn _ _ m3 (by omega)) hS hl ⟨Nat.le_of_ble_eq_true rfl, Nat.le_of_ble_eq_true rfl⟩ ⟨rfl, rfl⟩ hK hP rfl rfl (Nat.le_of_ble_eq_true rfl) dX6_thiefLine_81 ⟨Nat.zero_le _, Nat.zero_le _⟩ (fun locs hS => ?_)
    refine z_if_eq C 91 dX6_thiefLine_84 (by decide) z01_in (fun c_84 => ?_) (fun c_84 => ?_)
    · replace c_84 := z01_f c_84
      refine z_aload_n C dX6_thiefLine_91 hl 1 rfl ?_
      refine z_ldc2 (v := 212672) C q2052 dX6_thiefLine_92 rfl ?_
      refine m_pi C vX6_172 (mcX6_is l g h ad _ _ hS_62 T nn _ _ m3 (by omega)) hS hl ⟨Nat.le_of_ble_eq_true rfl, Nat.le_of_ble_eq_true rfl⟩ ⟨rfl, rfl⟩ hK hP rfl rfl (Nat.le_of_ble_eq_true rfl) dX6_thiefLine_95 ⟨Nat.zero_le _, Nat.zero_le _⟩ (fun locs hS => ?_)
      refine z_if_eq C 105 dX6_thiefLine_98 (by decide) z01_in (fun c_98 => ?_) (fun c_98 => ?_)
      · replace c_98 := z01_f c_98
        refine z_iconst C dX6_thiefLine_105 ?_
        refine z_istore_n C dX6_thiefLine_106 rfl hl (by decide) rfl (fun ls hl => ?_)
        have hl : lv_has ls 3 [(2, _), (1, _), (0, _)] := hl
        exact hL_107 _ _ _ ls (by rw [thiefW, if_neg c_70, if_neg c_84, if_neg c_98]) hP hS (lv_sub hl [2, 1, 0] rfl)
      · replace c_98 := z01_t c_98
        refine z_iconst C dX6_thiefLine_101 ?_
        refine z_goto C 106 dX6_thiefLine_102 (by decide) ?_
        refine z_istore_n C dX6_thiefLine_106 rfl hl (by decide) rfl (fun ls hl => ?_)
        have hl : lv_has ls 3 [(2, _), (1, _), (0, _)] := hl
        exact hL_107 _ _ _ ls (by rw [thiefW, if_neg c_70, if_neg c_84, if_pos c_98]) hP hS (lv_sub hl [2, 1, 0] rfl)
    · replace c_84 := z01_t c_84
      refine z_iconst C dX6_thiefLine_87 ?_
      refine z_goto C 106 dX6_thiefLine_88 (by decide) ?_
      refine z_istore_n C dX6_thiefLine_106 rfl hl (by decide) rfl (fun ls hl => ?_)
      have hl : lv_has ls 3 [(2, _), (1, _), (0, _)] := hl
      exact hL_107 _ _ _ ls (by rw [thiefW, if_neg c_70, if_pos c_84]) hP hS (lv_sub hl [2, 1, 0] rfl)
  · replace c_70 := z01_t c_70
    refine z_iconst C dX6_thiefLine_73 ?_
    refine z_goto C 106 dX6_thiefLine_74 (by decide) ?_
    refine z_istore_n C dX6_thiefLine_106 rfl hl (by decide) rfl (fun ls hl => ?_)
    have hl : lv_has ls 3 [(2, _), (1, _), (0, _)] := hl
    exact hL_107 _ _ _ ls (by rw [thiefW, if_pos c_70]) hP hS (lv_sub hl [2, 1, 0] rfl)
theorem mcX6_onceLine (l : Launch) (g : mG) (h : Nat) (ad : Nat → Nat) (P S : zS) (hPS : per S = P) (T : Int → Int) (nn : Int) (st : rS) (w : Int) (hnn : 0 ≤ nn ∧ nn ≤ 1600) (h5 : P 5 = T) (h6 : P 6 0 = nn) (hM : MS T nn st S) (hR : RdOk P) (hw : 0 ≤ w ∧ w ≤ 1) : mMV l g h ad yX6_onceLine cX6_onceLine 3 (k2_rm 5 112) [.int (iZ w)] S (fun S1 => per S1 = onceP T nn P st w ∧ MS T nn (onceSt T nn P st w) S1) := by
  refine z_start (own := RX6) (by decide) rfl (Nat.le_of_ble_eq_true rfl) ?_
  intro prg env s mid blw mth cod ls Q C hQ hret hlk hnm hK hH hl
  have hP : MP g h ad S s.heap := hH
  have hS : va_S (MA h ad) s.heap s.heap [] := va_S.rf
  have hl : lv_has ls 3 [(0, .ref h), (1, .int (iZ w))] := hl
  have r9 := hR
  unfold RdOk at r9
  have q8 : 0 ≤ P 28 (8 + w) ∧ P 28 (8 + w) ≤ 1 := by
    rcases (by omega : w = 0 ∨ w = 1) with z | z
    · rw [z]; exact r9.2.2.2.2.2.1
    · rw [z]; exact r9.2.2.2.2.2.2
  refine z_aload_n C dX6_onceLine_0 hl 0 rfl ?_
  have hL_17 : ∀  (S3 : zS) (H : Heap) (locs : List Loc) (ls : Array Slot), (MS T nn (once1 P st w) S3) → per S3 = P → MP g h ad S3 H → va_S (MA h ad) s.heap H locs → lv_has ls 3 [(0, .ref h), (1, .int (iZ w))] → W prg l env (k2_rm 5 112) s mid ([.ref h, .int (iZ w)] : List Value).toArray blw mth cod H locs 0 0 Q (F0 mid 17 ls []) := by
    intro  S3  H locs ls m1 hPS_17 hP  hS hl
    refine z_aload_n C dX6_onceLine_17 hl 0 rfl ?_
    refine m_geti C hK hP 12 (by decide) q1761 rfl (Or.inl rfl) m1.1 dX6_onceLine_18 (fun r_18 => ?_)
    refine z_if_eq C 25 dX6_onceLine_21 (by decide) (by omega) (fun c_21 => ?_) (fun c_21 => ?_)
    · refine z_aload_n C dX6_onceLine_25 hl 0 rfl ?_
      refine m_mv C vX6_176 (mcX6_next l g h ad _ _ hPS_17 (tkE T nn (once1 P st w).2) (by simp [zup_k, h6]; exact hnn) (m1.at c_21).1 (by have q33 := tkE_in (T := T) (m1.at c_21).2.2.2.2.2.2; have q34 := (m1.at c_21).2.2.2.2.2.1; simp [zup_k, h6]; omega)) hS hl ⟨Nat.le_of_ble_eq_true rfl, Nat.le_of_ble_eq_true rfl⟩ ⟨rfl, rfl⟩ hK hP (fun _ h9 => h9) rfl rfl (Nat.le_of_ble_eq_true rfl) dX6_onceLine_26 ⟨Nat.zero_le _, Nat.zero_le _⟩ (fun S_26 H locs pS_26 hP hS => ?_)
      have hS_26 : per S_26 = _ := (pS_26.2.pr rfl hPS_17)
      have m2 : MS T nn (nextS T nn (once1 P st w)) S_26 := by
        have q := pS_26.1
        simp [zup_k, h5, h6] at q
        rw [nextS, if_pos c_21]
        exact MS.go q (by rw [pS_26.2 12 (by decide)]; exact (m1.1).trans c_21)
      refine z_aload_n C dX6_onceLine_29 hl 0 rfl ?_
      refine m_geta C hK hP 28 (by decide) q1777 rfl (by decide) dX6_onceLine_30 ?_
      refine z_bipush C dX6_onceLine_33 rfl ?_
      refine z_iload_n C dX6_onceLine_35 hl 1 rfl ?_
      refine z_iadd C dX6_onceLine_36 ?_
      refine z_iconst C dX6_onceLine_37 ?_
      refine m_zast C hK hP hS 28 (by decide) rfl (by have h9 : mlen 28 = 10 := rfl; omega) (by omega) dX6_onceLine_38 (fun S_38 eS_38 H locs hP hS => ?_)
      have hS_38 := per_w2 rfl hS_26 eS_38
      refine z_bipush C dX6_onceLine_39 rfl ?_
      refine z_istore_n C dX6_onceLine_41 rfl hl (by decide) rfl (fun ls hl => ?_)
      have hl : lv_has ls 3 [(2, _), (0, _), (1, _)] := hl
      refine z_iload_n C dX6_onceLine_42 hl 2 rfl ?_
      refine z_if_ne C 109 dX6_onceLine_43 (by decide) (by omega) (fun c_43 => ?_) (fun c_43 => ?_)
      · obtain rfl : w = 1 := by omega
        refine z_aload_n C dX6_onceLine_109 hl 1 rfl ?_
        refine m_geta C hK hP 27 (by decide) q1776 rfl (by decide) dX6_onceLine_110 ?_
        refine z_iload_n C dX6_onceLine_113 hl 0 rfl ?_
        refine z_iconst C dX6_onceLine_114 ?_
        refine z_iadd C dX6_onceLine_115 ?_
        refine z_aload_n C dX6_onceLine_116 hl 1 rfl ?_
        refine z_ldc2 (v := 453632) C q2015 dX6_onceLine_117 rfl ?_
        refine z_iconst C dX6_onceLine_120 ?_
        refine z_sipush C dX6_onceLine_121 rfl ?_
        refine m_mi C vX6_198 (mcX6_number l g h ad _ _ hS_38 T nn _ _ _ _ hnn (by simp [zup_k, h5]) (by simp [zup_k, h6]) (m2.mv (Fr.up Fr.rf eS_38 (by decide : 28 ∈ ([28] : List Nat))) rfl) (by omega) (by omega) (by omega)) hS hl ⟨Nat.le_of_ble_eq_true rfl, Nat.le_of_ble_eq_true rfl⟩ ⟨rfl, rfl⟩ hK hP (fun _ h9 => h9) rfl rfl (Nat.le_of_ble_eq_true rfl) dX6_onceLine_124 ⟨Nat.zero_le _, Nat.zero_le _⟩ (fun v_124 S_124 H locs pS_124 hP hS => ?_)
        obtain ⟨e_124, pS_124⟩ := pS_124
        subst e_124
        have hS_124 : per S_124 = _ := (pS_124.2.2.pr rfl hS_38)
        have q3 := pS_124.1
        refine m_iast C hK hP hS 27 (by decide) rfl (by have h9 : mlen 27 = 35 := rfl; omega) (by omega) dX6_onceLine_127 (fun S_127 eS_127 H locs hP hS => ?_)
        have hS_127 := per_w2 rfl hS_124 eS_127
        refine z_aload_n C dX6_onceLine_128 hl 1 rfl ?_
        refine m_geta C hK hP 27 (by decide) q1776 rfl (by decide) dX6_onceLine_129 ?_
        refine z_iload_n C dX6_onceLine_132 hl 0 rfl ?_
        refine z_iconst C dX6_onceLine_133 ?_
        refine z_iadd C dX6_onceLine_134 ?_
        refine z_aload_n C dX6_onceLine_135 hl 1 rfl ?_
        refine z_ldc2 (v := 22726) C q2016 dX6_onceLine_136 rfl ?_
        refine z_iconst C dX6_onceLine_139 ?_
        refine z_bipush C dX6_onceLine_140 rfl ?_
        refine m_mi C vX6_198 (mcX6_number l g h ad _ _ hS_127 T nn _ _ _ _ hnn (by simp [zup_k, h5]) (by simp [zup_k, h6]) (pS_124.2.1.mv (Fr.up Fr.rf eS_127 (by decide : 27 ∈ ([27] : List Nat))) rfl) (by omega) (by omega) (by omega)) hS hl ⟨Nat.le_of_ble_eq_true rfl, Nat.le_of_ble_eq_true rfl⟩ ⟨rfl, rfl⟩ hK hP (fun _ h9 => h9) rfl rfl (Nat.le_of_ble_eq_true rfl) dX6_onceLine_142 ⟨Nat.zero_le _, Nat.zero_le _⟩ (fun v_142 S_142 H locs pS_142 hP hS => ?_)
        obtain ⟨e_142, pS_142⟩ := pS_142
        subst e_142
        have hS_142 : per S_142 = _ := (pS_142.2.2.pr rfl hS_127)
        have q4 := pS_142.1
        refine m_iast C hK hP hS 27 (by decide) rfl (by have h9 : mlen 27 = 35 := rfl; omega) (by omega) dX6_onceLine_145 (fun S_145 eS_145 H locs hP hS => ?_)
        have hS_145 := per_w2 rfl hS_142 eS_145
        refine z_aload_n C dX6_onceLine_146 hl 1 rfl ?_
        refine m_geta C hK hP 27 (by decide) q1776 rfl (by decide) dX6_onceLine_147 ?_
        refine z_iload_n C dX6_onceLine_150 hl 0 rfl ?_
        refine z_iconst C dX6_onceLine_151 ?_
        refine z_iadd C dX6_onceLine_152 ?_
        refine z_iconst C dX6_onceLine_153 ?_
        refine m_iast C hK hP hS 27 (by decide) rfl (by have h9 : mlen 27 = 35 := rfl; omega) (by omega) dX6_onceLine_154 (fun S_154 eS_154 H locs hP hS => ?_)
        have hS_154 := per_w2 rfl hS_145 eS_154
        exact m_mret_v C hQ hret hlk hS hP ⟨by rw [onceP, if_pos c_21]; first | (rw [if_pos rfl, markP, if_pos (show isW T nn (mark2 T nn P st) 119656022 from c_97)]; exact hS_154) | (rw [if_pos rfl, markP, if_neg (show ¬ isW T nn (mark2 T nn P st) 119656022 from c_97)]; exact hS_154) | (rw [if_neg (by decide)]; exact hS_154), by rw [onceSt, if_pos c_21]; first | (rw [if_pos rfl]; exact (pS_94.1.mv (Fr.up Fr.rf eS_105 (by decide : 27 ∈ ([27] : List Nat))) rfl)) | (rw [if_neg (by decide)]; exact (pS_142.2.1.mv (Fr.up (Fr.up Fr.rf eS_145 (by decide : 27 ∈ ([27, 27] : List Nat))) eS_154 (by decide : 27 ∈ ([27, 27] : List Nat))) rfl))⟩ dX6_onceLine_155
      · subst c_43
        refine z_aload_n C dX6_onceLine_46 hl 1 rfl ?_
        refine m_geta C hK hP 27 (by decide) q1776 rfl (by decide) dX6_onceLine_47 ?_
        refine z_iload_n C dX6_onceLine_50 hl 0 rfl ?_
        refine z_iconst C dX6_onceLine_51 ?_
        refine z_iadd C dX6_onceLine_52 ?_
        refine z_aload_n C dX6_onceLine_53 hl 1 rfl ?_
        refine z_ldc2 (v := 8863997) C q2012 dX6_onceLine_54 rfl ?_
        refine z_iconst C dX6_onceLine_57 ?_
        refine z_sipush C dX6_onceLine_58 rfl ?_
        refine m_mi C vX6_198 (mcX6_number l g h ad _ _ hS_38 T nn _ _ _ _ hnn (by simp [zup_k, h5]) (by simp [zup_k, h6]) (m2.mv (Fr.up Fr.rf eS_38 (by decide : 28 ∈ ([28] : List Nat))) rfl) (by omega) (by omega) (by omega)) hS hl ⟨Nat.le_of_ble_eq_true rfl, Nat.le_of_ble_eq_true rfl⟩ ⟨rfl, rfl⟩ hK hP (fun _ h9 => h9) rfl rfl (Nat.le_of_ble_eq_true rfl) dX6_onceLine_61 ⟨Nat.zero_le _, Nat.zero_le _⟩ (fun v_61 S_61 H locs pS_61 hP hS => ?_)
        obtain ⟨e_61, pS_61⟩ := pS_61
        subst e_61
        have hS_61 : per S_61 = _ := (pS_61.2.2.pr rfl hS_38)
        have q0 := pS_61.1
        refine m_iast C hK hP hS 27 (by decide) rfl (by have h9 : mlen 27 = 35 := rfl; omega) (by omega) dX6_onceLine_64 (fun S_64 eS_64 H locs hP hS => ?_)
        have hS_64 := per_w2 rfl hS_61 eS_64
        refine z_aload_n C dX6_onceLine_65 hl 1 rfl ?_
        refine m_geta C hK hP 27 (by decide) q1776 rfl (by decide) dX6_onceLine_66 ?_
        refine z_iload_n C dX6_onceLine_69 hl 0 rfl ?_
        refine z_iconst C dX6_onceLine_70 ?_
        refine z_iadd C dX6_onceLine_71 ?_
        refine z_aload_n C dX6_onceLine_72 hl 1 rfl ?_
        refine z_ldc2 (v := 6132983) C q2013 dX6_onceLine_73 rfl ?_
        refine z_iconst C dX6_onceLine_76 ?_
        refine z_bipush C dX6_onceLine_77 rfl ?_
        refine m_mi C vX6_198 (mcX6_number l g h ad _ _ hS_64 T nn _ _ _ _ hnn (by simp [zup_k, h5]) (by simp [zup_k, h6]) (pS_61.2.1.mv (Fr.up Fr.rf eS_64 (by decide : 27 ∈ ([27] : List Nat))) rfl) (by omega) (by omega) (by omega)) hS hl ⟨Nat.le_of_ble_eq_true rfl, Nat.le_of_ble_eq_true rfl⟩ ⟨rfl, rfl⟩ hK hP (fun _ h9 => h9) rfl rfl (Nat.le_of_ble_eq_true rfl) dX6_onceLine_79 ⟨Nat.zero_le _, Nat.zero_le _⟩ (fun v_79 S_79 H locs pS_79 hP hS => ?_)
        obtain ⟨e_79, pS_79⟩ := pS_79
        subst e_79
        have hS_79 : per S_79 = _ := (pS_79.2.2.pr rfl hS_64)
        have q2 := pS_79.1
        refine m_iast C hK hP hS 27 (by decide) rfl (by have h9 : mlen 27 = 35 := rfl; omega) (by omega) dX6_onceLine_82 (fun S_82 eS_82 H locs hP hS => ?_)
        have hS_82 := per_w2 rfl hS_79 eS_82
        refine z_aload_n C dX6_onceLine_83 hl 1 rfl ?_
        refine m_geta C hK hP 27 (by decide) q1776 rfl (by decide) dX6_onceLine_84 ?_
        refine z_iload_n C dX6_onceLine_87 hl 0 rfl ?_
        refine z_iconst C dX6_onceLine_88 ?_
        refine z_iadd C dX6_onceLine_89 ?_
        refine z_aload_n C dX6_onceLine_90 hl 1 rfl ?_
        refine z_ldc2 (v := 119656022) C q2014 dX6_onceLine_91 rfl ?_
        refine m_mi C vX6_179 (mcX6_takes l g h ad _ _ hS_82 T nn _ _ hnn (by simp [zup_k, h5]) (by simp [zup_k, h6]) (pS_79.2.1.mv (Fr.up Fr.rf eS_82 (by decide : 27 ∈ ([27] : List Nat))) rfl) (by omega)) hS hl ⟨Nat.le_of_ble_eq_true rfl, Nat.le_of_ble_eq_true rfl⟩ ⟨rfl, rfl⟩ hK hP (fun _ h9 => h9) rfl rfl (Nat.le_of_ble_eq_true rfl) dX6_onceLine_94 ⟨Nat.zero_le _, Nat.zero_le _⟩ (fun v_94 S_94 H locs pS_94 hP hS => ?_)
        obtain ⟨e_94, pS_94⟩ := pS_94
        subst e_94
        have hS_94 : per S_94 = _ := (pS_94.2.pr rfl hS_82)
        refine z_if_eq C 104 dX6_onceLine_97 (by decide) z01_in (fun c_97 => ?_) (fun c_97 => ?_)
        · replace c_97 := z01_f c_97
          refine z_iconst C dX6_onceLine_104 ?_
          refine m_iast C hK hP hS 27 (by decide) rfl (by have h9 : mlen 27 = 35 := rfl; omega) (by omega) dX6_onceLine_105 (fun S_105 eS_105 H locs hP hS => ?_)
          have hS_105 := per_w2 rfl hS_94 eS_105
          refine z_goto C 155 dX6_onceLine_106 (by decide) ?_
          exact m_mret_v C hQ hret hlk hS hP ⟨by rw [onceP, if_pos c_21]; first | (rw [if_pos rfl, markP, if_pos (show isW T nn (mark2 T nn P st) 119656022 from c_97)]; exact hS_105) | (rw [if_pos rfl, markP, if_neg (show ¬ isW T nn (mark2 T nn P st) 119656022 from c_97)]; exact hS_105) | (rw [if_neg (by decide)]; exact hS_105), by rw [onceSt, if_pos c_21]; first | (rw [if_pos rfl]; exact (pS_94.1.mv (Fr.up Fr.rf eS_105 (by decide : 27 ∈ ([27] : List Nat))) rfl)) | (rw [if_neg (by decide)]; exact (pS_142.2.1.mv (Fr.up (Fr.up Fr.rf eS_145 (by decide : 27 ∈ ([27, 27] : List Nat))) eS_154 (by decide : 27 ∈ ([27, 27] : List Nat))) rfl))⟩ dX6_onceLine_155
        · replace c_97 := z01_t c_97
          refine z_iconst C dX6_onceLine_100 ?_
          refine z_goto C 105 dX6_onceLine_101 (by decide) ?_
          refine m_iast C hK hP hS 27 (by decide) rfl (by have h9 : mlen 27 = 35 := rfl; omega) (by omega) dX6_onceLine_105 (fun S_105 eS_105 H locs hP hS => ?_)
          have hS_105 := per_w2 rfl hS_94 eS_105
          refine z_goto C 155 dX6_onceLine_106 (by decide) ?_
          exact m_mret_v C hQ hret hlk hS hP ⟨by rw [onceP, if_pos c_21]; first | (rw [if_pos rfl, markP, if_pos (show isW T nn (mark2 T nn P st) 119656022 from c_97)]; exact hS_105) | (rw [if_pos rfl, markP, if_neg (show ¬ isW T nn (mark2 T nn P st) 119656022 from c_97)]; exact hS_105) | (rw [if_neg (by decide)]; exact hS_105), by rw [onceSt, if_pos c_21]; first | (rw [if_pos rfl]; exact (pS_94.1.mv (Fr.up Fr.rf eS_105 (by decide : 27 ∈ ([27] : List Nat))) rfl)) | (rw [if_neg (by decide)]; exact (pS_142.2.1.mv (Fr.up (Fr.up Fr.rf eS_145 (by decide : 27 ∈ ([27, 27] : List Nat))) eS_154 (by decide : 27 ∈ ([27, 27] : List Nat))) rfl))⟩ dX6_onceLine_155
    · exact m_mret_v C hQ hret hlk hS hP ⟨by rw [onceP, if_neg c_21]; exact hPS_17, by rw [onceSt, if_neg c_21]; exact m1⟩ dX6_onceLine_24
  refine m_geta C hK hP 28 (by decide) q1777 rfl (by decide) dX6_onceLine_1 ?_
  refine z_bipush C dX6_onceLine_4 rfl ?_
  refine z_iload_n C dX6_onceLine_6 hl 1 rfl ?_
  refine z_iadd C dX6_onceLine_7 ?_
  refine m_zald C hK hP 28 (by decide) rfl (by have h9 : mlen 28 = 10 := rfl; omega) (pe hPS rfl) dX6_onceLine_8 (fun r_8 => ?_)
  refine z_if_eq C 17 dX6_onceLine_9 (by decide) (by omega) (fun c_9 => ?_) (fun c_9 => ?_)
  · exact hL_17  _ _ _ ls (by rw [once1, if_pos c_9]; exact hM) hPS hP hS (lv_sub hl [0, 1] rfl)
  · refine z_aload_n C dX6_onceLine_12 hl 0 rfl ?_
    refine z_iconst C dX6_onceLine_13 ?_
    refine m_mv C vX6_182 (mcX6_fails l g h ad _ _ hPS T nn _ _ hM (by omega)) hS hl ⟨Nat.le_of_ble_eq_true rfl, Nat.le_of_ble_eq_true rfl⟩ ⟨rfl, rfl⟩ hK hP (fun _ h9 => h9) rfl rfl (Nat.le_of_ble_eq_true rfl) dX6_onceLine_14 ⟨Nat.zero_le _, Nat.zero_le _⟩ (fun S_14 H locs pS_14 hP hS => ?_)
    have hS_14 : per S_14 = P := (pS_14.2.pr rfl hPS)
    exact hL_17  _ _ _ ls (by rw [once1, if_neg c_9]; exact pS_14.1) hS_14 hP hS (lv_sub hl [0, 1] rfl)
