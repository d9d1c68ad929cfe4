theorem va_S.le {A B : Nat → Prop} {H0 H : Heap} {locs : List Loc} (h : va_S A H0 H locs) (hA : ∀ q, A q → B q) : va_S B H0 H locs := ⟨h.1, fun q h1 h2 => h.2.1 q h1 (fun z => h2 (hA q z)), fun q hq => hA _ (h.2.2 q hq)⟩
abbrev mad (n0 k : Nat) : Nat := n0 + mord k
def mS0 : zS := fun k j => if k = 15 ∧ j = 0 then -1 else 0
def mS1 (n : Nat) : zS := fun k j => if k = 1 ∧ 0 ≤ j ∧ j < n then -1 else mS0 k j
/-- the store at birth -/
def P0 : zS := mS1 4
theorem per_mS1 (n : Nat) : per (mS1 n) = mS1 n := by
  funext k j
  unfold per
  cases h : scr k with
  | false => rfl
  | true =>
    show 0 = mS1 n k j
    unfold mS1 mS0
    rw [if_neg (fun z => by rw [z.1] at h; exact absurd h (by decide)), if_neg (fun z => by rw [z.1] at h; exact absurd h (by decide))]
theorem mS1_s (n : Nat) : mS1 (n + 1) = zup (mS1 n) 1 n (-1) := by
  funext k j
  unfold mS1 zup
  by_cases q : k = 1 ∧ j = (n : Int)
  · rw [if_pos q, if_pos (by omega)]
  · rw [if_neg q]
    show _ = (if k = 1 ∧ 0 ≤ j ∧ j < n then -1 else mS0 k j)
    by_cases q2 : k = 1 ∧ 0 ≤ j ∧ j < n
    · rw [if_pos q2, if_pos (by omega)]
    · rw [if_neg q2, if_neg (by omega)]
theorem mord_all : ∀ k, k < 51 → 3 ≤ mknd k → mord k < 32 := by decide +kernel
theorem IP.toMP {g : mG} {h n0 : Nat} {H : Heap} (hI : IP g h n0 32 (-1) H) : MP g h (mad n0) mS0 H := by
  obtain ⟨h1, h2, h3, h4⟩ := hI
  refine ⟨fun k j => ?_, h1.to (fun k hk => ?_), fun k hk hn => ?_, fun k hk hn z => ?_, fun k j hk hj hn hm z => mord_lt k hk hn j hj hm (by unfold mad at z; omega)⟩
  · unfold mfit mS0
    split <;> exact ⟨fun _ _ => by decide, by decide⟩
  · unfold iV mfv mS0
    by_cases q : 3 ≤ mknd k
    · rw [if_pos q, if_pos (mord_all k hk q), if_neg (by omega), if_pos q]
    · rw [if_neg q]
      by_cases q2 : mknd k = 1
      · rw [if_pos q2, if_pos q2, if_neg (fun z => by rw [z.1] at q2; exact absurd q2 (by decide))]; rfl
      · rw [if_neg q2, if_neg q2, if_neg q]
        by_cases q3 : k = 15
        · rw [if_pos q3, if_pos ⟨q3, rfl⟩]
        · rw [if_neg q3, if_neg (fun z => q3 z.1)]
  · rw [h4 k hk hn (mord_all k hk hn)]
    congr 1
    congr 1
    funext j
    unfold mS0
    rw [if_neg (fun z => by rw [z.1] at hn; exact absurd hn (by decide))]
  · unfold mad at z; omega
section
variable {p : Program} {l : Launch} {e : Env} {R : Room} {s : State} {m : MethodId} {args : Array Value} {below : List Frame} {meth : Method} {c : Code} {H : Heap} {locs : List Loc} {cells slots : Nat} {Q : State → Prop}
variable {cc : ByteArray} {pc : Nat} {ls : Array Slot} {rest : List Value} {nL : Nat}
variable {g : mG} {h n0 j : Nat} {fp : Int} {A0 : Nat → Prop} {H0 : Heap}
theorem mi_fp (C : zC p m c cc nL s args RX6) (hK : MKc g s) (hI : IP g h n0 j fp H) (hS0 : va_S A0 H0 H locs) (hA : A0 h) {idx : Nat} (hq : Cond.fieldLink RX6 idx RX6 "faultPlace" "I" ∈ lw_all) {x : Int} (hdg : decode cc pc = .ok (.putfield idx, 3))
    (kk : ∀ (H1 : Heap) (locs1 : List Loc), IP g h n0 j x H1 → va_S A0 H0 H1 locs1 → W p l e R s m args below meth c H1 locs1 cells slots Q (F0 m (pc + 3) ls rest)) : W p l e R s m args below meth c H locs cells slots Q (F0 m pc ls (.int (iZ x) :: .ref h :: rest)) := by
  obtain ⟨hO, hz, hh, hcells⟩ := hI
  have hap : ∀ x y, x < 51 → y < 51 → x ≠ y → g.2.1 x ≠ g.2.1 y := by
    intro x y hx hy hne
    obtain ⟨_, _, _, fa, hia, ea⟩ := hK.1.1.1 x hx
    obtain ⟨_, _, _, fb, hib, eb⟩ := hK.1.1.1 y hy
    rw [← ea, ← eb]
    refine u_apart (u_lays C.2.2.2.2 in_X6 hx) (u_lays C.2.2.2.2 in_X6 hy) hia hib ?_
    rw [(State.fieldFound?_type hia (tyX6_ok x hx)).1, (State.fieldFound?_type hib (tyX6_ok y hy)).1]
    exact nmX6 x hx y hy hne
  have hk : 15 < 51 := by decide
  obtain ⟨cell, q1, q2, q3, q4⟩ := hO
  obtain ⟨hS, hfc, kC, hkC, hkind⟩ := hK.1.1
  obtain ⟨cf, kf, fi, f, hi, hsl⟩ := hS 15 hk
  have hlay := C.2.2.2.2 _ (in_X6 _ (u_in_lay hk))
  unfold u_lay at hlay
  rw [if_neg (by decide)] at hlay
  have hst := (u_facts hfc hkC (u_lays C.2.2.2.2 in_X6 hk) hi).1
  have h6 := u_store (v := .int (iZ x)) (ty := .int) hfc hkC hkind hlay hi (by decide +kernel) rfl rfl
  refine W.putK C.1 C.2.1 (f := f) ⟨C.2.2.2.1, C.2.2.2.2 _ hq, ⟨_, _, _, hi⟩, hst⟩ (by rw [q2]; exact h6) q1 q3 (by rw [hsl]; exact k2_hasslot (q4 15 hk)) rfl rfl hdg fun H' e1 e2 e3 => ?_
  rw [hsl] at e1 ⊢
  refine kk H' _ ⟨t_OB.to (V := updV (iV n0 j fp) 15 (.int (iZ x))) ⟨_, e1, q2, q3, t_set q4 hap hk _⟩ (fun k hk2 => ?_), by omega, hh, fun k hk2 hx2 hx3 => ?_⟩ (hS0.put e2 e3 hA)
  · unfold updV
    by_cases z : k = 15
    · subst z; rw [if_pos rfl]; rfl
    · rw [if_neg z]; unfold iV; rw [if_neg z, if_neg z]
  · rw [e3 (n0 + mord k) (fun z => by have z9 : n0 + mord k = h := z; omega)]
    exact hcells k hk2 hx2 hx3
end
theorem mcX6_init (l : Launch) (g : mG) (h n0 : Nat) : Met l yX6_init (ws_ yX6_init cX6_init 2 none) ({ k2_rm 1 40 with cells := 32, slots := 267110 } : Room) (zPc (MKc g) [.ref h] (fun H => H.size = n0 ∧ h < n0 ∧ t_OB h g.1 51 g.2.1 H (iV n0 0 0))) (va_Qv (fun S' => per S' = P0) (fun S' t => MP g h (mad n0) S' t.heap) (MA h (mad n0))) 32 267110 (MA h (mad n0)) := by
  refine z_start (own := RX6) (by decide) rfl (Nat.le_of_ble_eq_true rfl) ?_
  intro prg env s mid blw mth cod ls Q C hQ hret hlk hnm hKc hH hl
  obtain ⟨hz, hh, hO⟩ := hH
  have hI : IP g h n0 0 0 s.heap := ⟨hO, hz, hh, fun k _ _ z => absurd z (Nat.not_lt_zero _)⟩
  have hS : va_S (fun q => q = h) s.heap s.heap [] := va_S.rf
  have hl : lv_has ls 2 [(0, .ref h)] := hl
  refine z_aload_n C dX6_init_0 hl 0 rfl ?_
  refine W.objInit C.1 C.2.1 C.2.2.2.1 (C.2.2.2.2 _ q1747) (C.2.2.2.2 _ q187) (C.2.2.2.2 _ q188) rfl (by rw [C.2.2.1]; exact hl.1) rfl dX6_init_1 (Nat.le_of_ble_eq_true rfl) (Nat.le_of_ble_eq_true rfl) ?_
  refine z_aload_n C dX6_init_4 hl 0 rfl ?_
  refine z_iconst C dX6_init_5 ?_
  refine mi_arr C hnm hKc hI hS rfl 1 (by decide) (by decide) (by decide) q1750 rfl (atype := .int) rfl q347 rfl rfl (Nat.le_of_ble_eq_true rfl) dX6_init_6 dX6_init_8 (Nat.le_of_ble_eq_true rfl) (Nat.le_of_ble_eq_true rfl) (fun H locs hI hS => ?_)
  refine z_aload_n C dX6_init_11 hl 0 rfl ?_
  refine z_iconst C dX6_init_12 ?_
  refine mi_arr C hnm hKc hI hS rfl 2 (by decide) (by decide) (by decide) q1751 rfl (atype := .int) rfl q347 rfl rfl (Nat.le_of_ble_eq_true rfl) dX6_init_13 dX6_init_15 (Nat.le_of_ble_eq_true rfl) (Nat.le_of_ble_eq_true rfl) (fun H locs hI hS => ?_)
  refine z_aload_n C dX6_init_18 hl 0 rfl ?_
  refine z_sipush C dX6_init_19 rfl ?_
  refine mi_arr C hnm hKc hI hS rfl 3 (by decide) (by decide) (by decide) q1752 rfl (atype := .long) rfl q346 rfl rfl (Nat.le_of_ble_eq_true rfl) dX6_init_22 dX6_init_24 (Nat.le_of_ble_eq_true rfl) (Nat.le_of_ble_eq_true rfl) (fun H locs hI hS => ?_)
  refine z_aload_n C dX6_init_27 hl 0 rfl ?_
  refine z_bipush C dX6_init_28 rfl ?_
  refine mi_arr C hnm hKc hI hS rfl 4 (by decide) (by decide) (by decide) q1753 rfl (atype := .long) rfl q346 rfl rfl (Nat.le_of_ble_eq_true rfl) dX6_init_30 dX6_init_32 (Nat.le_of_ble_eq_true rfl) (Nat.le_of_ble_eq_true rfl) (fun H locs hI hS => ?_)
  refine z_aload_n C dX6_init_35 hl 0 rfl ?_
  refine z_sipush C dX6_init_36 rfl ?_
  refine mi_arr C hnm hKc hI hS rfl 5 (by decide) (by decide) (by decide) q1754 rfl (atype := .byte) rfl q374 rfl rfl (Nat.le_of_ble_eq_true rfl) dX6_init_39 dX6_init_41 (Nat.le_of_ble_eq_true rfl) (Nat.le_of_ble_eq_true rfl) (fun H locs hI hS => ?_)
  refine z_aload_n C dX6_init_44 hl 0 rfl ?_
  refine z_iconst C dX6_init_45 ?_
  refine mi_fp C hKc hI hS rfl q1764 dX6_init_46 (fun H locs hI hS => ?_)
  refine z_aload_n C dX6_init_49 hl 0 rfl ?_
  refine z_iconst C dX6_init_50 ?_
  refine mi_arr C hnm hKc hI hS rfl 16 (by decide) (by decide) (by decide) q1765 rfl (atype := .int) rfl q347 rfl rfl (Nat.le_of_ble_eq_true rfl) dX6_init_51 dX6_init_53 (Nat.le_of_ble_eq_true rfl) (Nat.le_of_ble_eq_true rfl) (fun H locs hI hS => ?_)
  refine z_aload_n C dX6_init_56 hl 0 rfl ?_
  refine z_iconst C dX6_init_57 ?_
  refine mi_arr C hnm hKc hI hS rfl 17 (by decide) (by decide) (by decide) q1766 rfl (atype := .int) rfl q347 rfl rfl (Nat.le_of_ble_eq_true rfl) dX6_init_58 dX6_init_60 (Nat.le_of_ble_eq_true rfl) (Nat.le_of_ble_eq_true rfl) (fun H locs hI hS => ?_)
  refine z_aload_n C dX6_init_63 hl 0 rfl ?_
  refine z_iconst C dX6_init_64 ?_
  refine mi_arr C hnm hKc hI hS rfl 18 (by decide) (by decide) (by decide) q1767 rfl (atype := .int) rfl q347 rfl rfl (Nat.le_of_ble_eq_true rfl) dX6_init_65 dX6_init_67 (Nat.le_of_ble_eq_true rfl) (Nat.le_of_ble_eq_true rfl) (fun H locs hI hS => ?_)
  refine z_aload_n C dX6_init_70 hl 0 rfl ?_
  refine z_iconst C dX6_init_71 ?_
  refine mi_arr C hnm hKc hI hS rfl 19 (by decide) (by decide) (by decide) q1768 rfl (atype := .int) rfl q347 rfl rfl (Nat.le_of_ble_eq_true rfl) dX6_init_72 dX6_init_74 (Nat.le_of_ble_eq_true rfl) (Nat.le_of_ble_eq_true rfl) (fun H locs hI hS => ?_)
  refine z_aload_n C dX6_init_77 hl 0 rfl ?_
  refine z_bipush C dX6_init_78 rfl ?_
  refine mi_arr C hnm hKc hI hS rfl 20 (by decide) (by decide) (by decide) q1769 rfl (atype := .int) rfl q347 rfl rfl (Nat.le_of_ble_eq_true rfl) dX6_init_80 dX6_init_82 (Nat.le_of_ble_eq_true rfl) (Nat.le_of_ble_eq_true rfl) (fun H locs hI hS => ?_)
  refine z_aload_n C dX6_init_85 hl 0 rfl ?_
  refine z_iconst C dX6_init_86 ?_
  refine mi_arr C hnm hKc hI hS rfl 21 (by decide) (by decide) (by decide) q1770 rfl (atype := .int) rfl q347 rfl rfl (Nat.le_of_ble_eq_true rfl) dX6_init_87 dX6_init_89 (Nat.le_of_ble_eq_true rfl) (Nat.le_of_ble_eq_true rfl) (fun H locs hI hS => ?_)
  refine z_aload_n C dX6_init_92 hl 0 rfl ?_
  refine z_bipush C dX6_init_93 rfl ?_
  refine mi_arr C hnm hKc hI hS rfl 22 (by decide) (by decide) (by decide) q1771 rfl (atype := .int) rfl q347 rfl rfl (Nat.le_of_ble_eq_true rfl) dX6_init_95 dX6_init_97 (Nat.le_of_ble_eq_true rfl) (Nat.le_of_ble_eq_true rfl) (fun H locs hI hS => ?_)
  refine z_aload_n C dX6_init_100 hl 0 rfl ?_
  refine z_iconst C dX6_init_101 ?_
  refine mi_arr C hnm hKc hI hS rfl 23 (by decide) (by decide) (by decide) q1772 rfl (atype := .int) rfl q347 rfl rfl (Nat.le_of_ble_eq_true rfl) dX6_init_102 dX6_init_104 (Nat.le_of_ble_eq_true rfl) (Nat.le_of_ble_eq_true rfl) (fun H locs hI hS => ?_)
  refine z_aload_n C dX6_init_107 hl 0 rfl ?_
  refine z_sipush C dX6_init_108 rfl ?_
  refine mi_arr C hnm hKc hI hS rfl 24 (by decide) (by decide) (by decide) q1773 rfl (atype := .int) rfl q347 rfl rfl (Nat.le_of_ble_eq_true rfl) dX6_init_111 dX6_init_113 (Nat.le_of_ble_eq_true rfl) (Nat.le_of_ble_eq_true rfl) (fun H locs hI hS => ?_)
  refine z_aload_n C dX6_init_116 hl 0 rfl ?_
  refine z_iconst C dX6_init_117 ?_
  refine mi_arr C hnm hKc hI hS rfl 25 (by decide) (by decide) (by decide) q1774 rfl (atype := .int) rfl q347 rfl rfl (Nat.le_of_ble_eq_true rfl) dX6_init_118 dX6_init_120 (Nat.le_of_ble_eq_true rfl) (Nat.le_of_ble_eq_true rfl) (fun H locs hI hS => ?_)
  refine z_aload_n C dX6_init_123 hl 0 rfl ?_
  refine z_sipush C dX6_init_124 rfl ?_
  refine mi_arr C hnm hKc hI hS rfl 26 (by decide) (by decide) (by decide) q1775 rfl (atype := .int) rfl q347 rfl rfl (Nat.le_of_ble_eq_true rfl) dX6_init_127 dX6_init_129 (Nat.le_of_ble_eq_true rfl) (Nat.le_of_ble_eq_true rfl) (fun H locs hI hS => ?_)
  refine z_aload_n C dX6_init_132 hl 0 rfl ?_
  refine z_bipush C dX6_init_133 rfl ?_
  refine mi_arr C hnm hKc hI hS rfl 27 (by decide) (by decide) (by decide) q1776 rfl (atype := .int) rfl q347 rfl rfl (Nat.le_of_ble_eq_true rfl) dX6_init_135 dX6_init_137 (Nat.le_of_ble_eq_true rfl) (Nat.le_of_ble_eq_true rfl) (fun H locs hI hS => ?_)
  refine z_aload_n C dX6_init_140 hl 0 rfl ?_
  refine z_bipush C dX6_init_141 rfl ?_
  refine mi_arr C hnm hKc hI hS rfl 28 (by decide) (by decide) (by decide) q1777 rfl (atype := .boolean) rfl q1903 rfl rfl (Nat.le_of_ble_eq_true rfl) dX6_init_143 dX6_init_145 (Nat.le_of_ble_eq_true rfl) (Nat.le_of_ble_eq_true rfl) (fun H locs hI hS => ?_)
  refine z_aload_n C dX6_init_148 hl 0 rfl ?_
  refine z_bipush C dX6_init_149 rfl ?_
  refine mi_arr C hnm hKc hI hS rfl 29 (by decide) (by decide) (by decide) q1778 rfl (atype := .int) rfl q347 rfl rfl (Nat.le_of_ble_eq_true rfl) dX6_init_151 dX6_init_153 (Nat.le_of_ble_eq_true rfl) (Nat.le_of_ble_eq_true rfl) (fun H locs hI hS => ?_)
  refine z_aload_n C dX6_init_156 hl 0 rfl ?_
  refine z_iconst C dX6_init_157 ?_
  refine mi_arr C hnm hKc hI hS rfl 30 (by decide) (by decide) (by decide) q1779 rfl (atype := .boolean) rfl q1903 rfl rfl (Nat.le_of_ble_eq_true rfl) dX6_init_158 dX6_init_160 (Nat.le_of_ble_eq_true rfl) (Nat.le_of_ble_eq_true rfl) (fun H locs hI hS => ?_)
  refine z_aload_n C dX6_init_163 hl 0 rfl ?_
  refine z_bipush C dX6_init_164 rfl ?_
  refine mi_arr C hnm hKc hI hS rfl 33 (by decide) (by decide) (by decide) q1782 rfl (atype := .int) rfl q347 rfl rfl (Nat.le_of_ble_eq_true rfl) dX6_init_166 dX6_init_168 (Nat.le_of_ble_eq_true rfl) (Nat.le_of_ble_eq_true rfl) (fun H locs hI hS => ?_)
  refine z_aload_n C dX6_init_171 hl 0 rfl ?_
  refine z_bipush C dX6_init_172 rfl ?_
  refine mi_arr C hnm hKc hI hS rfl 34 (by decide) (by decide) (by decide) q1783 rfl (atype := .int) rfl q347 rfl rfl (Nat.le_of_ble_eq_true rfl) dX6_init_174 dX6_init_176 (Nat.le_of_ble_eq_true rfl) (Nat.le_of_ble_eq_true rfl) (fun H locs hI hS => ?_)
  refine z_aload_n C dX6_init_179 hl 0 rfl ?_
  refine z_sipush C dX6_init_180 rfl ?_
  refine mi_arr C hnm hKc hI hS rfl 36 (by decide) (by decide) (by decide) q1785 rfl (atype := .long) rfl q346 rfl rfl (Nat.le_of_ble_eq_true rfl) dX6_init_183 dX6_init_185 (Nat.le_of_ble_eq_true rfl) (Nat.le_of_ble_eq_true rfl) (fun H locs hI hS => ?_)
  refine z_aload_n C dX6_init_188 hl 0 rfl ?_
  refine z_sipush C dX6_init_189 rfl ?_
  refine mi_arr C hnm hKc hI hS rfl 37 (by decide) (by decide) (by decide) q1786 rfl (atype := .long) rfl q346 rfl rfl (Nat.le_of_ble_eq_true rfl) dX6_init_192 dX6_init_194 (Nat.le_of_ble_eq_true rfl) (Nat.le_of_ble_eq_true rfl) (fun H locs hI hS => ?_)
  refine z_aload_n C dX6_init_197 hl 0 rfl ?_
  refine z_bipush C dX6_init_198 rfl ?_
  refine mi_arr C hnm hKc hI hS rfl 38 (by decide) (by decide) (by decide) q1787 rfl (atype := .long) rfl q346 rfl rfl (Nat.le_of_ble_eq_true rfl) dX6_init_200 dX6_init_202 (Nat.le_of_ble_eq_true rfl) (Nat.le_of_ble_eq_true rfl) (fun H locs hI hS => ?_)
  refine z_aload_n C dX6_init_205 hl 0 rfl ?_
  refine z_bipush C dX6_init_206 rfl ?_
  refine mi_arr C hnm hKc hI hS rfl 40 (by decide) (by decide) (by decide) q1789 rfl (atype := .int) rfl q347 rfl rfl (Nat.le_of_ble_eq_true rfl) dX6_init_208 dX6_init_210 (Nat.le_of_ble_eq_true rfl) (Nat.le_of_ble_eq_true rfl) (fun H locs hI hS => ?_)
  refine z_aload_n C dX6_init_213 hl 0 rfl ?_
  refine z_bipush C dX6_init_214 rfl ?_
  refine mi_arr C hnm hKc hI hS rfl 42 (by decide) (by decide) (by decide) q1791 rfl (atype := .long) rfl q346 rfl rfl (Nat.le_of_ble_eq_true rfl) dX6_init_216 dX6_init_218 (Nat.le_of_ble_eq_true rfl) (Nat.le_of_ble_eq_true rfl) (fun H locs hI hS => ?_)
  refine z_aload_n C dX6_init_221 hl 0 rfl ?_
  refine z_bipush C dX6_init_222 rfl ?_
  refine mi_arr C hnm hKc hI hS rfl 43 (by decide) (by decide) (by decide) q1792 rfl (atype := .long) rfl q346 rfl rfl (Nat.le_of_ble_eq_true rfl) dX6_init_224 dX6_init_226 (Nat.le_of_ble_eq_true rfl) (Nat.le_of_ble_eq_true rfl) (fun H locs hI hS => ?_)
  refine z_aload_n C dX6_init_229 hl 0 rfl ?_
  refine z_ldc (v := 131072) C q1748 dX6_init_230 rfl ?_
  refine mi_arr C hnm hKc hI hS rfl 44 (by decide) (by decide) (by decide) q1793 rfl (atype := .long) rfl q346 rfl rfl (Nat.le_of_ble_eq_true rfl) dX6_init_232 dX6_init_234 (Nat.le_of_ble_eq_true rfl) (Nat.le_of_ble_eq_true rfl) (fun H locs hI hS => ?_)
  refine z_aload_n C dX6_init_237 hl 0 rfl ?_
  refine z_ldc (v := 131072) C q1748 dX6_init_238 rfl ?_
  refine mi_arr C hnm hKc hI hS rfl 45 (by decide) (by decide) (by decide) q1794 rfl (atype := .long) rfl q346 rfl rfl (Nat.le_of_ble_eq_true rfl) dX6_init_240 dX6_init_242 (Nat.le_of_ble_eq_true rfl) (Nat.le_of_ble_eq_true rfl) (fun H locs hI hS => ?_)
  refine z_aload_n C dX6_init_245 hl 0 rfl ?_
  refine z_bipush C dX6_init_246 rfl ?_
  refine mi_arr C hnm hKc hI hS rfl 46 (by decide) (by decide) (by decide) q1795 rfl (atype := .long) rfl q346 rfl rfl (Nat.le_of_ble_eq_true rfl) dX6_init_248 dX6_init_250 (Nat.le_of_ble_eq_true rfl) (Nat.le_of_ble_eq_true rfl) (fun H locs hI hS => ?_)
  refine z_aload_n C dX6_init_253 hl 0 rfl ?_
  refine z_bipush C dX6_init_254 rfl ?_
  refine mi_arr C hnm hKc hI hS rfl 49 (by decide) (by decide) (by decide) q1798 rfl (atype := .int) rfl q347 rfl rfl (Nat.le_of_ble_eq_true rfl) dX6_init_256 dX6_init_258 (Nat.le_of_ble_eq_true rfl) (Nat.le_of_ble_eq_true rfl) (fun H locs hI hS => ?_)
  have hP : MP g h (mad n0) (mS1 0) H := by
    have : mS1 0 = mS0 := by funext k j; unfold mS1; rw [if_neg (by omega)]
    rw [this]; exact hI.toMP
  have hS : va_S (MA h (mad n0)) s.heap H locs := hS.le (fun q z => Or.inl z)
  have hK : MK g s := hKc.1
  have hPS : per (mS1 0) = mS1 0 := per_mS1 0
  refine z_iconst C dX6_init_261 ?_
  refine z_istore_n C dX6_init_262 rfl hl (by decide) rfl (fun ls hl => ?_)
  have hl : lv_has ls 2 [(1, _), (0, _)] := hl
  have hL_263 : ∀ (fuel : Nat) (k : Nat) (S1 : zS) (H : Heap) (locs : List Loc) (ls : Array Slot), 4 - k < fuel → (k ≤ 4) → per S1 = mS1 k → MP g h (mad n0) S1 H → va_S (MA h (mad n0)) s.heap H locs → lv_has ls 2 [(0, .ref h), (1, .int (iZ (k : Int)))] → W prg l env ({ k2_rm 1 40 with cells := 32, slots := 267110 } : Room) s mid ([.ref h] : List Value).toArray blw mth cod H locs 32 267110 Q (F0 mid 263 ls []) := by
    intro fuel
    induction fuel with
    | zero => intro k S1  H locs ls hm; exact absurd hm (Nat.not_lt_zero _)
    | succ fuel hL_263 =>
      intro k S1  H locs ls hm ik hPS_263 hP  hS hl
      refine z_iload_n C dX6_init_263 hl 1 rfl ?_
      refine z_iconst C dX6_init_264 ?_
      refine z_icmp_ge C 281 dX6_init_265 (by decide) (by omega) (by omega) (fun c_265 => ?_) (fun c_265 => ?_)
      · exact (by subst hQ; exact z_vret (B := fun S1 H => MP g h (mad n0) S1 H) C hret hlk hS S1 (by rw [hPS_263, show k = 4 by omega]; rfl) hP dX6_init_281)
      · refine z_aload_n C dX6_init_268 hl 0 rfl ?_
        refine m_geta C hK hP 1 (by decide) q1750 rfl (by decide) dX6_init_269 ?_
        refine z_iload_n C dX6_init_272 hl 1 rfl ?_
        refine z_iconst C dX6_init_273 ?_
        refine m_iast C hK hP hS 1 (by decide) rfl (by have h9 : mlen 1 = 4 := rfl; omega) (by omega) dX6_init_274 (fun S_274 eS_274 H locs hP hS => ?_)
        have hS_274 := per_w2 rfl hPS_263 eS_274
        refine z_iinc C dX6_init_275 hl (by decide) 1 rfl rfl (fun ls hl => ?_)
        have hl : lv_has ls 2 [(1, _), (0, _)] := hl
        refine z_goto C 263 dX6_init_278 (by decide) ?_
        exact hL_263 (k + 1) _ _ _ ls (by omega) (by omega) (by rw [hS_274, mS1_s]) hP hS (lv_sub hl [1, 0] rfl)
  exact hL_263 _ 0 _ _ _ ls (Nat.lt_succ_self _) (by omega) hPS hP hS (lv_sub hl [1, 0] rfl)
