/-! ===== the model's birth ===== -/
/-- how many fields of arrays stand before field k -/
def mord (k : Nat) : Nat := ((List.range k).filter (fun j => decide (3 ≤ mknd j))).length
/-- the classes, and the arrays' names -/
def MKc (g : mG) (U : State) : Prop := MK g U ∧ U.vm.findClass "[I" = some g.2.2.1 ∧ U.vm.findClass "[J" = some g.2.2.2.1 ∧ U.vm.findClass "[B" = some g.2.2.2.2.1 ∧ U.vm.findClass "[Z" = some g.2.2.2.2.2
/-- fields when j arrays are made: field 15 holds fp, the arrays stand from n0 on -/
def iV (n0 j : Nat) (fp : Int) (k : Nat) : Value := if 3 ≤ mknd k then (if mord k < j then .ref (n0 + mord k) else .null) else if mknd k = 1 then .long 0 else .int (iZ (if k = 15 then fp else 0))
def IP (g : mG) (h n0 j : Nat) (fp : Int) (H : Heap) : Prop := t_OB h g.1 51 g.2.1 H (iV n0 j fp) ∧ H.size = n0 + j ∧ h < n0 ∧ ∀ k, k < 51 → 3 ≤ mknd k → mord k < j → H[n0 + mord k]? = some (mcell g k (fun _ => 0))
def ity (k : Nat) : FieldType := if mknd k = 3 then .int else if mknd k = 4 then .long else if mknd k = 5 then .byte else .boolean
theorem mord_lt : ∀ k, k < 51 → 3 ≤ mknd k → ∀ k2, k2 < 51 → 3 ≤ mknd k2 → mord k = mord k2 → k = k2 := by decide +kernel
theorem mknd_le : ∀ k, k < 51 → mknd k ≤ 6 := by decide +kernel
theorem mcell_0 (g : mG) {k : Nat} (hk : k < 51) (hn : 3 ≤ mknd k) (cA : ClassId) (hc : cA = (if mknd k = 4 then g.2.2.2.1 else if mknd k = 3 then g.2.2.1 else if mknd k = 5 then g.2.2.2.2.1 else g.2.2.2.2.2)) : arrV cA (mlen k) (fun _ => defaultValue (ity k)) = mcell g k (fun _ => 0) := by
  have h6 := mknd_le k hk
  subst hc
  rcases (by omega : mknd k = 3 ∨ mknd k = 4 ∨ mknd k = 5 ∨ mknd k = 6) with q | q | q | q
  · rw [mcell_3 q, if_neg (by omega), if_pos q]; unfold ity; rw [if_pos q]; rfl
  · rw [mcell_4 q, if_pos q]; unfold ity; rw [if_neg (by omega), if_pos q]; rfl
  · rw [mcell_5 q, if_neg (by omega), if_neg (by omega), if_pos q]; unfold ity; rw [if_neg (by omega), if_neg (by omega), if_pos q]; rfl
  · rw [mcell_6 q, if_neg (by omega), if_neg (by omega), if_neg (by omega)]; unfold ity; rw [if_neg (by omega), if_neg (by omega), if_neg (by omega)]; rfl
section
variable {p : Program} {l : Launch} {e : Env} {R : Room} {s : State} {m : MethodId} {args : Array Value} {below : List Frame} {meth : Method} {c : Code} {H : Heap} {locs : List Loc} {cells slots : Nat} {Q : State → Prop}
variable {cc : ByteArray} {pc : Nat} {ls : Array Slot} {rest : List Value} {nL : Nat}
variable {g : mG} {h n0 j : Nat} {fp : Int} {A0 : Nat → Prop} {H0 : Heap}
theorem mi_arr (C : zC p m c cc nL s args RX6) (hin : meth.name = "<init>") (hK : MKc g s) (hI : IP g h n0 j fp H) (hS0 : va_S A0 H0 H locs) (hA : A0 h) (k : Nat) (hk : k < 51) (hn : 3 ≤ mknd k) (hj : mord k = j) {idx : Nat} {nm ds : String} (hq : Cond.fieldLink RX6 idx RX6 nm ds ∈ lw_all) (hT : TX6 k = (RX6, nm, ds, true)) {atype : ArrayType} (hty : newarray.typeOf atype = ity k) (harr : Cond.arrayClass (ity k) ∈ lw_all) (hds : tyX6 k = .array (ity k)) {n : Int} (hlen : n = mlen k) (hb : mlen k * componentBytes (ity k) ≤ 536870912)
    (hd1 : decode cc pc = .ok (.newarray atype, 2)) (hd2 : decode cc (pc + 2) = .ok (.putfield idx, 3)) (hc : cells + 1 ≤ R.cells) (hs : slots + mlen k ≤ R.slots)
    (kk : ∀ (H1 : Heap) (locs1 : List Loc), IP g h n0 (j + 1) fp H1 → va_S A0 H0 H1 locs1 → W p l e R s m args below meth c H1 locs1 (cells + 1) (slots + mlen k) Q (F0 m (pc + 5) ls rest)) : W p l e R s m args below meth c H locs cells slots Q (F0 m pc ls (.int (iZ n) :: .ref h :: rest)) := by
  subst hlen
  have hl := m_ln k
  obtain ⟨hO, hz, hh, hcells⟩ := hI
  have hcl : (iZ (mlen k : Int)).toNatClampNeg = mlen k := by rw [iZ_cl (by omega)]; omega
  refine W.newa C.1 C.2.1 (atype := atype) (by rw [hty]; exact C.2.2.2.2 _ harr) rfl hd1 rfl (fun z => by have := (iZ_lt (by omega) I32_0).mp z; omega) (by rw [hcl, hty]; exact hb) hc (by rw [hcl]; exact hs) fun cA kA comp h1 h2 h3 => ?_
  rw [hcl, hty]
  have hcA : cA = (if mknd k = 4 then g.2.2.2.1 else if mknd k = 3 then g.2.2.1 else if mknd k = 5 then g.2.2.2.2.1 else g.2.2.2.2.2) := by
    obtain ⟨-, f1, f2, f3, f4⟩ := hK
    rw [hty] at h1
    have h6 := mknd_le k hk
    rcases (by omega : mknd k = 3 ∨ mknd k = 4 ∨ mknd k = 5 ∨ mknd k = 6) with q | q | q | q
    · unfold ity at h1; rw [if_pos q] at h1; rw [if_neg (by omega), if_pos q]; exact Option.some.inj (h1.symm.trans f1)
    · unfold ity at h1; rw [if_neg (by omega), if_pos q] at h1; rw [if_pos q]; exact Option.some.inj (h1.symm.trans f2)
    · unfold ity at h1; rw [if_neg (by omega), if_neg (by omega), if_pos q] at h1; rw [if_neg (by omega), if_neg (by omega), if_pos q]; exact Option.some.inj (h1.symm.trans f3)
    · unfold ity at h1; rw [if_neg (by omega), if_neg (by omega), if_neg (by omega)] at h1; rw [if_neg (by omega), if_neg (by omega), if_neg (by omega)]; exact Option.some.inj (h1.symm.trans f4)
  have hnew : (H.push { cls := cA, slots := Array.replicate (mlen k) (defaultValue (ity k)), vm := .none })[n0 + j]? = some (mcell g k (fun _ => 0)) := by
    rw [← mcell_0 g hk hn cA hcA, ← arrV_new, ← hz]; simp
  have hold : ∀ q, q < n0 + j → (H.push { cls := cA, slots := Array.replicate (mlen k) (defaultValue (ity k)), vm := .none })[q]? = H[q]? := fun q hq => by
    rw [Array.getElem?_push, if_neg (by omega)]
  have hsz : (H.push { cls := cA, slots := Array.replicate (mlen k) (defaultValue (ity k)), vm := .none }).size = n0 + j + 1 := by simp [hz]
  rw [hz]
  generalize H.push { cls := cA, slots := Array.replicate (mlen k) (defaultValue (ity k)), vm := .none } = H9 at hnew hold hsz ⊢
  have hO9 := hO.kept (H1 := H9) (hold h (by omega))
  have hS9 : va_S A0 H0 H9 locs := ⟨by have := hS0.1; omega, fun x h1 h2 => (hold x (by have := hS0.1; omega)).trans (hS0.2.1 x h1 h2), hS0.2.2⟩
  have hap : ∀ x y, x < 51 → y < 51 → x ≠ y → g.2.1 x ≠ g.2.1 y := by
    intro x y hx hy hne
    obtain ⟨_, _, _, fa, hia, ea⟩ := hK.1.1.1 x hx
    obtain ⟨_, _, _, fb, hib, eb⟩ := hK.1.1.1 y hy
    rw [← ea, ← eb]
    refine u_apart (u_lays C.2.2.2.2 in_X6 hx) (u_lays C.2.2.2.2 in_X6 hy) hia hib ?_
    rw [(State.fieldFound?_type hia (tyX6_ok x hx)).1, (State.fieldFound?_type hib (tyX6_ok y hy)).1]
    exact nmX6 x hx y hy hne
  obtain ⟨cell, q1, q2, q3, q4⟩ := hO9
  obtain ⟨hS, hfc, kC, hkC, hkind⟩ := hK.1.1
  obtain ⟨cf, kf, fi, f, hi, hsl⟩ := hS k hk
  have hlay := C.2.2.2.2 _ (in_X6 _ (u_in_lay hk))
  unfold u_lay at hlay
  rw [if_pos (by rw [hT])] at hlay
  have hst := (u_facts hfc hkC (u_lays C.2.2.2.2 in_X6 hk) hi).1
  have hcf : m.cls = cf := by
    obtain ⟨_, _, c', _, _, _, -, -, hf', -, -, -, hown2, -⟩ := Cond.laysFinal_spec hlay
    have e1 : c' = cf := by have := hi.symm.trans hf'; simp at this; exact this.1.symm
    rw [hT] at hown2
    rw [← e1]; exact Option.some.inj (C.2.2.2.1.symm.trans hown2)
  have h6 := u_fits (v := .ref (n0 + j)) (ty := .array (ity k)) hfc hkC hkind (Or.inr hlay) hi (by rw [← hds]; exact tyX6_ok k hk) rfl rfl
  rw [hT] at hi
  refine W.putFinK C.1 C.2.1 (f := f) C.2.2.2.1 (C.2.2.2.2 _ hq) hi hst hcf hin (by rw [q2]; exact h6) q1 q3 (by rw [hsl]; exact k2_hasslot (q4 k hk)) rfl rfl hd2 fun H' e1 e2 e3 => ?_
  rw [hsl] at e1 ⊢
  refine kk H' _ ⟨t_OB.to (V := updV (iV n0 j fp) k (.ref (n0 + j))) ⟨_, e1, q2, q3, t_set q4 hap hk _⟩ (fun x hx => ?_), by omega, hh, fun x hx hx2 hx3 => ?_⟩ (hS9.put e2 e3 hA)
  · unfold updV iV
    by_cases z : x = k
    · subst z
      rw [if_pos rfl, if_pos hn, if_pos (by omega), hj]
    · rw [if_neg z]
      by_cases z2 : 3 ≤ mknd x
      · rw [if_pos z2, if_pos z2]
        have : mord x ≠ j := fun z3 => z (mord_lt x hx z2 k hk hn (by omega))
        by_cases z4 : mord x < j
        · rw [if_pos z4, if_pos (by omega)]
        · rw [if_neg z4, if_neg (by omega)]
      · rw [if_neg z2, if_neg z2]
  · rw [e3 (n0 + mord x) (fun z => by have z9 : n0 + mord x = h := z; omega)]
    by_cases z : mord x = j
    · have := mord_lt x hx hx2 k hk hn (by omega)
      subst this
      rw [z]; exact hnew
    · rw [hold (n0 + mord x) (by omega)]; exact hcells x hx hx2 (by omega)
end
