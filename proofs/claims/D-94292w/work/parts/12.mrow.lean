/-! ===== the model's picture: one object, its arrays, held by a store S ===== -/
/-- of each field of LockRailModel: 0 int, 1 long, 2 boolean, 3 int[], 4 long[], 5 byte[], 6 boolean[] -/
def mkL : List Nat := [0,3,3,4,4,5,0,0,0,0,0,1,0,0,0,0,3,3,3,3,3,3,3,3,3,3,3,3,6,3,6,0,0,3,3,0,4,4,4,1,3,2,4,4,4,4,4,1,1,3,1]
def mlL : List Nat := [0,4,4,240,60,1600,0,0,0,0,0,0,0,0,0,0,5,5,5,5,40,5,100,5,250,5,150,35,10,85,3,0,0,66,66,0,1024,1024,60,0,10,0,10,10,131072,131072,64,0,0,16,0]
def mknd (k : Nat) : Nat := mkL.getD k 9
def mlen (k : Nat) : Nat := mlL.getD k 0
/-- the classes: of the object, its fields' slots, int[], long[], byte[], boolean[] -/
abbrev mG : Type := ClassId × (Nat → Nat) × ClassId × ClassId × ClassId × ClassId
def MK (g : mG) (U : State) : Prop := u_Kn U RX6 TX6 51 g.1 g.2.1 ∧ ArrOfT U g.2.2.1 .int ∧ ArrOfT U g.2.2.2.1 .long ∧ ArrOfT U g.2.2.2.2.1 .byte ∧ ArrOfT U g.2.2.2.2.2 .boolean
theorem MK.moved {g : mG} {u U : State} (hvm : u.vm.Alike U.vm) (h : MK g u) : MK g U := ⟨u_Kn_moved hvm h.1, arrOfT_moved hvm h.2.1, arrOfT_moved hvm h.2.2.1, arrOfT_moved hvm h.2.2.2.1, arrOfT_moved hvm h.2.2.2.2⟩
def mfv (ad : Nat → Nat) (S : zS) (k : Nat) : Value := if mknd k = 1 then .long (lZ (S k 0)) else if 3 ≤ mknd k then .ref (ad k) else .int (iZ (S k 0))
def mcell (g : mG) (k : Nat) (f : Int → Int) : Cell := if mknd k = 4 then vp_cell g.2.2.2.1 (mlen k, .inr (.inl fun j => lZ (f j))) else vp_cell (if mknd k = 3 then g.2.2.1 else if mknd k = 5 then g.2.2.2.2.1 else g.2.2.2.2.2) (mlen k, .inl fun j => iZ (f j))
/-- the values fit their kinds -/
def mfit (k : Nat) (v : Int) : Prop := (mknd k ≠ 1 → mknd k ≠ 4 → I32 v) ∧ I64 v
def MR (S : zS) : Prop := ∀ k j, mfit k (S k j)
def MP (g : mG) (h : Nat) (ad : Nat → Nat) (S : zS) (H : Heap) : Prop :=
  MR S ∧ t_OB h g.1 51 g.2.1 H (mfv ad S) ∧ (∀ k, k < 51 → 3 ≤ mknd k → H[ad k]? = some (mcell g k (S k))) ∧ (∀ k, k < 51 → 3 ≤ mknd k → ad k ≠ h) ∧ ∀ k j, k < 51 → j < 51 → 3 ≤ mknd k → 3 ≤ mknd j → ad k = ad j → k = j
/-- the cells that are the model's -/
def MA (h : Nat) (ad : Nat → Nat) : Nat → Prop := fun q => q = h ∨ ∃ k, k < 51 ∧ 3 ≤ mknd k ∧ q = ad k
theorem MR.up {S : zS} (h : MR S) {k : Nat} {i v : Int} (hv : mfit k v) : MR (zup S k i v) := by
  intro k' j
  unfold zup
  split
  · next q => rw [q.1]; exact hv
  · exact h k' j
theorem MP.kept {g : mG} {h : Nat} {ad : Nat → Nat} {S : zS} {H H1 : Heap} (hP : MP g h ad S H) (hq : ∀ q, MA h ad q → H1[q]? = H[q]?) : MP g h ad S H1 :=
  ⟨hP.1, hP.2.1.kept (hq h (Or.inl rfl)), fun k h1 h2 => by rw [hq _ (Or.inr ⟨k, h1, h2, rfl⟩)]; exact hP.2.2.1 k h1 h2, hP.2.2.2⟩
theorem MP.lt {g : mG} {h : Nat} {ad : Nat → Nat} {S : zS} {H : Heap} (hP : MP g h ad S H) {q : Nat} (hq : MA h ad q) : q < H.size := by
  rcases hq with rfl | ⟨k, h1, h2, rfl⟩
  · obtain ⟨cell, h1, -⟩ := hP.2.1
    exact (Array.getElem?_eq_some_iff.mp h1).1
  · exact (Array.getElem?_eq_some_iff.mp (hP.2.2.1 k h1 h2)).1
theorem mfv_a (ad : Nat → Nat) (S : zS) {k : Nat} (hk : 3 ≤ mknd k) : mfv ad S k = .ref (ad k) := by
  unfold mfv
  rw [if_neg (by omega), if_pos hk]
theorem MP.put {g : mG} {h : Nat} {ad : Nat → Nat} {S : zS} {H H1 : Heap} (hP : MP g h ad S H) {k : Nat} (hn : mknd k < 3) {v : Int} (hv : mfit k v)
    (h1 : t_OB h g.1 51 g.2.1 H1 (updV (mfv ad S) k (mfv ad (zup S k 0 v) k))) (oq : ∀ q, q ≠ h → H1[q]? = H[q]?) : MP g h ad (zup S k 0 v) H1 := by
  refine ⟨hP.1.up hv, h1.to (fun j hj => ?_), fun j h1 h2 => ?_, hP.2.2.2⟩
  · unfold updV
    split
    · next q => rw [q]
    · next q => unfold mfv; rw [zup_k S 0 v q]
  · rw [oq _ (hP.2.2.2.1 j h1 h2), zup_k S 0 v (fun q => by subst q; omega)]
    exact hP.2.2.1 j h1 h2
theorem MP.arr {g : mG} {h : Nat} {ad : Nat → Nat} {S : zS} {H H1 : Heap} (hP : MP g h ad S H) {k : Nat} (hk : k < 51) (hn : 3 ≤ mknd k) {i v : Int} (hv : mfit k v)
    (h1 : H1[ad k]? = some (mcell g k (zup S k i v k))) (oq : ∀ q, q ≠ ad k → H1[q]? = H[q]?) : MP g h ad (zup S k i v) H1 := by
  refine ⟨hP.1.up hv, (hP.2.1.kept (oq h (fun q => hP.2.2.2.1 k hk hn q.symm))).to (fun j hj => ?_), fun j g1 g2 => ?_, hP.2.2.2⟩
  · by_cases q : j = k
    · subst q
      rw [mfv_a _ _ hn, mfv_a _ _ hn]
    · unfold mfv; rw [zup_k S i v q]
  · by_cases q : j = k
    · subst q; exact h1
    · rw [oq _ (fun z => q (hP.2.2.2.2 j k g1 hk g2 hn z)), zup_k S i v q]
      exact hP.2.2.1 j g1 g2
/-- fields that are scratch: no question's answer hangs on what they held before -/
def scL : List Bool := [true,false,false,false,true,false,false,true,true,true,true,true,true,true,false,false,false,false,false,false,false,false,false,false,false,false,false,false,false,false,false,false,false]
def scr (k : Nat) : Bool := scL.getD k true
def per (S : zS) : zS := fun k j => bif scr k then 0 else S k j
theorem pe {P S : zS} (h : per S = P) {k : Nat} (hk : scr k = false) {i : Int} : S k i = P k i := by rw [← h]; simp [per, hk]
theorem per_w {P S S1 : zS} {k : Nat} {i x : Int} (hk : scr k = false) (h : per S = P) (e : S1 = zup S k i x) : ∃ P1, P1 = zup P k i x ∧ per S1 = P1 := by
  refine ⟨_, rfl, ?_⟩
  subst h e
  funext k' j
  unfold per zup
  by_cases q : k' = k
  · subst q; simp [hk]
  · simp [q]
theorem per_s {P S S1 : zS} {k : Nat} {i x : Int} (hk : scr k = true) (h : per S = P) (e : S1 = zup S k i x) : per S1 = P := by
  subst h e
  funext k' j
  unfold per zup
  by_cases q : k' = k
  · subst q; simp [hk]
  · simp [q]
/-- but for the numbers listed the stores agree -/
def Fr (ks : List Nat) (S S1 : zS) : Prop := ∀ k, k ∉ ks → S1 k = S k
theorem Fr.rf {ks : List Nat} {S : zS} : Fr ks S S := fun _ _ => rfl
theorem Fr.tr {ks : List Nat} {S S1 S2 : zS} (h1 : Fr ks S S1) (h2 : Fr ks S1 S2) : Fr ks S S2 := fun k hk => (h2 k hk).trans (h1 k hk)
theorem Fr.up {ks : List Nat} {S S1 S2 : zS} {k : Nat} {i x : Int} (h1 : Fr ks S S1) (e : S2 = zup S1 k i x) (hk : k ∈ ks) : Fr ks S S2 := fun k' h' => by
  rw [e, zup_k (k := k) (k' := k') S1 i x (fun q : k' = k => h' (by rw [q]; exact hk))]
  exact h1 k' h'
theorem Fr.le {ks ks' : List Nat} {S S1 : zS} (h : Fr ks S S1) (hs : ∀ k, k ∈ ks → k ∈ ks') : Fr ks' S S1 := fun k hk => h k (fun q => hk (hs k q))
theorem Fr.pr {ks : List Nat} {P S S1 : zS} (h : Fr ks S S1) (hs : ks.all scr = true) (hP : per S = P) : per S1 = P := by
  subst hP
  funext k j
  unfold per
  cases hk : scr k with
  | true => rfl
  | false =>
    rw [h k (fun q => by have := List.all_eq_true.mp hs k q; rw [hk] at this; cases this)]
section
variable {p : Program} {l : Launch} {e : Env} {R : Room} {s : State} {m : MethodId} {args : Array Value} {below : List Frame} {meth : Method} {c : Code} {H : Heap} {locs : List Loc} {cells slots : Nat} {Q : State → Prop}
variable {cc : ByteArray} {pc : Nat} {ls : Array Slot} {rest : List Value} {nL : Nat}
variable {g : mG} {h : Nat} {ad : Nat → Nat} {S : zS} {H0 : Heap}
theorem m_get (C : zC p m c cc nL s args RX6) (hK : MK g s) (hP : MP g h ad S H) (k : Nat) (hk : k < 51) {idx : Nat} {nm ds : String} (hq : Cond.fieldLink RX6 idx RX6 nm ds ∈ lw_all) (hT : TX6 k = (RX6, nm, ds, (TX6 k).2.2.2)) (hdg : decode cc pc = .ok (.getfield idx, 3))
    (kk : W p l e R s m args below meth c H locs cells slots Q (F0 m (pc + 3) ls (mfv ad S k :: rest))) : W p l e R s m args below meth c H locs cells slots Q (F0 m pc ls (.ref h :: rest)) := by
  obtain ⟨cell, q1, q2, q3, q4⟩ := hP.2.1
  obtain ⟨hS, hfc, kC, hkC, hkind⟩ := hK.1
  obtain ⟨cf, kf, fi, f, hi, hsl⟩ := hS k hk
  have hst := (u_facts hfc hkC (u_lays C.2.2.2.2 in_X6 hk) hi).1
  rw [hT] at hi
  refine W.getf C.1 C.2.1 C.2.2.2.1 (C.2.2.2.2 _ hq) hi hst q1 (by rw [q3]; exact fun h => by cases h) (v := mfv ad S k) ?_ rfl rfl hdg kk
  rw [hsl, q4 k hk]
theorem m_geti (C : zC p m c cc nL s args RX6) (hK : MK g s) (hP : MP g h ad S H) (k : Nat) (hk : k < 51) {idx : Nat} {nm ds : String} (hq : Cond.fieldLink RX6 idx RX6 nm ds ∈ lw_all) (hT : TX6 k = (RX6, nm, ds, (TX6 k).2.2.2)) (hn : mknd k = 0 ∨ mknd k = 2) {v : Int} (hv : S k 0 = v) (hdg : decode cc pc = .ok (.getfield idx, 3))
    (kk : I32 v → W p l e R s m args below meth c H locs cells slots Q (F0 m (pc + 3) ls (.int (iZ v) :: rest))) : W p l e R s m args below meth c H locs cells slots Q (F0 m pc ls (.ref h :: rest)) := by
  subst hv
  refine m_get C hK hP k hk hq hT hdg ?_
  unfold mfv
  rw [if_neg (by omega), if_neg (by omega)]
  exact kk ((hP.1 k 0).1 (by omega) (by omega))
theorem m_getl (C : zC p m c cc nL s args RX6) (hK : MK g s) (hP : MP g h ad S H) (k : Nat) (hk : k < 51) {idx : Nat} {nm ds : String} (hq : Cond.fieldLink RX6 idx RX6 nm ds ∈ lw_all) (hT : TX6 k = (RX6, nm, ds, (TX6 k).2.2.2)) (hn : mknd k = 1) {v : Int} (hv : S k 0 = v) (hdg : decode cc pc = .ok (.getfield idx, 3))
    (kk : I64 v → W p l e R s m args below meth c H locs cells slots Q (F0 m (pc + 3) ls (.long (lZ v) :: rest))) : W p l e R s m args below meth c H locs cells slots Q (F0 m pc ls (.ref h :: rest)) := by
  subst hv
  refine m_get C hK hP k hk hq hT hdg ?_
  unfold mfv
  rw [if_pos hn]
  exact kk (hP.1 k 0).2
theorem m_geta (C : zC p m c cc nL s args RX6) (hK : MK g s) (hP : MP g h ad S H) (k : Nat) (hk : k < 51) {idx : Nat} {nm ds : String} (hq : Cond.fieldLink RX6 idx RX6 nm ds ∈ lw_all) (hT : TX6 k = (RX6, nm, ds, (TX6 k).2.2.2)) (hn : 3 ≤ mknd k) (hdg : decode cc pc = .ok (.getfield idx, 3))
    (kk : W p l e R s m args below meth c H locs cells slots Q (F0 m (pc + 3) ls (.ref (ad k) :: rest))) : W p l e R s m args below meth c H locs cells slots Q (F0 m pc ls (.ref h :: rest)) := by
  refine m_get C hK hP k hk hq hT hdg ?_
  rw [mfv_a _ _ hn]
  exact kk
theorem m_put (C : zC p m c cc nL s args RX6) (hK : MK g s) (hP : MP g h ad S H) (hS0 : va_S (MA h ad) H0 H locs) (k : Nat) (hk : k < 51) {idx : Nat} {nm ds : String} (hq : Cond.fieldLink RX6 idx RX6 nm ds ∈ lw_all) (hT : TX6 k = (RX6, nm, ds, false)) (hn : mknd k < 3) {ty : FieldType} {x : Int} (hx : mfit k x) {v : Value} (hv : mfv ad (zup S k 0 x) k = v) (hd : parseFieldDescriptor ds = some ty) (hnar : narrow ty v = v) (hfit : fits ty v = true) (hdg : decode cc pc = .ok (.putfield idx, 3))
    (kk : ∀ (S1 : zS), S1 = zup S k 0 x → ∀ (H1 : Heap) (locs1 : List Loc), MP g h ad S1 H1 → va_S (MA h ad) H0 H1 locs1 → W p l e R s m args below meth c H1 locs1 cells slots Q (F0 m (pc + 3) ls rest)) : W p l e R s m args below meth c H locs cells slots Q (F0 m pc ls (v :: .ref h :: rest)) := by
  have hap : ∀ x y, x < 51 → y < 51 → x ≠ y → g.2.1 x ≠ g.2.1 y := by
    intro x y hx hy hne
    obtain ⟨_, _, _, fa, hia, ea⟩ := hK.1.1 x hx
    obtain ⟨_, _, _, fb, hib, eb⟩ := hK.1.1 y hy
    rw [← ea, ← eb]
    refine u_apart (u_lays C.2.2.2.2 in_X6 hx) (u_lays C.2.2.2.2 in_X6 hy) hia hib ?_
    rw [(State.fieldFound?_type hia (tyX6_ok x hx)).1, (State.fieldFound?_type hib (tyX6_ok y hy)).1]
    exact nmX6 x hx y hy hne
  obtain ⟨cell, q1, q2, q3, q4⟩ := hP.2.1
  obtain ⟨hS, hfc, kC, hkC, hkind⟩ := hK.1
  obtain ⟨cf, kf, fi, f, hi, hsl⟩ := hS k hk
  have hlay := C.2.2.2.2 _ (in_X6 _ (u_in_lay hk))
  unfold u_lay at hlay
  rw [if_neg (by rw [hT]; exact Bool.false_ne_true)] at hlay
  have hst := (u_facts hfc hkC (u_lays C.2.2.2.2 in_X6 hk) hi).1
  have h6 := u_store (v := v) (ty := ty) hfc hkC hkind hlay hi (by rw [hT]; exact hd) hnar hfit
  rw [hT] at hi
  refine W.putK C.1 C.2.1 (f := f) ⟨C.2.2.2.1, C.2.2.2.2 _ hq, ⟨_, _, _, hi⟩, hst⟩ (by rw [q2]; exact h6) q1 q3 (by rw [hsl]; exact k2_hasslot (q4 k hk)) rfl rfl hdg fun H' e1 e2 e3 => ?_
  rw [hsl] at e1 ⊢
  exact kk _ rfl H' _ (hP.put hn hx ⟨_, e1, q2, q3, by rw [hv]; exact t_set q4 hap hk v⟩ e3) (hS0.put e2 e3 (Or.inl rfl))
theorem m_puti (C : zC p m c cc nL s args RX6) (hK : MK g s) (hP : MP g h ad S H) (hS0 : va_S (MA h ad) H0 H locs) (k : Nat) (hk : k < 51) {idx : Nat} {nm : String} (hq : Cond.fieldLink RX6 idx RX6 nm "I" ∈ lw_all) (hT : TX6 k = (RX6, nm, "I", false)) (hn : mknd k = 0) {x : Int} (hx : I32 x) (hdg : decode cc pc = .ok (.putfield idx, 3))
    (kk : ∀ (S1 : zS), S1 = zup S k 0 x → ∀ (H1 : Heap) (locs1 : List Loc), MP g h ad S1 H1 → va_S (MA h ad) H0 H1 locs1 → W p l e R s m args below meth c H1 locs1 cells slots Q (F0 m (pc + 3) ls rest)) : W p l e R s m args below meth c H locs cells slots Q (F0 m pc ls (.int (iZ x) :: .ref h :: rest)) := by
  refine m_put C hK hP hS0 k hk hq hT (by omega) (ty := .int) (x := x) ⟨fun _ _ => hx, by omega⟩ ?_ (by decide +kernel) rfl rfl hdg kk
  unfold mfv
  rw [if_neg (by omega), if_neg (by omega), zup_s]
theorem m_putz (C : zC p m c cc nL s args RX6) (hK : MK g s) (hP : MP g h ad S H) (hS0 : va_S (MA h ad) H0 H locs) (k : Nat) (hk : k < 51) {idx : Nat} {nm : String} (hq : Cond.fieldLink RX6 idx RX6 nm "Z" ∈ lw_all) (hT : TX6 k = (RX6, nm, "Z", false)) (hn : mknd k = 2) {x : Int} (hx : x = 0 ∨ x = 1) (hdg : decode cc pc = .ok (.putfield idx, 3))
    (kk : ∀ (S1 : zS), S1 = zup S k 0 x → ∀ (H1 : Heap) (locs1 : List Loc), MP g h ad S1 H1 → va_S (MA h ad) H0 H1 locs1 → W p l e R s m args below meth c H1 locs1 cells slots Q (F0 m (pc + 3) ls rest)) : W p l e R s m args below meth c H locs cells slots Q (F0 m pc ls (.int (iZ x) :: .ref h :: rest)) := by
  refine m_put C hK hP hS0 k hk hq hT (by omega) (ty := .boolean) (x := x) ⟨fun _ _ => by omega, by omega⟩ ?_ (by decide +kernel) (by rcases hx with rfl | rfl <;> rfl) (by rcases hx with rfl | rfl <;> rfl) hdg kk
  unfold mfv
  rw [if_neg (by omega), if_neg (by omega), zup_s]
theorem m_putl (C : zC p m c cc nL s args RX6) (hK : MK g s) (hP : MP g h ad S H) (hS0 : va_S (MA h ad) H0 H locs) (k : Nat) (hk : k < 51) {idx : Nat} {nm : String} (hq : Cond.fieldLink RX6 idx RX6 nm "J" ∈ lw_all) (hT : TX6 k = (RX6, nm, "J", false)) (hn : mknd k = 1) {x : Int} (hx : I64 x) (hdg : decode cc pc = .ok (.putfield idx, 3))
    (kk : ∀ (S1 : zS), S1 = zup S k 0 x → ∀ (H1 : Heap) (locs1 : List Loc), MP g h ad S1 H1 → va_S (MA h ad) H0 H1 locs1 → W p l e R s m args below meth c H1 locs1 cells slots Q (F0 m (pc + 3) ls rest)) : W p l e R s m args below meth c H locs cells slots Q (F0 m pc ls (.long (lZ x) :: .ref h :: rest)) := by
  refine m_put C hK hP hS0 k hk hq hT (by omega) (ty := .long) (x := x) ⟨fun q _ => absurd hn q, hx⟩ ?_ (by decide +kernel) rfl rfl hdg kk
  unfold mfv
  rw [if_pos hn, zup_s]
theorem mcell_3 {k : Nat} (hn : mknd k = 3) (f : Int → Int) : mcell g k f = arrV g.2.2.1 (mlen k) (fun j => .int (iZ (f j))) := by
  unfold mcell; rw [if_neg (by omega), if_pos hn]; rfl
theorem mcell_4 {k : Nat} (hn : mknd k = 4) (f : Int → Int) : mcell g k f = arrV g.2.2.2.1 (mlen k) (fun j => .long (lZ (f j))) := by
  unfold mcell; rw [if_pos hn]; rfl
theorem mcell_5 {k : Nat} (hn : mknd k = 5) (f : Int → Int) : mcell g k f = arrV g.2.2.2.2.1 (mlen k) (fun j => .int (iZ (f j))) := by
  unfold mcell; rw [if_neg (by omega), if_neg (by omega), if_pos hn]; rfl
theorem mcell_6 {k : Nat} (hn : mknd k = 6) (f : Int → Int) : mcell g k f = arrV g.2.2.2.2.2 (mlen k) (fun j => .int (iZ (f j))) := by
  unfold mcell; rw [if_neg (by omega), if_neg (by omega), if_neg (by omega)]; rfl
theorem m_ln (k : Nat) : mlen k < 2147483648 := by
  unfold mlen
  by_cases q : k < 51
  · exact (by decide +kernel : ∀ k, k < 51 → mlL.getD k 0 < 2147483648) k q
  · show (mlL[k]?).getD 0 < _
    rw [List.getElem?_eq_none (by show 51 ≤ k; omega)]; decide
theorem m_st {α : Type} (mk : α → Value) (iv : Int → α) (n : Nat) (S : zS) (k : Nat) {i : Int} (hi : 0 ≤ i ∧ i ≤ 2147483647) (v : Int) (cA : ClassId) : arrV cA n (updV (fun j => mk (iv (S k (j : Int)))) (iZ i).toNatClampNeg (mk (iv v))) = arrV cA n (fun j => mk (iv (zup S k i v k (j : Int)))) := by
  rw [iZ_cl hi]
  congr 1
  funext j
  unfold updV zup
  by_cases q : j = i.toNat
  · rw [if_pos q, if_pos ⟨rfl, by omega⟩]
  · rw [if_neg q, if_neg (fun z => q (by omega))]
theorem m_iald (C : zC p m c cc nL s args RX6) (hK : MK g s) (hP : MP g h ad S H) (k : Nat) (hk : k < 51) (hn : mknd k = 3) {i : Int} (hi : 0 ≤ i ∧ i < mlen k) {v : Int} (hv : S k i = v) (hdg : decode cc pc = .ok (.iaload, 1))
    (kk : I32 v → W p l e R s m args below meth c H locs cells slots Q (F0 m (pc + 1) ls (.int (iZ v) :: rest))) : W p l e R s m args below meth c H locs cells slots Q (F0 m pc ls (.int (iZ i) :: .ref (ad k) :: rest)) := by
  subst hv
  have h1 := hP.2.2.1 k hk (by omega)
  have hl := m_ln k
  rw [mcell_3 hn] at h1
  have hx : (iZ i).toNatClampNeg = i.toNat := iZ_cl (by omega)
  refine W.iald (v := .int (iZ (S k i))) C.1 C.2.1 h1 (hK.2.1 _ _) (fun q => by cases q) (by rw [arrV_size]; exact iZ_in hi hl) ?_ rfl rfl hdg (kk ((hP.1 k i).1 (by omega) (by omega)))
  rw [hx, arrV_read _ _ (by omega), show ((i.toNat : Nat) : Int) = i by omega]
theorem m_iast (C : zC p m c cc nL s args RX6) (hK : MK g s) (hP : MP g h ad S H) (hS0 : va_S (MA h ad) H0 H locs) (k : Nat) (hk : k < 51) (hn : mknd k = 3) {i x : Int} (hi : 0 ≤ i ∧ i < mlen k) (hx : I32 x) (hdg : decode cc pc = .ok (.iastore, 1))
    (kk : ∀ (S1 : zS), S1 = zup S k i x → ∀ (H1 : Heap) (locs1 : List Loc), MP g h ad S1 H1 → va_S (MA h ad) H0 H1 locs1 → W p l e R s m args below meth c H1 locs1 cells slots Q (F0 m (pc + 1) ls rest)) : W p l e R s m args below meth c H locs cells slots Q (F0 m pc ls (.int (iZ x) :: .int (iZ i) :: .ref (ad k) :: rest)) := by
  have h1 := hP.2.2.1 k hk (by omega)
  have hl := m_ln k
  rw [mcell_3 hn] at h1
  refine W.iast C.1 C.2.1 h1 (hK.2.1 _ _) (fun q => by cases q) (by rw [arrV_size]; exact iZ_in hi hl) rfl rfl hdg fun H' e1 e2 e3 => ?_
  refine kk _ rfl H' _ (hP.arr hk (by omega) ⟨fun _ _ => hx, by omega⟩ ?_ e3) (hS0.put e2 e3 (Or.inr ⟨k, hk, by omega, rfl⟩))
  rw [e1, mcell_3 hn, arrV_store]
  exact congrArg some (m_st Value.int iZ (mlen k) S k (by omega) x g.2.2.1)
theorem m_lald (C : zC p m c cc nL s args RX6) (hK : MK g s) (hP : MP g h ad S H) (k : Nat) (hk : k < 51) (hn : mknd k = 4) {i : Int} (hi : 0 ≤ i ∧ i < mlen k) {v : Int} (hv : S k i = v) (hdg : decode cc pc = .ok (.laload, 1))
    (kk : I64 v → W p l e R s m args below meth c H locs cells slots Q (F0 m (pc + 1) ls (.long (lZ v) :: rest))) : W p l e R s m args below meth c H locs cells slots Q (F0 m pc ls (.int (iZ i) :: .ref (ad k) :: rest)) := by
  subst hv
  have h1 := hP.2.2.1 k hk (by omega)
  have hl := m_ln k
  rw [mcell_4 hn] at h1
  have hx : (iZ i).toNatClampNeg = i.toNat := iZ_cl (by omega)
  refine W.lald (v := .long (lZ (S k i))) C.1 C.2.1 h1 (hK.2.2.1 _ _) (fun q => by cases q) (by rw [arrV_size]; exact iZ_in hi hl) ?_ rfl rfl hdg (kk (hP.1 k i).2)
  rw [hx, arrV_read _ _ (by omega), show ((i.toNat : Nat) : Int) = i by omega]
theorem m_last (C : zC p m c cc nL s args RX6) (hK : MK g s) (hP : MP g h ad S H) (hS0 : va_S (MA h ad) H0 H locs) (k : Nat) (hk : k < 51) (hn : mknd k = 4) {i x : Int} (hi : 0 ≤ i ∧ i < mlen k) (hx : I64 x) (hdg : decode cc pc = .ok (.lastore, 1))
    (kk : ∀ (S1 : zS), S1 = zup S k i x → ∀ (H1 : Heap) (locs1 : List Loc), MP g h ad S1 H1 → va_S (MA h ad) H0 H1 locs1 → W p l e R s m args below meth c H1 locs1 cells slots Q (F0 m (pc + 1) ls rest)) : W p l e R s m args below meth c H locs cells slots Q (F0 m pc ls (.long (lZ x) :: .int (iZ i) :: .ref (ad k) :: rest)) := by
  have h1 := hP.2.2.1 k hk (by omega)
  have hl := m_ln k
  rw [mcell_4 hn] at h1
  refine W.last C.1 C.2.1 h1 (hK.2.2.1 _ _) (fun q => by cases q) (by rw [arrV_size]; exact iZ_in hi hl) rfl rfl hdg fun H' e1 e2 e3 => ?_
  refine kk _ rfl H' _ (hP.arr hk (by omega) ⟨fun _ q => absurd hn q, hx⟩ ?_ e3) (hS0.put e2 e3 (Or.inr ⟨k, hk, by omega, rfl⟩))
  rw [e1, mcell_4 hn, arrV_store]
  exact congrArg some (m_st Value.long lZ (mlen k) S k (by omega) x g.2.2.2.1)
theorem m_bald (C : zC p m c cc nL s args RX6) (hK : MK g s) (hP : MP g h ad S H) (k : Nat) (hk : k < 51) (hn : mknd k = 5) {i : Int} (hi : 0 ≤ i ∧ i < mlen k) {v : Int} (hv : S k i = v) (hdg : decode cc pc = .ok (.baload, 1))
    (kk : I32 v → W p l e R s m args below meth c H locs cells slots Q (F0 m (pc + 1) ls (.int (iZ v) :: rest))) : W p l e R s m args below meth c H locs cells slots Q (F0 m pc ls (.int (iZ i) :: .ref (ad k) :: rest)) := by
  subst hv
  have h1 := hP.2.2.1 k hk (by omega)
  have hl := m_ln k
  rw [mcell_5 hn] at h1
  have hx : (iZ i).toNatClampNeg = i.toNat := iZ_cl (by omega)
  refine W.bald (v := .int (iZ (S k i))) C.1 C.2.1 h1 (hK.2.2.2.1 _ _) (fun q => by cases q) (by rw [arrV_size]; exact iZ_in hi hl) ?_ rfl rfl hdg (kk ((hP.1 k i).1 (by omega) (by omega)))
  rw [hx, arrV_read _ _ (by omega), show ((i.toNat : Nat) : Int) = i by omega]
theorem m_bast (C : zC p m c cc nL s args RX6) (hK : MK g s) (hP : MP g h ad S H) (hS0 : va_S (MA h ad) H0 H locs) (k : Nat) (hk : k < 51) (hn : mknd k = 5) {i x : Int} (hi : 0 ≤ i ∧ i < mlen k) (hx : -128 ≤ x ∧ x ≤ 127) (hdg : decode cc pc = .ok (.bastore, 1))
    (kk : ∀ (S1 : zS), S1 = zup S k i x → ∀ (H1 : Heap) (locs1 : List Loc), MP g h ad S1 H1 → va_S (MA h ad) H0 H1 locs1 → W p l e R s m args below meth c H1 locs1 cells slots Q (F0 m (pc + 1) ls rest)) : W p l e R s m args below meth c H locs cells slots Q (F0 m pc ls (.int (iZ x) :: .int (iZ i) :: .ref (ad k) :: rest)) := by
  have h1 := hP.2.2.1 k hk (by omega)
  have hl := m_ln k
  rw [mcell_5 hn] at h1
  refine W.bast C.1 C.2.1 h1 (hK.2.2.2.1 _ _) (fun q => by cases q) (by rw [arrV_size]; exact iZ_in hi hl) rfl rfl hdg fun H' e1 e2 e3 => ?_
  refine kk _ rfl H' _ (hP.arr hk (by omega) ⟨fun _ _ => by omega, by omega⟩ ?_ e3) (hS0.put e2 e3 (Or.inr ⟨k, hk, by omega, rfl⟩))
  rw [e1, mcell_5 hn, arrV_store, narrow_byte, iZ_8, sx8_id hx]
  exact congrArg some (m_st Value.int iZ (mlen k) S k (by omega) x g.2.2.2.2.1)
theorem m_zald (C : zC p m c cc nL s args RX6) (hK : MK g s) (hP : MP g h ad S H) (k : Nat) (hk : k < 51) (hn : mknd k = 6) {i : Int} (hi : 0 ≤ i ∧ i < mlen k) {v : Int} (hv : S k i = v) (hdg : decode cc pc = .ok (.baload, 1))
    (kk : I32 v → W p l e R s m args below meth c H locs cells slots Q (F0 m (pc + 1) ls (.int (iZ v) :: rest))) : W p l e R s m args below meth c H locs cells slots Q (F0 m pc ls (.int (iZ i) :: .ref (ad k) :: rest)) := by
  subst hv
  have h1 := hP.2.2.1 k hk (by omega)
  have hl := m_ln k
  rw [mcell_6 hn] at h1
  have hx : (iZ i).toNatClampNeg = i.toNat := iZ_cl (by omega)
  refine W.zald (v := .int (iZ (S k i))) C.1 C.2.1 h1 (hK.2.2.2.2 _ _) (fun q => by cases q) (by rw [arrV_size]; exact iZ_in hi hl) ?_ rfl rfl hdg (kk ((hP.1 k i).1 (by omega) (by omega)))
  rw [hx, arrV_read _ _ (by omega), show ((i.toNat : Nat) : Int) = i by omega]
theorem m_zast (C : zC p m c cc nL s args RX6) (hK : MK g s) (hP : MP g h ad S H) (hS0 : va_S (MA h ad) H0 H locs) (k : Nat) (hk : k < 51) (hn : mknd k = 6) {i x : Int} (hi : 0 ≤ i ∧ i < mlen k) (hx : x = 0 ∨ x = 1) (hdg : decode cc pc = .ok (.bastore, 1))
    (kk : ∀ (S1 : zS), S1 = zup S k i x → ∀ (H1 : Heap) (locs1 : List Loc), MP g h ad S1 H1 → va_S (MA h ad) H0 H1 locs1 → W p l e R s m args below meth c H1 locs1 cells slots Q (F0 m (pc + 1) ls rest)) : W p l e R s m args below meth c H locs cells slots Q (F0 m pc ls (.int (iZ x) :: .int (iZ i) :: .ref (ad k) :: rest)) := by
  have h1 := hP.2.2.1 k hk (by omega)
  have hl := m_ln k
  rw [mcell_6 hn] at h1
  refine W.zast C.1 C.2.1 h1 (hK.2.2.2.2 _ _) (fun q => by cases q) (by rw [arrV_size]; exact iZ_in hi hl) rfl rfl hdg fun H' e1 e2 e3 => ?_
  refine kk _ rfl H' _ (hP.arr hk (by omega) ⟨fun _ _ => by omega, by omega⟩ ?_ e3) (hS0.put e2 e3 (Or.inr ⟨k, hk, by omega, rfl⟩))
  rw [e1, mcell_6 hn, arrV_store, show narrow .boolean (.int (iZ x)) = .int (iZ x) by rcases hx with rfl | rfl <;> rfl]
  exact congrArg some (m_st Value.int iZ (mlen k) S k (by omega) x g.2.2.2.2.2)
end
