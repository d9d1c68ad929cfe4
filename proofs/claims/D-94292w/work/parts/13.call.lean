/-! ===== contracts, starts, ends, calls ===== -/
abbrev zPc (K : State → Prop) (As : List Value) (Pre : Heap → Prop) : Array Value → State → Prop := va_Pc As (fun U => Pre U.heap ∧ K U)
theorem z_blind {K : State → Prop} {As : List Value} {Pre : Heap → Prop} (hKm : ∀ u U : State, u.vm.Alike U.vm → K u → K U) : FrameBlind (zPc K As Pre) := fun a U g mk q => by
  obtain ⟨q0, q1, q2⟩ := q
  exact ⟨q0, q1, hKm U (U.calling g mk a) (Vm.Alike.refl U.vm) q2⟩
theorem z_pre {s : State} {H : Heap} {K : State → Prop} {As : List Value} {Pre : Heap → Prop} (hKm : ∀ u U : State, u.vm.Alike U.vm → K u → K U) (hK : K s) (hPre : Pre H) (U : State) (hU : U.heap = H) (hW : s.WarmedH U.vm) : zPc K As Pre As.toArray U := ⟨rfl, by rw [hU]; exact hPre, hKm _ _ hW.alike hK⟩
/-- the words and the shape that a call asks, by the site's class and entry -/
abbrev zDn (y : MethodName) (n : Nat) : Prop := y.cls ≠ "java/lang/invoke/MethodHandle" ∧ y.cls ≠ "java/lang/invoke/VarHandle" ∧ (parseMethodDescriptor y.desc).map (fun d => d.parameters.length) = some n
def zV (own : String) (idx : Nat) (C : String) (y : MethodName) (b : ByteArray) (L : Nat) (r : Option FieldType) (n : Nat) : Prop := GoodIn lw_all (wsV own idx C y (ws_ y b L r)) ∧ y.cls = C ∧ zDn y n
def zT (own : String) (idx : Nat) (y : MethodName) (b : ByteArray) (L : Nat) (r : Option FieldType) (n : Nat) : Prop := GoodIn lw_all (va_wsS own idx y (ws_ y b L r)) ∧ zDn y n
def zI (own : String) (idx : Nat) (y : MethodName) (b : ByteArray) (L : Nat) (n : Nat) : Prop := GoodIn lw_all (ws_ y b L none) ∧ Cond.initialized y.cls ∈ lw_all ∧ Cond.methodLink own idx y ∈ lw_all ∧ Cond.instanceMethod y ∈ lw_all ∧ y.name = "<init>" ∧ zDn y n
abbrev zR (rm R : Room) (maxL : Nat) : Prop := rm.frames + 1 ≤ R.frames ∧ 8 + (maxL + 11) + rm.locals ≤ R.locals
section
variable {p : Program} {l : Launch} {e : Env} {R : Room} {s : State} {m : MethodId} {args : Array Value} {below : List Frame} {meth : Method} {c : Code} {H : Heap} {locs : List Loc} {cells slots : Nat} {Q : State → Prop}
variable {cc : ByteArray} {pc : Nat} {ls : Array Slot} {rest st0 As : List Value} {nL : Nat} {own C : String} {A0 A1 : Nat → Prop} {H0 : Heap} {mc ms maxL n idx : Nat} {free : Addr → Prop} {y : MethodName} {bytes : ByteArray} {ret : Option FieldType} {rm : Room} {K : State → Prop} {Pre : Heap → Prop} {Qc : Array Value → State → Outcome → State → Prop} {b : Addr}
theorem z_start (hp : plainName y.cls = true) (hown : y.cls = own) (hlen : (lg_sl As).length ≤ nL)
    (body : ∀ (p : Program) (e : Env) (s : State) (m : MethodId) (below : List Frame) (meth : Method) (c : Code) (ls : Array Slot) (Q : State → Prop), zC p m c cc nL s As.toArray own → Q = MQ below Qc As.toArray s mc ms free → meth.sig.returnType = ret → meth.locks = false → meth.name = y.name → K s → Pre s.heap → lv_has ls nL (lv_args 0 As) → W p l e rm s m As.toArray below meth c s.heap [] 0 0 Q (F0 m 0 ls [])) : Met l y (ws_ y cc nL ret) rm (zPc K As Pre) Qc mc ms free := by
  refine Met.ofW (cc := cc) (maxL := nL) (ret := ret) hp rfl ?_
  intro p e s m args below meth c s₁ B hml hv
  obtain ⟨rfl, hP, hK⟩ := hv
  have hts := atoms_spec (ws := ws_ y cc nL ret) B.pre
  have hts : ∀ w ∈ lw_all, w.before _ s = true := fun w h => hts w (List.mem_cons_of_mem _ h)
  have how : s.vm.findClass own = some m.cls := by rw [← hown]; exact findClass_of_methodNamed B.named
  have hl := lv_entry As (n := nL) hlen
  rw [lg_entry_eq]
  exact body p e s m below meth c _ _ ⟨B.exec, B.bytes, hml, how, hts⟩ rfl B.returns B.notSynchronized (name_of_methodNamed B.named B.method).1 hK hP hl
theorem z_runV (Cx : zC p m c cc nL s args own) (hM : Met l y (ws_ y bytes maxL ret) rm (zPc K (.ref b :: As) Pre) Qc mc ms free) (G : zV own idx C y bytes maxL ret n) (hrc : rm.cells = mc) (hrs : rm.slots = ms) (hR : zR rm R maxL)
    (hrecv : ∃ cell : Cell, H[b]? = some cell ∧ cell.vm.isStatics = false ∧ s.vm.findClass C = some cell.cls) (hKm : ∀ u U : State, u.vm.Alike U.vm → K u → K U) (hK : K s) (hPre : Pre H)
    (hn : As.length = n) (hst : st0 = As.reverse ++ .ref b :: rest) (hlz : ls.size = nL) (hW : (rest.map fun v => v.category).sum ≤ 8) (hdg : decode cc pc = .ok (.invokevirtual idx, 3)) (hf : cells + mc ≤ R.cells ∧ slots + ms ≤ R.slots) :
    va_Run p l e R s m args below meth c H locs cells slots mc ms (F0 m pc ls st0) rest (Qc (Value.ref b :: As).toArray) free :=
  va_runV (As := As) (rest := rest) Cx hM (cwV n Cx.2.2.2.2 G.1 rfl hrc hrs G.2 hR) ⟨z_blind hKm, hrecv, z_pre hKm hK hPre⟩ rfl hn hlz hst (lv_room hW) hdg hf
theorem z_runS (Cx : zC p m c cc nL s args own) (hM : Met l y (ws_ y bytes maxL ret) rm (zPc K As Pre) Qc mc ms free) (G : zT own idx y bytes maxL ret n) (hrc : rm.cells = mc) (hrs : rm.slots = ms) (hR : zR rm R maxL)
    (hKm : ∀ u U : State, u.vm.Alike U.vm → K u → K U) (hK : K s) (hPre : Pre H)
    (hn : As.length = n) (hst : st0 = As.reverse ++ rest) (hlz : ls.size = nL) (hW : (rest.map fun v => v.category).sum ≤ 8) (hdg : decode cc pc = .ok (.invokestatic idx, 3)) (hf : cells + mc ≤ R.cells ∧ slots + ms ≤ R.slots) :
    va_Run p l e R s m args below meth c H locs cells slots mc ms (F0 m pc ls st0) rest (Qc As.toArray) free :=
  va_runS (As := As) (rest := rest) Cx hM (va_cwS n Cx.2.2.2.2 G.1 rfl hrc hrs G.2 hR) ⟨z_blind hKm, z_pre hKm hK hPre⟩ rfl hn hlz hst (lv_room hW) hdg hf
theorem z_runI (Cx : zC p m c cc nL s args own) (hM : Met l y (ws_ y bytes maxL none) rm (zPc K (.ref b :: As) Pre) Qc mc ms free) (G : zI own idx y bytes maxL n) (hrc : rm.cells = mc) (hrs : rm.slots = ms) (hR : zR rm R maxL)
    (hKm : ∀ u U : State, u.vm.Alike U.vm → K u → K U) (hK : K s) (hPre : Pre H)
    (hn : As.length = n) (hst : st0 = As.reverse ++ .ref b :: rest) (hlz : ls.size = nL) (hW : (rest.map fun v => v.category).sum ≤ 8) (hdg : decode cc pc = .ok (.invokespecial idx, 3)) (hf : cells + mc ≤ R.cells ∧ slots + ms ≤ R.slots) :
    va_Run p l e R s m args below meth c H locs cells slots mc ms (F0 m pc ls st0) rest (Qc (Value.ref b :: As).toArray) free :=
  va_runI (As := As) (rest := rest) Cx hM (cwI n Cx.2.2.2.2 G.1 rfl hrc hrs (Cx.2.2.2.2 _ G.2.1) (Cx.2.2.2.2 _ G.2.2.1) (Cx.2.2.2.2 _ G.2.2.2.1) G.2.2.2.2.1 G.2.2.2.2.2 hR) ⟨z_blind hKm, z_pre hKm hK hPre⟩ rfl hn hlz hst (lv_room hW) hdg hf
/-- an end: nothing but A's cells and new ones has changed -/
theorem z_iret {S : Type} {post : Int32 → S → Prop} {B : S → Heap → Prop} {v : Int} {ty : FieldType} (C : zC p m c cc nL s args own) (hr : meth.sig.returnType = some ty) (hlk : meth.locks = false) (hn : narrow ty (.int (iZ v)) = .int (iZ v)) (hS : va_S A0 s.heap H locs) (u : S) (hpost : post (iZ v) u) (hB : B u H) (hdg : decode cc pc = .ok (.ireturn, 1)) :
    W p l e R s m args below meth c H locs cells slots (MQ below (va_Qi post (fun u t => B u t.heap) A0) args s cells slots A0) (F0 m pc ls [.int (iZ v)]) :=
  W.zret (v := iZ v) C.1 C.2.1 hr hn (fun t ht hW => ⟨⟨iZ v, u, rfl, hpost, by show B u t.heap; rw [ht]; exact hB⟩, hS.F ht⟩) hS.2.2 hdg hlk
theorem z_lret {S : Type} {post : Int64 → S → Prop} {B : S → Heap → Prop} {v : Int} (C : zC p m c cc nL s args own) (hr : meth.sig.returnType = some .long) (hlk : meth.locks = false) (hS : va_S A0 s.heap H locs) (u : S) (hpost : post (lZ v) u) (hB : B u H) (hdg : decode cc pc = .ok (.lreturn, 1)) :
    W p l e R s m args below meth c H locs cells slots (MQ below (va_Ql post (fun u t => B u t.heap) A0) args s cells slots A0) (F0 m pc ls [.long (lZ v)]) :=
  W.lret (v := lZ v) C.1 C.2.1 hr (fun t ht hW => ⟨⟨lZ v, u, rfl, hpost, by show B u t.heap; rw [ht]; exact hB⟩, hS.F ht⟩) hS.2.2 hdg hlk
theorem z_vret {S : Type} {post : S → Prop} {B : S → Heap → Prop} (C : zC p m c cc nL s args own) (hr : meth.sig.returnType = none) (hlk : meth.locks = false) (hS : va_S A0 s.heap H locs) (u : S) (hpost : post u) (hB : B u H) (hdg : decode cc pc = .ok (.return_, 1)) :
    W p l e R s m args below meth c H locs cells slots (MQ below (va_Qv post (fun u t => B u t.heap) A0) args s cells slots A0) (F0 m pc ls []) :=
  W.vret C.1 C.2.1 hr (fun t ht hW => ⟨⟨u, rfl, hpost, by show B u t.heap; rw [ht]; exact hB⟩, hS.F ht⟩) hS.2.2 hdg hlk
end
/-! ===== the model's contracts: P pure (the heap stays), M it may change the model's cells; I int, L long, V none; S static ===== -/
abbrev nA : Nat → Prop := fun _ => False
abbrev mPI (l : Launch) (g : mG) (h : Nat) (ad : Nat → Nat) (y : MethodName) (cc : ByteArray) (nL : Nat) (rt : FieldType) (rm : Room) (As : List Value) (S : zS) (v : Int) : Prop := ∀ H0 : Heap, MP g h ad S H0 → Met l y (ws_ y cc nL (some rt)) rm (zPc (MK g) (.ref h :: As) (fun H => H = H0)) (va_Qi (fun r (_ : Unit) => r = iZ v) (fun _ t => t.heap = H0) nA) 0 0 nA
abbrev mPL (l : Launch) (g : mG) (h : Nat) (ad : Nat → Nat) (y : MethodName) (cc : ByteArray) (nL : Nat) (rm : Room) (As : List Value) (S : zS) (v : Int) : Prop := ∀ H0 : Heap, MP g h ad S H0 → Met l y (ws_ y cc nL (some .long)) rm (zPc (MK g) (.ref h :: As) (fun H => H = H0)) (va_Ql (fun r (_ : Unit) => r = lZ v) (fun _ t => t.heap = H0) nA) 0 0 nA
abbrev mMI (l : Launch) (g : mG) (h : Nat) (ad : Nat → Nat) (y : MethodName) (cc : ByteArray) (nL : Nat) (rt : FieldType) (rm : Room) (As : List Value) (S : zS) (post : Int → zS → Prop) : Prop := Met l y (ws_ y cc nL (some rt)) rm (zPc (MK g) (.ref h :: As) (MP g h ad S)) (va_Qi (fun r S' => ∃ v, r = iZ v ∧ post v S') (fun S' t => MP g h ad S' t.heap) (MA h ad)) 0 0 (MA h ad)
abbrev mML (l : Launch) (g : mG) (h : Nat) (ad : Nat → Nat) (y : MethodName) (cc : ByteArray) (nL : Nat) (rm : Room) (As : List Value) (S : zS) (post : Int → zS → Prop) : Prop := Met l y (ws_ y cc nL (some .long)) rm (zPc (MK g) (.ref h :: As) (MP g h ad S)) (va_Ql (fun r S' => ∃ v, r = lZ v ∧ post v S') (fun S' t => MP g h ad S' t.heap) (MA h ad)) 0 0 (MA h ad)
abbrev mMV (l : Launch) (g : mG) (h : Nat) (ad : Nat → Nat) (y : MethodName) (cc : ByteArray) (nL : Nat) (rm : Room) (As : List Value) (S : zS) (post : zS → Prop) : Prop := Met l y (ws_ y cc nL none) rm (zPc (MK g) (.ref h :: As) (MP g h ad S)) (va_Qv (fun S' => post S') (fun S' t => MP g h ad S' t.heap) (MA h ad)) 0 0 (MA h ad)
/-- a static one that moves cells of the model's arrays -/
abbrev mSV (l : Launch) (g : mG) (h : Nat) (ad : Nat → Nat) (y : MethodName) (cc : ByteArray) (nL : Nat) (rm : Room) (As : List Value) (S : zS) (post : zS → Prop) : Prop := Met l y (ws_ y cc nL none) rm (zPc (MK g) As (MP g h ad S)) (va_Qv (fun S' => post S') (fun S' t => MP g h ad S' t.heap) (MA h ad)) 0 0 (MA h ad)
abbrev sPI (l : Launch) (y : MethodName) (cc : ByteArray) (nL : Nat) (rt : FieldType) (rm : Room) (As : List Value) (v : Int) : Prop := ∀ H0 : Heap, Met l y (ws_ y cc nL (some rt)) rm (zPc (fun _ => True) As (fun H => H = H0)) (va_Qi (fun r (_ : Unit) => r = iZ v) (fun _ t => t.heap = H0) nA) 0 0 nA
abbrev sPL (l : Launch) (y : MethodName) (cc : ByteArray) (nL : Nat) (rm : Room) (As : List Value) (v : Int) : Prop := ∀ H0 : Heap, Met l y (ws_ y cc nL (some .long)) rm (zPc (fun _ => True) As (fun H => H = H0)) (va_Ql (fun r (_ : Unit) => r = lZ v) (fun _ t => t.heap = H0) nA) 0 0 nA
section
variable {p : Program} {l : Launch} {e : Env} {R : Room} {s : State} {m : MethodId} {args : Array Value} {below : List Frame} {meth : Method} {c : Code} {H : Heap} {locs : List Loc} {cells slots : Nat} {Q : State → Prop}
variable {cc : ByteArray} {pc : Nat} {ls : Array Slot} {rest st0 As : List Value} {nL : Nat} {own : String} {A0 : Nat → Prop} {H0 : Heap} {maxL n idx : Nat} {y : MethodName} {bytes : ByteArray} {rt : FieldType} {rm : Room}
variable {g : mG} {h : Nat} {ad : Nat → Nat} {S : zS} {lv : List (Nat × Value)}
theorem MP.recv {s : State} {H : Heap} (hK : MK g s) (hP : MP g h ad S H) : ∃ cell : Cell, H[h]? = some cell ∧ cell.vm.isStatics = false ∧ s.vm.findClass RX6 = some cell.cls := by
  obtain ⟨cell, h1, h2, h3, -⟩ := hP.2.1
  exact ⟨cell, h1, by rw [h3]; rfl, by rw [h2]; exact hK.1.2.1⟩
theorem MK.mv (g : mG) : ∀ u U : State, u.vm.Alike U.vm → MK g u → MK g U := fun _ _ hvm h => h.moved hvm
theorem T.mv : ∀ u U : State, u.vm.Alike U.vm → (fun _ : State => True) u → (fun _ : State => True) U := fun _ _ _ _ => trivial

theorem m_pi {v : Int} (C : zC p m c cc nL s args own) (G : zV own idx RX6 y bytes maxL (some rt) n) (hM : mPI l g h ad y bytes maxL rt rm As S v) (hS : va_S A0 H0 H locs) (hl : lv_has ls nL lv) (hR : zR rm R maxL) (hr0 : rm.cells = 0 ∧ rm.slots = 0) (hK : MK g s) (hP : MP g h ad S H) (hn : As.length = n) (hst : st0 = As.reverse ++ .ref h :: rest) (hW : (rest.map fun v => v.category).sum ≤ 8) (hdg : decode cc pc = .ok (.invokevirtual idx, 3)) (hf : cells ≤ R.cells ∧ slots ≤ R.slots)
    (kk : ∀ locs1 : List Loc, va_S A0 H0 H locs1 → W p l e R s m args below meth c H locs1 cells slots Q (F0 m (pc + 3) ls (.int (iZ v) :: rest))) : W p l e R s m args below meth c H locs cells slots Q (F0 m pc ls st0) := by
  refine va_calli (A0 := A0) (H0 := H0) (z_runV C (hM H hP) G hr0.1 hr0.2 hR (MP.recv hK hP) (MK.mv g) hK rfl hn hst hl.1 hW hdg (by omega)) hS (fun _ _ q => q.elim) (fun _ q => q.elim) (fun r u t H1 locs1 ht _ hp hB _ _ hS1 => ?_)
  subst hp
  rw [ht] at hB
  subst hB
  exact kk _ hS1
theorem s_pi {v : Int} (C : zC p m c cc nL s args own) (G : zT own idx y bytes maxL (some rt) n) (hM : sPI l y bytes maxL rt rm As v) (hS : va_S A0 H0 H locs) (hl : lv_has ls nL lv) (hR : zR rm R maxL) (hr0 : rm.cells = 0 ∧ rm.slots = 0) (hn : As.length = n) (hst : st0 = As.reverse ++ rest) (hW : (rest.map fun v => v.category).sum ≤ 8) (hdg : decode cc pc = .ok (.invokestatic idx, 3)) (hf : cells ≤ R.cells ∧ slots ≤ R.slots)
    (kk : ∀ locs1 : List Loc, va_S A0 H0 H locs1 → W p l e R s m args below meth c H locs1 cells slots Q (F0 m (pc + 3) ls (.int (iZ v) :: rest))) : W p l e R s m args below meth c H locs cells slots Q (F0 m pc ls st0) := by
  refine va_calli (A0 := A0) (H0 := H0) (z_runS C (hM H) G hr0.1 hr0.2 hR T.mv trivial rfl hn hst hl.1 hW hdg (by omega)) hS (fun _ _ q => q.elim) (fun _ q => q.elim) (fun r u t H1 locs1 ht _ hp hB _ _ hS1 => ?_)
  subst hp
  rw [ht] at hB
  subst hB
  exact kk _ hS1
theorem m_mi {post : Int → zS → Prop} (C : zC p m c cc nL s args own) (G : zV own idx RX6 y bytes maxL (some rt) n) (hM : mMI l g h ad y bytes maxL rt rm As S post) (hS : va_S A0 H0 H locs) (hl : lv_has ls nL lv) (hR : zR rm R maxL) (hr0 : rm.cells = 0 ∧ rm.slots = 0) (hK : MK g s) (hP : MP g h ad S H) (hA : ∀ q, MA h ad q → A0 q) (hn : As.length = n) (hst : st0 = As.reverse ++ .ref h :: rest) (hW : (rest.map fun v => v.category).sum ≤ 8) (hdg : decode cc pc = .ok (.invokevirtual idx, 3)) (hf : cells ≤ R.cells ∧ slots ≤ R.slots)
    (kk : ∀ (v : Int) (S1 : zS) (H1 : Heap) (locs1 : List Loc), post v S1 → MP g h ad S1 H1 → va_S A0 H0 H1 locs1 → W p l e R s m args below meth c H1 locs1 cells slots Q (F0 m (pc + 3) ls (.int (iZ v) :: rest))) : W p l e R s m args below meth c H locs cells slots Q (F0 m pc ls st0) := by
  refine va_calli (A0 := A0) (H0 := H0) (z_runV C hM G hr0.1 hr0.2 hR (MP.recv hK hP) (MK.mv g) hK hP hn hst hl.1 hW hdg (by omega)) hS (fun q _ => hA q) hA (fun r u t H1 locs1 ht _ hp hB _ _ hS1 => ?_)
  obtain ⟨v, hv, hp⟩ := hp
  subst hv
  rw [ht] at hB
  exact kk v u H1 _ hp hB hS1
theorem m_pl {v : Int} (C : zC p m c cc nL s args own) (G : zV own idx RX6 y bytes maxL (some .long) n) (hM : mPL l g h ad y bytes maxL rm As S v) (hS : va_S A0 H0 H locs) (hl : lv_has ls nL lv) (hR : zR rm R maxL) (hr0 : rm.cells = 0 ∧ rm.slots = 0) (hK : MK g s) (hP : MP g h ad S H) (hn : As.length = n) (hst : st0 = As.reverse ++ .ref h :: rest) (hW : (rest.map fun v => v.category).sum ≤ 8) (hdg : decode cc pc = .ok (.invokevirtual idx, 3)) (hf : cells ≤ R.cells ∧ slots ≤ R.slots)
    (kk : ∀ locs1 : List Loc, va_S A0 H0 H locs1 → W p l e R s m args below meth c H locs1 cells slots Q (F0 m (pc + 3) ls (.long (lZ v) :: rest))) : W p l e R s m args below meth c H locs cells slots Q (F0 m pc ls st0) := by
  refine va_calll (A0 := A0) (H0 := H0) (z_runV C (hM H hP) G hr0.1 hr0.2 hR (MP.recv hK hP) (MK.mv g) hK rfl hn hst hl.1 hW hdg (by omega)) hS (fun _ _ q => q.elim) (fun _ q => q.elim) (fun r u t H1 locs1 ht _ hp hB _ _ hS1 => ?_)
  subst hp
  rw [ht] at hB
  subst hB
  exact kk _ hS1
theorem s_pl {v : Int} (C : zC p m c cc nL s args own) (G : zT own idx y bytes maxL (some .long) n) (hM : sPL l y bytes maxL rm As v) (hS : va_S A0 H0 H locs) (hl : lv_has ls nL lv) (hR : zR rm R maxL) (hr0 : rm.cells = 0 ∧ rm.slots = 0) (hn : As.length = n) (hst : st0 = As.reverse ++ rest) (hW : (rest.map fun v => v.category).sum ≤ 8) (hdg : decode cc pc = .ok (.invokestatic idx, 3)) (hf : cells ≤ R.cells ∧ slots ≤ R.slots)
    (kk : ∀ locs1 : List Loc, va_S A0 H0 H locs1 → W p l e R s m args below meth c H locs1 cells slots Q (F0 m (pc + 3) ls (.long (lZ v) :: rest))) : W p l e R s m args below meth c H locs cells slots Q (F0 m pc ls st0) := by
  refine va_calll (A0 := A0) (H0 := H0) (z_runS C (hM H) G hr0.1 hr0.2 hR T.mv trivial rfl hn hst hl.1 hW hdg (by omega)) hS (fun _ _ q => q.elim) (fun _ q => q.elim) (fun r u t H1 locs1 ht _ hp hB _ _ hS1 => ?_)
  subst hp
  rw [ht] at hB
  subst hB
  exact kk _ hS1
theorem m_ml {post : Int → zS → Prop} (C : zC p m c cc nL s args own) (G : zV own idx RX6 y bytes maxL (some .long) n) (hM : mML l g h ad y bytes maxL rm As S post) (hS : va_S A0 H0 H locs) (hl : lv_has ls nL lv) (hR : zR rm R maxL) (hr0 : rm.cells = 0 ∧ rm.slots = 0) (hK : MK g s) (hP : MP g h ad S H) (hA : ∀ q, MA h ad q → A0 q) (hn : As.length = n) (hst : st0 = As.reverse ++ .ref h :: rest) (hW : (rest.map fun v => v.category).sum ≤ 8) (hdg : decode cc pc = .ok (.invokevirtual idx, 3)) (hf : cells ≤ R.cells ∧ slots ≤ R.slots)
    (kk : ∀ (v : Int) (S1 : zS) (H1 : Heap) (locs1 : List Loc), post v S1 → MP g h ad S1 H1 → va_S A0 H0 H1 locs1 → W p l e R s m args below meth c H1 locs1 cells slots Q (F0 m (pc + 3) ls (.long (lZ v) :: rest))) : W p l e R s m args below meth c H locs cells slots Q (F0 m pc ls st0) := by
  refine va_calll (A0 := A0) (H0 := H0) (z_runV C hM G hr0.1 hr0.2 hR (MP.recv hK hP) (MK.mv g) hK hP hn hst hl.1 hW hdg (by omega)) hS (fun q _ => hA q) hA (fun r u t H1 locs1 ht _ hp hB _ _ hS1 => ?_)
  obtain ⟨v, hv, hp⟩ := hp
  subst hv
  rw [ht] at hB
  exact kk v u H1 _ hp hB hS1
theorem m_mv {post : zS → Prop} (C : zC p m c cc nL s args own) (G : zV own idx RX6 y bytes maxL none n) (hM : mMV l g h ad y bytes maxL rm As S post) (hS : va_S A0 H0 H locs) (hl : lv_has ls nL lv) (hR : zR rm R maxL) (hr0 : rm.cells = 0 ∧ rm.slots = 0) (hK : MK g s) (hP : MP g h ad S H) (hA : ∀ q, MA h ad q → A0 q) (hn : As.length = n) (hst : st0 = As.reverse ++ .ref h :: rest) (hW : (rest.map fun v => v.category).sum ≤ 8) (hdg : decode cc pc = .ok (.invokevirtual idx, 3)) (hf : cells ≤ R.cells ∧ slots ≤ R.slots)
    (kk : ∀ (S1 : zS) (H1 : Heap) (locs1 : List Loc), post S1 → MP g h ad S1 H1 → va_S A0 H0 H1 locs1 → W p l e R s m args below meth c H1 locs1 cells slots Q (F0 m (pc + 3) ls rest)) : W p l e R s m args below meth c H locs cells slots Q (F0 m pc ls st0) := by
  refine va_callv (A0 := A0) (H0 := H0) (z_runV C hM G hr0.1 hr0.2 hR (MP.recv hK hP) (MK.mv g) hK hP hn hst hl.1 hW hdg (by omega)) hS (fun q _ => hA q) hA (fun u t H1 locs1 ht _ hp hB _ _ hS1 => ?_)
  rw [ht] at hB
  exact kk u H1 _ hp hB hS1
theorem m_sv {post : zS → Prop} (C : zC p m c cc nL s args own) (G : zT own idx y bytes maxL none n) (hM : mSV l g h ad y bytes maxL rm As S post) (hS : va_S A0 H0 H locs) (hl : lv_has ls nL lv) (hR : zR rm R maxL) (hr0 : rm.cells = 0 ∧ rm.slots = 0) (hK : MK g s) (hP : MP g h ad S H) (hA : ∀ q, MA h ad q → A0 q) (hn : As.length = n) (hst : st0 = As.reverse ++ rest) (hW : (rest.map fun v => v.category).sum ≤ 8) (hdg : decode cc pc = .ok (.invokestatic idx, 3)) (hf : cells ≤ R.cells ∧ slots ≤ R.slots)
    (kk : ∀ (S1 : zS) (H1 : Heap) (locs1 : List Loc), post S1 → MP g h ad S1 H1 → va_S A0 H0 H1 locs1 → W p l e R s m args below meth c H1 locs1 cells slots Q (F0 m (pc + 3) ls rest)) : W p l e R s m args below meth c H locs cells slots Q (F0 m pc ls st0) := by
  refine va_callv (A0 := A0) (H0 := H0) (z_runS C hM G hr0.1 hr0.2 hR (MK.mv g) hK hP hn hst hl.1 hW hdg (by omega)) hS (fun q _ => hA q) hA (fun u t H1 locs1 ht _ hp hB _ _ hS1 => ?_)
  rw [ht] at hB
  exact kk u H1 _ hp hB hS1
/-! ends -/
theorem z01_in {c : Prop} [Decidable c] : I32 (if c then 1 else 0) := by split <;> decide
theorem z01_f {c : Prop} [Decidable c] (h : (if c then (1 : Int) else 0) = 0) : ¬ c := fun q => by rw [if_pos q] at h; cases h
theorem z01_t {c : Prop} [Decidable c] (h : ¬ (if c then (1 : Int) else 0) = 0) : c := by
  by_cases q : c
  · exact q
  · exact absurd (if_neg q) h
theorem z01_any {c : Prop} [Decidable c] : (if c then (1 : Int) else 0) = 0 ∨ (if c then (1 : Int) else 0) = 1 := by
  by_cases q : c
  · exact Or.inr (if_pos q)
  · exact Or.inl (if_neg q)
theorem z_nb {v : Int} (hb : v = 0 ∨ v = 1) : narrow .boolean (.int (iZ v)) = .int (iZ v) := by rcases hb with rfl | rfl <;> rfl
theorem z_pret_i {v v0 : Int} (C : zC p m c cc nL s args own) (hQ : Q = MQ below (va_Qi (fun r (_ : Unit) => r = iZ v0) (fun _ t => t.heap = s.heap) nA) args s 0 0 nA) (hr : meth.sig.returnType = some .int) (hlk : meth.locks = false) (hS : va_S nA s.heap s.heap locs) (hv : v = v0) (hdg : decode cc pc = .ok (.ireturn, 1)) :
    W p l e R s m args below meth c s.heap locs 0 0 Q (F0 m pc ls [.int (iZ v)]) := by
  subst hQ hv
  exact z_iret (B := fun _ H => H = s.heap) C hr hlk rfl hS () rfl rfl hdg
theorem z_pret_z {v v0 : Int} (C : zC p m c cc nL s args own) (hQ : Q = MQ below (va_Qi (fun r (_ : Unit) => r = iZ v0) (fun _ t => t.heap = s.heap) nA) args s 0 0 nA) (hr : meth.sig.returnType = some .boolean) (hlk : meth.locks = false) (hS : va_S nA s.heap s.heap locs) (hb : v0 = 0 ∨ v0 = 1) (hv : v = v0) (hdg : decode cc pc = .ok (.ireturn, 1)) :
    W p l e R s m args below meth c s.heap locs 0 0 Q (F0 m pc ls [.int (iZ v)]) := by
  subst hQ hv
  exact z_iret (B := fun _ H => H = s.heap) C hr hlk (z_nb hb) hS () rfl rfl hdg
theorem z_pret_l {v v0 : Int} (C : zC p m c cc nL s args own) (hQ : Q = MQ below (va_Ql (fun r (_ : Unit) => r = lZ v0) (fun _ t => t.heap = s.heap) nA) args s 0 0 nA) (hr : meth.sig.returnType = some .long) (hlk : meth.locks = false) (hS : va_S nA s.heap s.heap locs) (hv : v = v0) (hdg : decode cc pc = .ok (.lreturn, 1)) :
    W p l e R s m args below meth c s.heap locs 0 0 Q (F0 m pc ls [.long (lZ v)]) := by
  subst hQ hv
  exact z_lret (B := fun _ H => H = s.heap) C hr hlk hS () rfl rfl hdg
theorem m_mret_i {v : Int} {post : Int → zS → Prop} (C : zC p m c cc nL s args own) (hQ : Q = MQ below (va_Qi (fun r S' => ∃ v, r = iZ v ∧ post v S') (fun S' t => MP g h ad S' t.heap) (MA h ad)) args s 0 0 (MA h ad)) (hr : meth.sig.returnType = some .int) (hlk : meth.locks = false) (hS : va_S (MA h ad) s.heap H locs) (hP : MP g h ad S H) (hp : post v S) (hdg : decode cc pc = .ok (.ireturn, 1)) :
    W p l e R s m args below meth c H locs 0 0 Q (F0 m pc ls [.int (iZ v)]) := by
  subst hQ
  exact z_iret (B := fun S' H => MP g h ad S' H) C hr hlk rfl hS S ⟨v, rfl, hp⟩ hP hdg
theorem m_mret_z {v : Int} {post : Int → zS → Prop} (C : zC p m c cc nL s args own) (hQ : Q = MQ below (va_Qi (fun r S' => ∃ v, r = iZ v ∧ post v S') (fun S' t => MP g h ad S' t.heap) (MA h ad)) args s 0 0 (MA h ad)) (hr : meth.sig.returnType = some .boolean) (hlk : meth.locks = false) (hS : va_S (MA h ad) s.heap H locs) (hP : MP g h ad S H) (hb : v = 0 ∨ v = 1) (hp : post v S) (hdg : decode cc pc = .ok (.ireturn, 1)) :
    W p l e R s m args below meth c H locs 0 0 Q (F0 m pc ls [.int (iZ v)]) := by
  subst hQ
  exact z_iret (B := fun S' H => MP g h ad S' H) C hr hlk (z_nb hb) hS S ⟨v, rfl, hp⟩ hP hdg
theorem m_mret_l {v : Int} {post : Int → zS → Prop} (C : zC p m c cc nL s args own) (hQ : Q = MQ below (va_Ql (fun r S' => ∃ v, r = lZ v ∧ post v S') (fun S' t => MP g h ad S' t.heap) (MA h ad)) args s 0 0 (MA h ad)) (hr : meth.sig.returnType = some .long) (hlk : meth.locks = false) (hS : va_S (MA h ad) s.heap H locs) (hP : MP g h ad S H) (hp : post v S) (hdg : decode cc pc = .ok (.lreturn, 1)) :
    W p l e R s m args below meth c H locs 0 0 Q (F0 m pc ls [.long (lZ v)]) := by
  subst hQ
  exact z_lret (B := fun S' H => MP g h ad S' H) C hr hlk hS S ⟨v, rfl, hp⟩ hP hdg
theorem m_mret_v {post : zS → Prop} (C : zC p m c cc nL s args own) (hQ : Q = MQ below (va_Qv (fun S' => post S') (fun S' t => MP g h ad S' t.heap) (MA h ad)) args s 0 0 (MA h ad)) (hr : meth.sig.returnType = none) (hlk : meth.locks = false) (hS : va_S (MA h ad) s.heap H locs) (hP : MP g h ad S H) (hp : post S) (hdg : decode cc pc = .ok (.return_, 1)) :
    W p l e R s m args below meth c H locs 0 0 Q (F0 m pc ls []) := by
  subst hQ
  exact z_vret (B := fun S' H => MP g h ad S' H) C hr hlk hS S hp hP hdg
end
