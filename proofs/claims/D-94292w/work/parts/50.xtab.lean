/-! ===== the component: classes by number, tables of its world (printed by gen/xtab.py) ===== -/
def xR : Nat → String
  | 0 => RX0
  | 1 => RX1
  | 2 => RX2
  | 3 => RX3
  | 4 => RX4
  | 5 => RX5
  | 6 => RX7
  | 7 => RX9
  | 8 => RX10
  | 9 => RX11
  | 10 => RX13
  | 11 => RX14
  | 12 => RX15
  | 13 => RX16
  | 14 => RX17
  | 15 => RJ2
  | _ => RX0
def xT : Nat → u_T
  | 0 => TX0
  | 1 => TX1
  | 2 => TX2
  | 3 => TX3
  | 4 => TX4
  | 5 => TX5
  | 6 => TX7
  | 7 => TX9
  | 8 => TX10
  | 9 => TX11
  | 10 => TX13
  | 11 => TX14
  | 12 => TX15
  | 13 => TX16
  | 14 => TX17
  | 15 => TJ2
  | _ => TX0
def xty : Nat → Nat → FieldType
  | 0 => tyX0
  | 1 => tyX1
  | 2 => tyX2
  | 3 => tyX3
  | 4 => tyX4
  | 5 => tyX5
  | 6 => tyX7
  | 7 => tyX9
  | 8 => tyX10
  | 9 => tyX11
  | 10 => tyX13
  | 11 => tyX14
  | 12 => tyX15
  | 13 => tyX16
  | 14 => tyX17
  | 15 => tyJ2
  | _ => tyX0
def xN : Nat → Nat
  | 0 => 14
  | 1 => 18
  | 2 => 8
  | 3 => 5
  | 4 => 1
  | 5 => 3
  | 6 => 7
  | 7 => 2
  | 8 => 2
  | 9 => 5
  | 10 => 3
  | 11 => 3
  | 12 => 4
  | 13 => 8
  | 14 => 1
  | 15 => 3
  | _ => 14
def xCL : List vw_C := [(RX0, TX0, 14), (RX1, TX1, 18), (RX2, TX2, 8), (RX3, TX3, 5), (RX4, TX4, 1), (RX5, TX5, 3), (RX7, TX7, 7), (RX9, TX9, 2), (RX10, TX10, 2), (RX11, TX11, 5), (RX13, TX13, 3), (RX14, TX14, 3), (RX15, TX15, 4), (RX16, TX16, 8), (RX17, TX17, 1), (RJ2, TJ2, 3)]
def xcs : List Nat := [0, 1, 2, 3, 4, 5, 6, 7, 8, 9, 10, 11, 12, 13, 14, 15]
theorem x_in : ∀ c, c ∈ xcs → ∀ w ∈ u_ws (xR c) (xT c) (xN c), w ∈ lw_all := by
  intro c hc
  simp only [xcs, List.mem_cons, List.not_mem_nil, or_false] at hc
  rcases hc with rfl | rfl | rfl | rfl | rfl | rfl | rfl | rfl | rfl | rfl | rfl | rfl | rfl | rfl | rfl | rfl
  · exact in_X0
  · exact in_X1
  · exact in_X2
  · exact in_X3
  · exact in_X4
  · exact in_X5
  · exact in_X7
  · exact in_X9
  · exact in_X10
  · exact in_X11
  · exact in_X13
  · exact in_X14
  · exact in_X15
  · exact in_X16
  · exact in_X17
  · exact in_J2
theorem x_ty : ∀ c, c ∈ xcs → ∀ k, k < xN c → parseFieldDescriptor (xT c k).2.2.1 = some (xty c k) := by
  intro c hc
  simp only [xcs, List.mem_cons, List.not_mem_nil, or_false] at hc
  rcases hc with rfl | rfl | rfl | rfl | rfl | rfl | rfl | rfl | rfl | rfl | rfl | rfl | rfl | rfl | rfl | rfl
  · exact tyX0_ok
  · exact tyX1_ok
  · exact tyX2_ok
  · exact tyX3_ok
  · exact tyX4_ok
  · exact tyX5_ok
  · exact tyX7_ok
  · exact tyX9_ok
  · exact tyX10_ok
  · exact tyX11_ok
  · exact tyX13_ok
  · exact tyX14_ok
  · exact tyX15_ok
  · exact tyX16_ok
  · exact tyX17_ok
  · exact tyJ2_ok
theorem x_nm : ∀ c, c ∈ xcs → ∀ a, a < xN c → ∀ b, b < xN c → a ≠ b → (xT c a).2.1 ≠ (xT c b).2.1 := by
  intro c hc
  simp only [xcs, List.mem_cons, List.not_mem_nil, or_false] at hc
  rcases hc with rfl | rfl | rfl | rfl | rfl | rfl | rfl | rfl | rfl | rfl | rfl | rfl | rfl | rfl | rfl | rfl
  · exact nmX0
  · exact nmX1
  · exact nmX2
  · exact nmX3
  · exact nmX4
  · exact nmX5
  · exact nmX7
  · exact nmX9
  · exact nmX10
  · exact nmX11
  · exact nmX13
  · exact nmX14
  · exact nmX15
  · exact nmX16
  · exact nmX17
  · exact nmJ2
abbrev xA : Type := Nat → Int → Nat
/-- fields of a kind: tag, key (or kind), a, b: the place is a * i + b -/
def xFL : Nat → List (Nat × Nat × Int × Int)
  | 0 => [(3, 1, 1, 0), (3, 15, 1, 0), (3, 29, 1, 0), (0, 6, 1, 0), (0, 14, 1, 0), (0, 15, 1, 0), (0, 105, 1, 0), (3, 37, 1, 0), (3, 38, 1, 0), (6, 30, 1, 0), (3, 21, 1, 0), (3, 39, 1, 0), (3, 26, 1, 0), (3, 27, 1, 0)]
  | 1 => [(0, 17, 1, 0), (0, 18, 1, 0), (0, 27, 7, 0), (0, 27, 7, 1), (0, 27, 7, 4), (0, 27, 7, 5), (0, 16, 1, 0), (0, 27, 7, 2), (0, 104, 1, 0), (0, 27, 7, 3), (0, 27, 7, 6), (3, 2, 1, 0), (3, 3, 1, 0), (3, 4, 1, 0), (3, 5, 1, 0), (5, 36, 1, 0), (0, 101, 1, 0), (0, 102, 1, 0)]
  | 2 => [(0, 113, 1, 0), (3, 6, 1, 0), (0, 19, 1, 0)]
  | 3 => [(0, 114, 1, 0), (3, 7, 1, 0), (0, 21, 1, 0)]
  | 4 => [(0, 115, 1, 0), (3, 8, 1, 0), (0, 23, 1, 0)]
  | 5 => [(0, 116, 1, 0), (3, 9, 1, 0), (0, 25, 1, 0)]
  | 10 => [(0, 20, 2, 0), (0, 20, 2, 1)]
  | 11 => [(0, 22, 4, 0), (3, 12, 1, 0)]
  | 13 => [(0, 24, 5, 0), (0, 24, 5, 1), (0, 24, 5, 2), (0, 24, 5, 3), (0, 24, 5, 4)]
  | 14 => [(0, 26, 5, 0), (0, 26, 5, 1), (0, 26, 5, 2), (0, 26, 5, 4)]
  | 15 => [(3, 16, 1, 0), (3, 17, 1, 0), (3, 18, 1, 0), (3, 19, 1, 0), (0, 123, 1, 0), (0, 124, 1, 0), (3, 20, 1, 0), (3, 0, 1, 0)]
  | 21 => [(3, 22, 1, 0), (3, 23, 1, 0), (0, 29, 17, 0), (0, 108, 1, 0), (3, 0, 0, 0)]
  | 24 => [(8, 25, 1, 0)]
  | 28 => [(7, 1, 1, 1), (3, 21, 1, 1), (3, 0, 0, 0)]
  | 30 => [(3, 31, 1, 0), (3, 32, 1, 0), (3, 33, 1, 0), (3, 34, 1, 0), (0, 130, 1, 0), (0, 131, 1, 0), (2, 132, 1, 0), (3, 0, 1, 0)]
  | 36 => [(0, 137, 5, 0), (0, 137, 5, 1), (0, 137, 5, 2), (0, 137, 5, 3), (0, 137, 5, 4)]
  | 39 => [(3, 40, 1, 0), (3, 41, 1, 0), (0, 109, 1, 0), (0, 110, 1, 0), (3, 0, 1, 0)]
  | 42 => [(0, 138, 5, 0), (3, 1, 0, 4), (0, 138, 5, 1), (0, 138, 5, 2), (0, 138, 5, 3), (9, 0, 0, 0), (3, 0, 1, 0)]
  | _ => []
def xF (k f : Nat) : Nat × Nat × Int × Int := (xFL k).getD f (0, 199, 0, 0)
def xcl (S : zS) (k : Nat) (i : Int) : Nat := match k with
  | 0 => 0
  | 1 => 1
  | 2 => 15
  | 3 => 15
  | 4 => 15
  | 5 => 15
  | 10 => 7
  | 11 => 8
  | 13 => 9
  | 14 => if S 26 (5 * i + 3) = 0 then 10 else if S 26 (5 * i + 3) = 1 then 11 else 12
  | 15 => 2
  | 21 => 3
  | 24 => 4
  | 28 => 5
  | 30 => 13
  | 36 => 9
  | 39 => 3
  | 42 => 6
  | _ => 0
def xV (sg : xA) (S : zS) (i : Int) (d : Nat × Nat × Int × Int) : Value :=
  if d.1 = 0 then .int (iZ (S d.2.1 (d.2.2.1 * i + d.2.2.2))) else if d.1 = 2 then .long (lZ (S d.2.1 (d.2.2.1 * i + d.2.2.2))) else if d.1 = 3 then .ref (sg d.2.1 (d.2.2.1 * i + d.2.2.2))
  else if d.1 = 5 then (if S 103 i = 1 then .ref (sg 36 0) else .null) else if d.1 = 6 then (if S 122 0 = 1 then .ref (sg 30 0) else .null) else if d.1 = 7 then (if S 30 i = 1 then .ref (sg 1 (i + 1)) else .null)
  else if d.1 = 8 then (if S 1 i = -1 then .null else .ref (sg 25 i)) else .ref (sg 43 (S 139 0))
def xfv (sg : xA) (S : zS) (k : Nat) (i : Int) (f : Nat) : Value := xV sg S i (xF k f)
