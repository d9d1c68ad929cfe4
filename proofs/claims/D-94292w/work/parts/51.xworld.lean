/-! ===== the component's world: sg the addresses, S the store ===== -/
/-- array kinds: 0 int 1 long 2 byte 3 short 4 Object 5 Slot 6 Image; 9: no array -/
def xAt (S : zS) (k : Nat) (i : Int) : Nat := match k with
  | 6 => 4 | 7 => 4 | 8 => 4 | 9 => 4
  | 12 => 0 | 16 => 1 | 17 => 1 | 18 => 0 | 19 => 0 | 20 => 1 | 22 => 0 | 23 => 0
  | 25 => if S 1 i = 0 then 2 else if S 1 i = 1 then 3 else if S 1 i = 2 then 0 else 1
  | 26 => 5 | 27 => 6 | 29 => 2 | 31 => 1 | 32 => 1 | 33 => 0 | 34 => 0 | 37 => 0 | 38 => 1 | 40 => 0 | 41 => 0
  | _ => 9
def xAn (S : zS) (k : Nat) (i : Int) : Nat := match k with
  | 6 => (S 117 i).toNat | 7 => (S 118 i).toNat | 8 => (S 119 i).toNat | 9 => (S 120 i).toNat
  | 12 => 3 | 16 => 1024 | 17 => 1024 | 18 => 1024 | 19 => 1024 | 20 => 10 | 22 => 10 | 23 => 6
  | 25 => (S 2 i).toNat
  | 26 => 4 | 27 => 3 | 29 => 1600 | 31 => 131072 | 32 => 131072 | 33 => 131072 | 34 => 131072 | 37 => 10 | 38 => 10 | 40 => 10 | 41 => 6
  | _ => 0
/-- of numbers: key, a, b; of references: kind, a, and how many -/
def xAd : Nat → Nat × Int × Int
  | 6 => (10, 4, 19) | 7 => (11, 5, 21) | 8 => (13, 10, 23) | 9 => (14, 6, 25)
  | 12 => (22, 4, 1) | 16 => (125, 0, 0) | 17 => (126, 0, 0) | 18 => (127, 0, 0) | 19 => (128, 0, 0) | 20 => (129, 0, 0) | 22 => (29, 17, 1) | 23 => (29, 17, 11)
  | 25 => (3, 60, 0) | 26 => (24, 0, 0) | 27 => (28, 0, 0) | 29 => (5, 0, 0) | 31 => (133, 0, 0) | 32 => (134, 0, 0) | 33 => (135, 0, 0) | 34 => (136, 0, 0) | 37 => (106, 0, 0) | 38 => (107, 0, 0) | 40 => (111, 0, 0) | 41 => (112, 0, 0)
  | _ => (199, 0, 0)
def xcnt (S : zS) (k : Nat) (i : Int) : Int := match k with
  | 6 => S 19 i | 7 => S 21 i | 8 => S 23 i | 9 => S 25 i | 26 => 4 | 27 => 3 | _ => 0
abbrev xG : Type := va_G × (Nat → ClassId)
def xel (sg : xA) (S : zS) (k : Nat) (i : Int) (j : Nat) : Value :=
  if xAt S k i = 1 then .long (lZ (S (xAd k).1 ((xAd k).2.1 * i + (xAd k).2.2 + (j : Int))))
  else if xAt S k i < 4 then .int (iZ (S (xAd k).1 ((xAd k).2.1 * i + (xAd k).2.2 + (j : Int))))
  else if (j : Int) < xcnt S k i then .ref (sg (xAd k).1 ((xAd k).2.1 * i + (j : Int))) else .null
def isOb (k : Nat) : Bool := !(xFL k).isEmpty
/-- what stands at (k, i) -/
def XC (g : xG) (sg : xA) (S : zS) (k : Nat) (i : Int) (H : Heap) : Prop :=
  if isOb k = true then t_OB (sg k i) (g.1.1 (xcl S k i)) (xN (xcl S k i)) (g.1.2 (xcl S k i)) H (xfv sg S k i) else H[sg k i]? = some (arrV (g.2 (xAt S k i)) (xAn S k i) (xel sg S k i))
/-- rails that there are -/
def rv (S : zS) (r : Int) : Prop := r = 0 ∨ (1 ≤ r ∧ r ≤ 3 ∧ S 30 (r - 1) = 1) ∨ (r = 4 ∧ S 121 0 = 1)
def xok (S : zS) (k : Nat) (i : Int) : Prop := match k with
  | 1 => rv S i | 2 => rv S i | 3 => rv S i | 4 => rv S i | 5 => rv S i | 6 => rv S i | 7 => rv S i | 8 => rv S i | 9 => rv S i
  | 10 => rv S (i / 4) ∧ i % 4 < S 19 (i / 4) | 11 => rv S (i / 5) ∧ i % 5 < S 21 (i / 5) | 12 => rv S (i / 5) ∧ i % 5 < S 21 (i / 5)
  | 13 => rv S (i / 10) ∧ i % 10 < S 23 (i / 10) | 14 => rv S (i / 6) ∧ i % 6 < S 25 (i / 6)
  | 21 => 0 ≤ i ∧ i ≤ 3 | 22 => 0 ≤ i ∧ i ≤ 3 | 23 => 0 ≤ i ∧ i ≤ 3 | 24 => 0 ≤ i ∧ i ≤ 3 | 25 => (0 ≤ i ∧ i ≤ 3) ∧ S 1 i ≠ -1 | 28 => 0 ≤ i ∧ i ≤ 2
  | 30 => i = 0 ∧ S 122 0 = 1 | 31 => i = 0 ∧ S 122 0 = 1 | 32 => i = 0 ∧ S 122 0 = 1 | 33 => i = 0 ∧ S 122 0 = 1 | 34 => i = 0 ∧ S 122 0 = 1
  | 36 => i = 0 ∧ S 103 0 = 1 | 42 => i = 0 ∧ S 121 0 = 1
  | 0 => i = 0 | 15 => i = 0 | 16 => i = 0 | 17 => i = 0 | 18 => i = 0 | 19 => i = 0 | 20 => i = 0 | 26 => i = 0 | 27 => i = 0 | 29 => i = 0 | 37 => i = 0 | 38 => i = 0 | 39 => i = 0 | 40 => i = 0 | 41 => i = 0
  | _ => False
/-- keys of longs -/
def xlong (k : Nat) : Bool := k == 3 || k == 107 || k == 125 || k == 126 || k == 129 || k == 132 || k == 133 || k == 134
def xfit (k : Nat) (v : Int) : Prop := (xlong k = false → I32 v) ∧ I64 v
/-- shared: lamps, locks, cuts and thieves may stand on several rails; they never change -/
def xmut (k : Nat) : Bool := !(k == 10 || k == 11 || k == 12 || k == 14)
def XP (g : xG) (sg : xA) (S : zS) (H : Heap) : Prop :=
  (∀ k j, xfit k (S k j)) ∧ (∀ k i, xok S k i → XC g sg S k i H) ∧ ∀ k i k' i', xok S k i → xok S k' i' → (xmut k = true ∨ k ≠ k') → sg k i = sg k' i' → k = k' ∧ i = i'
/-- the cells that may change -/
def XA (sg : xA) (S : zS) (q : Nat) : Prop := ∃ k i, xok S k i ∧ xmut k = true ∧ q = sg k i
/-- whose a place of the store is -/
def xown (key : Nat) (pos : Int) : Nat × Int := match key with
  | 6 => (0, 0) | 14 => (0, 0) | 15 => (0, 0) | 105 => (0, 0)
  | 17 => (1, pos) | 18 => (1, pos) | 16 => (1, pos) | 104 => (1, pos) | 101 => (1, pos) | 102 => (1, pos) | 27 => (1, pos / 7)
  | 113 => (2, pos) | 19 => (2, pos) | 114 => (3, pos) | 21 => (3, pos) | 115 => (4, pos) | 23 => (4, pos) | 116 => (5, pos) | 25 => (5, pos)
  | 20 => (10, pos / 2) | 22 => if pos % 4 = 0 then (11, pos / 4) else (12, pos / 4) | 24 => (13, pos / 5) | 26 => (14, pos / 5)
  | 123 => (15, 0) | 124 => (15, 0) | 125 => (16, 0) | 126 => (17, 0) | 127 => (18, 0) | 128 => (19, 0) | 129 => (20, 0)
  | 29 => if pos % 17 = 0 then (21, pos / 17) else if pos % 17 ≤ 10 then (22, pos / 17) else (23, pos / 17)
  | 108 => (21, pos) | 3 => (25, pos / 60) | 5 => (29, 0) | 130 => (30, 0) | 131 => (30, 0) | 132 => (30, 0) | 133 => (31, 0) | 134 => (32, 0) | 135 => (33, 0) | 136 => (34, 0)
  | 137 => (36, 0) | 106 => (37, 0) | 107 => (38, 0) | 109 => (39, 0) | 110 => (39, 0) | 111 => (40, 0) | 112 => (41, 0) | 138 => (42, 0)
  | _ => (99, 0)
/-- keys that say what there is, of what class, how long -/
def xuse (key : Nat) : Bool := key == 1 || key == 2 || key == 19 || key == 21 || key == 23 || key == 25 || key == 26 || key == 30 || key == 103 || key == 117 || key == 118 || key == 119 || key == 120 || key == 121 || key == 122 || key == 139
