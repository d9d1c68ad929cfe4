theorem thiefW_in (T : Int → Int) (n : Int) (st : rS) : -1 ≤ thiefW T n st ∧ thiefW T n st ≤ 2 := by
  unfold thiefW
  split
  · omega
  · split
    · omega
    · split <;> omega
theorem whatF_in (T : Int → Int) (n : Int) (st : rS) : -1 ≤ whatF T n st ∧ whatF T n st ≤ 1 := by
  unfold whatF
  split
  · omega
  · split <;> omega
theorem sortF_in (T : Int → Int) (n : Int) (st : rS) : -1 ≤ sortF T n st ∧ sortF T n st ≤ 3 := by
  unfold sortF
  split
  · omega
  · split
    · omega
    · split
      · omega
      · split <;> omega
theorem line2_ok {T : Int → Int} {n : Int} {P : zS} {st : rS} (h : (line2 T n P st).1 = 0) : ¬ fullF P (sortF T n st) := fun z => by
  unfold line2 at h
  rw [if_pos z] at h
  unfold failS at h
  split at h
  · exact absurd h (show ¬ (3 : Int) = 0 by decide)
  · next q4 => exact q4 h
