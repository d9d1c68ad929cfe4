theorem prs_stop {T : Int → Int} {n : Int} {P : zS} {st : rS} (h : ¬ (st.1 = 0 ∧ tkK T n st.2 ≠ 0)) (f : Nat) : prsSt T n f P st = st ∧ prsP T n f P st = P := by
  cases f with
  | zero => exact ⟨rfl, rfl⟩
  | succ f => rw [prsSt, prsP, if_neg h, if_neg h]; exact ⟨rfl, rfl⟩
