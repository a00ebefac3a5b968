set_option maxRecDepth 8000
/-! ===== writes to a ship commute ===== -/
theorem cm_sg_ld {S : Sh} {n : Nat} {v : Bool} : (S.s_stage n).s_laid v = (S.s_laid v).s_stage n := by
  obtain ⟨a1, a2, a3, a4, a5, a6, a7, a8, a9, b1, b2, b3, b4, b5, b6, b7, b8, b9, c1, c2, c3, c4, c5, c6, c7, c8, c9, d1, d2, d3⟩ := S
  rfl
theorem cm_sg_sp {S : Sh} {n : Nat} {v : Option Nat} : (S.s_stage n).s_spot v = (S.s_spot v).s_stage n := by
  obtain ⟨a1, a2, a3, a4, a5, a6, a7, a8, a9, b1, b2, b3, b4, b5, b6, b7, b8, b9, c1, c2, c3, c4, c5, c6, c7, c8, c9, d1, d2, d3⟩ := S
  rfl
/-- both sides lay down the same ship -/
theorem lay_two {S : Sh} {v : Option Nat} : ((S.s_stage 1).s_spot v).s_laid true = ((S.s_spot v).s_laid true).s_stage 1 := by
  rw [cm_sg_sp, cm_sg_ld]
