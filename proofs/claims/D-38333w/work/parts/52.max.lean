set_option maxRecDepth 4000
/-! ===== the greater of two ===== -/
theorem dcmp_ord {a b : UInt64} (ha : eF a < 2047) (hb : eF b < 2047) : ∃ x y : Int, FP.dcmp a b = some (compare x y) ∧ FP.dcmp b a = some (compare y x) := by
  obtain ⟨c, q, h1, -⟩ := fl_dec ha
  obtain ⟨d, r, g1, -⟩ := fl_dec hb
  have e1 : FP.dcmp a b = FP.Core.order (FP.Core.decode FP.Core.b64 a.toNat) (FP.Core.decode FP.Core.b64 b.toNat) := rfl
  have e2 : FP.dcmp b a = FP.Core.order (FP.Core.decode FP.Core.b64 b.toNat) (FP.Core.decode FP.Core.b64 a.toNat) := rfl
  rw [h1, g1] at e1 e2
  refine ⟨FP.Core.signed (sgn a) (FP.Core.inUnits c q (min q r)), FP.Core.signed (sgn b) (FP.Core.inUnits d r (min q r)), e1, ?_⟩
  rw [e2]
  show some (compare (FP.Core.signed (sgn b) (FP.Core.inUnits d r (min r q))) (FP.Core.signed (sgn a) (FP.Core.inUnits c q (min r q)))) = _
  rw [Int.min_comm r q]
theorem cmp_lt {a b : UInt64} (ha : eF a < 2047) (hb : eF b < 2047) (ha1 : 1 ≤ eF a) (sa : sgn a = false) (h : FP.dcmp a b = some .lt) : sgn b = false ∧ eF a ≤ eF b := by
  refine cmp_ge hb ha ha1 sa ?_
  obtain ⟨x, y, e1, e2⟩ := dcmp_ord ha hb
  rw [e1] at h
  injection h with h
  have h5 := Int.compare_eq_lt.mp h
  rw [e2]
  intro h6
  injection h6 with h6
  have h7 := Int.compare_eq_lt.mp h6
  omega
theorem dMax_or (a b : UInt64) : dMax a b = a ∨ dMax a b = b := by
  rw [dMax_e]
  unfold Native.java_lang_Math.nans.pick64
  split
  · exact Or.inr rfl
  · exact Or.inl rfl
  · split
    · exact Or.inr rfl
    · exact Or.inl rfl
theorem dMin_or (a b : UInt64) : dMin a b = a ∨ dMin a b = b := by
  rw [dMin_e]
  unfold Native.java_lang_Math.nans.pick64
  split
  · exact Or.inl rfl
  · exact Or.inr rfl
  · split
    · exact Or.inr rfl
    · exact Or.inl rfl
theorem bd_max {a b : UInt64} {K L : Nat} (ha : Bd a K) (hb : Bd b L) : Bd (dMax a b) (max K L) := by
  rcases dMax_or a b with h | h
  · rw [h]; exact Bd.up ha _ (by omega)
  · rw [h]; exact Bd.up hb _ (by omega)
theorem bd_min {a b : UInt64} {K L : Nat} (ha : Bd a K) (hb : Bd b L) : Bd (dMin a b) (max K L) := by
  rcases dMin_or a b with h | h
  · rw [h]; exact Bd.up ha _ (by omega)
  · rw [h]; exact Bd.up hb _ (by omega)
theorem sgn_top {a : UInt64} (h : sgn a = false) : (a >>> 63 == 1) = false := by
  unfold sgn at h
  rw [decide_eq_false_iff_not] at h
  apply beq_false_of_ne
  intro e
  have := congrArg UInt64.toNat e
  rw [UInt64.toNat_shiftRight] at this
  simp at this
  have h2 : a.toNat / 2 ^ 63 = 1 := by rw [← Nat.shiftRight_eq_div_pow]; exact this
  omega
theorem max_lo1 {a b : UInt64} {L : Nat} (ha : eF a < 2047) (hb : eF b < 2047) (hL : 1 ≤ L) (sa : sgn a = false) (h : L ≤ eF a) : sgn (dMax a b) = false ∧ L ≤ eF (dMax a b) := by
  rw [dMax_e]
  unfold Native.java_lang_Math.nans.pick64
  split
  · next e =>
    have := cmp_lt ha hb (by omega) sa e
    exact ⟨this.1, Nat.le_trans h this.2⟩
  · exact ⟨sa, h⟩
  · rw [sgn_top sa]
    exact ⟨sa, h⟩
theorem max_lo2 {a b : UInt64} {L : Nat} (ha : eF a < 2047) (hb : eF b < 2047) (hL : 1 ≤ L) (sb : sgn b = false) (h : L ≤ eF b) : sgn (dMax a b) = false ∧ L ≤ eF (dMax a b) := by
  rw [dMax_e]
  unfold Native.java_lang_Math.nans.pick64
  split
  · exact ⟨sb, h⟩
  · next e =>
    have := cmp_ge ha hb (by omega) sb (by rw [e]; intro h9; cases h9)
    exact ⟨this.1, Nat.le_trans h this.2⟩
  · next e1 e2 =>
    have := cmp_ge ha hb (by omega) sb e1
    split
    · exact ⟨sb, h⟩
    · exact ⟨this.1, Nat.le_trans h this.2⟩
