set_option maxRecDepth 4000
/-! ===== a difference that isn't small ===== -/
theorem dif_as {a b : UInt64} {s t : Bool} {c d : Nat} {q r : Int} (h1 : FP.Core.decode FP.Core.b64 a.toNat = .fin s c q) (g1 : FP.Core.decode FP.Core.b64 b.toNat = .fin t d r) : FP.dsub a b = rU (FP.Core.sumSign s (!t) (FP.Core.sumUnits s c q (!t) d r (min q r))) (FP.Core.sumUnits s c q (!t) d r (min q r)).natAbs 1 (min q r) := by
  show UInt64.ofNat (FP.Core.encode FP.Core.b64 (FP.Core.round FP.Core.b64 (FP.Core.exactSum (FP.Core.decode FP.Core.b64 a.toNat) (FP.Core.negate (FP.Core.decode FP.Core.b64 b.toNat))))) = _
  rw [h1, g1]
  rfl
theorem sub_lo {a b : UInt64} (ha : eF a ≤ 2040) (sa : sgn a = false) (sb : sgn b = false) (hab : eF b + 2 ≤ eF a) : sgn (FP.dsub a b) = false ∧ eF a - 1 ≤ eF (FP.dsub a b) := by
  obtain ⟨c, q, h1, -, -, -, h2, h3, -⟩ := fl_dec (a := a) (by omega)
  obtain ⟨d, r, g1, -, -, -, g2, g3, -⟩ := fl_dec (a := b) (by omega)
  rw [sa] at h1
  rw [sb] at g1
  rw [dif_as h1 g1]
  obtain ⟨c1, c2⟩ := h3 (by omega)
  have u1 := units_lt (Y := (eF a : Int) - 1023) (fun hc => h2 hc) (Int.min_le_left q r)
  have u2 := units_lt (Y := (eF a : Int) - 1025) (fun hc => by have := g2 hc; omega) (Int.min_le_right q r)
  have hlow : 2 ^ (c.log2 + (q - min q r).toNat) ≤ FP.Core.inUnits c q (min q r) := by
    unfold FP.Core.inUnits
    rw [Nat.pow_add]
    exact Nat.mul_le_mul_right _ (Nat.log2_self_le (by omega))
  have hs : FP.Core.sumUnits false c q (!false) d r (min q r) = (FP.Core.inUnits c q (min q r) : Int) - (FP.Core.inUnits d r (min q r) : Int) := by
    unfold FP.Core.sumUnits FP.Core.signed
    simp
    omega
  rw [hs]
  have hl2 : 52 ≤ c.log2 := log_ge (show 2 ^ 52 ≤ c from c1)
  have hq : (0 : Int) ≤ q - min q r := by omega
  generalize hm : min q r = e at u1 u2 hlow hs hq
  obtain ⟨x, hx⟩ : ∃ x : Nat, c.log2 + (q - e).toNat = x + 1 := ⟨c.log2 + (q - e).toNat - 1, by omega⟩
  rw [hx] at hlow
  have hx2 : ((eF a : Int) - 1025 + 1 - e).toNat ≤ x := by omega
  have hx3 : ((eF a : Int) - 1023 + 1 - e).toNat = x + 2 := by omega
  have u3 : FP.Core.inUnits d r e < 2 ^ x := Nat.lt_of_lt_of_le u2 (Nat.pow_le_pow_right (by decide) hx2)
  rw [hx3] at u1
  have p1 : 2 ^ (x + 1) = 2 ^ x * 2 := Nat.pow_succ 2 x
  have p2 : 2 ^ (x + 2) = 2 ^ x * 4 := by rw [Nat.pow_succ, Nat.pow_succ]; omega
  rw [p1] at hlow
  rw [p2] at u1
  generalize FP.Core.inUnits c q e = A at hlow u1
  generalize FP.Core.inUnits d r e = B at u3
  have hA : (A : Int) - (B : Int) = ((A - B : Nat) : Int) := by omega
  rw [hA, Int.natAbs_natCast]
  have hsg : FP.Core.sumSign false (!false) ((A - B : Nat) : Int) = false := by
    unfold FP.Core.sumSign
    split
    · rfl
    · rw [decide_eq_false_iff_not]; omega
  rw [hsg]
  refine ⟨rU_sgn _ _ _ _, ?_⟩
  have l1 : 2 ^ x ≤ A - B := by omega
  have l2 : A - B < 2 ^ (x + 2) := by omega
  generalize A - B = num at l1 l2
  have hn0 : num ≠ 0 := by have := Nat.two_pow_pos x; omega
  have g5 : x ≤ num.log2 := log_ge l1
  have g6 : num.log2 ≤ x + 1 := (fl_log hn0).mpr l2
  refine eF_lo ?_
  have := rU_lo (s := false) (num := num) (den := 1) (e := e) (Y := (eF a : Int) - 1 - 1023) hn0 (by decide) (by rw [lead_one hn0]; omega) (by omega) (by rw [lead_one hn0]; omega)
  have e9 : ((eF a : Int) - 1 - 1023 + 1023).toNat = eF a - 1 := by omega
  rw [e9] at this
  exact this
