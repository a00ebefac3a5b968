set_option maxRecDepth 4000
/-! ===== numbers that are 0 or not small (for divisors) ===== -/
def Zl (x : UInt64) (L : Nat) : Prop := sgn x = false ∧ (x = 0 ∨ L ≤ eF x)
theorem Zl.mono {x : UInt64} {L L' : Nat} (h : Zl x L) (hl : L' ≤ L) : Zl x L' := And.intro h.1 (h.2.elim Or.inl fun h2 => Or.inr (Nat.le_trans hl h2))
theorem Zl.ps {x : UInt64} {L : Nat} (h : Zl x L) : Ps x := h.1
theorem zero_of {x : UInt64} (h1 : mg x = 0) (h2 : sgn x = false) : x = 0 := bits_ext (h1.trans (by decide)) (h2.trans (by decide))
theorem zl_kD {n : Nat} (h : n < 9223372036854775808) : Zl (kD n) (n / 4503599627370496) := And.intro (ps_kD n h) (Or.inr (by rw [eF_kD, Nat.mod_eq_of_lt h]; exact Nat.le_refl _))
theorem zl_i2D {n : Nat} (h : n < 2147483648) : Zl (i2D (nI n)) 1023 := And.intro (ps_i2D (nI_pos h)) (by
  rcases Nat.eq_zero_or_pos n with h0 | h0
  · left
    subst h0
    rw [i2D_e]
    decide
  · right
    exact (lo_i2D (nI_nz h0 h)).2)
theorem zl_c0 (L : Nat) : Zl FP.dconst0 L := And.intro (by decide) (Or.inl (by decide))
theorem zl_add {a b : UInt64} {K K' L : Nat} (ha : Zl a L) (hb : Zl b L) (ba : Bd a K) (bb : Bd b K') (hL : 1 ≤ L) (hK : max K K' ≤ 2040) : Zl (dAdd a b) L := by
  have h := add_nn (a := a) (b := b) (K := max K K') (L := L) (Nat.le_trans (ba.h (by omega)) (Nat.le_max_left _ _)) (Nat.le_trans (bb.h (by omega)) (Nat.le_max_right _ _)) (by omega) ha.1 hb.1
  rw [dAdd_e]
  refine And.intro h.1 ?_
  rcases ha.2 with h1 | h1
  · rcases hb.2 with h2 | h2
    · left
      rw [h1, h2]
      decide
    · exact Or.inr (h.2 hL (Or.inr h2))
  · exact Or.inr (h.2 hL (Or.inl h1))
theorem mul_z {a b : UInt64} (ha : a = 0 ∨ b = 0) (fa : eF a < 2047) (fb : eF b < 2047) (pa : sgn a = false) (pb : sgn b = false) : FP.dmul a b = 0 := by
  refine zero_of ?_ (by rw [mul_sgn fa fb, pa, pb]; rfl)
  obtain ⟨c, q, h1, -⟩ := fl_dec fa
  obtain ⟨d, r, g1, -⟩ := fl_dec fb
  rw [mul_as h1 g1]
  have hz : c * d = 0 := by
    rcases ha with e | e
    · subst e
      have : FP.Core.decode FP.Core.b64 (0 : UInt64).toNat = .fin false 0 (-1074) := by decide
      rw [this] at h1
      injection h1 with _ h9 _
      rw [← h9, Nat.zero_mul]
    · subst e
      have : FP.Core.decode FP.Core.b64 (0 : UInt64).toNat = .fin false 0 (-1074) := by decide
      rw [this] at g1
      injection g1 with _ h9 _
      rw [← h9, Nat.mul_zero]
  rw [hz]
  exact (rU_zero _ _ _).1
theorem zl_mul {a b : UInt64} {K K' L L' : Nat} (ha : Zl a L) (hb : Zl b L') (ba : Bd a K) (bb : Bd b K') (hL : 1 ≤ L ∧ 1 ≤ L' ∧ 1024 ≤ L + L') (hK : max K K' ≤ 2040 ∧ K + K' ≤ 3060) : Zl (dMul a b) (L + L' - 1023) := by
  have fa := ba.h (by omega)
  have fb := bb.h (by omega)
  refine And.intro (ps_mul ba bb ha.1 hb.1 (by omega)) ?_
  rcases ha.2 with h1 | h1
  · left
    rw [dMul_e]
    exact mul_z (Or.inl h1) (by omega) (by omega) ha.1 hb.1
  · rcases hb.2 with h2 | h2
    · left
      rw [dMul_e]
      exact mul_z (Or.inr h2) (by omega) (by omega) ha.1 hb.1
    · right
      rw [dMul_e]
      exact mul_lo h1 h2 (by omega) (by omega) (by omega) (by omega) (by omega) (by omega) (by omega)
theorem zl_div {a b : UInt64} {K K' L L' : Nat} (ha : Zl a L) (lb : Lo b L') (pb : Ps b) (ba : Bd a K) (bb : Bd b K') (hL : 1 ≤ L ∧ 1 + K' ≤ L + 1022) (hK : max K K' ≤ 2040 ∧ K ≤ L' + 1018) : Zl (dDiv a b) (L + 1022 - K') := by
  have fa := ba.h (by omega)
  have fb := bb.h (by omega)
  have l1 := lb.h
  refine And.intro (ps_div ba bb lb ha.1 pb (by omega)) ?_
  rw [dDiv_e]
  rcases ha.2 with h1 | h1
  · left
    refine zero_of ?_ (by rw [div_sgn (by omega) (by omega) (by omega), ha.1, pb.h]; rfl)
    obtain ⟨c, q, e1, -⟩ := fl_dec (a := a) (by omega)
    obtain ⟨d, r, g1, -, -, -, -, g6, -⟩ := fl_dec (a := b) (by omega)
    have hz : c = 0 := by
      subst h1
      have : FP.Core.decode FP.Core.b64 (0 : UInt64).toNat = .fin false 0 (-1074) := by decide
      rw [this] at e1
      injection e1 with _ h9 _
      exact h9.symm
    have hd : d ≠ 0 := by have := (g6 (by omega)).1; omega
    rw [div_as e1 g1 hd, hz]
    exact (rU_zero _ _ _).1
  · right
    exact div_lo h1 hL.1 (by omega) fb (by omega) (by omega) (by omega) (by omega) (by omega)
