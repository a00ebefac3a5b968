set_option maxRecDepth 4000
/-! ===== sums are never -0.0; loads of nothing ===== -/
/-- not -0.0 -/
def Nz (x : UInt64) : Prop := sgn x = false ∨ mg x ≠ 0
theorem Ps.nz {x : UInt64} (h : Ps x) : Nz x := Or.inl h
theorem rU_ne {s : Bool} {num : Nat} {e : Int} (h0 : num ≠ 0) (he : -1074 ≤ e) : mg (rU s num 1 e) ≠ 0 := by
  have hq : -1074 ≤ FP.Core.quantum FP.Core.b64 num 1 e := by
    show -1074 ≤ max (-1074) _
    omega
  have hun : rU s num 1 e = .ofNat (FP.Core.encode FP.Core.b64 (FP.Core.settle FP.Core.b64 s (FP.Core.nearest (FP.Core.unitsNum num e (FP.Core.quantum FP.Core.b64 num 1 e)) (FP.Core.unitsDen 1 e (FP.Core.quantum FP.Core.b64 num 1 e))) (FP.Core.quantum FP.Core.b64 num 1 e))) := by
    unfold rU FP.Core.roundRatio
    rw [if_neg h0]
    rfl
  have hn : 1 ≤ FP.Core.nearest (FP.Core.unitsNum num e (FP.Core.quantum FP.Core.b64 num 1 e)) (FP.Core.unitsDen 1 e (FP.Core.quantum FP.Core.b64 num 1 e)) := by
    apply near_ge
    · show 1 * 2 ^ _ ≠ 0
      have := Nat.two_pow_pos (FP.Core.quantum FP.Core.b64 num 1 e - e).toNat
      omega
    · show 1 * (1 * 2 ^ (FP.Core.quantum FP.Core.b64 num 1 e - e).toNat) ≤ num * 2 ^ (e - FP.Core.quantum FP.Core.b64 num 1 e).toNat
      have hqd : FP.Core.quantum FP.Core.b64 num 1 e = max (-1074) (FP.Core.leading num 1 + e - 52) := rfl
      rw [Nat.one_mul, Nat.one_mul]
      rcases Int.le_total (FP.Core.quantum FP.Core.b64 num 1 e) e with h | h
      · have e1 : (FP.Core.quantum FP.Core.b64 num 1 e - e).toNat = 0 := by omega
        rw [e1, Nat.pow_zero]
        have := Nat.two_pow_pos (e - FP.Core.quantum FP.Core.b64 num 1 e).toNat
        exact Nat.mul_pos (by omega) this
      · have e1 : (e - FP.Core.quantum FP.Core.b64 num 1 e).toNat = 0 := by omega
        rw [e1, Nat.pow_zero, Nat.mul_one]
        have hl := lead_one h0
        have h9 : (FP.Core.quantum FP.Core.b64 num 1 e - e).toNat ≤ num.log2 := by omega
        exact Nat.le_trans (Nat.pow_le_pow_right (by decide) h9) (Nat.log2_self_le h0)
  rw [hun]
  generalize FP.Core.nearest (FP.Core.unitsNum num e (FP.Core.quantum FP.Core.b64 num 1 e)) (FP.Core.unitsDen 1 e (FP.Core.quantum FP.Core.b64 num 1 e)) = n at hn
  generalize FP.Core.quantum FP.Core.b64 num 1 e = q at hq
  have hinf : ∀ s, FP.Core.encode FP.Core.b64 (.inf s) = s.toNat * 9223372036854775808 + 9218868437227405312 := by
    intro s
    show FP.Core.assemble FP.Core.b64 s 2047 0 = _
    rw [fl_asm]
  by_cases hn2 : n < 9007199254740992
  · by_cases hm : q ≤ 971
    · by_cases hc : n < 4503599627370496
      · unfold FP.Core.settle FP.Core.bound
        rw [if_pos (show n < 2 ^ FP.Core.b64.p from hn2), if_pos (show q ≤ FP.Core.b64.qmax from hm), enc_fin, if_pos hc, fl_asm, Nat.zero_mul, Nat.zero_add, (fl_bits (by omega)).1]
        omega
      · unfold FP.Core.settle FP.Core.bound
        rw [if_pos (show n < 2 ^ FP.Core.b64.p from hn2), if_pos (show q ≤ FP.Core.b64.qmax from hm), enc_fin, if_neg hc, fl_asm, (fl_bits (by omega)).1]
        omega
    · unfold FP.Core.settle FP.Core.bound
      rw [if_pos (show n < 2 ^ FP.Core.b64.p from hn2), if_neg (show ¬ q ≤ FP.Core.b64.qmax from hm), hinf, (fl_bits (by decide)).1]
      decide
  · by_cases hm : q + 1 ≤ 971
    · unfold FP.Core.settle FP.Core.bound
      rw [if_neg (show ¬ n < 2 ^ FP.Core.b64.p from hn2), if_pos (show q + 1 ≤ FP.Core.b64.qmax from hm), enc_fin, fl_tails, if_neg (Nat.lt_irrefl _), fl_asm, (fl_bits (by omega)).1]
      omega
    · unfold FP.Core.settle FP.Core.bound
      rw [if_neg (show ¬ n < 2 ^ FP.Core.b64.p from hn2), if_neg (show ¬ q + 1 ≤ FP.Core.b64.qmax from hm), hinf, (fl_bits (by decide)).1]
      decide
theorem add_nz {a b : UInt64} {K L : Nat} (ba : Bd a K) (hK : K ≤ 2040) (bb : Bd b L) (hL : L ≤ 2040) (na : Nz a) : Nz (dAdd a b) := by
  obtain ⟨c, q, h1, -, q1, -, -, -, g7, g8⟩ := fl_dec (Bd.fin ba hK)
  obtain ⟨d, r, g1, -, r1, -⟩ := fl_dec (Bd.fin bb hL)
  unfold Nz
  rw [dAdd_e, sum_as h1 g1]
  by_cases h0 : FP.Core.sumUnits (sgn a) c q (sgn b) d r (min q r) = 0
  · left
    rw [rU_sgn, h0]
    show (if (0 : Int) = 0 then sgn a && sgn b else _) = false
    rw [if_pos rfl]
    rcases na with h | h
    · rw [h]; rfl
    · have hc : c ≠ 0 := by
        intro e
        subst e
        rcases g7 with h9 | h9
        · rw [h9] at g8; apply h; omega
        · omega
      unfold FP.Core.sumUnits at h0
      cases ha : sgn a with
      | false => rfl
      | true =>
        cases hb : sgn b with
        | false => rfl
        | true =>
          exfalso
          rw [ha, hb] at h0
          have h2 : 0 < FP.Core.inUnits c q (min q r) := by
            unfold FP.Core.inUnits
            exact Nat.mul_pos (by omega) (Nat.two_pow_pos _)
          have h3 : -((FP.Core.inUnits c q (min q r) : Nat) : Int) + -((FP.Core.inUnits d r (min q r) : Nat) : Int) = 0 := h0
          omega
  · right
    exact rU_ne (by omega) (by omega)
/-- nothing is added -/
theorem add_z {x : UInt64} {K : Nat} (bx : Bd x K) (hK : K ≤ 2040) (nx : Nz x) : dAdd x FP.dconst0 = x := by
  rw [dAdd_e]
  exact add_zero (Bd.fin bx hK) nx
theorem z_mul {x : UInt64} {K : Nat} (bx : Bd x K) (hK : K ≤ 2040) (px : Ps x) : dMul FP.dconst0 x = FP.dconst0 := by
  rw [dMul_e]
  exact mul_z (Or.inl rfl) (by decide) (Bd.fin bx hK) (by decide) px.h
