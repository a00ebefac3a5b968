set_option maxRecDepth 4000
/-! ===== a quotient by what is not 0 is a number (it may be without end) ===== -/
theorem rU_top (num den : Nat) (e : Int) : ∃ m, m ≤ 9218868437227405312 ∧ ∀ s, rU s num den e = .ofNat (s.toNat * 9223372036854775808 + m) := by
  by_cases h0 : num = 0
  · subst h0
    refine ⟨0, by decide, fun s => ?_⟩
    unfold rU FP.Core.roundRatio
    rw [if_pos rfl, enc_fin, if_pos (by decide), fl_asm]
  · have hq : -1074 ≤ FP.Core.quantum FP.Core.b64 num den e := by
      show -1074 ≤ max (-1074) _
      omega
    have hun : ∀ s, rU s num den e = .ofNat (FP.Core.encode FP.Core.b64 (FP.Core.settle FP.Core.b64 s (FP.Core.nearest (FP.Core.unitsNum num e (FP.Core.quantum FP.Core.b64 num den e)) (FP.Core.unitsDen den e (FP.Core.quantum FP.Core.b64 num den e))) (FP.Core.quantum FP.Core.b64 num den e))) := by
      intro s
      unfold rU FP.Core.roundRatio
      rw [if_neg h0]
      rfl
    generalize FP.Core.nearest (FP.Core.unitsNum num e (FP.Core.quantum FP.Core.b64 num den e)) (FP.Core.unitsDen den e (FP.Core.quantum FP.Core.b64 num den e)) = n at hun
    generalize FP.Core.quantum FP.Core.b64 num den e = q at hq hun
    have hinf : ∀ s, FP.Core.encode FP.Core.b64 (.inf s) = s.toNat * 9223372036854775808 + 9218868437227405312 := by
      intro s
      show FP.Core.assemble FP.Core.b64 s 2047 0 = _
      rw [fl_asm]
    by_cases hn : n < 9007199254740992
    · by_cases hm : q ≤ 971
      · by_cases hc : n < 4503599627370496
        · refine ⟨n, by omega, fun s => ?_⟩
          rw [hun]
          unfold FP.Core.settle FP.Core.bound
          rw [if_pos (show n < 2 ^ FP.Core.b64.p from hn), if_pos (show q ≤ FP.Core.b64.qmax from hm), enc_fin, if_pos hc, fl_asm, Nat.zero_mul, Nat.zero_add]
        · refine ⟨((q - -1074).toNat + 1) * 4503599627370496 + (n - 4503599627370496), by omega, fun s => ?_⟩
          rw [hun]
          unfold FP.Core.settle FP.Core.bound
          rw [if_pos (show n < 2 ^ FP.Core.b64.p from hn), if_pos (show q ≤ FP.Core.b64.qmax from hm), enc_fin, if_neg hc, fl_asm]
      · refine ⟨9218868437227405312, by decide, fun s => ?_⟩
        rw [hun]
        unfold FP.Core.settle FP.Core.bound
        rw [if_pos (show n < 2 ^ FP.Core.b64.p from hn), if_neg (show ¬ q ≤ FP.Core.b64.qmax from hm), hinf]
    · by_cases hm : q + 1 ≤ 971
      · refine ⟨((q + 1 - -1074).toNat + 1) * 4503599627370496 + (4503599627370496 - 4503599627370496), by omega, fun s => ?_⟩
        rw [hun]
        unfold FP.Core.settle FP.Core.bound
        rw [if_neg (show ¬ n < 2 ^ FP.Core.b64.p from hn), if_pos (show q + 1 ≤ FP.Core.b64.qmax from hm), enc_fin, fl_tails, if_neg (Nat.lt_irrefl _), fl_asm]
      · refine ⟨9218868437227405312, by decide, fun s => ?_⟩
        rw [hun]
        unfold FP.Core.settle FP.Core.bound
        rw [if_neg (show ¬ n < 2 ^ FP.Core.b64.p from hn), if_neg (show ¬ q + 1 ≤ FP.Core.b64.qmax from hm), hinf]
theorem isN_mg {a : UInt64} (h : mg a ≤ 9218868437227405312) : isN a := by
  show a &&& 0x7fffffffffffffff ≤ 0x7ff0000000000000
  rw [UInt64.le_iff_toNat_le]
  have h1 := (abs_bits a).1
  have h2 := (abs_bits a).2
  unfold mg at h1 h
  unfold sgn at h2
  rw [decide_eq_false_iff_not] at h2
  have h3 : (a &&& 0x7fffffffffffffff).toNat % 9223372036854775808 = (a &&& 0x7fffffffffffffff).toNat := Nat.mod_eq_of_lt (by omega)
  rw [h3] at h1
  rw [h1]
  exact h
theorem rU_N (s : Bool) (num den : Nat) (e : Int) : isN (rU s num den e) := by
  obtain ⟨m, h1, h2⟩ := rU_top num den e
  rw [h2]
  apply isN_mg
  rw [(fl_bits (s := s) (m := m) (by omega)).1]
  exact h1
theorem isN_div {a b : UInt64} {K L : Nat} (ba : Bd a K) (hK : K ≤ 2040) (bb : Bd b L) (hL : L ≤ 2040) (h0 : mg b ≠ 0) : isN (dDiv a b) := by
  obtain ⟨c, q, h1, -⟩ := fl_dec (Bd.fin ba hK)
  obtain ⟨d, r, g1, -, g2, -, -, -, g7, g8⟩ := fl_dec (Bd.fin bb hL)
  have hd : d ≠ 0 := by
    intro e
    subst e
    rcases g7 with h | h
    · rw [h] at g8
      apply h0
      omega
    · omega
  rw [dDiv_e, div_as h1 g1 hd]
  exact rU_N _ _ _ _
