/-! ===== doubles: how great a result can be, where it is no NaN (reckoned out of the model's own rounding) ===== -/
section FL
def mg (a : UInt64) : Nat := a.toNat % 9223372036854775808
/-- the exponent's field -/
def eF (a : UInt64) : Nat := mg a / 4503599627370496
/-- the sign -/
def sgn (a : UInt64) : Bool := decide (9223372036854775808 ≤ a.toNat)
theorem fl_tails : FP.Core.b64.tails = 4503599627370496 := rfl
theorem fl_exps : FP.Core.b64.exps = 2048 := rfl
theorem fl_qmin : FP.Core.b64.qmin = -1074 := rfl
theorem fl_qmax : FP.Core.b64.qmax = 971 := rfl
theorem fl_E (a : UInt64) : FP.Core.fieldE FP.Core.b64 a.toNat = eF a := by
  show a.toNat / 4503599627370496 % 2048 = a.toNat % 9223372036854775808 / 4503599627370496
  have := a.toNat_lt
  omega
theorem fl_S (a : UInt64) : FP.Core.fieldS FP.Core.b64 a.toNat = sgn a := by
  show (a.toNat / 4503599627370496 / 2048 % 2 == 1) = decide (9223372036854775808 ≤ a.toNat)
  have := a.toNat_lt
  rw [Bool.eq_iff_iff]
  simp only [beq_iff_eq, decide_eq_true_eq]
  omega
theorem fl_log {c k : Nat} (h : c ≠ 0) : (c.log2 ≤ k ↔ c < 2 ^ (k + 1)) := by
  rw [← Nat.lt_succ_iff]
  exact Nat.log2_lt h
/-- what a double's bits stand for -/
theorem fl_dec {a : UInt64} (h : eF a < 2047) : ∃ (c : Nat) (q : Int), FP.Core.decode FP.Core.b64 a.toNat = .fin (sgn a) c q ∧ c < 9007199254740992 ∧ -1074 ≤ q ∧ q ≤ 971 ∧ (c ≠ 0 → (c.log2 : Int) + q ≤ (eF a : Int) - 1023) ∧ (1 ≤ eF a → 4503599627370496 ≤ c ∧ (c.log2 : Int) + q = (eF a : Int) - 1023) ∧ (q = -1074 ∨ 4503599627370496 ≤ c) ∧ (c : Int) + (q + 1074) * 4503599627370496 = (mg a : Int) := by
  have hE := fl_E a
  have hS := fl_S a
  have hT : FP.Core.fieldT FP.Core.b64 a.toNat = mg a % 4503599627370496 := by
    show a.toNat % 4503599627370496 = a.toNat % 9223372036854775808 % 4503599627370496
    omega
  have hm : mg a = eF a * 4503599627370496 + mg a % 4503599627370496 := by
    have := Nat.div_add_mod (mg a) 4503599627370496
    unfold eF
    omega
  have hl : mg a % 4503599627370496 < 4503599627370496 := Nat.mod_lt _ (by decide)
  unfold FP.Core.decode
  rw [hE, hS, hT, fl_exps, fl_tails, fl_qmin]
  generalize mg a % 4503599627370496 = t at hl hm
  rw [if_neg (by omega)]
  by_cases h0 : eF a = 0
  · rw [if_pos h0]
    refine ⟨t, -1074, rfl, by omega, by omega, by omega, fun hc => ?_, fun h1 => by omega, Or.inl rfl, by omega⟩
    have : t.log2 ≤ 51 := (fl_log hc).mpr (by show t < 4503599627370496; exact hl)
    omega
  · rw [if_neg h0]
    have hlo : (4503599627370496 + t).log2 = 52 := by
      have h1 : (4503599627370496 + t).log2 ≤ 52 := (fl_log (by omega)).mpr (by show _ < 9007199254740992; omega)
      have h2 : ¬ (4503599627370496 + t).log2 ≤ 51 := fun h9 => absurd ((fl_log (by omega)).mp h9) (by show ¬ _ < 4503599627370496; omega)
      omega
    refine ⟨4503599627370496 + t, -1074 + ((eF a : Int) - 1), rfl, by omega, by omega, by omega, fun hc => ?_, fun h1 => ⟨by omega, ?_⟩, Or.inr (by omega), by omega⟩
    · rw [hlo]; omega
    · rw [hlo]; omega
/-- a rounded ratio as bits -/
def rU (s : Bool) (num den : Nat) (e : Int) : UInt64 := .ofNat (FP.Core.encode FP.Core.b64 (FP.Core.roundRatio FP.Core.b64 s num den e))
theorem fl_asm (s : Bool) (e t : Nat) : FP.Core.assemble FP.Core.b64 s e t = s.toNat * 9223372036854775808 + (e * 4503599627370496 + t) := by
  unfold FP.Core.assemble
  rw [fl_exps, fl_tails]
  omega
theorem fl_bits {s : Bool} {m : Nat} (h : m < 9223372036854775808) : mg (.ofNat (s.toNat * 9223372036854775808 + m)) = m ∧ sgn (.ofNat (s.toNat * 9223372036854775808 + m)) = s := by
  have h1 : (UInt64.ofNat (s.toNat * 9223372036854775808 + m)).toNat = s.toNat * 9223372036854775808 + m := by
    rw [UInt64.toNat_ofNat']
    apply Nat.mod_eq_of_lt
    cases s
    · show 0 * 9223372036854775808 + m < 18446744073709551616; omega
    · show 1 * 9223372036854775808 + m < 18446744073709551616; omega
  unfold mg sgn
  rw [h1]
  cases s
  · refine ⟨by show (0 * 9223372036854775808 + m) % 9223372036854775808 = m; omega, ?_⟩
    rw [decide_eq_false_iff_not]
    show ¬ 9223372036854775808 ≤ 0 * 9223372036854775808 + m
    omega
  · refine ⟨by show (1 * 9223372036854775808 + m) % 9223372036854775808 = m; omega, ?_⟩
    rw [decide_eq_true_eq]
    show 9223372036854775808 ≤ 1 * 9223372036854775808 + m
    omega
theorem enc_fin (s : Bool) (c : Nat) (q : Int) : FP.Core.encode FP.Core.b64 (.fin s c q) = if c < 4503599627370496 then FP.Core.assemble FP.Core.b64 s 0 c else FP.Core.assemble FP.Core.b64 s ((q - -1074).toNat + 1) (c - 4503599627370496) := rfl
theorem rU_zero (s : Bool) (den : Nat) (e : Int) : mg (rU s 0 den e) = 0 ∧ sgn (rU s 0 den e) = s := by
  have h1 : rU s 0 den e = .ofNat (s.toNat * 9223372036854775808 + 0) := by
    unfold rU FP.Core.roundRatio
    rw [if_pos rfl]
    rw [enc_fin, if_pos (by decide), fl_asm]
  rw [h1]
  exact fl_bits (by decide)
/-- the upper bound -/
theorem rU_up {s : Bool} {num den : Nat} {e Y : Int} (h0 : num ≠ 0) (h : FP.Core.leading num den + e ≤ Y) (hY : Y ≤ 1020) : mg (rU s num den e) < ((max 0 (Y + 1022)).toNat + 3) * 4503599627370496 ∧ sgn (rU s num den e) = s := by
  unfold rU FP.Core.roundRatio
  rw [if_neg h0]
  unfold FP.Core.roundAt
  have hq : FP.Core.quantum FP.Core.b64 num den e = max (-1074) (FP.Core.leading num den + e - 52) := rfl
  generalize FP.Core.quantum FP.Core.b64 num den e = q at hq
  generalize FP.Core.nearest (FP.Core.unitsNum num e q) (FP.Core.unitsDen den e q) = n
  have hq1 : q ≤ 968 := by omega
  have hq2 : (q + 1074).toNat ≤ (max 0 (Y + 1022)).toNat := by omega
  have hq3 : (max 0 (Y + 1022)).toNat ≤ 2042 := by omega
  unfold FP.Core.settle
  by_cases hn : n < 2 ^ FP.Core.b64.p
  · rw [if_pos hn]
    have hn' : n < 9007199254740992 := hn
    unfold FP.Core.bound
    rw [if_pos (by rw [fl_qmax]; omega)]
    rw [enc_fin]
    by_cases hc : n < 4503599627370496
    · rw [if_pos hc, fl_asm]
      obtain ⟨g1, g2⟩ := fl_bits (s := s) (m := 0 * 4503599627370496 + n) (by omega)
      exact ⟨by rw [g1]; omega, g2⟩
    · rw [if_neg hc, fl_asm]
      generalize hz : (q - -1074).toNat = z
      have hz' : z ≤ (max 0 (Y + 1022)).toNat := by omega
      obtain ⟨g1, g2⟩ := fl_bits (s := s) (m := (z + 1) * 4503599627370496 + (n - 4503599627370496)) (by omega)
      refine ⟨?_, g2⟩
      rw [g1]
      generalize (max 0 (Y + 1022)).toNat = w at hz'
      omega
  · rw [if_neg hn]
    unfold FP.Core.bound
    rw [if_pos (by rw [fl_qmax]; omega)]
    rw [enc_fin, fl_tails, if_neg (Nat.lt_irrefl _), fl_asm]
    generalize hz : (q + 1 - -1074).toNat = z
    have hz' : z ≤ (max 0 (Y + 1022)).toNat + 1 := by omega
    obtain ⟨g1, g2⟩ := fl_bits (s := s) (m := (z + 1) * 4503599627370496 + (4503599627370496 - 4503599627370496)) (by omega)
    refine ⟨?_, g2⟩
    rw [g1]
    generalize (max 0 (Y + 1022)).toNat = w at hz'
    omega
theorem lead_le (num den : Nat) : FP.Core.leading num den ≤ (num.log2 : Int) - (den.log2 : Int) := by
  unfold FP.Core.leading
  dsimp only
  split <;> omega
theorem lead_ge (num den : Nat) : (num.log2 : Int) - (den.log2 : Int) - 1 ≤ FP.Core.leading num den := by
  unfold FP.Core.leading
  dsimp only
  split <;> omega
theorem pow_add' (a b : Nat) : 2 ^ a * 2 ^ b = 2 ^ (a + b) := (Nat.pow_add 2 a b).symm
theorem lead_spec {num den : Nat} (h1 : num ≠ 0) (h2 : den ≠ 0) : den * 2 ^ (FP.Core.leading num den).toNat ≤ num * 2 ^ (-(FP.Core.leading num den)).toNat := by
  unfold FP.Core.leading
  dsimp only
  split
  · next h => exact h
  · have a1 : 2 ^ num.log2 ≤ num := Nat.log2_self_le h1
    have a2 : den < 2 ^ (den.log2 + 1) := Nat.lt_log2_self
    generalize num.log2 = x at a1
    generalize den.log2 = y at a2
    rcases Int.le_total 1 ((x : Int) - y) with hk | hk
    · have e1 : ((x : Int) - y - 1).toNat = x - y - 1 := by omega
      have e2 : (-((x : Int) - y - 1)).toNat = 0 := by omega
      rw [e1, e2]
      calc den * 2 ^ (x - y - 1) ≤ 2 ^ (y + 1) * 2 ^ (x - y - 1) := Nat.mul_le_mul_right _ (Nat.le_of_lt a2)
        _ = 2 ^ x := by rw [pow_add']; congr 1; omega
        _ ≤ num * 2 ^ 0 := by rw [Nat.pow_zero, Nat.mul_one]; exact a1
    · have e1 : ((x : Int) - y - 1).toNat = 0 := by omega
      have e2 : (-((x : Int) - y - 1)).toNat = y + 1 - x := by omega
      rw [e1, e2]
      calc den * 2 ^ 0 ≤ 2 ^ (y + 1) := by rw [Nat.pow_zero, Nat.mul_one]; exact Nat.le_of_lt a2
        _ = 2 ^ x * 2 ^ (y + 1 - x) := by rw [pow_add']; congr 1; omega
        _ ≤ num * 2 ^ (y + 1 - x) := Nat.mul_le_mul_right _ a1
theorem near_ge {num den k : Nat} (hd : den ≠ 0) (h : k * den ≤ num) : k ≤ FP.Core.nearest num den := by
  have h1 : k ≤ num / den := (Nat.le_div_iff_mul_le (Nat.pos_of_ne_zero hd)).mpr h
  unfold FP.Core.nearest
  split
  · exact h1
  · split
    · omega
    · omega
/-- the lower bound -/
theorem rU_lo {s : Bool} {num den : Nat} {e Y : Int} (h0 : num ≠ 0) (hd : den ≠ 0) (h : Y ≤ FP.Core.leading num den + e) (hY : -1022 ≤ Y) (hU : FP.Core.leading num den + e ≤ 1020) : ((Y + 1023).toNat) * 4503599627370496 ≤ mg (rU s num den e) := by
  have hs := lead_spec h0 hd
  unfold rU FP.Core.roundRatio
  rw [if_neg h0]
  unfold FP.Core.roundAt
  have hq : FP.Core.quantum FP.Core.b64 num den e = max (-1074) (FP.Core.leading num den + e - 52) := rfl
  generalize FP.Core.quantum FP.Core.b64 num den e = q at hq
  generalize FP.Core.leading num den = l at h hU hq hs
  have hq0 : q = l + e - 52 := by omega
  have hn0 : 4503599627370496 ≤ FP.Core.nearest (FP.Core.unitsNum num e q) (FP.Core.unitsDen den e q) := by
    apply near_ge
    · unfold FP.Core.unitsDen
      exact Nat.mul_ne_zero hd (Nat.pos_iff_ne_zero.mp (Nat.two_pow_pos _))
    · unfold FP.Core.unitsNum FP.Core.unitsDen
      have e1 : e - q = 52 - l := by omega
      have e2 : q - e = l - 52 := by omega
      rw [e1, e2]
      show 2 ^ 52 * (den * 2 ^ (l - 52).toNat) ≤ num * 2 ^ (52 - l).toNat
      rcases Int.le_total 52 l with hl | hl
      · have f1 : (52 - l).toNat = 0 := by omega
        have f2 : (-l).toNat = 0 := by omega
        rw [f1]
        rw [f2] at hs
        calc 2 ^ 52 * (den * 2 ^ (l - 52).toNat) = den * (2 ^ 52 * 2 ^ (l - 52).toNat) := by rw [Nat.mul_left_comm]
          _ = den * 2 ^ l.toNat := by rw [pow_add']; congr 2; omega
          _ ≤ num * 2 ^ 0 := hs
      · have f1 : (l - 52).toNat = 0 := by omega
        rw [f1, Nat.pow_zero, Nat.mul_one]
        rcases Int.le_total 0 l with hl0 | hl0
        · have f2 : (-l).toNat = 0 := by omega
          rw [f2, Nat.pow_zero, Nat.mul_one] at hs
          calc 2 ^ 52 * den = den * 2 ^ l.toNat * 2 ^ (52 - l).toNat := by rw [Nat.mul_assoc, pow_add', Nat.mul_comm]; congr 2; omega
            _ ≤ num * 2 ^ (52 - l).toNat := Nat.mul_le_mul_right _ hs
        · have f2 : l.toNat = 0 := by omega
          rw [f2, Nat.pow_zero, Nat.mul_one] at hs
          calc 2 ^ 52 * den = den * 2 ^ 52 := Nat.mul_comm _ _
            _ ≤ num * 2 ^ (-l).toNat * 2 ^ 52 := Nat.mul_le_mul_right _ hs
            _ = num * 2 ^ (52 - l).toNat := by rw [Nat.mul_assoc, pow_add']; congr 2; omega
  generalize FP.Core.nearest (FP.Core.unitsNum num e q) (FP.Core.unitsDen den e q) = n at hn0
  unfold FP.Core.settle
  by_cases hn : n < 2 ^ FP.Core.b64.p
  · rw [if_pos hn]
    have hn' : n < 9007199254740992 := hn
    unfold FP.Core.bound
    rw [if_pos (by rw [fl_qmax]; omega)]
    rw [enc_fin, if_neg (by omega), fl_asm]
    generalize hz : (q - -1074).toNat = z
    have hz' : (Y + 1022).toNat ≤ z ∧ z ≤ 2042 := by omega
    obtain ⟨g1, -⟩ := fl_bits (s := s) (m := (z + 1) * 4503599627370496 + (n - 4503599627370496)) (by omega)
    rw [g1]
    have : (Y + 1023).toNat = (Y + 1022).toNat + 1 := by omega
    omega
  · rw [if_neg hn]
    unfold FP.Core.bound
    rw [if_pos (by rw [fl_qmax]; omega)]
    rw [enc_fin, fl_tails, if_neg (Nat.lt_irrefl _), fl_asm]
    generalize hz : (q + 1 - -1074).toNat = z
    have hz' : (Y + 1022).toNat ≤ z ∧ z ≤ 2043 := by omega
    obtain ⟨g1, -⟩ := fl_bits (s := s) (m := (z + 1) * 4503599627370496 + (4503599627370496 - 4503599627370496)) (by omega)
    rw [g1]
    have : (Y + 1023).toNat = (Y + 1022).toNat + 1 := by omega
    omega
/-- a number by its exponent's field: no NaN -/
theorem eF_N {a : UInt64} (h : eF a ≤ 2046) : isN a := by
  show a &&& 0x7fffffffffffffff ≤ 0x7ff0000000000000
  rw [UInt64.le_iff_toNat_le, UInt64.toNat_and]
  have h2 : a.toNat &&& (0x7fffffffffffffff : UInt64).toNat = a.toNat % 2 ^ 63 := Nat.and_two_pow_sub_one_eq_mod _ 63
  rw [h2]
  show a.toNat % 9223372036854775808 ≤ 9218868437227405312
  unfold eF mg at h
  omega
theorem eF_of {a : UInt64} {k : Nat} (h : mg a < (k + 1) * 4503599627370496) : eF a ≤ k := by
  unfold eF
  have := Nat.div_lt_of_lt_mul (by rw [Nat.mul_comm]; exact h)
  omega
theorem eF_lo {a : UInt64} {k : Nat} (h : k * 4503599627370496 ≤ mg a) : k ≤ eF a := by
  unfold eF
  exact (Nat.le_div_iff_mul_le (by decide)).mpr h
theorem units_lt {c : Nat} {q e Y : Int} (h : c ≠ 0 → (c.log2 : Int) + q ≤ Y) (he : e ≤ q) : FP.Core.inUnits c q e < 2 ^ (Y + 1 - e).toNat := by
  unfold FP.Core.inUnits
  by_cases hc : c = 0
  · rw [hc, Nat.zero_mul]; exact Nat.two_pow_pos _
  · have h1 := h hc
    have h2 : c < 2 ^ (c.log2 + 1) := Nat.lt_log2_self
    calc c * 2 ^ (q - e).toNat < 2 ^ (c.log2 + 1) * 2 ^ (q - e).toNat := Nat.mul_lt_mul_of_pos_right h2 (Nat.two_pow_pos _)
      _ = 2 ^ (c.log2 + 1 + (q - e).toNat) := pow_add' _ _
      _ ≤ 2 ^ (Y + 1 - e).toNat := Nat.pow_le_pow_right (by decide) (by omega)
theorem sgnd_abs (s : Bool) (c : Nat) : (FP.Core.signed s c).natAbs = c := by
  unfold FP.Core.signed
  cases s <;> simp
/-- a sum -/
theorem sum_up {s t : Bool} {c d : Nat} {q r : Int} {K : Nat} (h1 : c ≠ 0 → (c.log2 : Int) + q ≤ (K : Int) - 1023) (h2 : d ≠ 0 → (d.log2 : Int) + r ≤ (K : Int) - 1023) (hK : K ≤ 2042) :
    mg (.ofNat (FP.Core.encode FP.Core.b64 (FP.Core.round FP.Core.b64 (FP.Core.exactSum (.fin s c q) (.fin t d r))))) < (K + 3) * 4503599627370496 := by
  show mg (rU (FP.Core.sumSign s t (FP.Core.sumUnits s c q t d r (min q r))) (FP.Core.sumUnits s c q t d r (min q r)).natAbs 1 (min q r)) < _
  have a1 := units_lt h1 (Int.min_le_left q r)
  have a2 := units_lt h2 (Int.min_le_right q r)
  have a3 : (FP.Core.sumUnits s c q t d r (min q r)).natAbs ≤ FP.Core.inUnits c q (min q r) + FP.Core.inUnits d r (min q r) := by
    unfold FP.Core.sumUnits
    refine Nat.le_trans (Int.natAbs_add_le _ _) ?_
    rw [sgnd_abs, sgnd_abs]
    exact Nat.le_refl _
  generalize min q r = e at a1 a2 a3
  generalize FP.Core.sumSign s t (FP.Core.sumUnits s c q t d r e) = s'
  generalize (FP.Core.sumUnits s c q t d r e).natAbs = num at a3
  by_cases h0 : num = 0
  · rw [h0, (rU_zero s' 1 e).1]
    omega
  · have a4 : num < 2 ^ (((K : Int) - 1023 + 1 - e).toNat + 1) := by
      rw [Nat.pow_succ]
      omega
    have a5 : num.log2 ≤ ((K : Int) - 1023 + 1 - e).toNat := (fl_log h0).mpr a4
    have a6 := lead_le num 1
    have a7 : Nat.log2 1 = 0 := by decide
    rw [a7] at a6
    by_cases hp : 0 ≤ (K : Int) - 1023 + 1 - e
    · have := (rU_up (s := s') (den := 1) (e := e) (Y := (K : Int) - 1022) h0 (by omega) (by omega)).1
      have e9 : (max 0 ((K : Int) - 1022 + 1022)).toNat = K := by omega
      rw [e9] at this
      exact this
    · exfalso
      have e8 : ((K : Int) - 1023 + 1 - e).toNat = 0 := by omega
      rw [e8] at a1 a2
      omega
theorem add_E {a b : UInt64} {K : Nat} (ha : eF a ≤ K) (hb : eF b ≤ K) (hK : K ≤ 2042) : eF (FP.dadd a b) ≤ K + 2 := by
  obtain ⟨c, q, h1, -, -, -, h2, -⟩ := fl_dec (a := a) (by omega)
  obtain ⟨d, r, g1, -, -, -, g2, -⟩ := fl_dec (a := b) (by omega)
  refine eF_of ?_
  show mg (.ofNat (FP.Core.encode FP.Core.b64 (FP.Core.round FP.Core.b64 (FP.Core.exactSum (FP.Core.decode FP.Core.b64 a.toNat) (FP.Core.decode FP.Core.b64 b.toNat))))) < _
  rw [h1, g1]
  exact sum_up (fun hc => by have := h2 hc; omega) (fun hc => by have := g2 hc; omega) hK
theorem sub_E {a b : UInt64} {K : Nat} (ha : eF a ≤ K) (hb : eF b ≤ K) (hK : K ≤ 2042) : eF (FP.dsub a b) ≤ K + 2 := by
  obtain ⟨c, q, h1, -, -, -, h2, -⟩ := fl_dec (a := a) (by omega)
  obtain ⟨d, r, g1, -, -, -, g2, -⟩ := fl_dec (a := b) (by omega)
  refine eF_of ?_
  show mg (.ofNat (FP.Core.encode FP.Core.b64 (FP.Core.round FP.Core.b64 (FP.Core.exactSum (FP.Core.decode FP.Core.b64 a.toNat) (FP.Core.negate (FP.Core.decode FP.Core.b64 b.toNat)))))) < _
  rw [h1, g1]
  exact sum_up (fun hc => by have := h2 hc; omega) (fun hc => by have := g2 hc; omega) hK
theorem lead_one {n : Nat} (h : n ≠ 0) : FP.Core.leading n 1 = (n.log2 : Int) := by
  unfold FP.Core.leading
  dsimp only
  have e1 : Nat.log2 1 = 0 := by decide
  rw [e1]
  have e2 : ((n.log2 : Int) - ((0 : Nat) : Int)).toNat = n.log2 := by omega
  have e3 : (-((n.log2 : Int) - ((0 : Nat) : Int))).toNat = 0 := by omega
  rw [e2, e3, Nat.one_mul, Nat.pow_zero, Nat.mul_one, if_pos (Nat.log2_self_le h)]
  omega
theorem log_mul_le {c d : Nat} (hc : c ≠ 0) (hd : d ≠ 0) : (c * d).log2 ≤ c.log2 + d.log2 + 1 := by
  apply (fl_log (Nat.mul_ne_zero hc hd)).mpr
  calc c * d < 2 ^ (c.log2 + 1) * 2 ^ (d.log2 + 1) := Nat.mul_lt_mul_of_lt_of_le Nat.lt_log2_self (Nat.le_of_lt Nat.lt_log2_self) (Nat.two_pow_pos _)
    _ = 2 ^ (c.log2 + d.log2 + 1 + 1) := by rw [pow_add']; congr 1; omega
theorem log_ge {c k : Nat} (h : 2 ^ k ≤ c) : k ≤ c.log2 := (Nat.le_log2 (by have := Nat.two_pow_pos k; omega)).mpr h
theorem log_mul_ge {c d : Nat} (hc : c ≠ 0) (hd : d ≠ 0) : c.log2 + d.log2 ≤ (c * d).log2 := by
  apply log_ge
  rw [Nat.pow_add]
  exact Nat.mul_le_mul (Nat.log2_self_le hc) (Nat.log2_self_le hd)
theorem mul_as {a b : UInt64} {s t : Bool} {c d : Nat} {q r : Int} (h1 : FP.Core.decode FP.Core.b64 a.toNat = .fin s c q) (g1 : FP.Core.decode FP.Core.b64 b.toNat = .fin t d r) : FP.dmul a b = rU (s != t) (c * d) 1 (q + r) := by
  show UInt64.ofNat (FP.Core.encode FP.Core.b64 (FP.Core.round FP.Core.b64 (FP.Core.exactProduct (FP.Core.decode FP.Core.b64 a.toNat) (FP.Core.decode FP.Core.b64 b.toNat)))) = _
  rw [h1, g1]
  rfl
theorem mul_E {a b : UInt64} {K L N : Nat} (ha : eF a ≤ K) (hb : eF b ≤ L) (hK : K ≤ 2046) (hL : L ≤ 2046) (hN : K + L ≤ N + 1023) (hN2 : N ≤ 2040) : eF (FP.dmul a b) ≤ N + 2 := by
  obtain ⟨c, q, h1, -, -, -, h2, -⟩ := fl_dec (a := a) (by omega)
  obtain ⟨d, r, g1, -, -, -, g2, -⟩ := fl_dec (a := b) (by omega)
  refine eF_of ?_
  rw [mul_as h1 g1]
  by_cases h0 : c * d = 0
  · rw [h0, (rU_zero _ 1 _).1]; omega
  · have hc : c ≠ 0 := fun e => h0 (by rw [e, Nat.zero_mul])
    have hd : d ≠ 0 := fun e => h0 (by rw [e, Nat.mul_zero])
    have a1 := h2 hc
    have a2 := g2 hd
    have a3 := log_mul_le hc hd
    have := (rU_up (s := (sgn a != sgn b)) (num := c * d) (den := 1) (e := q + r) (Y := (N : Int) - 1022) h0 (by rw [lead_one h0]; omega) (by omega)).1
    have e9 : (max 0 ((N : Int) - 1022 + 1022)).toNat = N := by omega
    rw [e9] at this
    exact this
theorem mul_lo {a b : UInt64} {K L N : Nat} (ha : K ≤ eF a) (hb : L ≤ eF b) (hK : 1 ≤ K) (hL : 1 ≤ L) (hN : N + 1023 ≤ K + L) (hN1 : 1 ≤ N) (hu : eF a + eF b ≤ 3060) (ha2 : eF a ≤ 2046) (hb2 : eF b ≤ 2046) : N ≤ eF (FP.dmul a b) := by
  obtain ⟨c, q, h1, -, -, -, h2, h3, -⟩ := fl_dec (a := a) (by omega)
  obtain ⟨d, r, g1, -, -, -, g2, g3, -⟩ := fl_dec (a := b) (by omega)
  obtain ⟨c1, c2⟩ := h3 (by omega)
  obtain ⟨d1, d2⟩ := g3 (by omega)
  have hc : c ≠ 0 := by omega
  have hd : d ≠ 0 := by omega
  have a3 := log_mul_ge hc hd
  have a4 := log_mul_le hc hd
  refine eF_lo ?_
  rw [mul_as h1 g1]
  have h0 : c * d ≠ 0 := Nat.mul_ne_zero hc hd
  have := rU_lo (s := (sgn a != sgn b)) (num := c * d) (den := 1) (e := q + r) (Y := (N : Int) - 1023) h0 (by decide) (by rw [lead_one h0]; omega) (by omega) (by rw [lead_one h0]; omega)
  have e9 : ((N : Int) - 1023 + 1023).toNat = N := by omega
  rw [e9] at this
  exact this
theorem div_as {a b : UInt64} {s t : Bool} {c d : Nat} {q r : Int} (h1 : FP.Core.decode FP.Core.b64 a.toNat = .fin s c q) (g1 : FP.Core.decode FP.Core.b64 b.toNat = .fin t d r) (hd : d ≠ 0) : FP.ddiv a b = rU (s != t) c d (q - r) := by
  show UInt64.ofNat (FP.Core.encode FP.Core.b64 (FP.Core.quotient FP.Core.b64 (FP.Core.decode FP.Core.b64 a.toNat) (FP.Core.decode FP.Core.b64 b.toNat))) = _
  rw [h1, g1]
  unfold FP.Core.quotient
  dsimp only
  rw [if_neg hd]
  rfl
theorem div_E {a b : UInt64} {K L N : Nat} (ha : eF a ≤ K) (hb : L ≤ eF b) (hb2 : eF b ≤ 2046) (hL : 1 ≤ L) (hK : K ≤ 2046) (hN : K + 1022 ≤ N + L) (hN2 : N ≤ 2040) : eF (FP.ddiv a b) ≤ N + 2 := by
  obtain ⟨c, q, h1, -, -, -, h2, -⟩ := fl_dec (a := a) (by omega)
  obtain ⟨d, r, g1, -, -, -, g2, g3, -⟩ := fl_dec (a := b) (by omega)
  obtain ⟨d1, d2⟩ := g3 (by omega)
  refine eF_of ?_
  rw [div_as h1 g1 (by omega)]
  by_cases h0 : c = 0
  · rw [h0, (rU_zero _ d _).1]; omega
  · have a1 := h2 h0
    have a2 := lead_le c d
    have := (rU_up (s := (sgn a != sgn b)) (num := c) (den := d) (e := q - r) (Y := (N : Int) - 1022) h0 (by omega) (by omega)).1
    have e9 : (max 0 ((N : Int) - 1022 + 1022)).toNat = N := by omega
    rw [e9] at this
    exact this
theorem div_lo {a b : UInt64} {K L N : Nat} (ha : K ≤ eF a) (hK : 1 ≤ K) (ha2 : eF a ≤ 2046) (hb : eF b ≤ L) (hb1 : 1 ≤ eF b) (hL : L ≤ 2046) (hN : N + L ≤ K + 1022) (hN1 : 1 ≤ N) (hu : eF a ≤ eF b + 1018) : N ≤ eF (FP.ddiv a b) := by
  obtain ⟨c, q, h1, -, -, -, h2, h3, -⟩ := fl_dec (a := a) (by omega)
  obtain ⟨d, r, g1, -, -, -, g2, g3, -⟩ := fl_dec (a := b) (by omega)
  obtain ⟨c1, c2⟩ := h3 (by omega)
  obtain ⟨d1, d2⟩ := g3 (by omega)
  have a1 := lead_le c d
  have a2 := lead_ge c d
  refine eF_lo ?_
  rw [div_as h1 g1 (by omega)]
  have := rU_lo (s := (sgn a != sgn b)) (num := c) (den := d) (e := q - r) (Y := (N : Int) - 1023) (by omega) (by omega) (by omega) (by omega) (by omega)
  have e9 : ((N : Int) - 1023 + 1023).toNat = N := by omega
  rw [e9] at this
  exact this
theorem i2d_as (i : Int32) : FP.i2d i = rU (decide (i.toInt < 0)) i.toInt.natAbs 1 0 := rfl
theorem i2d_E {i : Int32} {k : Nat} (h : i.toInt.natAbs < 2 ^ k) (hk : k ≤ 40) : eF (FP.i2d i) ≤ k + 1023 := by
  rw [i2d_as]
  refine eF_of ?_
  by_cases h0 : i.toInt.natAbs = 0
  · rw [h0, (rU_zero _ 1 _).1]; omega
  · have h1 : i.toInt.natAbs.log2 ≤ k - 1 := (fl_log h0).mpr (Nat.lt_of_lt_of_le h (Nat.pow_le_pow_right (by decide) (by omega)))
    have hk0 : 1 ≤ k := by
      rcases Nat.eq_zero_or_pos k with e | e
      · rw [e, Nat.pow_zero] at h; omega
      · exact e
    have := (rU_up (s := decide (i.toInt < 0)) (num := i.toInt.natAbs) (den := 1) (e := 0) (Y := (k : Int) - 1) h0 (by rw [lead_one h0]; omega) (by omega)).1
    have e9 : (max 0 ((k : Int) - 1 + 1022)).toNat = k + 1021 := by omega
    rw [e9] at this
    exact this
theorem i2d_lo {i : Int32} (h : i ≠ 0) : 1023 ≤ eF (FP.i2d i) := by
  have h0 : i.toInt.natAbs ≠ 0 := fun e => h (Int32.toInt_inj.mp (by rw [Int.natAbs_eq_zero.mp e]; rfl))
  have h2 : i.toInt.natAbs ≤ 2147483648 := by
    have a1 := i.toInt_lt
    have a2 := i.le_toInt
    omega
  have h1 : i.toInt.natAbs.log2 ≤ 31 := (fl_log h0).mpr (by show _ < 4294967296; omega)
  rw [i2d_as]
  refine eF_lo ?_
  have := rU_lo (s := decide (i.toInt < 0)) (num := i.toInt.natAbs) (den := 1) (e := 0) (Y := 0) h0 (by decide) (by rw [lead_one h0]; omega) (by omega) (by rw [lead_one h0]; omega)
  exact this
/-- bits are their sign and the rest -/
theorem bits_ext {a b : UInt64} (h1 : mg a = mg b) (h2 : sgn a = sgn b) : a = b := by
  apply UInt64.toNat_inj.mp
  have h3 : (9223372036854775808 ≤ a.toNat) ↔ 9223372036854775808 ≤ b.toNat := by
    unfold sgn at h2
    exact decide_eq_decide.mp h2
  unfold mg at h1
  have := a.toNat_lt
  have := b.toNat_lt
  omega
/-- a number that is there is rounded to itself -/
theorem rU_id {a : UInt64} (h : eF a < 2047) {c : Nat} {q : Int} (hd : FP.Core.decode FP.Core.b64 a.toNat = .fin (sgn a) c q) (h1 : c < 9007199254740992) (h2 : -1074 ≤ q) (h3 : q ≤ 971) (h4 : q = -1074 ∨ 4503599627370496 ≤ c) (h5 : (c : Int) + (q + 1074) * 4503599627370496 = (mg a : Int)) : rU (sgn a) c 1 q = a := by
  by_cases h0 : c = 0
  · subst h0
    obtain ⟨g1, g2⟩ := rU_zero (sgn a) 1 q
    refine bits_ext ?_ g2
    rw [g1]
    rcases h4 with h4 | h4
    · subst h4; omega
    · omega
  · have hl : (c.log2 : Int) ≤ 52 := by
      have : c.log2 ≤ 52 := (fl_log h0).mpr (by show c < 9007199254740992; exact h1)
      omega
    have hq : FP.Core.quantum FP.Core.b64 c 1 q = q := by
      show max (-1074) (FP.Core.leading c 1 + q - 52) = q
      rw [lead_one h0]
      rcases h4 with h4 | h4
      · omega
      · have : 52 ≤ c.log2 := log_ge h4
        omega
    have hn : FP.Core.nearest (FP.Core.unitsNum c q q) (FP.Core.unitsDen 1 q q) = c := by
      unfold FP.Core.unitsNum FP.Core.unitsDen FP.Core.nearest
      rw [Int.sub_self]
      show (if 2 * (c * 1 % (1 * 1)) < 1 * 1 then c * 1 / (1 * 1) else _) = c
      rw [if_pos (by omega)]
      omega
    have hr : rU (sgn a) c 1 q = .ofNat ((sgn a).toNat * 9223372036854775808 + mg a) := by
      unfold rU FP.Core.roundRatio FP.Core.roundAt FP.Core.settle
      rw [if_neg h0, hq, hn, if_pos (show c < 2 ^ FP.Core.b64.p from h1)]
      unfold FP.Core.bound
      rw [if_pos (by rw [fl_qmax]; exact h3)]
      rw [enc_fin]
      by_cases hc : c < 4503599627370496
      · have e9 : c = mg a := by
          rcases h4 with h4 | h4
          · rw [h4] at h5
            have h6 : (c : Int) = (mg a : Int) := by rw [← h5]; simp
            exact Int.ofNat.inj h6
          · exact absurd hc (Nat.not_lt.mpr h4)
        rw [if_pos hc, fl_asm, Nat.zero_mul, Nat.zero_add, e9]
      · have e9 : ((q - -1074).toNat + 1) * 4503599627370496 + (c - 4503599627370496) = mg a := by omega
        rw [if_neg hc, fl_asm, e9]
    rw [hr]
    obtain ⟨g1, g2⟩ := fl_bits (s := sgn a) (m := mg a) (Nat.mod_lt _ (by decide))
    exact bits_ext g1 g2
end FL
