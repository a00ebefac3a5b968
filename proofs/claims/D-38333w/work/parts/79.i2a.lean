set_option maxRecDepth 4000
/-! ===== sums of whole numbers are exact ===== -/
theorem near_sc {a b t : Nat} (ht : 0 < t) : FP.Core.nearest (a * t) (b * t) = FP.Core.nearest a b := by
  unfold FP.Core.nearest
  rw [Nat.mul_mod_mul_right, Nat.mul_div_mul_right _ _ ht]
  have e1 : 2 * (a % b * t) = 2 * (a % b) * t := by rw [Nat.mul_assoc]
  rw [e1]
  have h1 : (2 * (a % b) * t < b * t) ↔ (2 * (a % b) < b) := Nat.mul_lt_mul_right ht
  have h2 : (b * t < 2 * (a % b) * t) ↔ (b < 2 * (a % b)) := Nat.mul_lt_mul_right ht
  by_cases c1 : 2 * (a % b) < b
  · rw [if_pos (h1.mpr c1), if_pos c1]
  · rw [if_neg (fun h => c1 (h1.mp h)), if_neg c1]
    by_cases c2 : b < 2 * (a % b)
    · rw [if_pos (h2.mpr c2), if_pos c2]
    · rw [if_neg (fun h => c2 (h2.mp h)), if_neg c2]
theorem log_sc {n k : Nat} (h : n ≠ 0) : (n * 2 ^ k).log2 = n.log2 + k := by
  have hp := Nat.two_pow_pos k
  have h1 : n * 2 ^ k ≠ 0 := Nat.mul_ne_zero h (by omega)
  have l1 : n < 2 ^ (n.log2 + 1) := (fl_log h).mp (Nat.le_refl _)
  have l2 := Nat.log2_self_le h
  have u : (n * 2 ^ k).log2 ≤ n.log2 + k := (fl_log h1).mpr (by
    rw [show n.log2 + k + 1 = n.log2 + 1 + k by omega, Nat.pow_add]
    exact (Nat.mul_lt_mul_right hp).mpr l1)
  have l : n.log2 + k ≤ (n * 2 ^ k).log2 := log_ge (by
    rw [Nat.pow_add]
    exact Nat.mul_le_mul_right _ l2)
  omega
theorem rU_scale {s : Bool} {n k : Nat} {e : Int} (h0 : n ≠ 0) : rU s (n * 2 ^ k) 1 (e - k) = rU s n 1 e := by
  have hp := Nat.two_pow_pos k
  have h1 : n * 2 ^ k ≠ 0 := Nat.mul_ne_zero h0 (by omega)
  have hq : FP.Core.quantum FP.Core.b64 (n * 2 ^ k) 1 (e - k) = FP.Core.quantum FP.Core.b64 n 1 e := by
    show max (-1074) (FP.Core.leading (n * 2 ^ k) 1 + (e - k) - 52) = max (-1074) (FP.Core.leading n 1 + e - 52)
    rw [lead_one h1, lead_one h0, log_sc h0]
    congr 1
    omega
  unfold rU FP.Core.roundRatio
  rw [if_neg h1, if_neg h0, hq]
  unfold FP.Core.roundAt
  generalize FP.Core.quantum FP.Core.b64 n 1 e = q
  congr 3
  unfold FP.Core.unitsNum FP.Core.unitsDen
  rw [Nat.one_mul, Nat.one_mul]
  rcases Int.le_total q (e - k) with h | h
  · have e1 : (q - (e - k)).toNat = 0 := by omega
    have e2 : (q - e).toNat = 0 := by omega
    rw [e1, e2, Nat.mul_assoc, ← Nat.pow_add]
    congr 3
    omega
  · have e1 : (e - k - q).toNat = 0 := by omega
    rw [e1, Nat.pow_zero, Nat.mul_one]
    rcases Int.le_total q e with h2 | h2
    · have e2 : (q - e).toNat = 0 := by omega
      have e3 : k = (e - q).toNat + (q - (e - k)).toNat := by omega
      rw [e2, Nat.pow_zero]
      generalize (q - (e - k)).toNat = t at e3
      rw [e3, Nat.pow_add, ← Nat.mul_assoc]
      have := near_sc (a := n * 2 ^ (e - q).toNat) (b := 1) (Nat.two_pow_pos t)
      rw [Nat.one_mul] at this
      exact this
    · have e2 : (e - q).toNat = 0 := by omega
      have e3 : (q - (e - k)).toNat = (q - e).toNat + k := by omega
      rw [e2, e3, Nat.pow_zero, Nat.mul_one, Nat.pow_add]
      exact near_sc hp
/-- what a whole number's double stands for -/
theorem i2D_dec {n : Nat} (h : n < 2147483648) : ∃ q : Int, q ≤ 0 ∧ -1074 ≤ q ∧ FP.Core.decode FP.Core.b64 (i2D (nI n)).toNat = .fin false (n * 2 ^ (-q).toNat) q := by
  have hi : i2D (nI n) = rU false n 1 0 := by
    rw [i2D_e, i2d_as, nI_toInt h]
    have : ¬ ((n : Int) < 0) := by omega
    rw [decide_eq_false this, Int.natAbs_natCast]
  by_cases h0 : n = 0
  · subst h0
    refine ⟨-1074, by decide, by decide, ?_⟩
    rw [i2D_e]
    decide
  · have hL : n.log2 ≤ 30 := (fl_log h0).mpr (by show n < 2147483648; exact h)
    have l1 : n < 2 ^ (n.log2 + 1) := (fl_log h0).mp (Nat.le_refl _)
    have l2 := Nat.log2_self_le h0
    generalize hx : n.log2 = x at hL l1 l2
    have hc1 : 4503599627370496 ≤ n * 2 ^ (52 - x) := by
      have : 2 ^ x * 2 ^ (52 - x) = 4503599627370496 := by rw [← Nat.pow_add, show x + (52 - x) = 52 by omega]
      rw [← this]
      exact Nat.mul_le_mul_right _ l2
    have hc2 : n * 2 ^ (52 - x) < 9007199254740992 := by
      have : 2 ^ (x + 1) * 2 ^ (52 - x) = 9007199254740992 := by rw [← Nat.pow_add, show x + 1 + (52 - x) = 53 by omega]
      rw [← this]
      exact (Nat.mul_lt_mul_right (Nat.two_pow_pos _)).mpr l1
    have hsc : rU false (n * 2 ^ (52 - x)) 1 (0 - ((52 - x : Nat) : Int)) = rU false n 1 0 := rU_scale h0
    generalize hC : n * 2 ^ (52 - x) = C at hc1 hc2 hsc
    obtain ⟨b1, b2⟩ := fl_bits (s := false) (m := (x + 1023) * 4503599627370496 + (C - 4503599627370496)) (by omega)
    generalize hz : (UInt64.ofNat (false.toNat * 9223372036854775808 + ((x + 1023) * 4503599627370496 + (C - 4503599627370496)))) = z at b1 b2
    have eE : eF z = x + 1023 := by unfold eF; rw [b1]; omega
    have hm : mg z % 4503599627370496 = C - 4503599627370496 := by rw [b1]; omega
    have hd := dec_mg (a := z) (by omega)
    rw [if_neg (by omega), if_neg (by omega), hm, b2, eE, show 4503599627370496 + (C - 4503599627370496) = C by omega] at hd
    have hq : (-1074 + (((x + 1023 : Nat) : Int) - 1)) = 0 - ((52 - x : Nat) : Int) := by omega
    rw [hq] at hd
    have hid := rU_id (a := z) (by omega) (c := C) (q := 0 - ((52 - x : Nat) : Int)) (by rw [b2]; exact hd) (by omega) (by omega) (by omega) (Or.inr hc1) (by rw [b1]; omega)
    rw [b2, hsc, ← hi] at hid
    refine ⟨0 - ((52 - x : Nat) : Int), by omega, by omega, ?_⟩
    have e2 : n * 2 ^ (-(0 - ((52 - x : Nat) : Int))).toNat = C := by rw [← hC, show (-(0 - ((52 - x : Nat) : Int))).toNat = 52 - x by omega]
    rw [hid, hd, e2]
theorem i2D_add {a b : Nat} (h : a + b < 2147483648) : dAdd (i2D (nI a)) (i2D (nI b)) = i2D (nI (a + b)) := by
  obtain ⟨q, q1, q2, hq⟩ := i2D_dec (n := a) (by omega)
  obtain ⟨r, r1, r2, hr⟩ := i2D_dec (n := b) (by omega)
  have hi : i2D (nI (a + b)) = rU false (a + b) 1 0 := by
    rw [i2D_e, i2d_as, nI_toInt h]
    have : ¬ (((a + b : Nat) : Int) < 0) := by omega
    rw [decide_eq_false this, Int.natAbs_natCast]
  rw [dAdd_e, sum_as hq hr, hi]
  have u1 : FP.Core.inUnits (a * 2 ^ (-q).toNat) q (min q r) = a * 2 ^ (-(min q r)).toNat := by
    unfold FP.Core.inUnits
    rw [Nat.mul_assoc, ← Nat.pow_add]
    congr 2
    omega
  have u2 : FP.Core.inUnits (b * 2 ^ (-r).toNat) r (min q r) = b * 2 ^ (-(min q r)).toNat := by
    unfold FP.Core.inUnits
    rw [Nat.mul_assoc, ← Nat.pow_add]
    congr 2
    omega
  have us : FP.Core.sumUnits false (a * 2 ^ (-q).toNat) q false (b * 2 ^ (-r).toNat) r (min q r) = (((a + b) * 2 ^ (-(min q r)).toNat : Nat) : Int) := by
    show ((FP.Core.inUnits (a * 2 ^ (-q).toNat) q (min q r) : Nat) : Int) + ((FP.Core.inUnits (b * 2 ^ (-r).toNat) r (min q r) : Nat) : Int) = _
    rw [u1, u2, Nat.add_mul]
    rfl
  rw [us, Int.natAbs_natCast]
  have hs : FP.Core.sumSign false false (((a + b) * 2 ^ (-(min q r)).toNat : Nat) : Int) = false := by
    unfold FP.Core.sumSign
    split
    · rfl
    · rw [decide_eq_false_iff_not]; omega
  rw [hs]
  by_cases h0 : a + b = 0
  · rw [h0, Nat.zero_mul]
    exact bits_ext ((rU_zero false 1 _).1.trans (rU_zero false 1 _).1.symm) ((rU_zero false 1 _).2.trans (rU_zero false 1 _).2.symm)
  · have := rU_scale (s := false) (n := a + b) (k := (-(min q r)).toNat) (e := 0) h0
    rw [show (0 : Int) - ((-(min q r)).toNat : Int) = min q r by omega] at this
    exact this
theorem i2D_0 : i2D (nI 0) = FP.dconst0 := by rw [i2D_e]; decide
theorem i2D_sq {d : Nat} (h : d ≤ 12) : i2D (aMul (nI d) (nI d)) = dMul (i2D (nI d)) (i2D (nI d)) := by
  rw [i2D_e, i2D_e, dMul_e, aMul_e]
  have : ∀ d, d < 13 → FP.i2d (nI d * nI d) = FP.dmul (FP.i2d (nI d)) (FP.i2d (nI d)) := by decide +kernel
  exact this d (by omega)
