set_option maxRecDepth 100000
/-! ===== draughts are no greater than 16 ===== -/
theorem rU_up2 {s : Bool} {num den : Nat} {e Y : Int} (h0 : num ≠ 0) (h : FP.Core.leading num den + e ≤ Y) (hY : Y ≤ 1020) : mg (rU s num den e) ≤ ((max 0 (Y + 1022)).toNat + 2) * 4503599627370496 := by
  unfold rU FP.Core.roundRatio
  rw [if_neg h0]
  unfold FP.Core.roundAt
  have hq : FP.Core.quantum FP.Core.b64 num den e = max (-1074) (FP.Core.leading num den + e - 52) := rfl
  generalize FP.Core.quantum FP.Core.b64 num den e = q at hq
  generalize FP.Core.nearest (FP.Core.unitsNum num e q) (FP.Core.unitsDen den e q) = n
  have hq1 : q ≤ 968 := by omega
  have hq2 : (q + 1074).toNat ≤ (max 0 (Y + 1022)).toNat := by omega
  have hq3 : (max 0 (Y + 1022)).toNat ≤ 2042 := by omega
  unfold FP.Core.settle
  by_cases hn : n < 2 ^ FP.Core.b64.p
  · rw [if_pos hn]
    have hn' : n < 9007199254740992 := hn
    unfold FP.Core.bound
    rw [if_pos (by rw [fl_qmax]; omega)]
    rw [enc_fin]
    by_cases hc : n < 4503599627370496
    · rw [if_pos hc, fl_asm]
      obtain ⟨g1, g2⟩ := fl_bits (s := s) (m := 0 * 4503599627370496 + n) (by omega)
      rw [g1, Nat.zero_mul, Nat.zero_add]
      exact Nat.le_trans (Nat.le_of_lt hc) (Nat.le_mul_of_pos_left _ (Nat.succ_pos _))
    · rw [if_neg hc, fl_asm]
      generalize hz : (q - -1074).toNat = z
      have hz' : z ≤ (max 0 (Y + 1022)).toNat := by omega
      obtain ⟨g1, g2⟩ := fl_bits (s := s) (m := (z + 1) * 4503599627370496 + (n - 4503599627370496)) (by omega)
      rw [g1]
      generalize (max 0 (Y + 1022)).toNat = w at hz'
      omega
  · rw [if_neg hn]
    unfold FP.Core.bound
    rw [if_pos (by rw [fl_qmax]; omega)]
    rw [enc_fin, fl_tails, if_neg (Nat.lt_irrefl _), fl_asm]
    generalize hz : (q + 1 - -1074).toNat = z
    have hz' : z ≤ (max 0 (Y + 1022)).toNat + 1 := by omega
    obtain ⟨g1, g2⟩ := fl_bits (s := s) (m := (z + 1) * 4503599627370496 + (4503599627370496 - 4503599627370496)) (by omega)
    rw [g1]
    generalize (max 0 (Y + 1022)).toNat = w at hz'
    omega
/-- no less than 0, no more than 16; 32 -/
def V16 (x : UInt64) : Prop := mg x ≤ 4625196817309499392 ∧ sgn x = false
def V32 (x : UInt64) : Prop := mg x ≤ 4629700416936869888 ∧ sgn x = false
theorem units_16 {x : UInt64} (h : V16 x) : ∃ (c : Nat) (q : Int), FP.Core.decode FP.Core.b64 x.toNat = .fin false c q ∧ q ≤ -48 ∧ ∀ e : Int, e ≤ q → FP.Core.inUnits c q e ≤ 2 ^ (4 - e).toNat := by
  obtain ⟨h1, h2⟩ := h
  have hE : eF x ≤ 1027 := by unfold eF; omega
  have hd := dec_mg (a := x) (by omega)
  rw [h2] at hd
  refine ⟨_, _, hd, by split <;> omega, fun e he => ?_⟩
  by_cases h27 : eF x = 1027
  · have hm : mg x % 4503599627370496 = 0 := by unfold eF at h27; omega
    rw [if_neg (by omega), if_neg (by omega)] at *
    rw [hm, h27] at *
    unfold FP.Core.inUnits
    have h9 : (4503599627370496 + 0 : Nat) = 2 ^ 52 := by decide
    rw [h9, pow_add']
    apply Nat.pow_le_pow_right (by decide)
    omega
  · have hq : (if eF x = 0 then (-1074 : Int) else -1074 + ((eF x : Int) - 1)) ≤ -49 := by split <;> omega
    have hc9 : (if eF x = 0 then mg x % 4503599627370496 else 4503599627370496 + mg x % 4503599627370496) < 9007199254740992 := by
      have := Nat.mod_lt (mg x) (show 0 < 4503599627370496 by decide)
      split <;> omega
    generalize (if eF x = 0 then (-1074 : Int) else -1074 + ((eF x : Int) - 1)) = q at *
    generalize (if eF x = 0 then mg x % 4503599627370496 else 4503599627370496 + mg x % 4503599627370496) = c at *
    have hlt := units_lt (c := c) (q := q) (e := e) (Y := 3) (fun hc => by
      have hl : c.log2 ≤ 52 := (fl_log hc).mpr hc9
      omega) he
    have e1 : (3 + 1 - e).toNat = (4 - e).toNat := by omega
    rw [e1] at hlt
    exact Nat.le_of_lt hlt
theorem sum_16 {a b : UInt64} (ha : V16 a) (hb : V16 b) : mg (dAdd a b) ≤ 4629700416936869888 := by
  obtain ⟨c, q, h1, hq, h3⟩ := units_16 ha
  obtain ⟨d, r, g1, hr, g3⟩ := units_16 hb
  rw [dAdd_e]
  show mg (.ofNat (FP.Core.encode FP.Core.b64 (FP.Core.round FP.Core.b64 (FP.Core.exactSum (FP.Core.decode FP.Core.b64 a.toNat) (FP.Core.decode FP.Core.b64 b.toNat))))) ≤ _
  rw [h1, g1]
  show mg (rU (FP.Core.sumSign false false (FP.Core.sumUnits false c q false d r (min q r))) (FP.Core.sumUnits false c q false d r (min q r)).natAbs 1 (min q r)) ≤ _
  have a1 := h3 (min q r) (Int.min_le_left q r)
  have a2 := g3 (min q r) (Int.min_le_right q r)
  have a3 : (FP.Core.sumUnits false c q false d r (min q r)).natAbs ≤ FP.Core.inUnits c q (min q r) + FP.Core.inUnits d r (min q r) := by
    unfold FP.Core.sumUnits
    refine Nat.le_trans (Int.natAbs_add_le _ _) ?_
    rw [sgnd_abs, sgnd_abs]
    exact Nat.le_refl _
  have he : min q r ≤ -48 := Int.le_trans (Int.min_le_left q r) hq
  generalize min q r = e at a1 a2 a3 he
  generalize FP.Core.sumSign false false (FP.Core.sumUnits false c q false d r e) = s'
  generalize (FP.Core.sumUnits false c q false d r e).natAbs = num at a3
  have a4 : num ≤ 2 ^ (5 - e).toNat := by
    have e1 : (5 - e).toNat = (4 - e).toNat + 1 := by omega
    rw [e1, Nat.pow_succ]
    omega
  by_cases h0 : num = 0
  · rw [h0, (rU_zero s' 1 e).1]; omega
  · by_cases hp : num = 2 ^ (5 - e).toNat
    · have h9 := rU_scale (s := s') (n := 1) (k := (5 - e).toNat) (e := 5) (by decide)
      rw [Nat.one_mul, show (5 : Int) - ((5 - e).toNat : Nat) = e by omega] at h9
      rw [hp, h9]
      cases s' <;> decide
    · have a5 : num.log2 ≤ (4 - e).toNat := (fl_log h0).mpr (by
        have e1 : (5 - e).toNat = (4 - e).toNat + 1 := by omega
        rw [← e1]; omega)
      have := rU_up2 (s := s') (den := 1) (e := e) (Y := 4) h0 (by rw [lead_one h0]; omega) (by decide)
      exact this
theorem half_32 {x : UInt64} (h : V32 x) : mg (dDiv x (kD 4611686018427387904)) ≤ 4625196817309499392 := by
  obtain ⟨h1, h2⟩ := h
  have hE : eF x ≤ 1028 := by unfold eF; omega
  have g1 : FP.Core.decode FP.Core.b64 (kD 4611686018427387904).toNat = .fin false 4503599627370496 (-51) := by
    rw [kD_e]
    decide
  rw [dDiv_e]
  by_cases h28 : eF x = 1028
  · have hm : x = 4629700416936869888 := by
      apply bits_ext
      · unfold eF at h28
        show mg x = 4629700416936869888
        omega
      · rw [h2]; decide
    rw [hm]
    rw [kD_e]
    decide
  · obtain ⟨c, q, d1, -, -, -, d2, -⟩ := fl_dec (a := x) (by omega)
    rw [div_as d1 g1 (by decide)]
    by_cases h0 : c = 0
    · rw [h0, (rU_zero _ _ _).1]; omega
    · have a1 := d2 h0
      have a2 := lead_le c 4503599627370496
      have e52 : Nat.log2 4503599627370496 = 52 := by decide
      rw [e52] at a2
      exact rU_up2 (Y := 3) h0 (by omega) (by decide)
