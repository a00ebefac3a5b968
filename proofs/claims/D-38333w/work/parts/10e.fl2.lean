/-! ===== doubles: signs, sums of what isn't negative, numbers that a reckoning leaves as they are, comparisons ===== -/
section FL2
/-- the rounded ratio but for its sign -/
theorem rU_form (num den : Nat) (e : Int) : ∃ m, m < 9223372036854775808 ∧ ∀ s, rU s num den e = .ofNat (s.toNat * 9223372036854775808 + m) := by
  by_cases h0 : num = 0
  · subst h0
    refine ⟨0, by decide, fun s => ?_⟩
    unfold rU FP.Core.roundRatio
    rw [if_pos rfl, enc_fin, if_pos (by decide), fl_asm]
  · have hq : -1074 ≤ FP.Core.quantum FP.Core.b64 num den e := by
      show -1074 ≤ max (-1074) _
      omega
    have hun : ∀ s, rU s num den e = .ofNat (FP.Core.encode FP.Core.b64 (FP.Core.settle FP.Core.b64 s (FP.Core.nearest (FP.Core.unitsNum num e (FP.Core.quantum FP.Core.b64 num den e)) (FP.Core.unitsDen den e (FP.Core.quantum FP.Core.b64 num den e))) (FP.Core.quantum FP.Core.b64 num den e))) := by
      intro s
      unfold rU FP.Core.roundRatio
      rw [if_neg h0]
      rfl
    generalize FP.Core.nearest (FP.Core.unitsNum num e (FP.Core.quantum FP.Core.b64 num den e)) (FP.Core.unitsDen den e (FP.Core.quantum FP.Core.b64 num den e)) = n at hun
    generalize FP.Core.quantum FP.Core.b64 num den e = q at hq hun
    have hinf : ∀ s, FP.Core.encode FP.Core.b64 (.inf s) = s.toNat * 9223372036854775808 + 9218868437227405312 := by
      intro s
      show FP.Core.assemble FP.Core.b64 s 2047 0 = _
      rw [fl_asm]
    by_cases hn : n < 9007199254740992
    · by_cases hm : q ≤ 971
      · by_cases hc : n < 4503599627370496
        · refine ⟨n, by omega, fun s => ?_⟩
          rw [hun]
          unfold FP.Core.settle FP.Core.bound
          rw [if_pos (show n < 2 ^ FP.Core.b64.p from hn), if_pos (show q ≤ FP.Core.b64.qmax from hm), enc_fin, if_pos hc, fl_asm, Nat.zero_mul, Nat.zero_add]
        · refine ⟨((q - -1074).toNat + 1) * 4503599627370496 + (n - 4503599627370496), by omega, fun s => ?_⟩
          rw [hun]
          unfold FP.Core.settle FP.Core.bound
          rw [if_pos (show n < 2 ^ FP.Core.b64.p from hn), if_pos (show q ≤ FP.Core.b64.qmax from hm), enc_fin, if_neg hc, fl_asm]
      · refine ⟨9218868437227405312, by decide, fun s => ?_⟩
        rw [hun]
        unfold FP.Core.settle FP.Core.bound
        rw [if_pos (show n < 2 ^ FP.Core.b64.p from hn), if_neg (show ¬ q ≤ FP.Core.b64.qmax from hm), hinf]
    · by_cases hm : q + 1 ≤ 971
      · refine ⟨((q + 1 - -1074).toNat + 1) * 4503599627370496 + (4503599627370496 - 4503599627370496), by omega, fun s => ?_⟩
        rw [hun]
        unfold FP.Core.settle FP.Core.bound
        rw [if_neg (show ¬ n < 2 ^ FP.Core.b64.p from hn), if_pos (show q + 1 ≤ FP.Core.b64.qmax from hm), enc_fin, fl_tails, if_neg (Nat.lt_irrefl _), fl_asm]
      · refine ⟨9218868437227405312, by decide, fun s => ?_⟩
        rw [hun]
        unfold FP.Core.settle FP.Core.bound
        rw [if_neg (show ¬ n < 2 ^ FP.Core.b64.p from hn), if_neg (show ¬ q + 1 ≤ FP.Core.b64.qmax from hm), hinf]
theorem rU_sgn (s : Bool) (num den : Nat) (e : Int) : sgn (rU s num den e) = s := by
  obtain ⟨m, h1, h2⟩ := rU_form num den e
  rw [h2]
  exact (fl_bits h1).2
theorem rU_mg (s t : Bool) (num den : Nat) (e : Int) : mg (rU s num den e) = mg (rU t num den e) := by
  obtain ⟨m, h1, h2⟩ := rU_form num den e
  rw [h2, h2, (fl_bits h1).1, (fl_bits h1).1]
theorem sum_as {a b : UInt64} {s t : Bool} {c d : Nat} {q r : Int} (h1 : FP.Core.decode FP.Core.b64 a.toNat = .fin s c q) (g1 : FP.Core.decode FP.Core.b64 b.toNat = .fin t d r) : FP.dadd a b = rU (FP.Core.sumSign s t (FP.Core.sumUnits s c q t d r (min q r))) (FP.Core.sumUnits s c q t d r (min q r)).natAbs 1 (min q r) := by
  show UInt64.ofNat (FP.Core.encode FP.Core.b64 (FP.Core.round FP.Core.b64 (FP.Core.exactSum (FP.Core.decode FP.Core.b64 a.toNat) (FP.Core.decode FP.Core.b64 b.toNat)))) = _
  rw [h1, g1]
  rfl
/-- a sum of two that aren't negative -/
theorem add_nn {a b : UInt64} {K L : Nat} (ha : eF a ≤ K) (hb : eF b ≤ K) (hK : K ≤ 2042) (sa : sgn a = false) (sb : sgn b = false) : sgn (FP.dadd a b) = false ∧ (1 ≤ L → L ≤ eF a ∨ L ≤ eF b → L ≤ eF (FP.dadd a b)) := by
  obtain ⟨c, q, h1, -, -, -, h2, h3, -⟩ := fl_dec (a := a) (by omega)
  obtain ⟨d, r, g1, -, -, -, g2, g3, -⟩ := fl_dec (a := b) (by omega)
  rw [sa] at h1
  rw [sb] at g1
  rw [sum_as h1 g1]
  have hs : FP.Core.sumUnits false c q false d r (min q r) = ((FP.Core.inUnits c q (min q r) + FP.Core.inUnits d r (min q r) : Nat) : Int) := by
    unfold FP.Core.sumUnits FP.Core.signed
    simp
  rw [hs, Int.natAbs_natCast]
  have hsg : FP.Core.sumSign false false ((FP.Core.inUnits c q (min q r) + FP.Core.inUnits d r (min q r) : Nat) : Int) = false := by
    unfold FP.Core.sumSign
    split
    · rfl
    · rw [decide_eq_false_iff_not]; omega
  rw [hsg]
  refine ⟨rU_sgn _ _ _ _, fun hL ho => ?_⟩
  have u1 := units_lt (Y := (K : Int) - 1023) (fun hc => by have := h2 hc; omega) (Int.min_le_left q r)
  have u2 := units_lt (Y := (K : Int) - 1023) (fun hc => by have := g2 hc; omega) (Int.min_le_right q r)
  have hlow : ∃ (x : Nat) (y : Int), 2 ^ x ≤ FP.Core.inUnits c q (min q r) + FP.Core.inUnits d r (min q r) ∧ (x : Int) + min q r = y ∧ (L : Int) - 1023 ≤ y := by
    rcases ho with ho | ho
    · obtain ⟨c1, c2⟩ := h3 (by omega)
      refine ⟨c.log2 + (q - min q r).toNat, (c.log2 : Int) + q, ?_, by omega, by omega⟩
      refine Nat.le_trans ?_ (Nat.le_add_right _ _)
      unfold FP.Core.inUnits
      rw [Nat.pow_add]
      exact Nat.mul_le_mul_right _ (Nat.log2_self_le (by omega))
    · obtain ⟨d1, d2⟩ := g3 (by omega)
      refine ⟨d.log2 + (r - min q r).toNat, (d.log2 : Int) + r, ?_, by omega, by omega⟩
      refine Nat.le_trans ?_ (Nat.le_add_left _ _)
      unfold FP.Core.inUnits
      rw [Nat.pow_add]
      exact Nat.mul_le_mul_right _ (Nat.log2_self_le (by omega))
  obtain ⟨x, y, l1, l2, l3⟩ := hlow
  generalize min q r = e at u1 u2 l1 l2
  have hup : FP.Core.inUnits c q e + FP.Core.inUnits d r e < 2 ^ (((K : Int) - 1023 + 1 - e).toNat + 1) := by
    rw [Nat.pow_succ]
    omega
  have hneg : ¬ (K : Int) - 1023 + 1 - e < 0 ∨ FP.Core.inUnits c q e + FP.Core.inUnits d r e = 0 := by
    by_cases hp : (K : Int) - 1023 + 1 - e < 0
    · right
      have e8 : ((K : Int) - 1023 + 1 - e).toNat = 0 := by omega
      rw [e8] at u1 u2
      omega
    · exact Or.inl hp
  generalize FP.Core.inUnits c q e + FP.Core.inUnits d r e = num at l1 hup hneg
  have hn0 : num ≠ 0 := by have := Nat.two_pow_pos x; omega
  have hx : x ≤ num.log2 := log_ge l1
  have hy : num.log2 ≤ ((K : Int) - 1023 + 1 - e).toNat := (fl_log hn0).mpr hup
  have hp : ¬ (K : Int) - 1023 + 1 - e < 0 := hneg.resolve_right hn0
  refine eF_lo ?_
  have := rU_lo (s := false) (num := num) (den := 1) (e := e) (Y := (L : Int) - 1023) hn0 (by decide) (by rw [lead_one hn0]; omega) (by omega) (by rw [lead_one hn0]; omega)
  have e9 : ((L : Int) - 1023 + 1023).toNat = L := by omega
  rw [e9] at this
  exact this
/-- without its sign -/
theorem abs_bits (a : UInt64) : mg (a &&& 0x7fffffffffffffff) = mg a ∧ sgn (a &&& 0x7fffffffffffffff) = false := by
  have h2 : (a &&& 0x7fffffffffffffff).toNat = a.toNat % 9223372036854775808 := by
    rw [UInt64.toNat_and]
    exact Nat.and_two_pow_sub_one_eq_mod _ 63
  unfold mg sgn
  rw [h2]
  refine ⟨by omega, ?_⟩
  rw [decide_eq_false_iff_not]
  omega
theorem mul_sgn {a b : UInt64} (ha : eF a < 2047) (hb : eF b < 2047) : sgn (FP.dmul a b) = (sgn a != sgn b) := by
  obtain ⟨c, q, h1, -⟩ := fl_dec ha
  obtain ⟨d, r, g1, -⟩ := fl_dec hb
  rw [mul_as h1 g1]
  exact rU_sgn _ _ _ _
theorem div_sgn {a b : UInt64} (ha : eF a < 2047) (hb : eF b < 2047) (hb1 : 1 ≤ eF b) : sgn (FP.ddiv a b) = (sgn a != sgn b) := by
  obtain ⟨c, q, h1, -⟩ := fl_dec ha
  obtain ⟨d, r, g1, -, -, -, -, g3, -⟩ := fl_dec hb
  obtain ⟨d1, -⟩ := g3 hb1
  rw [div_as h1 g1 (by omega)]
  exact rU_sgn _ _ _ _
theorem i2d_sgn (i : Int32) : sgn (FP.i2d i) = decide (i.toInt < 0) := by
  rw [i2d_as]
  exact rU_sgn _ _ _ _
/-- what is not less than a number above 0 -/
theorem cmp_ge {a b : UInt64} (ha : eF a < 2047) (hb : eF b < 2047) (hb1 : 1 ≤ eF b) (sb : sgn b = false) (h : FP.dcmp a b ≠ some .lt) : sgn a = false ∧ eF b ≤ eF a := by
  obtain ⟨c, q, h1, -, -, -, h2, h3, -⟩ := fl_dec ha
  obtain ⟨d, r, g1, -, -, -, g2, g3, -⟩ := fl_dec hb
  obtain ⟨d1, d2⟩ := g3 hb1
  have hc : FP.dcmp a b = FP.Core.order (FP.Core.decode FP.Core.b64 a.toNat) (FP.Core.decode FP.Core.b64 b.toNat) := rfl
  rw [hc, h1, g1, sb] at h
  have h' : ¬ FP.Core.signed (sgn a) (FP.Core.inUnits c q (min q r)) < FP.Core.signed false (FP.Core.inUnits d r (min q r)) := by
    intro hlt
    apply h
    show some (compareOfLessAndEq _ _) = some .lt
    unfold compareOfLessAndEq
    rw [if_pos hlt]
  have hd : FP.Core.signed false (FP.Core.inUnits d r (min q r)) = (FP.Core.inUnits d r (min q r) : Int) := rfl
  have hdp : 0 < FP.Core.inUnits d r (min q r) := by
    unfold FP.Core.inUnits
    exact Nat.mul_pos (by omega) (Nat.two_pow_pos _)
  rw [hd] at h'
  have hsa : sgn a = false := by
    cases hs : sgn a with
    | false => rfl
    | true =>
      rw [hs] at h'
      exfalso
      apply h'
      show -(FP.Core.inUnits c q (min q r) : Int) < _
      omega
  refine ⟨hsa, ?_⟩
  rw [hsa] at h'
  have h8 : FP.Core.inUnits d r (min q r) ≤ FP.Core.inUnits c q (min q r) := by
    have h9 : ¬ (FP.Core.inUnits c q (min q r) : Int) < (FP.Core.inUnits d r (min q r) : Int) := h'
    omega
  have hcne : c ≠ 0 := by
    intro e
    rw [e] at h8
    unfold FP.Core.inUnits at h8 hdp
    rw [Nat.zero_mul] at h8
    omega
  have u1 := units_lt (c := c) (q := q) (e := min q r) (Y := (c.log2 : Int) + q) (fun _ => Int.le_refl _) (Int.min_le_left q r)
  have l1 : 2 ^ (d.log2 + (r - min q r).toNat) ≤ FP.Core.inUnits d r (min q r) := by
    unfold FP.Core.inUnits
    rw [Nat.pow_add]
    exact Nat.mul_le_mul_right _ (Nat.log2_self_le (by omega))
  have l2 : 2 ^ (d.log2 + (r - min q r).toNat) < 2 ^ ((c.log2 : Int) + q + 1 - min q r).toNat := Nat.lt_of_le_of_lt (Nat.le_trans l1 h8) u1
  have l3 := (Nat.pow_lt_pow_iff_right (by decide : 1 < 2)).mp l2
  have := h2 hcne
  omega
/-- a number that is there, scaled, is rounded to itself -/
theorem rU_sc {a : UInt64} (h : eF a < 2047) {c : Nat} {q : Int} (h1 : c < 9007199254740992) (h2 : -1074 ≤ q) (h3 : q ≤ 971) (h4 : q = -1074 ∨ 4503599627370496 ≤ c) (h5 : (c : Int) + (q + 1074) * 4503599627370496 = (mg a : Int)) (k : Nat) : rU (sgn a) (c * 2 ^ k) 1 (q - k) = a := by
  by_cases h0 : c = 0
  · subst h0
    rw [Nat.zero_mul]
    obtain ⟨g1, g2⟩ := rU_zero (sgn a) 1 (q - k)
    refine bits_ext ?_ g2
    rw [g1]
    rcases h4 with h4 | h4
    · subst h4; omega
    · omega
  · have hck : c * 2 ^ k ≠ 0 := Nat.mul_ne_zero h0 (Nat.pos_iff_ne_zero.mp (Nat.two_pow_pos k))
    have hlog : (c * 2 ^ k).log2 = c.log2 + k := by
      apply Nat.le_antisymm
      · apply (fl_log hck).mpr
        have : c < 2 ^ (c.log2 + 1) := Nat.lt_log2_self
        calc c * 2 ^ k < 2 ^ (c.log2 + 1) * 2 ^ k := Nat.mul_lt_mul_of_pos_right this (Nat.two_pow_pos _)
          _ = 2 ^ (c.log2 + k + 1) := by rw [pow_add']; congr 1; omega
      · apply log_ge
        rw [Nat.pow_add]
        exact Nat.mul_le_mul_right _ (Nat.log2_self_le h0)
    have hl : (c.log2 : Int) ≤ 52 := by
      have : c.log2 ≤ 52 := (fl_log h0).mpr (by show c < 9007199254740992; exact h1)
      omega
    have hq : FP.Core.quantum FP.Core.b64 (c * 2 ^ k) 1 (q - k) = q := by
      show max (-1074) (FP.Core.leading (c * 2 ^ k) 1 + (q - k) - 52) = q
      rw [lead_one hck, hlog]
      rcases h4 with h4 | h4
      · omega
      · have : 52 ≤ c.log2 := log_ge h4
        omega
    have hn : FP.Core.nearest (FP.Core.unitsNum (c * 2 ^ k) (q - k) q) (FP.Core.unitsDen 1 (q - k) q) = c := by
      unfold FP.Core.unitsNum FP.Core.unitsDen FP.Core.nearest
      have e1 : ((q - (k : Int)) - q).toNat = 0 := by omega
      have e2 : (q - (q - (k : Int))).toNat = k := by omega
      rw [e1, e2, Nat.pow_zero, Nat.mul_one, Nat.one_mul, Nat.mul_mod_left, if_pos (by have := Nat.two_pow_pos k; omega), Nat.mul_div_cancel _ (Nat.two_pow_pos k)]
    have hr : rU (sgn a) (c * 2 ^ k) 1 (q - k) = .ofNat ((sgn a).toNat * 9223372036854775808 + mg a) := by
      unfold rU FP.Core.roundRatio FP.Core.roundAt FP.Core.settle
      rw [if_neg hck, hq, hn, if_pos (show c < 2 ^ FP.Core.b64.p from h1)]
      unfold FP.Core.bound
      rw [if_pos (by rw [fl_qmax]; exact h3)]
      rw [enc_fin]
      by_cases hc : c < 4503599627370496
      · have e9 : c = mg a := by
          rcases h4 with h4 | h4
          · rw [h4] at h5
            have h6 : (c : Int) = (mg a : Int) := by rw [← h5]; simp
            exact Int.ofNat.inj h6
          · exact absurd hc (Nat.not_lt.mpr h4)
        rw [if_pos hc, fl_asm, Nat.zero_mul, Nat.zero_add, e9]
      · have e9 : ((q - -1074).toNat + 1) * 4503599627370496 + (c - 4503599627370496) = mg a := by omega
        rw [if_neg hc, fl_asm, e9]
    rw [hr]
    obtain ⟨g1, g2⟩ := fl_bits (s := sgn a) (m := mg a) (Nat.mod_lt _ (by decide))
    exact bits_ext g1 g2
/-- nothing is added -/
theorem add_zero {a : UInt64} (h : eF a < 2047) (hz : sgn a = false ∨ mg a ≠ 0) : FP.dadd a 0 = a := by
  obtain ⟨c, q, h1, h2, h3, h4, -, -, h7, h8⟩ := fl_dec h
  have g1 : FP.Core.decode FP.Core.b64 (0 : UInt64).toNat = .fin false 0 (-1074) := by decide +kernel
  rw [sum_as h1 g1]
  have em : min q (-1074) = q - ((q + 1074).toNat : Int) := by omega
  have eu : FP.Core.sumUnits (sgn a) c q false 0 (-1074) (min q (-1074)) = FP.Core.signed (sgn a) (c * 2 ^ (q + 1074).toNat) := by
    unfold FP.Core.sumUnits FP.Core.inUnits
    rw [Nat.zero_mul]
    have e1 : (q - min q (-1074)).toNat = (q + 1074).toNat := by omega
    rw [e1]
    show _ + ((0 : Nat) : Int) = _
    simp
  rw [eu, sgnd_abs, em]
  have es : FP.Core.sumSign (sgn a) false (FP.Core.signed (sgn a) (c * 2 ^ (q + 1074).toNat)) = sgn a := by
    have hp := Nat.two_pow_pos (q + 1074).toNat
    unfold FP.Core.sumSign FP.Core.signed
    cases hs : sgn a with
    | false =>
      show (if ((c * 2 ^ (q + 1074).toNat : Nat) : Int) = 0 then false && false else decide (((c * 2 ^ (q + 1074).toNat : Nat) : Int) < 0)) = false
      split
      · rfl
      · rw [decide_eq_false_iff_not]
        exact Int.not_lt.mpr (Int.natCast_nonneg _)
    | true =>
      have hm : mg a ≠ 0 := hz.resolve_left (by rw [hs]; simp)
      have hc : c ≠ 0 := by
        intro e
        subst e
        rcases h7 with h7 | h7
        · subst h7; exact hm (by omega)
        · omega
      have hcp : 0 < c * 2 ^ (q + 1074).toNat := Nat.mul_pos (Nat.pos_of_ne_zero hc) hp
      generalize c * 2 ^ (q + 1074).toNat = z at hcp
      rw [if_neg (by simp; omega)]
      simp
      omega
  rw [es]
  exact rU_sc h h2 h3 h4 h7 h8 _
theorem one_mul' {a : UInt64} (h : eF a < 2047) : FP.dmul 0x3ff0000000000000 a = a := by
  obtain ⟨c, q, h1, h2, h3, h4, -, -, h7, h8⟩ := fl_dec h
  have g1 : FP.Core.decode FP.Core.b64 (0x3ff0000000000000 : UInt64).toNat = .fin false 4503599627370496 (-52) := by decide +kernel
  rw [mul_as g1 h1]
  have e1 : (false != sgn a) = sgn a := by cases sgn a <;> rfl
  have e2 : 4503599627370496 * c = c * 2 ^ 52 := by rw [Nat.mul_comm]
  have e3 : -52 + q = q - ((52 : Nat) : Int) := by omega
  rw [e1, e2, e3]
  exact rU_sc h h2 h3 h4 h7 h8 52
/-- the amount of a quotient -/
theorem dec_abs {a : UInt64} {s : Bool} {c : Nat} {q : Int} (h : FP.Core.decode FP.Core.b64 a.toNat = .fin s c q) : FP.Core.decode FP.Core.b64 (a &&& 0x7fffffffffffffff).toNat = .fin false c q := by
  have h2 : (a &&& 0x7fffffffffffffff).toNat = a.toNat % 9223372036854775808 := by
    rw [UInt64.toNat_and]
    exact Nat.and_two_pow_sub_one_eq_mod _ 63
  have hE : FP.Core.fieldE FP.Core.b64 (a &&& 0x7fffffffffffffff).toNat = FP.Core.fieldE FP.Core.b64 a.toNat := by
    rw [fl_E, fl_E]
    unfold eF
    rw [(abs_bits a).1]
  have hT : FP.Core.fieldT FP.Core.b64 (a &&& 0x7fffffffffffffff).toNat = FP.Core.fieldT FP.Core.b64 a.toNat := by
    rw [h2]
    show a.toNat % 9223372036854775808 % 4503599627370496 = a.toNat % 4503599627370496
    omega
  have hS : FP.Core.fieldS FP.Core.b64 (a &&& 0x7fffffffffffffff).toNat = false := by rw [fl_S]; exact (abs_bits a).2
  unfold FP.Core.decode at h ⊢
  rw [hE, hT, hS]
  split at h
  · split at h <;> exact absurd h (by simp)
  · next h9 =>
    rw [if_neg h9]
    split at h
    · next h8 => rw [if_pos h8]; cases h; rfl
    · next h8 => rw [if_neg h8]; cases h; rfl
theorem abs_div {a b : UInt64} (ha : eF a < 2047) (hb : eF b < 2047) (hb1 : 1 ≤ eF b) (sb : sgn b = false) : FP.ddiv (a &&& 0x7fffffffffffffff) b = FP.ddiv a b &&& 0x7fffffffffffffff := by
  obtain ⟨c, q, h1, -⟩ := fl_dec ha
  obtain ⟨d, r, g1, -, -, -, -, g3, -⟩ := fl_dec hb
  obtain ⟨d1, -⟩ := g3 hb1
  rw [div_as (dec_abs h1) g1 (by omega), div_as h1 g1 (by omega)]
  refine bits_ext ?_ ?_
  · rw [(abs_bits _).1]
    exact rU_mg _ _ _ _ _
  · rw [(abs_bits _).2, rU_sgn, sb]
    rfl
end FL2
