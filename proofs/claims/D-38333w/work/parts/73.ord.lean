set_option maxRecDepth 4000
/-! ===== the order of numbers that aren't negative is that of their bits ===== -/
theorem dec_mg {a : UInt64} (h : eF a < 2047) : FP.Core.decode FP.Core.b64 a.toNat = .fin (sgn a) (if eF a = 0 then mg a % 4503599627370496 else 4503599627370496 + mg a % 4503599627370496) (if eF a = 0 then -1074 else -1074 + ((eF a : Int) - 1)) := by
  have hE := fl_E a
  have hS := fl_S a
  have hT : FP.Core.fieldT FP.Core.b64 a.toNat = mg a % 4503599627370496 := by
    show a.toNat % 4503599627370496 = a.toNat % 9223372036854775808 % 4503599627370496
    omega
  unfold FP.Core.decode
  rw [hE, hS, hT, fl_exps, fl_tails, fl_qmin]
  rw [if_neg (by omega)]
  by_cases h0 : eF a = 0
  · rw [if_pos h0, if_pos h0, if_pos h0]
  · rw [if_neg h0, if_neg h0, if_neg h0]
theorem dec_inf {a : UInt64} (h : eF a = 2047) (hN : isN a) : FP.Core.decode FP.Core.b64 a.toNat = .inf (sgn a) := by
  have hE := fl_E a
  have hS := fl_S a
  have hT : FP.Core.fieldT FP.Core.b64 a.toNat = mg a % 4503599627370496 := by
    show a.toNat % 4503599627370496 = a.toNat % 9223372036854775808 % 4503599627370496
    omega
  have hm := mg_N hN
  unfold FP.Core.decode
  rw [hE, hS, hT, fl_exps, if_pos (by omega), if_pos (by unfold eF at h; omega)]
theorem eF_N2 {a : UInt64} (hN : isN a) : eF a ≤ 2047 := by
  have := mg_N hN
  unfold eF
  omega
theorem units_lt2 {e1 t1 e2 t2 : Nat} (h1 : t1 < 4503599627370496) (h2 : t2 < 4503599627370496) (h : e1 * 4503599627370496 + t1 < e2 * 4503599627370496 + t2) :
    FP.Core.inUnits (if e1 = 0 then t1 else 4503599627370496 + t1) (if e1 = 0 then -1074 else -1074 + ((e1 : Int) - 1)) (min (if e1 = 0 then -1074 else -1074 + ((e1 : Int) - 1)) (if e2 = 0 then -1074 else -1074 + ((e2 : Int) - 1))) <
    FP.Core.inUnits (if e2 = 0 then t2 else 4503599627370496 + t2) (if e2 = 0 then -1074 else -1074 + ((e2 : Int) - 1)) (min (if e1 = 0 then -1074 else -1074 + ((e1 : Int) - 1)) (if e2 = 0 then -1074 else -1074 + ((e2 : Int) - 1))) := by
  have he : e1 ≤ e2 := by omega
  unfold FP.Core.inUnits
  by_cases z1 : e1 = 0
  · rw [if_pos z1, if_pos z1]
    by_cases z2 : e2 = 0
    · rw [if_pos z2, if_pos z2]
      have e : (((-1074 : Int) - min (-1074) (-1074)).toNat) = 0 := by decide
      rw [e, Nat.pow_zero, Nat.mul_one, Nat.mul_one]
      omega
    · rw [if_neg z2, if_neg z2]
      have e : (((-1074 : Int) - min (-1074) (-1074 + ((e2 : Int) - 1))).toNat) = 0 := by omega
      rw [e, Nat.pow_zero, Nat.mul_one]
      have := Nat.two_pow_pos ((-1074 + ((e2 : Int) - 1)) - min (-1074) (-1074 + ((e2 : Int) - 1))).toNat
      generalize 2 ^ ((-1074 + ((e2 : Int) - 1)) - min (-1074) (-1074 + ((e2 : Int) - 1))).toNat = w at this
      have h9 : 4503599627370496 + t2 ≤ (4503599627370496 + t2) * w := Nat.le_mul_of_pos_right _ this
      omega
  · have z2 : e2 ≠ 0 := by omega
    rw [if_neg z1, if_neg z1, if_neg z2, if_neg z2]
    have e : (((-1074 + ((e1 : Int) - 1)) - min (-1074 + ((e1 : Int) - 1)) (-1074 + ((e2 : Int) - 1))).toNat) = 0 := by omega
    rw [e, Nat.pow_zero, Nat.mul_one]
    have e' : (((-1074 + ((e2 : Int) - 1)) - min (-1074 + ((e1 : Int) - 1)) (-1074 + ((e2 : Int) - 1))).toNat) = e2 - e1 := by omega
    rw [e']
    by_cases z : e1 = e2
    · subst z
      rw [Nat.sub_self, Nat.pow_zero, Nat.mul_one]
      omega
    · obtain ⟨x, hx⟩ : ∃ x, e2 - e1 = x + 1 := ⟨e2 - e1 - 1, by omega⟩
      rw [hx, Nat.pow_succ]
      have := Nat.two_pow_pos x
      generalize 2 ^ x = w at this
      have h9 : (4503599627370496 + t2) * 2 ≤ (4503599627370496 + t2) * (w * 2) := Nat.mul_le_mul_left _ (by omega)
      omega
theorem mg_split (a : UInt64) : mg a = eF a * 4503599627370496 + mg a % 4503599627370496 := by
  have := Nat.div_add_mod (mg a) 4503599627370496
  unfold eF
  omega
theorem mg_inj {x y : UInt64} (sx : sgn x = false) (sy : sgn y = false) (h : mg x = mg y) : x = y := by
  unfold sgn at sx sy
  rw [decide_eq_false_iff_not] at sx sy
  unfold mg at h
  apply UInt64.toNat_inj.mp
  omega
theorem cmp_nat {a b : Nat} : compare ((a : Nat) : Int) ((b : Nat) : Int) = compare a b := by
  rcases Nat.lt_trichotomy a b with h | h | h
  · rw [Int.compare_eq_lt.mpr (by omega), Nat.compare_eq_lt.mpr h]
  · subst h; rw [Int.compare_eq_eq.mpr rfl, Nat.compare_eq_eq.mpr rfl]
  · rw [Int.compare_eq_gt.mpr (by omega), Nat.compare_eq_gt.mpr h]
theorem ord_fin {x y : UInt64} (hx : eF x < 2047) (sx : sgn x = false) (hy : eF y < 2047) (sy : sgn y = false) : FP.dcmp x y = some (compare (mg x) (mg y)) := by
  have e : FP.dcmp x y = FP.Core.order (FP.Core.decode FP.Core.b64 x.toNat) (FP.Core.decode FP.Core.b64 y.toNat) := rfl
  rw [e, dec_mg hx, dec_mg hy, sx, sy]
  show some (compare ((_ : Nat) : Int) ((_ : Nat) : Int)) = _
  rw [cmp_nat]
  have h1 := mg_split x
  have h2 := mg_split y
  have l1 : mg x % 4503599627370496 < 4503599627370496 := Nat.mod_lt _ (by decide)
  have l2 : mg y % 4503599627370496 < 4503599627370496 := Nat.mod_lt _ (by decide)
  rcases Nat.lt_trichotomy (mg x) (mg y) with h | h | h
  · rw [Nat.compare_eq_lt.mpr h]
    congr 1
    apply Nat.compare_eq_lt.mpr
    exact units_lt2 l1 l2 (by omega)
  · have := mg_inj sx sy h
    subst this
    congr 1
    rw [Nat.compare_eq_eq.mpr rfl, Nat.compare_eq_eq.mpr rfl]
  · rw [Nat.compare_eq_gt.mpr h]
    congr 1
    apply Nat.compare_eq_gt.mpr
    have := units_lt2 l2 l1 (e1 := eF y) (e2 := eF x) (by omega)
    rw [Int.min_comm] at this
    exact this
theorem ord_N {x y : UInt64} (nx : isN x) (sx : sgn x = false) (ny : isN y) (sy : sgn y = false) : FP.dcmp x y = some (compare (mg x) (mg y)) := by
  have hx := eF_N2 nx
  have hy := eF_N2 ny
  have mx := mg_N nx
  have my := mg_N ny
  have e : FP.dcmp x y = FP.Core.order (FP.Core.decode FP.Core.b64 x.toNat) (FP.Core.decode FP.Core.b64 y.toNat) := rfl
  by_cases fx : eF x < 2047
  · by_cases fy : eF y < 2047
    · exact ord_fin fx sx fy sy
    · rw [e, dec_mg fx, dec_inf (by omega) ny, sx, sy]
      show some (compare (0 : Int) 1) = _
      rw [Nat.compare_eq_lt.mpr (by unfold eF at fx fy; omega)]
      rfl
  · by_cases fy : eF y < 2047
    · rw [e, dec_inf (by omega) nx, dec_mg fy, sx, sy]
      show some (compare (1 : Int) 0) = _
      rw [Nat.compare_eq_gt.mpr (by unfold eF at fx fy; omega)]
      rfl
    · rw [e, dec_inf (by omega) nx, dec_inf (by omega) ny, sx, sy]
      show some (compare (1 : Int) 1) = _
      rw [Nat.compare_eq_eq.mpr (by unfold eF at fx fy; omega)]
      rfl
/-- comparisons as they are asked for -/
theorem cL_le {x y : UInt64} (nx : isN x) (sx : sgn x = false) (ny : isN y) (sy : sgn y = false) : dCmL x y ≤ 0 ↔ mg x ≤ mg y := by
  rw [dCmL_e, ord_N nx sx ny sy]
  rcases Nat.lt_trichotomy (mg x) (mg y) with h | h | h
  · rw [Nat.compare_eq_lt.mpr h]; exact ⟨fun _ => Nat.le_of_lt h, fun _ => by decide⟩
  · rw [Nat.compare_eq_eq.mpr h]; exact ⟨fun _ => Nat.le_of_eq h, fun _ => by decide⟩
  · rw [Nat.compare_eq_gt.mpr h]; exact ⟨fun h9 => absurd h9 (by decide), fun h9 => by omega⟩
theorem cL_eq {x y : UInt64} (nx : isN x) (sx : sgn x = false) (ny : isN y) (sy : sgn y = false) : dCmL x y = 0 ↔ x = y := by
  rw [dCmL_e, ord_N nx sx ny sy]
  rcases Nat.lt_trichotomy (mg x) (mg y) with h | h | h
  · rw [Nat.compare_eq_lt.mpr h]; exact ⟨fun h9 => absurd h9 (by decide), fun h9 => by rw [h9] at h; omega⟩
  · rw [Nat.compare_eq_eq.mpr h]; exact ⟨fun _ => mg_inj sx sy h, fun _ => by decide⟩
  · rw [Nat.compare_eq_gt.mpr h]; exact ⟨fun h9 => absurd h9 (by decide), fun h9 => by rw [h9] at h; omega⟩
theorem cG_L {x y : UInt64} (nx : isN x) (sx : sgn x = false) (ny : isN y) (sy : sgn y = false) : dCmG x y = dCmL x y := by
  rw [dCmL_e, dCmG_e, ord_N nx sx ny sy]
  cases compare (mg x) (mg y) <;> rfl
theorem cL_lt {x y : UInt64} (nx : isN x) (sx : sgn x = false) (ny : isN y) (sy : sgn y = false) : dCmL x y < 0 ↔ mg x < mg y := by
  rw [dCmL_e, ord_N nx sx ny sy]
  rcases Nat.lt_trichotomy (mg x) (mg y) with h | h | h
  · rw [Nat.compare_eq_lt.mpr h]; exact ⟨fun _ => h, fun _ => by decide⟩
  · rw [Nat.compare_eq_eq.mpr h]; exact ⟨fun h9 => absurd h9 (by decide), fun h9 => by omega⟩
  · rw [Nat.compare_eq_gt.mpr h]; exact ⟨fun h9 => absurd h9 (by decide), fun h9 => by omega⟩
theorem dMax_mg {x y : UInt64} (nx : isN x) (sx : sgn x = false) (ny : isN y) (sy : sgn y = false) : dMax x y = if mg x < mg y then y else x := by
  rw [dMax_e]
  unfold Native.java_lang_Math.nans.pick64
  rw [ord_N nx sx ny sy]
  rcases Nat.lt_trichotomy (mg x) (mg y) with h | h | h
  · rw [Nat.compare_eq_lt.mpr h, if_pos h]; rfl
  · have := mg_inj sx sy h
    subst this
    rw [Nat.compare_eq_eq.mpr rfl, if_neg (Nat.lt_irrefl _)]
    split
    · rfl
    · rfl
    · split <;> rfl
  · rw [Nat.compare_eq_gt.mpr h]
    show (if true = true then x else y) = _
    rw [if_pos rfl, if_neg (by omega)]
/-- a number that isn't negative is greater than -1.0 -/
theorem neg1_lt {x : UInt64} (nx : isN x) (sx : sgn x = false) : ¬ dCmL x (kD 13830554455654793216) ≤ 0 := by
  have hx := eF_N2 nx
  have e : FP.dcmp x (kD 13830554455654793216) = FP.Core.order (FP.Core.decode FP.Core.b64 x.toNat) (FP.Core.decode FP.Core.b64 (kD 13830554455654793216).toNat) := rfl
  have d : FP.Core.decode FP.Core.b64 (kD 13830554455654793216).toNat = .fin true 4503599627370496 (-52) := by rw [kD_e]; decide
  rw [dCmL_e, e, d]
  by_cases fx : eF x < 2047
  · rw [dec_mg fx, sx]
    generalize (if eF x = 0 then mg x % 4503599627370496 else 4503599627370496 + mg x % 4503599627370496) = c
    generalize (if eF x = 0 then (-1074 : Int) else -1074 + ((eF x : Int) - 1)) = q
    have h : FP.Core.order (FP.Core.Datum.fin false c q) (FP.Core.Datum.fin true 4503599627370496 (-52)) = some .gt := by
      show some (compare ((FP.Core.inUnits c q (min q (-52)) : Nat) : Int) (-((FP.Core.inUnits 4503599627370496 (-52) (min q (-52)) : Nat) : Int))) = _
      congr 1
      apply Int.compare_eq_gt.mpr
      have : 0 < FP.Core.inUnits 4503599627370496 (-52) (min q (-52)) := by
        unfold FP.Core.inUnits
        exact Nat.mul_pos (by decide) (Nat.two_pow_pos _)
      omega
    rw [h]; decide
  · rw [dec_inf (by omega) nx, sx]; decide
