set_option maxRecDepth 4000
/-! ===== stability, list, trim in plain Lean; comparisons ===== -/
theorem cmp_zero {t : UInt64} {K : Nat} (bt : Bd t K) (hK : K ≤ 2040) (pt : Ps t) : ¬ dCmL t FP.dconst0 < 0 ∧ ¬ dCmG t FP.dconst0 < 0 := by
  obtain ⟨c, q, h1, -⟩ := fl_dec (Bd.fin bt hK)
  have h2 : FP.Core.decode FP.Core.b64 FP.dconst0.toNat = .fin false 0 (-1074) := by decide
  have h3 : FP.dcmp t FP.dconst0 = FP.Core.order (FP.Core.decode FP.Core.b64 t.toNat) (FP.Core.decode FP.Core.b64 FP.dconst0.toNat) := rfl
  rw [h1, h2, pt.h] at h3
  have h4 : FP.dcmp t FP.dconst0 ≠ some .lt ∧ FP.dcmp t FP.dconst0 ≠ none := by
    rw [h3]
    unfold FP.Core.order
    refine ⟨fun e => ?_, fun e => by cases e⟩
    injection e with e
    have e2 := Int.compare_eq_lt.mp e
    have h5 : FP.Core.inUnits 0 (-1074) (min q (-1074)) = 0 := by unfold FP.Core.inUnits; exact Nat.zero_mul _
    rw [h5] at e2
    generalize FP.Core.inUnits c q (min q (-1074)) = n at e2
    have e3 : (n : Int) < ((0 : Nat) : Int) := e2
    omega
  rw [dCmL_e, dCmG_e]
  match hd : FP.dcmp t FP.dconst0, h4 with
  | none, h => exact absurd rfl h.2
  | some .lt, h => exact absurd rfl h.1
  | some .eq, _ => exact ⟨by decide, by decide⟩
  | some .gt, _ => exact ⟨by decide, by decide⟩
theorem cmp_neg1 : dCmL (kD 13830554455654793216) FP.dconst0 < 0 ∧ dCmG (kD 13830554455654793216) FP.dconst0 < 0 := by
  rw [dCmL_e, dCmG_e, kD_e]
  exact ⟨by decide, by decide⟩
theorem sinks_iff {H : Hull} {w : UInt64}  (iH : HI H := by (first | assumption | exact SI.h (by assumption) | fail)) : (dCmL (hDraught H w) FP.dconst0 < 0 ↔ hSinks H w) ∧ (dCmG (hDraught H w) FP.dconst0 < 0 ↔ hSinks H w) := by
  by_cases h : hSinks H w
  · rw [hDr_sinks h]
    exact ⟨⟨fun _ => h, fun _ => cmp_neg1.1⟩, ⟨fun _ => h, fun _ => cmp_neg1.2⟩⟩
  · have hd := hDr_dr h
    have := cmp_zero hd.1 (by decide) hd.2
    exact ⟨⟨fun h9 => absurd h9 this.1, fun h9 => absurd h9 h⟩, ⟨fun h9 => absurd h9 this.2, fun h9 => absurd h9 h⟩⟩
/-- what isn't less than a constant is a divisor -/
theorem lo_of_G {x : UInt64} {K n : Nat} (bx : Bd x K) (hK : K ≤ 2040) (h : ¬ dCmG x (kD n) < 0) (hn : n < 9223372036854775808) (h1 : 1 ≤ n / 4503599627370496) (h2 : n / 4503599627370496 < 2047) : Lo x (n / 4503599627370496) ∧ Ps x := by
  have h3 : FP.dcmp x (kD n) ≠ some .lt := fun e => h (by rw [dCmG_e, e]; decide)
  have e9 : eF (kD n) = n / 4503599627370496 := by rw [eF_kD, Nat.mod_eq_of_lt hn]
  have h4 := cmp_ge (Bd.fin bx hK) (by rw [e9]; exact h2) (by rw [e9]; exact h1) (ps_kD n hn).h h3
  rw [e9] at h4
  exact ⟨⟨h1, h4.2⟩, h4.1⟩
theorem lo_of_Gle {x : UInt64} {K n : Nat} (bx : Bd x K) (hK : K ≤ 2040) (h : ¬ dCmG x (kD n) ≤ 0) (hn : n < 9223372036854775808) (h1 : 1 ≤ n / 4503599627370496) (h2 : n / 4503599627370496 < 2047) : Lo x (n / 4503599627370496) ∧ Ps x :=
  lo_of_G bx hK (fun h9 => h (Int32.le_of_lt h9)) hn h1 h2
theorem bd_abs {x : UInt64} {K : Nat} (bx : Bd x K) : Bd (dAbs x) K := fun hK => by
  rw [dAbs_e]
  unfold eF
  rw [(abs_bits x).1]
  exact bx hK
theorem ps_abs {x : UInt64} : Ps (dAbs x) := by
  unfold Ps
  rw [dAbs_e]
  exact (abs_bits x).2
noncomputable def hLoose (S : Sh) (c : Nat) : UInt64 := if S.fill c = 0 ∨ S.fill c = 8 then FP.dconst0 else dDiv (dMul (dMul (dMul (hBread S.H c 1) (hBread S.H c 1)) (hBread S.H c 1)) (i2D (nI S.H.len))) (kD 4634766966517661696)
/-- the sum over n compartments from the c-th on -/
noncomputable def hFreeL (S : Sh) : Nat → Nat → UInt64 → UInt64
  | 0, _, s => s
  | n + 1, c, s => hFreeL S n (c + 1) (dAdd s (hLoose S c))
noncomputable def Sh.free (S : Sh) (p : Bool) : UInt64 := ctr (S.wt p) (hFreeL S 6 0 FP.dconst0)
noncomputable def Sh.gm (S : Sh) (p : Bool) : UInt64 := dSub (dSub (dAdd (hWater S.H (S.dr p) 2) (hWater S.H (S.dr p) 4)) (S.kg p)) (S.free p)
noncomputable def angT (k : Nat) : UInt64 := match k with
  | 0 => kD 4581421828931458171
  | 1 => kD 4591149604126578442
  | 2 => kD 4595653203753948938
  | 3 => kD 4598535507515466056
  | 4 => kD 4600156803381319434
  | 5 => kD 4602138387217362452
  | 6 => kD 4603399395113026191
  | 7 => kD 4604480259023595110
  | 8 => kD 4605741266919258849
  | _ => FP.dconst1
noncomputable def hListL (x : UInt64) : Nat → Nat → Nat
  | 0, _ => 10
  | n + 1, k => if dCmG x (angT k) ≤ 0 then k else hListL x n (k + 1)
noncomputable def Sh.list (S : Sh) (p : Bool) : Nat := if dCmL (S.dr p) FP.dconst0 < 0 then 10 else if dCmG (S.gm p) (kD 4587366580439587226) ≤ 0 then 10 else hListL (dDiv (dAbs (S.tcg p)) (S.gm p)) 10 0
noncomputable def Sh.trim (S : Sh) (p : Bool) : UInt64 := if dCmG (hWater S.H (S.dr p) 5) (kD 4562254508917369340) < 0 then FP.dconst0 else dDiv (dMul (dSub (S.lcg p) (hWater S.H (S.dr p) 1)) (i2D (nI S.H.len))) (hWater S.H (S.dr p) 5)
noncomputable def Sh.told (S : Sh) (w : Nat) : UInt64 := match w with
  | 0 => S.wt false
  | 1 => S.lcg false
  | 2 => S.tcg false
  | 3 => S.kg false
  | 4 => S.dr false
  | 8 => S.free false
  | 5 => if dCmL (S.dr false) FP.dconst0 < 0 then FP.dconst0 else S.gm false
  | 6 => i2D (nI (S.list false))
  | _ => if dCmL (S.dr false) FP.dconst0 < 0 then FP.dconst0 else S.trim false
theorem bd_loose {S : Sh} {c : Nat} : Bd (hLoose S c) 1200 := by
  unfold hLoose
  split
  · exact Bd.up (by (repeat' (with_reducible first | assumption | exact bd_kD | exact bd_i2D | exact bd_c0 | exact bd_c1 | apply bd_add | apply bd_mul | apply bd_div | apply bd_sub | exact dr_b | exact bd_step | exact bd_Q | exact bd_wide | exact bd_slice | exact bd_part | exact bd_section | exact bd_lift | exact bd_at | exact bd_X | exact bd_ord | exact bd_so | exact bd_vol | exact bd_water | exact bd_draught | exact bd_simT | exact bd_bread | exact bd_br | exact bd_far | exact bd_tank | exact LdB.t (by (first | assumption | exact ldB_plate | exact ldB_item | exact ldB_tank | exact ldB_engine | exact ldB_hold)) | exact LdB.s (by (first | assumption | exact ldB_plate | exact ldB_item | exact ldB_tank | exact ldB_engine | exact ldB_hold)) | exact LdB.u (by (first | assumption | exact ldB_plate | exact ldB_item | exact ldB_tank | exact ldB_engine | exact ldB_hold)) | exact SmB.w (by (first | assumption | exact sums_b)) | exact SmB.l (by (first | assumption | exact sums_b)) | exact SmB.t (by (first | assumption | exact sums_b)) | exact SmB.k (by (first | assumption | exact sums_b)) | exact wt_b | exact bd_lcg | exact bd_tcg | exact bd_kg | exact bd_dr | exact bd_loose | exact bd_free | exact bd_bulk | exact bd_fWater | exact lo_4 | exact lo_8 | exact lo_6 | exact lo_2 | exact lo_18 | exact lo_16 | exact lo_64 | exact lo_72 | exact lo_step | fail))) _ (by decide)
  · exact Bd.up (by (repeat' (with_reducible first | assumption | exact bd_kD | exact bd_i2D | exact bd_c0 | exact bd_c1 | apply bd_add | apply bd_mul | apply bd_div | apply bd_sub | exact dr_b | exact bd_step | exact bd_Q | exact bd_wide | exact bd_slice | exact bd_part | exact bd_section | exact bd_lift | exact bd_at | exact bd_X | exact bd_ord | exact bd_so | exact bd_vol | exact bd_water | exact bd_draught | exact bd_simT | exact bd_bread | exact bd_br | exact bd_far | exact bd_tank | exact LdB.t (by (first | assumption | exact ldB_plate | exact ldB_item | exact ldB_tank | exact ldB_engine | exact ldB_hold)) | exact LdB.s (by (first | assumption | exact ldB_plate | exact ldB_item | exact ldB_tank | exact ldB_engine | exact ldB_hold)) | exact LdB.u (by (first | assumption | exact ldB_plate | exact ldB_item | exact ldB_tank | exact ldB_engine | exact ldB_hold)) | exact SmB.w (by (first | assumption | exact sums_b)) | exact SmB.l (by (first | assumption | exact sums_b)) | exact SmB.t (by (first | assumption | exact sums_b)) | exact SmB.k (by (first | assumption | exact sums_b)) | exact wt_b | exact bd_lcg | exact bd_tcg | exact bd_kg | exact bd_dr | exact bd_loose | exact bd_free | exact bd_bulk | exact bd_fWater | exact lo_4 | exact lo_8 | exact lo_6 | exact lo_2 | exact lo_18 | exact lo_16 | exact lo_64 | exact lo_72 | exact lo_step | fail))) _ (by decide)
theorem bd_freeL {S : Sh} : ∀ (n c : Nat) (s : UInt64) (K : Nat), 1200 ≤ K → Bd s K → Bd (hFreeL S n c s) (K + 2 * n)
  | 0, _, _, _, _, h => h
  | n + 1, c, s, K, hK, h => by
    unfold hFreeL
    have h1 : Bd (dAdd s (hLoose S c)) (K + 2) := Bd.up (bd_add h bd_loose) _ (by omega)
    exact Bd.up (bd_freeL n (c + 1) _ (K + 2) (by omega) h1) _ (by omega)
theorem bd_free {S : Sh} {p : Bool}  (i : SI S := by (assumption)) : Bd (S.free p) 1750 := by
  refine bd_ctr i (Bd.up (bd_freeL 6 0 FP.dconst0 1200 (by decide) (Bd.up (by (repeat' (with_reducible first | assumption | exact bd_kD | exact bd_i2D | exact bd_c0 | exact bd_c1 | apply bd_add | apply bd_mul | apply bd_div | apply bd_sub | exact dr_b | exact bd_step | exact bd_Q | exact bd_wide | exact bd_slice | exact bd_part | exact bd_section | exact bd_lift | exact bd_at | exact bd_X | exact bd_ord | exact bd_so | exact bd_vol | exact bd_water | exact bd_draught | exact bd_simT | exact bd_bread | exact bd_br | exact bd_far | exact bd_tank | exact LdB.t (by (first | assumption | exact ldB_plate | exact ldB_item | exact ldB_tank | exact ldB_engine | exact ldB_hold)) | exact LdB.s (by (first | assumption | exact ldB_plate | exact ldB_item | exact ldB_tank | exact ldB_engine | exact ldB_hold)) | exact LdB.u (by (first | assumption | exact ldB_plate | exact ldB_item | exact ldB_tank | exact ldB_engine | exact ldB_hold)) | exact SmB.w (by (first | assumption | exact sums_b)) | exact SmB.l (by (first | assumption | exact sums_b)) | exact SmB.t (by (first | assumption | exact sums_b)) | exact SmB.k (by (first | assumption | exact sums_b)) | exact wt_b | exact bd_lcg | exact bd_tcg | exact bd_kg | exact bd_dr | exact bd_loose | exact bd_free | exact bd_bulk | exact bd_fWater | exact lo_4 | exact lo_8 | exact lo_6 | exact lo_2 | exact lo_18 | exact lo_16 | exact lo_64 | exact lo_72 | exact lo_step | fail))) _ (by decide))) _ (by decide))
theorem afl_dr {S : Sh} {p : Bool} (h : ¬ dCmL (S.dr p) FP.dconst0 < 0)  (i : SI S := by (assumption)) : Dr (S.dr p) := by
  have iH := i.h
  exact hDr_dr (fun h9 => h ((sinks_iff iH).1.mpr h9))
theorem bd_gm {S : Sh} {p : Bool} (h : ¬ dCmL (S.dr p) FP.dconst0 < 0)  (i : SI S := by (assumption)) : Bd (S.gm p) 1960 := by
  have iH := i.h
  have hd := afl_dr h
  have hf := bd_free (S := S) (p := p)
  have hk := bd_kg (S := S) (p := p)
  unfold Sh.gm
  exact Bd.up (by (repeat' (with_reducible first | assumption | exact bd_kD | exact bd_i2D | exact bd_c0 | exact bd_c1 | apply bd_add | apply bd_mul | apply bd_div | apply bd_sub | exact dr_b | exact bd_step | exact bd_Q | exact bd_wide | exact bd_slice | exact bd_part | exact bd_section | exact bd_lift | exact bd_at | exact bd_X | exact bd_ord | exact bd_so | exact bd_vol | exact bd_water | exact bd_draught | exact bd_simT | exact bd_bread | exact bd_br | exact bd_far | exact bd_tank | exact LdB.t (by (first | assumption | exact ldB_plate | exact ldB_item | exact ldB_tank | exact ldB_engine | exact ldB_hold)) | exact LdB.s (by (first | assumption | exact ldB_plate | exact ldB_item | exact ldB_tank | exact ldB_engine | exact ldB_hold)) | exact LdB.u (by (first | assumption | exact ldB_plate | exact ldB_item | exact ldB_tank | exact ldB_engine | exact ldB_hold)) | exact SmB.w (by (first | assumption | exact sums_b)) | exact SmB.l (by (first | assumption | exact sums_b)) | exact SmB.t (by (first | assumption | exact sums_b)) | exact SmB.k (by (first | assumption | exact sums_b)) | exact wt_b | exact bd_lcg | exact bd_tcg | exact bd_kg | exact bd_dr | exact bd_loose | exact bd_free | exact bd_bulk | exact bd_fWater | exact lo_4 | exact lo_8 | exact lo_6 | exact lo_2 | exact lo_18 | exact lo_16 | exact lo_64 | exact lo_72 | exact lo_step | fail))) _ (by decide)
