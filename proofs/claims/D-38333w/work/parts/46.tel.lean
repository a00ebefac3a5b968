set_option maxRecDepth 4000
/-! ===== Trim.tell, Ship.list (walks) ===== -/
theorem i2D_10 : i2D (nI 10) = kD 4621819117588971520 := by
  rw [i2D_e, kD_e]
  decide
theorem bd_trim {S : Sh} {p : Bool} (ha : ¬ dCmL (S.dr p) FP.dconst0 < 0)  (iS : SI S := by (assumption)) : Bd (S.trim p) 2010 := by
  have iH := iS.h
  have hd := afl_dr ha
  have bl := bd_lcg (S := S) (p := p)
  have bw : Bd (hWater S.H (S.dr p) 5) 1950 := bd_water
  unfold Sh.trim
  split
  · exact Bd.up (by (repeat' (with_reducible first | assumption | exact bd_kD | exact bd_i2D | exact bd_c0 | exact bd_c1 | apply bd_add | apply bd_mul | apply bd_div | apply bd_sub | exact dr_b | exact bd_step | exact bd_Q | exact bd_wide | exact bd_slice | exact bd_part | exact bd_section | exact bd_lift | exact bd_at | exact bd_X | exact bd_ord | exact bd_so | exact bd_vol | exact bd_water | exact bd_draught | exact bd_simT | exact bd_bread | exact bd_br | exact bd_far | exact bd_tank | exact LdB.t (by (first | assumption | exact ldB_plate | exact ldB_item | exact ldB_tank | exact ldB_engine | exact ldB_hold)) | exact LdB.s (by (first | assumption | exact ldB_plate | exact ldB_item | exact ldB_tank | exact ldB_engine | exact ldB_hold)) | exact LdB.u (by (first | assumption | exact ldB_plate | exact ldB_item | exact ldB_tank | exact ldB_engine | exact ldB_hold)) | exact SmB.w (by (first | assumption | exact sums_b)) | exact SmB.l (by (first | assumption | exact sums_b)) | exact SmB.t (by (first | assumption | exact sums_b)) | exact SmB.k (by (first | assumption | exact sums_b)) | exact wt_b | exact bd_lcg | exact bd_tcg | exact bd_kg | exact bd_dr | exact bd_loose | exact bd_free | exact bd_bulk | exact bd_fWater | exact lo_4 | exact lo_8 | exact lo_6 | exact lo_2 | exact lo_18 | exact lo_16 | exact lo_64 | exact lo_72 | exact lo_step | fail))) _ (by decide)
  · next hc =>
    have lw := (lo_of_G bw (by decide) hc (by decide) (by decide) (by decide)).1
    exact Bd.up (by (repeat' (with_reducible first | assumption | exact bd_kD | exact bd_i2D | exact bd_c0 | exact bd_c1 | apply bd_add | apply bd_mul | apply bd_div | apply bd_sub | exact dr_b | exact bd_step | exact bd_Q | exact bd_wide | exact bd_slice | exact bd_part | exact bd_section | exact bd_lift | exact bd_at | exact bd_X | exact bd_ord | exact bd_so | exact bd_vol | exact bd_water | exact bd_draught | exact bd_simT | exact bd_bread | exact bd_br | exact bd_far | exact bd_tank | exact LdB.t (by (first | assumption | exact ldB_plate | exact ldB_item | exact ldB_tank | exact ldB_engine | exact ldB_hold)) | exact LdB.s (by (first | assumption | exact ldB_plate | exact ldB_item | exact ldB_tank | exact ldB_engine | exact ldB_hold)) | exact LdB.u (by (first | assumption | exact ldB_plate | exact ldB_item | exact ldB_tank | exact ldB_engine | exact ldB_hold)) | exact SmB.w (by (first | assumption | exact sums_b)) | exact SmB.l (by (first | assumption | exact sums_b)) | exact SmB.t (by (first | assumption | exact sums_b)) | exact SmB.k (by (first | assumption | exact sums_b)) | exact wt_b | exact bd_lcg | exact bd_tcg | exact bd_kg | exact bd_dr | exact bd_loose | exact bd_free | exact bd_bulk | exact bd_fWater | exact lo_4 | exact lo_8 | exact lo_6 | exact lo_2 | exact lo_18 | exact lo_16 | exact lo_64 | exact lo_72 | exact lo_step | fail))) _ (by decide)
section TEL
variable {G : Nat → Option Nat} {M : Mem} {b : Nat} {g : SG} {S : Sh}
theorem c546_7 (C : ShC G M b g S false) (W : WgM M b S false) {w : Nat} (hw : w = 5 ∨ w = 6 ∨ w = 7) (iS : SI S) : ∃ f, ex G 1 546 7 [(0, vR (some (b + 14))), (1, vI (nI w))] [] M = some (.inl (some (vD (S.told w))), sdA M (b + 3) f) := by
  by_cases ha : dCmL (S.dr false) FP.dconst0 < 0
  · refine ⟨mad M (b + 3), ?_⟩
    have e := c549 C W
    rw [decide_eq_true ha] at e
    rw [sdA_self, E546_7]
    first | refine Eq.trans ((vc1_ok C.trk)) ?_ | refine Rt.eq ((vc1_ok C.trk)) ?_ | refine Th.eq ((vc1_ok C.trk)) ?_
    first | refine Eq.trans ((cbI_of e)) ?_ | refine Rt.eq ((cbI_of e)) ?_ | refine Th.eq ((cbI_of e)) ?_
    rw [if_pos (show bI (!true) = 0 from rfl)]
    rcases hw with h | h | h
    · subst h
      rw [if_neg (by decide), show S.told 5 = FP.dconst0 from if_pos ha]
      exact rD_ok (by (first | exact isN_of (by repeat' (with_reducible first | assumption | exact bd_kD | exact bd_i2D | exact bd_c0 | exact bd_c1 | apply bd_add | apply bd_mul | apply bd_div | apply bd_sub | exact dr_b | exact bd_step | exact bd_Q | exact bd_wide | exact bd_slice | exact bd_part | exact bd_section | exact bd_lift | exact bd_at | exact bd_X | exact bd_ord | exact bd_so | exact bd_vol | exact bd_water | exact bd_draught | exact bd_simT | exact bd_bread | exact bd_br | exact bd_far | exact bd_tank | exact LdB.t (by (first | assumption | exact ldB_plate | exact ldB_item | exact ldB_tank | exact ldB_engine | exact ldB_hold)) | exact LdB.s (by (first | assumption | exact ldB_plate | exact ldB_item | exact ldB_tank | exact ldB_engine | exact ldB_hold)) | exact LdB.u (by (first | assumption | exact ldB_plate | exact ldB_item | exact ldB_tank | exact ldB_engine | exact ldB_hold)) | exact SmB.w (by (first | assumption | exact sums_b)) | exact SmB.l (by (first | assumption | exact sums_b)) | exact SmB.t (by (first | assumption | exact sums_b)) | exact SmB.k (by (first | assumption | exact sums_b)) | exact wt_b | exact bd_lcg | exact bd_tcg | exact bd_kg | exact bd_dr | exact bd_loose | exact bd_free | exact bd_bulk | exact bd_fWater | exact lo_4 | exact lo_8 | exact lo_6 | exact lo_2 | exact lo_18 | exact lo_16 | exact lo_64 | exact lo_72 | exact lo_step | fail)) (by decide) | exact isN_of (by repeat' (with_reducible first | assumption | exact bd_kD | exact bd_i2D | exact bd_c0 | exact bd_c1 | apply bd_add | apply bd_mul | apply bd_div | apply bd_sub | exact dr_b | exact bd_step | exact bd_Q | exact bd_wide | exact bd_slice | exact bd_part | exact bd_section | exact bd_lift | exact bd_at | exact bd_X | exact bd_ord | exact bd_so | exact bd_vol | exact bd_water | exact bd_draught | exact bd_simT | exact bd_bread | exact bd_br | exact bd_far | exact bd_tank | exact LdB.t (by (first | assumption | exact ldB_plate | exact ldB_item | exact ldB_tank | exact ldB_engine | exact ldB_hold)) | exact LdB.s (by (first | assumption | exact ldB_plate | exact ldB_item | exact ldB_tank | exact ldB_engine | exact ldB_hold)) | exact LdB.u (by (first | assumption | exact ldB_plate | exact ldB_item | exact ldB_tank | exact ldB_engine | exact ldB_hold)) | exact SmB.w (by (first | assumption | exact sums_b)) | exact SmB.l (by (first | assumption | exact sums_b)) | exact SmB.t (by (first | assumption | exact sums_b)) | exact SmB.k (by (first | assumption | exact sums_b)) | exact wt_b | exact bd_lcg | exact bd_tcg | exact bd_kg | exact bd_dr | exact bd_loose | exact bd_free | exact bd_bulk | exact bd_fWater | exact lo_4 | exact lo_8 | exact lo_6 | exact lo_2 | exact lo_18 | exact lo_16 | exact lo_64 | exact lo_72 | exact lo_step | fail)) (by omega)))
    · subst h
      have hl : S.list false = 10 := if_pos ha
      rw [if_pos (by decide), show S.told 6 = kD 4621819117588971520 by rw [← i2D_10, ← hl]; rfl]
      exact rD_ok (by (first | exact isN_of (by repeat' (with_reducible first | assumption | exact bd_kD | exact bd_i2D | exact bd_c0 | exact bd_c1 | apply bd_add | apply bd_mul | apply bd_div | apply bd_sub | exact dr_b | exact bd_step | exact bd_Q | exact bd_wide | exact bd_slice | exact bd_part | exact bd_section | exact bd_lift | exact bd_at | exact bd_X | exact bd_ord | exact bd_so | exact bd_vol | exact bd_water | exact bd_draught | exact bd_simT | exact bd_bread | exact bd_br | exact bd_far | exact bd_tank | exact LdB.t (by (first | assumption | exact ldB_plate | exact ldB_item | exact ldB_tank | exact ldB_engine | exact ldB_hold)) | exact LdB.s (by (first | assumption | exact ldB_plate | exact ldB_item | exact ldB_tank | exact ldB_engine | exact ldB_hold)) | exact LdB.u (by (first | assumption | exact ldB_plate | exact ldB_item | exact ldB_tank | exact ldB_engine | exact ldB_hold)) | exact SmB.w (by (first | assumption | exact sums_b)) | exact SmB.l (by (first | assumption | exact sums_b)) | exact SmB.t (by (first | assumption | exact sums_b)) | exact SmB.k (by (first | assumption | exact sums_b)) | exact wt_b | exact bd_lcg | exact bd_tcg | exact bd_kg | exact bd_dr | exact bd_loose | exact bd_free | exact bd_bulk | exact bd_fWater | exact lo_4 | exact lo_8 | exact lo_6 | exact lo_2 | exact lo_18 | exact lo_16 | exact lo_64 | exact lo_72 | exact lo_step | fail)) (by decide) | exact isN_of (by repeat' (with_reducible first | assumption | exact bd_kD | exact bd_i2D | exact bd_c0 | exact bd_c1 | apply bd_add | apply bd_mul | apply bd_div | apply bd_sub | exact dr_b | exact bd_step | exact bd_Q | exact bd_wide | exact bd_slice | exact bd_part | exact bd_section | exact bd_lift | exact bd_at | exact bd_X | exact bd_ord | exact bd_so | exact bd_vol | exact bd_water | exact bd_draught | exact bd_simT | exact bd_bread | exact bd_br | exact bd_far | exact bd_tank | exact LdB.t (by (first | assumption | exact ldB_plate | exact ldB_item | exact ldB_tank | exact ldB_engine | exact ldB_hold)) | exact LdB.s (by (first | assumption | exact ldB_plate | exact ldB_item | exact ldB_tank | exact ldB_engine | exact ldB_hold)) | exact LdB.u (by (first | assumption | exact ldB_plate | exact ldB_item | exact ldB_tank | exact ldB_engine | exact ldB_hold)) | exact SmB.w (by (first | assumption | exact sums_b)) | exact SmB.l (by (first | assumption | exact sums_b)) | exact SmB.t (by (first | assumption | exact sums_b)) | exact SmB.k (by (first | assumption | exact sums_b)) | exact wt_b | exact bd_lcg | exact bd_tcg | exact bd_kg | exact bd_dr | exact bd_loose | exact bd_free | exact bd_bulk | exact bd_fWater | exact lo_4 | exact lo_8 | exact lo_6 | exact lo_2 | exact lo_18 | exact lo_16 | exact lo_64 | exact lo_72 | exact lo_step | fail)) (by omega)))
    · subst h
      rw [if_neg (by decide), show S.told 7 = FP.dconst0 from if_pos ha]
      exact rD_ok (by (first | exact isN_of (by repeat' (with_reducible first | assumption | exact bd_kD | exact bd_i2D | exact bd_c0 | exact bd_c1 | apply bd_add | apply bd_mul | apply bd_div | apply bd_sub | exact dr_b | exact bd_step | exact bd_Q | exact bd_wide | exact bd_slice | exact bd_part | exact bd_section | exact bd_lift | exact bd_at | exact bd_X | exact bd_ord | exact bd_so | exact bd_vol | exact bd_water | exact bd_draught | exact bd_simT | exact bd_bread | exact bd_br | exact bd_far | exact bd_tank | exact LdB.t (by (first | assumption | exact ldB_plate | exact ldB_item | exact ldB_tank | exact ldB_engine | exact ldB_hold)) | exact LdB.s (by (first | assumption | exact ldB_plate | exact ldB_item | exact ldB_tank | exact ldB_engine | exact ldB_hold)) | exact LdB.u (by (first | assumption | exact ldB_plate | exact ldB_item | exact ldB_tank | exact ldB_engine | exact ldB_hold)) | exact SmB.w (by (first | assumption | exact sums_b)) | exact SmB.l (by (first | assumption | exact sums_b)) | exact SmB.t (by (first | assumption | exact sums_b)) | exact SmB.k (by (first | assumption | exact sums_b)) | exact wt_b | exact bd_lcg | exact bd_tcg | exact bd_kg | exact bd_dr | exact bd_loose | exact bd_free | exact bd_bulk | exact bd_fWater | exact lo_4 | exact lo_8 | exact lo_6 | exact lo_2 | exact lo_18 | exact lo_16 | exact lo_64 | exact lo_72 | exact lo_step | fail)) (by decide) | exact isN_of (by repeat' (with_reducible first | assumption | exact bd_kD | exact bd_i2D | exact bd_c0 | exact bd_c1 | apply bd_add | apply bd_mul | apply bd_div | apply bd_sub | exact dr_b | exact bd_step | exact bd_Q | exact bd_wide | exact bd_slice | exact bd_part | exact bd_section | exact bd_lift | exact bd_at | exact bd_X | exact bd_ord | exact bd_so | exact bd_vol | exact bd_water | exact bd_draught | exact bd_simT | exact bd_bread | exact bd_br | exact bd_far | exact bd_tank | exact LdB.t (by (first | assumption | exact ldB_plate | exact ldB_item | exact ldB_tank | exact ldB_engine | exact ldB_hold)) | exact LdB.s (by (first | assumption | exact ldB_plate | exact ldB_item | exact ldB_tank | exact ldB_engine | exact ldB_hold)) | exact LdB.u (by (first | assumption | exact ldB_plate | exact ldB_item | exact ldB_tank | exact ldB_engine | exact ldB_hold)) | exact SmB.w (by (first | assumption | exact sums_b)) | exact SmB.l (by (first | assumption | exact sums_b)) | exact SmB.t (by (first | assumption | exact sums_b)) | exact SmB.k (by (first | assumption | exact sums_b)) | exact wt_b | exact bd_lcg | exact bd_tcg | exact bd_kg | exact bd_dr | exact bd_loose | exact bd_free | exact bd_bulk | exact bd_fWater | exact lo_4 | exact lo_8 | exact lo_6 | exact lo_2 | exact lo_18 | exact lo_16 | exact lo_64 | exact lo_72 | exact lo_step | fail)) (by omega)))
  · have e := c549 C W
    rw [decide_eq_false ha] at e
    rcases hw with h | h | h
    · subst h
      have bg := bd_gm ha
      obtain ⟨f, e1⟩ := c551 C W ha iS
      refine ⟨f, ?_⟩
      rw [E546_7]
      first | refine Eq.trans ((vc1_ok C.trk)) ?_ | refine Rt.eq ((vc1_ok C.trk)) ?_ | refine Th.eq ((vc1_ok C.trk)) ?_
      first | refine Eq.trans ((cbI_of e)) ?_ | refine Rt.eq ((cbI_of e)) ?_ | refine Th.eq ((cbI_of e)) ?_
      rw [if_neg (show ¬ bI (!false) = 0 by decide), show S.told 5 = S.gm false from if_neg ha]
      first | refine Eq.trans ((vc1_ok C.trk)) ?_ | refine Rt.eq ((vc1_ok C.trk)) ?_ | refine Th.eq ((vc1_ok C.trk)) ?_
      rw [E550_0, if_pos (by decide), vc1_ok C.trk, cbD_of e1, rD_ok (isN_of bg (by decide))]
      exact rD_ok (isN_of bg (by decide))
    · subst h
      obtain ⟨f, e1⟩ := c552 C W iS
      refine ⟨f, ?_⟩
      rw [E546_7]
      first | refine Eq.trans ((vc1_ok C.trk)) ?_ | refine Rt.eq ((vc1_ok C.trk)) ?_ | refine Th.eq ((vc1_ok C.trk)) ?_
      first | refine Eq.trans ((cbI_of e)) ?_ | refine Rt.eq ((cbI_of e)) ?_ | refine Th.eq ((cbI_of e)) ?_
      rw [if_neg (show ¬ bI (!false) = 0 by decide), show S.told 6 = i2D (nI (S.list false)) from rfl]
      first | refine Eq.trans ((vc1_ok C.trk)) ?_ | refine Rt.eq ((vc1_ok C.trk)) ?_ | refine Th.eq ((vc1_ok C.trk)) ?_
      rw [E550_0, if_neg (by decide), if_pos (by decide), vc1_ok C.trk, cbI_of e1, rD_ok (isN_of bd_i2D (by decide))]
      exact rD_ok (isN_of bd_i2D (by decide))
    · subst h
      have bg := bd_trim ha
      obtain ⟨f, e1⟩ := c554 C W ha iS
      refine ⟨f, ?_⟩
      rw [E546_7]
      first | refine Eq.trans ((vc1_ok C.trk)) ?_ | refine Rt.eq ((vc1_ok C.trk)) ?_ | refine Th.eq ((vc1_ok C.trk)) ?_
      first | refine Eq.trans ((cbI_of e)) ?_ | refine Rt.eq ((cbI_of e)) ?_ | refine Th.eq ((cbI_of e)) ?_
      rw [if_neg (show ¬ bI (!false) = 0 by decide), show S.told 7 = S.trim false from if_neg ha]
      first | refine Eq.trans ((vc1_ok C.trk)) ?_ | refine Rt.eq ((vc1_ok C.trk)) ?_ | refine Th.eq ((vc1_ok C.trk)) ?_
      rw [E550_0, if_neg (by decide), if_neg (by decide), vc1_ok C.trk, cbD_of e1, rD_ok (isN_of bg (by decide))]
      exact rD_ok (isN_of bg (by decide))
/-- TRIM.TELL -/
theorem c546 (C : ShC G M b g S false) {w : Nat} (hw : w < 9) (iS : SI S) : ∃ M', ex G 1 546 0 [(0, vR (some (b + 14))), (1, vI (nI w))] [] M = some (.inl (some (vD (S.told w))), M') ∧ QC noX 0 0 M M' := by
  obtain ⟨M1, e1, q1, T1, d1⟩ := c547 C iS
  have C1 := C.fr0 q1
  have W1 : WgM M1 b S false := ⟨T1, d1⟩
  have bw : Bd (S.wt false) 1704 := wt_b
  have bl := bd_lcg (S := S) (p := false)
  have bt := bd_tcg (S := S) (p := false)
  have bk := bd_kg (S := S) (p := false)
  have bd := bd_dr (S := S) (p := false)
  have bf := bd_free (S := S) (p := false)
  obtain h | h | h | h | h | h | h | h | h : w = 0 ∨ w = 1 ∨ w = 2 ∨ w = 3 ∨ w = 4 ∨ w = 5 ∨ w = 6 ∨ w = 7 ∨ w = 8 := by omega
  · subst h
    refine ⟨M1, ?_, q1⟩
    rw [E546_0, vc1_ok C.trk, cbV_of e1, if_pos (by decide), gD_v C1.trk T1.w]
    exact rD_ok (isN_of bw (by decide))
  · subst h
    refine ⟨M1, ?_, q1⟩
    rw [E546_0, vc1_ok C.trk, cbV_of e1, if_neg (by decide), if_pos (by decide), gD_v C1.trk T1.l]
    exact rD_ok (isN_of bl (by decide))
  · subst h
    refine ⟨M1, ?_, q1⟩
    rw [E546_0, vc1_ok C.trk, cbV_of e1, if_neg (by decide), if_neg (by decide), if_pos (by decide), gD_v C1.trk T1.t]
    exact rD_ok (isN_of bt (by decide))
  · subst h
    refine ⟨M1, ?_, q1⟩
    rw [E546_0, vc1_ok C.trk, cbV_of e1, if_neg (by decide), if_neg (by decide), if_neg (by decide), if_pos (by decide), gD_v C1.trk T1.k]
    exact rD_ok (isN_of bk (by decide))
  · subst h
    refine ⟨M1, ?_, q1⟩
    rw [E546_0, vc1_ok C.trk, cbV_of e1, if_neg (by decide), if_neg (by decide), if_neg (by decide), if_neg (by decide), if_pos (by decide), gD_v C1.trk d1]
    exact rD_ok (isN_of bd (by decide))
  · obtain ⟨f, e2⟩ := c546_7 C1 W1 (w := w) (by omega) iS
    subst h
    refine ⟨sdA M1 (b + 3) f, ?_, q1.tr QC.sdA⟩
    · rw [E546_0, vc1_ok C.trk, cbV_of e1, if_neg (by decide), if_neg (by decide), if_neg (by decide), if_neg (by decide), if_neg (by decide), if_pos (by decide)]
      exact e2
  · obtain ⟨f, e2⟩ := c546_7 C1 W1 (w := w) (by omega) iS
    subst h
    refine ⟨sdA M1 (b + 3) f, ?_, q1.tr QC.sdA⟩
    · rw [E546_0, vc1_ok C.trk, cbV_of e1, if_neg (by decide), if_neg (by decide), if_neg (by decide), if_neg (by decide), if_neg (by decide), if_neg (by decide), if_pos (by decide)]
      exact e2
  · obtain ⟨f, e2⟩ := c546_7 C1 W1 (w := w) (by omega) iS
    subst h
    refine ⟨sdA M1 (b + 3) f, ?_, q1.tr QC.sdA⟩
    · rw [E546_0, vc1_ok C.trk, cbV_of e1, if_neg (by decide), if_neg (by decide), if_neg (by decide), if_neg (by decide), if_neg (by decide), if_neg (by decide), if_neg (by decide), if_pos (by decide)]
      exact e2
  · subst h
    refine ⟨M1, ?_, q1⟩
    rw [E546_0, vc1_ok C.trk, cbV_of e1, if_neg (by decide), if_neg (by decide), if_neg (by decide), if_neg (by decide), if_neg (by decide), if_neg (by decide), if_neg (by decide), if_neg (by decide), if_pos (by decide), vc1_ok C1.trk, cbD_of (c548 C1 W1 iS)]
    exact rD_ok (isN_of bf (by decide))
/-- SHIP.LIST -/
theorem c491 (C : ShC G M b g S false) (iS : SI S) : ∃ M', ex G 1 491 0 [(0, vR (some b))] [] M = some (.inl (some (vI (nI (S.list false)))), M') ∧ QC noX 0 0 M M' ∧ WgM M' b S false := by
  obtain ⟨M1, e1, q1, T1, d1⟩ := c547 C iS
  have C1 := C.fr0 q1
  have W1 : WgM M1 b S false := ⟨T1, d1⟩
  obtain ⟨f, e2⟩ := c552 C1 W1 iS
  refine ⟨_, ?_, q1.tr (QC.sdA (a := b + 3) (g := f)), W1.sdA⟩
  rw [E491_0]
  first | refine Eq.trans ((gR_v C.k C.rTr)) ?_ | refine Rt.eq ((gR_v C.k C.rTr)) ?_ | refine Th.eq ((gR_v C.k C.rTr)) ?_
  first | refine Eq.trans ((vc1_ok C.trk)) ?_ | refine Rt.eq ((vc1_ok C.trk)) ?_ | refine Th.eq ((vc1_ok C.trk)) ?_
  first | refine Eq.trans ((cbV_of e1)) ?_ | refine Rt.eq ((cbV_of e1)) ?_ | refine Th.eq ((cbV_of e1)) ?_
  first | refine Eq.trans ((gR_v C1.k C1.rTr)) ?_ | refine Rt.eq ((gR_v C1.k C1.rTr)) ?_ | refine Th.eq ((gR_v C1.k C1.rTr)) ?_
  first | refine Eq.trans ((vc1_ok C1.trk)) ?_ | refine Rt.eq ((vc1_ok C1.trk)) ?_ | refine Th.eq ((vc1_ok C1.trk)) ?_
  first | refine Eq.trans ((cbI_of e2)) ?_ | refine Rt.eq ((cbI_of e2)) ?_ | refine Th.eq ((cbI_of e2)) ?_
  rfl
end TEL
