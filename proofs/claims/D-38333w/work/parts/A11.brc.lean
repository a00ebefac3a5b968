set_option maxRecDepth 4000
/-! ===== rules, by the class ===== -/
noncomputable def Sh.kept (S : Sh) (k : Nat) : Bool := match k with
  | 0 => decide (dCmG (S.dr false) (dMul (i2D (nI S.H.dep)) (kD 4604930618986332160)) ≤ 0)
  | 1 => !decide (dCmL (S.gm false) (kD 4598175219545276416) < 0) && decide (nI (S.list false) ≤ 2)
  | 2 => decide (dCmG (S.great false 0) (i2D (nI S.limit)) ≤ 0)
  | 3 => !decide (nI S.surv < 3)
  | 4 => !decide (dCmL (S.speed (nI S.gives)) (kD 4618441417868443648) < 0)
  | 5 => !decide (nI (nFlow S.pipes) ≤ 0) && !decide (nI (nLst S.pipes * 2) < nI (nFlow S.pipes))
  | 6 => decide (dCmG (dAbs (S.trim false)) (dDiv (i2D (nI S.H.len)) (kD 4630826316843712512)) ≤ 0)
  | _ => decide (nI S.foul ≤ 8)
noncomputable def Sh.afl (S : Sh) : Bool := !decide (dCmL (S.dr false) FP.dconst0 < 0)
noncomputable def Sh.brk (S : Sh) (k : Nat) : Bool := if k = 7 then !S.kept 7 else !(S.afl && S.kept k)
noncomputable def Sh.breaks (S : Sh) : Nat := bset S.brk 8
def ruS (k : Nat) : Nat := if k = 7 then 65 else 64 - k
def RuleG (G : Nat → Option Nat) (r : Nat → Nat) : Prop := (∀ k, k < 8 → G (ruS k) = some (r k)) ∧ ∀ i j, i < 8 → j < 8 → r i = r j → i = j
def pick8 (k m0 m1 m2 m3 m4 m5 m6 m7 : Nat) : Nat := match k with
  | 0 => m0 | 1 => m1 | 2 => m2 | 3 => m3 | 4 => m4 | 5 => m5 | 6 => m6 | _ => m7
section BRC
variable {G : Nat → Option Nat} {M : Mem} {b : Nat} {g : SG} {S : Sh} {r : Nat → Nat}
theorem dsg_s {a x g_ m : Nat} {κ : Nat → Res} {t : List Nat} (h : G g_ = some x) (hne : x ≠ a) : dsg G a κ (g_ :: m :: t) = dsg G a κ t := by
  show (if G g_ = some a then κ m else dsg G a κ t) = _
  rw [if_neg (by rw [h]; intro e; injection e with e; exact hne e)]
theorem dsg_h {a g_ m : Nat} {κ : Nat → Res} {t : List Nat} (h : G g_ = some a) : dsg G a κ (g_ :: m :: t) = κ m := if_pos h
theorem dsg_r (hr : RuleG G r) {k : Nat} (hk : k < 8) {κ : Nat → Res} {m0 m1 m2 m3 m4 m5 m6 m7 : Nat} : dsg G (r k) κ [64, m0, 63, m1, 62, m2, 61, m3, 60, m4, 59, m5, 58, m6, 65, m7] = κ (pick8 k m0 m1 m2 m3 m4 m5 m6 m7) := by
  have ne : ∀ i, i < 8 → i ≠ k → r i ≠ r k := fun i hi h e => h (hr.2 i k hi hk e)
  have g0 : G 64 = some (r 0) := hr.1 0 (by decide)
  have g1 : G 63 = some (r 1) := hr.1 1 (by decide)
  have g2 : G 62 = some (r 2) := hr.1 2 (by decide)
  have g3 : G 61 = some (r 3) := hr.1 3 (by decide)
  have g4 : G 60 = some (r 4) := hr.1 4 (by decide)
  have g5 : G 59 = some (r 5) := hr.1 5 (by decide)
  have g6 : G 58 = some (r 6) := hr.1 6 (by decide)
  have g7 : G 65 = some (r 7) := hr.1 7 (by decide)
  obtain h | h | h | h | h | h | h | h : k = 0 ∨ k = 1 ∨ k = 2 ∨ k = 3 ∨ k = 4 ∨ k = 5 ∨ k = 6 ∨ k = 7 := by omega
  · subst h; rw [dsg_h g0]; rfl
  · subst h; rw [dsg_s g0 (ne 0 (by decide) (by decide)), dsg_h g1]; rfl
  · subst h; rw [dsg_s g0 (ne 0 (by decide) (by decide)), dsg_s g1 (ne 1 (by decide) (by decide)), dsg_h g2]; rfl
  · subst h; rw [dsg_s g0 (ne 0 (by decide) (by decide)), dsg_s g1 (ne 1 (by decide) (by decide)), dsg_s g2 (ne 2 (by decide) (by decide)), dsg_h g3]; rfl
  · subst h; rw [dsg_s g0 (ne 0 (by decide) (by decide)), dsg_s g1 (ne 1 (by decide) (by decide)), dsg_s g2 (ne 2 (by decide) (by decide)), dsg_s g3 (ne 3 (by decide) (by decide)), dsg_h g4]; rfl
  · subst h; rw [dsg_s g0 (ne 0 (by decide) (by decide)), dsg_s g1 (ne 1 (by decide) (by decide)), dsg_s g2 (ne 2 (by decide) (by decide)), dsg_s g3 (ne 3 (by decide) (by decide)), dsg_s g4 (ne 4 (by decide) (by decide)), dsg_h g5]; rfl
  · subst h; rw [dsg_s g0 (ne 0 (by decide) (by decide)), dsg_s g1 (ne 1 (by decide) (by decide)), dsg_s g2 (ne 2 (by decide) (by decide)), dsg_s g3 (ne 3 (by decide) (by decide)), dsg_s g4 (ne 4 (by decide) (by decide)), dsg_s g5 (ne 5 (by decide) (by decide)), dsg_h g6]; rfl
  · subst h; rw [dsg_s g0 (ne 0 (by decide) (by decide)), dsg_s g1 (ne 1 (by decide) (by decide)), dsg_s g2 (ne 2 (by decide) (by decide)), dsg_s g3 (ne 3 (by decide) (by decide)), dsg_s g4 (ne 4 (by decide) (by decide)), dsg_s g5 (ne 5 (by decide) (by decide)), dsg_s g6 (ne 6 (by decide) (by decide)), dsg_h g7]; rfl
theorem dbI_of9 {x : Res} {κ : Int32 → Mem → Res} {v : Int32} {M : Mem} (h : x = some (.inl (some (vI v)), M)) : dbI x κ = κ v M := by subst h; rfl
theorem rZ_d {x y : Int32} {M : Mem} : (if x ≤ y then rZ 1 M else rZ 0 M) = some (.inl (some (vI (bI (decide (x ≤ y))))), M) := by
  by_cases h : x ≤ y
  · rw [if_pos h, decide_eq_true h, rZ_1]; rfl
  · rw [if_neg h, decide_eq_false h, rZ_0]; rfl
theorem rZ_nd {x y : Int32} {M : Mem} : (if x < y then rZ 0 M else rZ 1 M) = some (.inl (some (vI (bI (!decide (x < y))))), M) := by
  by_cases h : x < y
  · rw [if_pos h, decide_eq_true h, rZ_0]; rfl
  · rw [if_neg h, decide_eq_false h, rZ_1]; rfl
theorem WgM.fr {M' : Mem} {p : Bool} (W : WgM M b S p) (h : mfd M' = mfd M) : WgM M' b S p := W.q h
/-- a rule in the water: kept or not -/
theorem c_kept (C : ShC G M b g S false) (hG : SeaG G) (W : WgM M b S false) (iS : SI S) (ha : ¬ dCmL (S.dr false) FP.dconst0 < 0) {k : Nat} (hk : k < 7) {a0 : Option Nat} : ∃ M', ex G 1 (784 + k) 0 [(0, vR a0), (1, vR (some b))] [] M = some (.inl (some (vI (bI (S.kept k)))), M') ∧ QC (ntX b) 0 0 M M' := by
  have iH := iS.h
  have up : ∀ {M'}, QC noX 0 0 M M' → QC (ntX b) 0 0 M M' := fun q => q.mono (fun _ h => absurd h (fun h => h)) (Nat.le_refl _) (Nat.le_refl _)
  have hd := afl_dr ha
  obtain h | h | h | h | h | h | h : k = 0 ∨ k = 1 ∨ k = 2 ∨ k = 3 ∨ k = 4 ∨ k = 5 ∨ k = 6 := by omega
  · subst h
    refine ⟨M, ?_, QC.rf⟩
    show ex G 1 784 0 _ _ _ = _
    rw [E784_0]
    first | refine Eq.trans ((gR_v C.k C.rTr)) ?_ | refine Rt.eq ((gR_v C.k C.rTr)) ?_ | refine Th.eq ((gR_v C.k C.rTr)) ?_
    first | refine Eq.trans ((gD_v C.trk W.d)) ?_ | refine Rt.eq ((gD_v C.trk W.d)) ?_ | refine Th.eq ((gD_v C.trk W.d)) ?_
    first | refine Eq.trans ((gR_v C.k C.rLn)) ?_ | refine Rt.eq ((gR_v C.k C.rLn)) ?_ | refine Th.eq ((gR_v C.k C.rLn)) ?_
    first | refine Eq.trans ((gI_v C.lk C.ldep)) ?_ | refine Rt.eq ((gI_v C.lk C.ldep)) ?_ | refine Th.eq ((gI_v C.lk C.ldep)) ?_
    first | refine Eq.trans ((fD_ok (by (first | exact isN_of (by repeat' (with_reducible first | assumption | exact bd_kD | exact bd_i2D | exact bd_c0 | exact bd_c1 | apply bd_add | apply bd_mul | apply bd_div | apply bd_sub | exact dr_b | exact bd_step | exact bd_Q | exact bd_wide | exact bd_slice | exact bd_part | exact bd_section | exact bd_lift | exact bd_at | exact bd_X | exact bd_ord | exact bd_so | exact bd_vol | exact bd_water | exact bd_draught | exact bd_simT | exact bd_bread | exact bd_br | exact bd_far | exact bd_tank | exact LdB.t (by (first | assumption | exact ldB_plate | exact ldB_item | exact ldB_tank | exact ldB_engine | exact ldB_hold)) | exact LdB.s (by (first | assumption | exact ldB_plate | exact ldB_item | exact ldB_tank | exact ldB_engine | exact ldB_hold)) | exact LdB.u (by (first | assumption | exact ldB_plate | exact ldB_item | exact ldB_tank | exact ldB_engine | exact ldB_hold)) | exact SmB.w (by (first | assumption | exact sums_b)) | exact SmB.l (by (first | assumption | exact sums_b)) | exact SmB.t (by (first | assumption | exact sums_b)) | exact SmB.k (by (first | assumption | exact sums_b)) | exact wt_b | exact bd_lcg | exact bd_tcg | exact bd_kg | exact bd_dr | exact bd_loose | exact bd_free | exact bd_bulk | exact bd_fWater | exact lo_4 | exact lo_8 | exact lo_6 | exact lo_2 | exact lo_18 | exact lo_16 | exact lo_64 | exact lo_72 | exact lo_32 | exact lo_12 | exact lo_100 | exact lo_step | fail)) (by decide) | exact isN_of (by repeat' (with_reducible first | assumption | exact bd_kD | exact bd_i2D | exact bd_c0 | exact bd_c1 | apply bd_add | apply bd_mul | apply bd_div | apply bd_sub | exact dr_b | exact bd_step | exact bd_Q | exact bd_wide | exact bd_slice | exact bd_part | exact bd_section | exact bd_lift | exact bd_at | exact bd_X | exact bd_ord | exact bd_so | exact bd_vol | exact bd_water | exact bd_draught | exact bd_simT | exact bd_bread | exact bd_br | exact bd_far | exact bd_tank | exact LdB.t (by (first | assumption | exact ldB_plate | exact ldB_item | exact ldB_tank | exact ldB_engine | exact ldB_hold)) | exact LdB.s (by (first | assumption | exact ldB_plate | exact ldB_item | exact ldB_tank | exact ldB_engine | exact ldB_hold)) | exact LdB.u (by (first | assumption | exact ldB_plate | exact ldB_item | exact ldB_tank | exact ldB_engine | exact ldB_hold)) | exact SmB.w (by (first | assumption | exact sums_b)) | exact SmB.l (by (first | assumption | exact sums_b)) | exact SmB.t (by (first | assumption | exact sums_b)) | exact SmB.k (by (first | assumption | exact sums_b)) | exact wt_b | exact bd_lcg | exact bd_tcg | exact bd_kg | exact bd_dr | exact bd_loose | exact bd_free | exact bd_bulk | exact bd_fWater | exact lo_4 | exact lo_8 | exact lo_6 | exact lo_2 | exact lo_18 | exact lo_16 | exact lo_64 | exact lo_72 | exact lo_32 | exact lo_12 | exact lo_100 | exact lo_step | fail)) (by omega))))) ?_ | refine Rt.eq ((fD_ok (by (first | exact isN_of (by repeat' (with_reducible first | assumption | exact bd_kD | exact bd_i2D | exact bd_c0 | exact bd_c1 | apply bd_add | apply bd_mul | apply bd_div | apply bd_sub | exact dr_b | exact bd_step | exact bd_Q | exact bd_wide | exact bd_slice | exact bd_part | exact bd_section | exact bd_lift | exact bd_at | exact bd_X | exact bd_ord | exact bd_so | exact bd_vol | exact bd_water | exact bd_draught | exact bd_simT | exact bd_bread | exact bd_br | exact bd_far | exact bd_tank | exact LdB.t (by (first | assumption | exact ldB_plate | exact ldB_item | exact ldB_tank | exact ldB_engine | exact ldB_hold)) | exact LdB.s (by (first | assumption | exact ldB_plate | exact ldB_item | exact ldB_tank | exact ldB_engine | exact ldB_hold)) | exact LdB.u (by (first | assumption | exact ldB_plate | exact ldB_item | exact ldB_tank | exact ldB_engine | exact ldB_hold)) | exact SmB.w (by (first | assumption | exact sums_b)) | exact SmB.l (by (first | assumption | exact sums_b)) | exact SmB.t (by (first | assumption | exact sums_b)) | exact SmB.k (by (first | assumption | exact sums_b)) | exact wt_b | exact bd_lcg | exact bd_tcg | exact bd_kg | exact bd_dr | exact bd_loose | exact bd_free | exact bd_bulk | exact bd_fWater | exact lo_4 | exact lo_8 | exact lo_6 | exact lo_2 | exact lo_18 | exact lo_16 | exact lo_64 | exact lo_72 | exact lo_32 | exact lo_12 | exact lo_100 | exact lo_step | fail)) (by decide) | exact isN_of (by repeat' (with_reducible first | assumption | exact bd_kD | exact bd_i2D | exact bd_c0 | exact bd_c1 | apply bd_add | apply bd_mul | apply bd_div | apply bd_sub | exact dr_b | exact bd_step | exact bd_Q | exact bd_wide | exact bd_slice | exact bd_part | exact bd_section | exact bd_lift | exact bd_at | exact bd_X | exact bd_ord | exact bd_so | exact bd_vol | exact bd_water | exact bd_draught | exact bd_simT | exact bd_bread | exact bd_br | exact bd_far | exact bd_tank | exact LdB.t (by (first | assumption | exact ldB_plate | exact ldB_item | exact ldB_tank | exact ldB_engine | exact ldB_hold)) | exact LdB.s (by (first | assumption | exact ldB_plate | exact ldB_item | exact ldB_tank | exact ldB_engine | exact ldB_hold)) | exact LdB.u (by (first | assumption | exact ldB_plate | exact ldB_item | exact ldB_tank | exact ldB_engine | exact ldB_hold)) | exact SmB.w (by (first | assumption | exact sums_b)) | exact SmB.l (by (first | assumption | exact sums_b)) | exact SmB.t (by (first | assumption | exact sums_b)) | exact SmB.k (by (first | assumption | exact sums_b)) | exact wt_b | exact bd_lcg | exact bd_tcg | exact bd_kg | exact bd_dr | exact bd_loose | exact bd_free | exact bd_bulk | exact bd_fWater | exact lo_4 | exact lo_8 | exact lo_6 | exact lo_2 | exact lo_18 | exact lo_16 | exact lo_64 | exact lo_72 | exact lo_32 | exact lo_12 | exact lo_100 | exact lo_step | fail)) (by omega))))) ?_ | refine Th.eq ((fD_ok (by (first | exact isN_of (by repeat' (with_reducible first | assumption | exact bd_kD | exact bd_i2D | exact bd_c0 | exact bd_c1 | apply bd_add | apply bd_mul | apply bd_div | apply bd_sub | exact dr_b | exact bd_step | exact bd_Q | exact bd_wide | exact bd_slice | exact bd_part | exact bd_section | exact bd_lift | exact bd_at | exact bd_X | exact bd_ord | exact bd_so | exact bd_vol | exact bd_water | exact bd_draught | exact bd_simT | exact bd_bread | exact bd_br | exact bd_far | exact bd_tank | exact LdB.t (by (first | assumption | exact ldB_plate | exact ldB_item | exact ldB_tank | exact ldB_engine | exact ldB_hold)) | exact LdB.s (by (first | assumption | exact ldB_plate | exact ldB_item | exact ldB_tank | exact ldB_engine | exact ldB_hold)) | exact LdB.u (by (first | assumption | exact ldB_plate | exact ldB_item | exact ldB_tank | exact ldB_engine | exact ldB_hold)) | exact SmB.w (by (first | assumption | exact sums_b)) | exact SmB.l (by (first | assumption | exact sums_b)) | exact SmB.t (by (first | assumption | exact sums_b)) | exact SmB.k (by (first | assumption | exact sums_b)) | exact wt_b | exact bd_lcg | exact bd_tcg | exact bd_kg | exact bd_dr | exact bd_loose | exact bd_free | exact bd_bulk | exact bd_fWater | exact lo_4 | exact lo_8 | exact lo_6 | exact lo_2 | exact lo_18 | exact lo_16 | exact lo_64 | exact lo_72 | exact lo_32 | exact lo_12 | exact lo_100 | exact lo_step | fail)) (by decide) | exact isN_of (by repeat' (with_reducible first | assumption | exact bd_kD | exact bd_i2D | exact bd_c0 | exact bd_c1 | apply bd_add | apply bd_mul | apply bd_div | apply bd_sub | exact dr_b | exact bd_step | exact bd_Q | exact bd_wide | exact bd_slice | exact bd_part | exact bd_section | exact bd_lift | exact bd_at | exact bd_X | exact bd_ord | exact bd_so | exact bd_vol | exact bd_water | exact bd_draught | exact bd_simT | exact bd_bread | exact bd_br | exact bd_far | exact bd_tank | exact LdB.t (by (first | assumption | exact ldB_plate | exact ldB_item | exact ldB_tank | exact ldB_engine | exact ldB_hold)) | exact LdB.s (by (first | assumption | exact ldB_plate | exact ldB_item | exact ldB_tank | exact ldB_engine | exact ldB_hold)) | exact LdB.u (by (first | assumption | exact ldB_plate | exact ldB_item | exact ldB_tank | exact ldB_engine | exact ldB_hold)) | exact SmB.w (by (first | assumption | exact sums_b)) | exact SmB.l (by (first | assumption | exact sums_b)) | exact SmB.t (by (first | assumption | exact sums_b)) | exact SmB.k (by (first | assumption | exact sums_b)) | exact wt_b | exact bd_lcg | exact bd_tcg | exact bd_kg | exact bd_dr | exact bd_loose | exact bd_free | exact bd_bulk | exact bd_fWater | exact lo_4 | exact lo_8 | exact lo_6 | exact lo_2 | exact lo_18 | exact lo_16 | exact lo_64 | exact lo_72 | exact lo_32 | exact lo_12 | exact lo_100 | exact lo_step | fail)) (by omega))))) ?_
    exact rZ_d
  · subst h
    show ∃ M', ex G 1 785 0 _ _ _ = _ ∧ _
    obtain ⟨f, e1⟩ := c551 C W ha iS
    have q1 : QC noX 0 0 M (sdA M (b + 3) f) := QC.sdA
    have C1 := C.fr0 q1
    obtain ⟨f2, e2⟩ := c552 C1 W.sdA iS
    by_cases h : dCmL (S.gm false) (kD 4598175219545276416) < 0
    · refine ⟨_, ?_, up q1⟩
      rw [E785_0]
      first | refine Eq.trans ((gR_v C.k C.rTr)) ?_ | refine Rt.eq ((gR_v C.k C.rTr)) ?_ | refine Th.eq ((gR_v C.k C.rTr)) ?_
      first | refine Eq.trans ((vc1_ok C.trk)) ?_ | refine Rt.eq ((vc1_ok C.trk)) ?_ | refine Th.eq ((vc1_ok C.trk)) ?_
      first | refine Eq.trans ((cbD_of e1)) ?_ | refine Rt.eq ((cbD_of e1)) ?_ | refine Th.eq ((cbD_of e1)) ?_
      rw [if_pos h, rZ_0]
      show (_ : Res) = some (.inl (some (vI (bI (!decide (dCmL (S.gm false) (kD 4598175219545276416) < 0) && decide (nI (S.list false) ≤ 2))))), _)
      rw [decide_eq_true h]; rfl
    · refine ⟨_, ?_, up (q1.tr (QC.sdA (a := b + 3) (g := f2)))⟩
      rw [E785_0]
      first | refine Eq.trans ((gR_v C.k C.rTr)) ?_ | refine Rt.eq ((gR_v C.k C.rTr)) ?_ | refine Th.eq ((gR_v C.k C.rTr)) ?_
      first | refine Eq.trans ((vc1_ok C.trk)) ?_ | refine Rt.eq ((vc1_ok C.trk)) ?_ | refine Th.eq ((vc1_ok C.trk)) ?_
      first | refine Eq.trans ((cbD_of e1)) ?_ | refine Rt.eq ((cbD_of e1)) ?_ | refine Th.eq ((cbD_of e1)) ?_
      rw [if_neg h]
      first | refine Eq.trans ((gR_v C1.k C1.rTr)) ?_ | refine Rt.eq ((gR_v C1.k C1.rTr)) ?_ | refine Th.eq ((gR_v C1.k C1.rTr)) ?_
      first | refine Eq.trans ((vc1_ok C1.trk)) ?_ | refine Rt.eq ((vc1_ok C1.trk)) ?_ | refine Th.eq ((vc1_ok C1.trk)) ?_
      first | refine Eq.trans ((cbI_of e2)) ?_ | refine Rt.eq ((cbI_of e2)) ?_ | refine Th.eq ((cbI_of e2)) ?_
      refine rZ_d.trans ?_
      show (_ : Res) = some (.inl (some (vI (bI (!decide (dCmL (S.gm false) (kD 4598175219545276416) < 0) && decide (nI (S.list false) ≤ 2))))), _)
      rw [decide_eq_false h]; rfl
  · subst h
    show ∃ M', ex G 1 786 0 _ _ _ = _ ∧ _
    obtain ⟨M1, e1, q1, -⟩ := c565 (p := false) C hG (k := 0) (by decide) iS
    have C1 := C.fr0 q1
    refine ⟨M1, ?_, up q1⟩
    rw [E786_0]
    first | refine Eq.trans ((gR_v C.k C.rSt)) ?_ | refine Rt.eq ((gR_v C.k C.rSt)) ?_ | refine Th.eq ((gR_v C.k C.rSt)) ?_
    first | refine Eq.trans ((vc1_ok C.stk)) ?_ | refine Rt.eq ((vc1_ok C.stk)) ?_ | refine Th.eq ((vc1_ok C.stk)) ?_
    first | refine Eq.trans ((cbD_of e1)) ?_ | refine Rt.eq ((cbD_of e1)) ?_ | refine Th.eq ((cbD_of e1)) ?_
    first | refine Eq.trans ((gI_v C1.k C1.limit)) ?_ | refine Rt.eq ((gI_v C1.k C1.limit)) ?_ | refine Th.eq ((gI_v C1.k C1.limit)) ?_
    exact rZ_d
  · subst h
    show ∃ M', ex G 1 787 0 _ _ _ = _ ∧ _
    obtain ⟨M1, e1, q1⟩ := c556 C iS
    refine ⟨M1, ?_, up q1⟩
    rw [E787_0]
    first | refine Eq.trans ((gR_v C.k C.rFd)) ?_ | refine Rt.eq ((gR_v C.k C.rFd)) ?_ | refine Th.eq ((gR_v C.k C.rFd)) ?_
    first | refine Eq.trans ((vc1_ok C.fdk)) ?_ | refine Rt.eq ((vc1_ok C.fdk)) ?_ | refine Th.eq ((vc1_ok C.fdk)) ?_
    first | refine Eq.trans ((cbI_of e1)) ?_ | refine Rt.eq ((cbI_of e1)) ?_ | refine Th.eq ((cbI_of e1)) ?_
    exact rZ_nd
  · subst h
    show ∃ M', ex G 1 788 0 _ _ _ = _ ∧ _
    obtain ⟨M1, e1, q1⟩ := c525 C iS
    have C1 := C.frN q1
    obtain ⟨M2, e2, q2, -⟩ := c526 C1 iS (pw := nI S.gives)
    refine ⟨M2, ?_, q1.tr (q2.mono (fun _ h => absurd h (fun h => h)) (Nat.le_refl _) (Nat.le_refl _))⟩
    rw [E788_0]
    first | refine Eq.trans ((gR_v C.k C.rEn)) ?_ | refine Rt.eq ((gR_v C.k C.rEn)) ?_ | refine Th.eq ((gR_v C.k C.rEn)) ?_
    first | refine Eq.trans ((gR_v C.k C.rEn)) ?_ | refine Rt.eq ((gR_v C.k C.rEn)) ?_ | refine Th.eq ((gR_v C.k C.rEn)) ?_
    first | refine Eq.trans ((vc1_ok C.ek)) ?_ | refine Rt.eq ((vc1_ok C.ek)) ?_ | refine Th.eq ((vc1_ok C.ek)) ?_
    first | refine Eq.trans ((cbI_of e1)) ?_ | refine Rt.eq ((cbI_of e1)) ?_ | refine Th.eq ((cbI_of e1)) ?_
    first | refine Eq.trans ((vc1_ok C1.ek)) ?_ | refine Rt.eq ((vc1_ok C1.ek)) ?_ | refine Th.eq ((vc1_ok C1.ek)) ?_
    first | refine Eq.trans ((cbD_of e2)) ?_ | refine Rt.eq ((cbD_of e2)) ?_ | refine Th.eq ((cbD_of e2)) ?_
    exact rZ_nd
  · subst h
    show ∃ M', ex G 1 789 0 _ _ _ = _ ∧ _
    have hP := iS.P
    have N := C.N
    obtain ⟨M1, e1, q1, -⟩ := c530' hP N
    have C1 := C.frN q1
    have N1 := C1.N
    by_cases h : nI (nFlow S.pipes) ≤ 0
    · refine ⟨M1, ?_, q1⟩
      rw [E789_0]
      first | refine Eq.trans ((gR_v C.k C.rEn)) ?_ | refine Rt.eq ((gR_v C.k C.rEn)) ?_ | refine Th.eq ((gR_v C.k C.rEn)) ?_
      first | refine Eq.trans ((gR_v C.ek C.ent)) ?_ | refine Rt.eq ((gR_v C.ek C.ent)) ?_ | refine Th.eq ((gR_v C.ek C.ent)) ?_
      first | refine Eq.trans ((vc1_ok C.nk)) ?_ | refine Rt.eq ((vc1_ok C.nk)) ?_ | refine Th.eq ((vc1_ok C.nk)) ?_
      first | refine Eq.trans ((cbI_of e1)) ?_ | refine Rt.eq ((cbI_of e1)) ?_ | refine Th.eq ((cbI_of e1)) ?_
      rw [if_pos h, rZ_0]
      show (_ : Res) = some (.inl (some (vI (bI (!decide (nI (nFlow S.pipes) ≤ 0) && !decide (nI (nLst S.pipes * 2) < nI (nFlow S.pipes)))))), _)
      rw [decide_eq_true h]; rfl
    · obtain ⟨M2, e2, q2, -⟩ := c530' hP N1
      obtain ⟨M3, e3, q3⟩ := c541_1 (G := G) hP S.pipes.length 0 (nFlow S.pipes) M2 (Nat.zero_add _) (nFlow_le hP N) (N1.fr q2)
      have e4 : ex G 1 541 0 [(0, vR (some (b + 8)))] [] M1 = some (.inl (some (vI (nI (nLst S.pipes)))), M3) := by
        rw [E541_0, vc1_ok N1.nk, cbI_of e2]
        exact e3
      refine ⟨M3, ?_, (q1.tr q2).tr q3⟩
      rw [E789_0]
      first | refine Eq.trans ((gR_v C.k C.rEn)) ?_ | refine Rt.eq ((gR_v C.k C.rEn)) ?_ | refine Th.eq ((gR_v C.k C.rEn)) ?_
      first | refine Eq.trans ((gR_v C.ek C.ent)) ?_ | refine Rt.eq ((gR_v C.ek C.ent)) ?_ | refine Th.eq ((gR_v C.ek C.ent)) ?_
      first | refine Eq.trans ((vc1_ok C.nk)) ?_ | refine Rt.eq ((vc1_ok C.nk)) ?_ | refine Th.eq ((vc1_ok C.nk)) ?_
      first | refine Eq.trans ((cbI_of e1)) ?_ | refine Rt.eq ((cbI_of e1)) ?_ | refine Th.eq ((cbI_of e1)) ?_
      rw [if_neg h]
      first | refine Eq.trans ((gR_v C1.k C1.rEn)) ?_ | refine Rt.eq ((gR_v C1.k C1.rEn)) ?_ | refine Th.eq ((gR_v C1.k C1.rEn)) ?_
      first | refine Eq.trans ((gR_v C1.ek C1.ent)) ?_ | refine Rt.eq ((gR_v C1.ek C1.ent)) ?_ | refine Th.eq ((gR_v C1.ek C1.ent)) ?_
      first | refine Eq.trans ((vc1_ok C1.nk)) ?_ | refine Rt.eq ((vc1_ok C1.nk)) ?_ | refine Th.eq ((vc1_ok C1.nk)) ?_
      first | refine Eq.trans ((cbI_of e4)) ?_ | refine Rt.eq ((cbI_of e4)) ?_ | refine Th.eq ((cbI_of e4)) ?_
      rw [show aMul (nI (nLst S.pipes)) 2 = nI (nLst S.pipes * 2) from aMul_n _ 2]
      refine rZ_nd.trans ?_
      show (_ : Res) = some (.inl (some (vI (bI (!decide (nI (nFlow S.pipes) ≤ 0) && !decide (nI (nLst S.pipes * 2) < nI (nFlow S.pipes)))))), _)
      rw [decide_eq_false h]; rfl
  · subst h
    obtain ⟨f, e1⟩ := c554 C W ha iS
    have q1 : QC noX 0 0 M (sdA M (b + 3) f) := QC.sdA
    have C1 := C.fr0 q1
    refine ⟨_, ?_, up q1⟩
    show ex G 1 790 0 _ _ _ = _
    rw [E790_0]
    first | refine Eq.trans ((gR_v C.k C.rTr)) ?_ | refine Rt.eq ((gR_v C.k C.rTr)) ?_ | refine Th.eq ((gR_v C.k C.rTr)) ?_
    first | refine Eq.trans ((vc1_ok C.trk)) ?_ | refine Rt.eq ((vc1_ok C.trk)) ?_ | refine Th.eq ((vc1_ok C.trk)) ?_
    first | refine Eq.trans ((cbD_of e1)) ?_ | refine Rt.eq ((cbD_of e1)) ?_ | refine Th.eq ((cbD_of e1)) ?_
    first | refine Eq.trans ((fD_ok (isN_of (bd_trim (iS := iS) ha) (by decide)))) ?_ | refine Rt.eq ((fD_ok (isN_of (bd_trim (iS := iS) ha) (by decide)))) ?_ | refine Th.eq ((fD_ok (isN_of (bd_trim (iS := iS) ha) (by decide)))) ?_
    first | refine Eq.trans ((gR_v C1.k C1.rLn)) ?_ | refine Rt.eq ((gR_v C1.k C1.rLn)) ?_ | refine Th.eq ((gR_v C1.k C1.rLn)) ?_
    first | refine Eq.trans ((gI_v C1.lk C1.llen)) ?_ | refine Rt.eq ((gI_v C1.lk C1.llen)) ?_ | refine Th.eq ((gI_v C1.lk C1.llen)) ?_
    first | refine Eq.trans ((fD_ok (isN_of (bd_div bd_i2D bd_kD (lo_kD _ (by decide))) (by decide)))) ?_ | refine Rt.eq ((fD_ok (isN_of (bd_div bd_i2D bd_kD (lo_kD _ (by decide))) (by decide)))) ?_ | refine Th.eq ((fD_ok (isN_of (bd_div bd_i2D bd_kD (lo_kD _ (by decide))) (by decide)))) ?_
    exact rZ_d
end BRC
