set_option maxRecDepth 4000
/-! ===== Flood (walks) ===== -/
theorem mfi_sdA {M : Mem} {a : Nat} {g : Nat → UInt64} : mfi (sdA M a g) = mfi M := rfl
theorem mfd_sdA' {M : Mem} {a : Nat} {g : Nat → UInt64} : mfd (sdA M a g) = mfd M := rfl
theorem popk {x y n s : Nat} (h1 : x < y) (h2 : y ≤ 6) (h3 : 7 ≤ x + (n + 1) ∨ s = 0) (h4 : s ≠ 0) : 1 ≤ n ∧ 7 ≤ y + n := by omega
section FLW
variable {G : Nat → Option Nat} {M : Mem} {b : Nat} {g : SG} {S : Sh} {p : Bool}
theorem c560_1 {s : Nat} {w : UInt64} (hs : s < 64) (bw : Bd w 1704) (iS : SI S) : ∀ (n i : Nat) (t : UInt64) {M : Mem}, ShC G M b g S p → i + n = 12 → mfi M 74 (b + 15) = nI s → mfd M 75 (b + 15) = t → Dr t →
    ∃ M', ex G 1 560 1 [(0, vR (some (b + 15))), (1, vD w), (3, vI (nI i))] [] M = some (.inl (some (vI (bI (fSet S.H s w n t).isSome))), M') ∧ QC noX 0 0 M M' ∧ mfi M' 74 (b + 15) = nI s ∧ (∀ f x, f ≠ 75 → mfd M' f x = mfd M f x) ∧ (∀ t', fSet S.H s w n t = some t' → mfd M' 75 (b + 15) = t')
  | 0, i, t, M, C, hi, hf, ht, dt => by
    have e : i = 12 := by omega
    subst e
    refine ⟨M, ?_, QC.rf, hf, fun _ _ _ => rfl, fun t' h => by cases h; exact ht⟩
    rw [E560_1, if_neg (by decide), rZ_1]
    rfl
  | n + 1, i, t, M, C, hi, hf, ht, dt => by
    have iH := iS.h
    have bW := bd_fWater (H := S.H) (s := s) (t := t)
    obtain ⟨f1, e1⟩ := c500 (G := G) C.L (w := dAdd (fWater S.H s t) w)
    have q1 : QC noX 0 0 M (sdA M (b + 3) f1) := QC.sdA
    have C1 := C.fr0 q1
    have q2 : QC noX 0 0 (sdA M (b + 3) f1) (sfd (sdA M (b + 3) f1) 75 (b + 15) (hDraught S.H (dAdd (fWater S.H s t) w))) := QC.sfd rfl
    have C2 := C1.fr0 q2
    have f2 : mfi (sfd (sdA M (b + 3) f1) 75 (b + 15) (hDraught S.H (dAdd (fWater S.H s t) w))) 74 (b + 15) = nI s := by rw [mfi_sfd, mfi_sdA]; exact hf
    have d2 : ∀ f x, f ≠ 75 → mfd (sfd (sdA M (b + 3) f1) 75 (b + 15) (hDraught S.H (dAdd (fWater S.H s t) w))) f x = mfd M f x := fun f x hfx => by rw [mfd_ne hfx, mfd_sdA']
    have st : ex G 1 560 1 [(0, vR (some (b + 15))), (1, vD w), (3, vI (nI i))] [] M = if dCmG (hDraught S.H (dAdd (fWater S.H s t) w)) FP.dconst0 < 0 then rZ 0 (sfd (sdA M (b + 3) f1) 75 (b + 15) (hDraught S.H (dAdd (fWater S.H s t) w))) else ex G 1 560 1 [(0, vR (some (b + 15))), (1, vD w), (3, vI (nI (i + 1)))] [] (sfd (sdA M (b + 3) f1) 75 (b + 15) (hDraught S.H (dAdd (fWater S.H s t) w))) := by
      rw [E560_1, if_pos (show nI i < 12 from nI_lt (a := i) (b := 12) (by omega) (by decide)), show aAdd (nI i) 1 = nI (i + 1) from aAdd_n i 1]
      first | refine Eq.trans ((gR_v C.fdk C.fdsh)) ?_ | refine Rt.eq ((gR_v C.fdk C.fdsh)) ?_ | refine Th.eq ((gR_v C.fdk C.fdsh)) ?_
      first | refine Eq.trans ((gR_v C.k C.rLn)) ?_ | refine Rt.eq ((gR_v C.k C.rLn)) ?_ | refine Th.eq ((gR_v C.k C.rLn)) ?_
      first | refine Eq.trans ((vc1_ok C.fdk)) ?_ | refine Rt.eq ((vc1_ok C.fdk)) ?_ | refine Th.eq ((vc1_ok C.fdk)) ?_
      first | refine Eq.trans ((cbD_of (c561 C hs hf ht dt iS))) ?_ | refine Rt.eq ((cbD_of (c561 C hs hf ht dt iS))) ?_ | refine Th.eq ((cbD_of (c561 C hs hf ht dt iS))) ?_
      first | refine Eq.trans ((fD_ok (by (first | exact isN_of (by repeat' (with_reducible first | assumption | exact bd_kD | exact bd_i2D | exact bd_c0 | exact bd_c1 | apply bd_add | apply bd_mul | apply bd_div | apply bd_sub | exact dr_b | exact bd_step | exact bd_Q | exact bd_wide | exact bd_slice | exact bd_part | exact bd_section | exact bd_lift | exact bd_at | exact bd_X | exact bd_ord | exact bd_so | exact bd_vol | exact bd_water | exact bd_draught | exact bd_simT | exact bd_bread | exact bd_br | exact bd_far | exact bd_tank | exact LdB.t (by (first | assumption | exact ldB_plate | exact ldB_item | exact ldB_tank | exact ldB_engine | exact ldB_hold)) | exact LdB.s (by (first | assumption | exact ldB_plate | exact ldB_item | exact ldB_tank | exact ldB_engine | exact ldB_hold)) | exact LdB.u (by (first | assumption | exact ldB_plate | exact ldB_item | exact ldB_tank | exact ldB_engine | exact ldB_hold)) | exact SmB.w (by (first | assumption | exact sums_b)) | exact SmB.l (by (first | assumption | exact sums_b)) | exact SmB.t (by (first | assumption | exact sums_b)) | exact SmB.k (by (first | assumption | exact sums_b)) | exact wt_b | exact bd_lcg | exact bd_tcg | exact bd_kg | exact bd_dr | exact bd_loose | exact bd_free | exact bd_bulk | exact bd_fWater | exact lo_4 | exact lo_8 | exact lo_6 | exact lo_2 | exact lo_18 | exact lo_16 | exact lo_64 | exact lo_72 | exact lo_step | fail)) (by decide) | exact isN_of (by repeat' (with_reducible first | assumption | exact bd_kD | exact bd_i2D | exact bd_c0 | exact bd_c1 | apply bd_add | apply bd_mul | apply bd_div | apply bd_sub | exact dr_b | exact bd_step | exact bd_Q | exact bd_wide | exact bd_slice | exact bd_part | exact bd_section | exact bd_lift | exact bd_at | exact bd_X | exact bd_ord | exact bd_so | exact bd_vol | exact bd_water | exact bd_draught | exact bd_simT | exact bd_bread | exact bd_br | exact bd_far | exact bd_tank | exact LdB.t (by (first | assumption | exact ldB_plate | exact ldB_item | exact ldB_tank | exact ldB_engine | exact ldB_hold)) | exact LdB.s (by (first | assumption | exact ldB_plate | exact ldB_item | exact ldB_tank | exact ldB_engine | exact ldB_hold)) | exact LdB.u (by (first | assumption | exact ldB_plate | exact ldB_item | exact ldB_tank | exact ldB_engine | exact ldB_hold)) | exact SmB.w (by (first | assumption | exact sums_b)) | exact SmB.l (by (first | assumption | exact sums_b)) | exact SmB.t (by (first | assumption | exact sums_b)) | exact SmB.k (by (first | assumption | exact sums_b)) | exact wt_b | exact bd_lcg | exact bd_tcg | exact bd_kg | exact bd_dr | exact bd_loose | exact bd_free | exact bd_bulk | exact bd_fWater | exact lo_4 | exact lo_8 | exact lo_6 | exact lo_2 | exact lo_18 | exact lo_16 | exact lo_64 | exact lo_72 | exact lo_step | fail)) (by omega))))) ?_ | refine Rt.eq ((fD_ok (by (first | exact isN_of (by repeat' (with_reducible first | assumption | exact bd_kD | exact bd_i2D | exact bd_c0 | exact bd_c1 | apply bd_add | apply bd_mul | apply bd_div | apply bd_sub | exact dr_b | exact bd_step | exact bd_Q | exact bd_wide | exact bd_slice | exact bd_part | exact bd_section | exact bd_lift | exact bd_at | exact bd_X | exact bd_ord | exact bd_so | exact bd_vol | exact bd_water | exact bd_draught | exact bd_simT | exact bd_bread | exact bd_br | exact bd_far | exact bd_tank | exact LdB.t (by (first | assumption | exact ldB_plate | exact ldB_item | exact ldB_tank | exact ldB_engine | exact ldB_hold)) | exact LdB.s (by (first | assumption | exact ldB_plate | exact ldB_item | exact ldB_tank | exact ldB_engine | exact ldB_hold)) | exact LdB.u (by (first | assumption | exact ldB_plate | exact ldB_item | exact ldB_tank | exact ldB_engine | exact ldB_hold)) | exact SmB.w (by (first | assumption | exact sums_b)) | exact SmB.l (by (first | assumption | exact sums_b)) | exact SmB.t (by (first | assumption | exact sums_b)) | exact SmB.k (by (first | assumption | exact sums_b)) | exact wt_b | exact bd_lcg | exact bd_tcg | exact bd_kg | exact bd_dr | exact bd_loose | exact bd_free | exact bd_bulk | exact bd_fWater | exact lo_4 | exact lo_8 | exact lo_6 | exact lo_2 | exact lo_18 | exact lo_16 | exact lo_64 | exact lo_72 | exact lo_step | fail)) (by decide) | exact isN_of (by repeat' (with_reducible first | assumption | exact bd_kD | exact bd_i2D | exact bd_c0 | exact bd_c1 | apply bd_add | apply bd_mul | apply bd_div | apply bd_sub | exact dr_b | exact bd_step | exact bd_Q | exact bd_wide | exact bd_slice | exact bd_part | exact bd_section | exact bd_lift | exact bd_at | exact bd_X | exact bd_ord | exact bd_so | exact bd_vol | exact bd_water | exact bd_draught | exact bd_simT | exact bd_bread | exact bd_br | exact bd_far | exact bd_tank | exact LdB.t (by (first | assumption | exact ldB_plate | exact ldB_item | exact ldB_tank | exact ldB_engine | exact ldB_hold)) | exact LdB.s (by (first | assumption | exact ldB_plate | exact ldB_item | exact ldB_tank | exact ldB_engine | exact ldB_hold)) | exact LdB.u (by (first | assumption | exact ldB_plate | exact ldB_item | exact ldB_tank | exact ldB_engine | exact ldB_hold)) | exact SmB.w (by (first | assumption | exact sums_b)) | exact SmB.l (by (first | assumption | exact sums_b)) | exact SmB.t (by (first | assumption | exact sums_b)) | exact SmB.k (by (first | assumption | exact sums_b)) | exact wt_b | exact bd_lcg | exact bd_tcg | exact bd_kg | exact bd_dr | exact bd_loose | exact bd_free | exact bd_bulk | exact bd_fWater | exact lo_4 | exact lo_8 | exact lo_6 | exact lo_2 | exact lo_18 | exact lo_16 | exact lo_64 | exact lo_72 | exact lo_step | fail)) (by omega))))) ?_ | refine Th.eq ((fD_ok (by (first | exact isN_of (by repeat' (with_reducible first | assumption | exact bd_kD | exact bd_i2D | exact bd_c0 | exact bd_c1 | apply bd_add | apply bd_mul | apply bd_div | apply bd_sub | exact dr_b | exact bd_step | exact bd_Q | exact bd_wide | exact bd_slice | exact bd_part | exact bd_section | exact bd_lift | exact bd_at | exact bd_X | exact bd_ord | exact bd_so | exact bd_vol | exact bd_water | exact bd_draught | exact bd_simT | exact bd_bread | exact bd_br | exact bd_far | exact bd_tank | exact LdB.t (by (first | assumption | exact ldB_plate | exact ldB_item | exact ldB_tank | exact ldB_engine | exact ldB_hold)) | exact LdB.s (by (first | assumption | exact ldB_plate | exact ldB_item | exact ldB_tank | exact ldB_engine | exact ldB_hold)) | exact LdB.u (by (first | assumption | exact ldB_plate | exact ldB_item | exact ldB_tank | exact ldB_engine | exact ldB_hold)) | exact SmB.w (by (first | assumption | exact sums_b)) | exact SmB.l (by (first | assumption | exact sums_b)) | exact SmB.t (by (first | assumption | exact sums_b)) | exact SmB.k (by (first | assumption | exact sums_b)) | exact wt_b | exact bd_lcg | exact bd_tcg | exact bd_kg | exact bd_dr | exact bd_loose | exact bd_free | exact bd_bulk | exact bd_fWater | exact lo_4 | exact lo_8 | exact lo_6 | exact lo_2 | exact lo_18 | exact lo_16 | exact lo_64 | exact lo_72 | exact lo_step | fail)) (by decide) | exact isN_of (by repeat' (with_reducible first | assumption | exact bd_kD | exact bd_i2D | exact bd_c0 | exact bd_c1 | apply bd_add | apply bd_mul | apply bd_div | apply bd_sub | exact dr_b | exact bd_step | exact bd_Q | exact bd_wide | exact bd_slice | exact bd_part | exact bd_section | exact bd_lift | exact bd_at | exact bd_X | exact bd_ord | exact bd_so | exact bd_vol | exact bd_water | exact bd_draught | exact bd_simT | exact bd_bread | exact bd_br | exact bd_far | exact bd_tank | exact LdB.t (by (first | assumption | exact ldB_plate | exact ldB_item | exact ldB_tank | exact ldB_engine | exact ldB_hold)) | exact LdB.s (by (first | assumption | exact ldB_plate | exact ldB_item | exact ldB_tank | exact ldB_engine | exact ldB_hold)) | exact LdB.u (by (first | assumption | exact ldB_plate | exact ldB_item | exact ldB_tank | exact ldB_engine | exact ldB_hold)) | exact SmB.w (by (first | assumption | exact sums_b)) | exact SmB.l (by (first | assumption | exact sums_b)) | exact SmB.t (by (first | assumption | exact sums_b)) | exact SmB.k (by (first | assumption | exact sums_b)) | exact wt_b | exact bd_lcg | exact bd_tcg | exact bd_kg | exact bd_dr | exact bd_loose | exact bd_free | exact bd_bulk | exact bd_fWater | exact lo_4 | exact lo_8 | exact lo_6 | exact lo_2 | exact lo_18 | exact lo_16 | exact lo_64 | exact lo_72 | exact lo_step | fail)) (by omega))))) ?_
      first | refine Eq.trans ((vc1_ok C.lk)) ?_ | refine Rt.eq ((vc1_ok C.lk)) ?_ | refine Th.eq ((vc1_ok C.lk)) ?_
      first | refine Eq.trans ((cbD_of e1)) ?_ | refine Rt.eq ((cbD_of e1)) ?_ | refine Th.eq ((cbD_of e1)) ?_
      first | refine Eq.trans ((pD_ok C1.fdk C1.fdco)) ?_ | refine Rt.eq ((pD_ok C1.fdk C1.fdco)) ?_ | refine Th.eq ((pD_ok C1.fdk C1.fdco)) ?_
      first | refine Eq.trans ((gD_v C2.fdk mfd_at)) ?_ | refine Rt.eq ((gD_v C2.fdk mfd_at)) ?_ | refine Th.eq ((gD_v C2.fdk mfd_at)) ?_
      rfl
    by_cases hc : dCmG (hDraught S.H (dAdd (fWater S.H s t) w)) FP.dconst0 < 0
    · have hn : fSet S.H s w (n + 1) t = none := by unfold fSet; rw [if_pos hc]
      refine ⟨_, ?_, q1.tr q2, f2, d2, fun t' h => by rw [hn] at h; cases h⟩
      rw [st, if_pos hc, rZ_0, hn]
      rfl
    · have hn : fSet S.H s w (n + 1) t = fSet S.H s w n (hDraught S.H (dAdd (fWater S.H s t) w)) := by rw [fSet, if_neg hc]
      obtain ⟨M3, e3, q3, f3, d3, t3⟩ := c560_1 hs bw iS n (i + 1) _ C2 (by omega) f2 mfd_at (hDr_dr (fun h9 => hc ((sinks_iff iH).2.mpr h9)))
      rw [hn]
      refine ⟨M3, ?_, (q1.tr q2).tr q3, f3, fun f x hfx => (d3 f x hfx).trans (d2 f x hfx), t3⟩
      rw [st, if_neg hc]
      exact e3
theorem c560 {s : Nat} {w t : UInt64} (hs : s < 64) (bw : Bd w 1704) (iS : SI S) (C : ShC G M b g S p) (hf : mfi M 74 (b + 15) = nI s) (ht : mfd M 75 (b + 15) = t) (dt : Dr t) :
    ∃ M', ex G 1 560 0 [(0, vR (some (b + 15))), (1, vD w)] [] M = some (.inl (some (vI (bI (fSet S.H s w 12 t).isSome))), M') ∧ QC noX 0 0 M M' ∧ mfi M' 74 (b + 15) = nI s ∧ (∀ f x, f ≠ 75 → mfd M' f x = mfd M f x) ∧ (∀ t', fSet S.H s w 12 t = some t' → mfd M' 75 (b + 15) = t') := by
  rw [E560_0]
  exact c560_1 hs bw iS 12 0 t C rfl hf ht dt
theorem c562 (C : ShC G M b g S p) {s : Nat} (hs : s < 64) (hf : mfi M 74 (b + 15) = nI s) (iS : SI S) : ∃ M', ex G 1 562 0 [(0, vR (some (b + 15)))] [] M = some (.inl none, M') ∧ QC noX 0 0 M M' ∧ mfd M' = mfd M ∧ mfi M' 74 (b + 15) = nI (spread S.bulk (over s)) := by
  have q1 : QC noX 0 0 M (sfi M 74 (b + 15) (nI (over s))) := QC.sfi rfl
  have C1 := C.fr0 q1
  obtain ⟨M2, e2, q2, d2, f2⟩ := c558 C1 (over_lt s hs) mfi_at iS
  refine ⟨M2, ?_, q1.tr q2, d2.trans mfd_sfi, f2⟩
  have ev1 : aOr (nI s) (aAnd (aOr (aShl (nI s) 1) (aShr (nI s) 1)) 63) = nI (over s) := by
    rw [show (1 : Int32) = nI 1 from rfl, show (63 : Int32) = nI 63 from rfl, aShl_n (by decide), aShr_n (by omega) (by decide), aOr_n, aAnd_n, aOr_n]
    rfl
  rw [E562_0]
  first | refine Eq.trans ((gI_v C.fdk hf)) ?_ | refine Rt.eq ((gI_v C.fdk hf)) ?_ | refine Th.eq ((gI_v C.fdk hf)) ?_
  first | refine Eq.trans ((gI_v C.fdk hf)) ?_ | refine Rt.eq ((gI_v C.fdk hf)) ?_ | refine Th.eq ((gI_v C.fdk hf)) ?_
  first | refine Eq.trans ((gI_v C.fdk hf)) ?_ | refine Rt.eq ((gI_v C.fdk hf)) ?_ | refine Th.eq ((gI_v C.fdk hf)) ?_
  rw [ev1]
  first | refine Eq.trans ((pI_ok C.fdk C.fdco)) ?_ | refine Rt.eq ((pI_ok C.fdk C.fdco)) ?_ | refine Th.eq ((pI_ok C.fdk C.fdco)) ?_
  first | refine Eq.trans ((vc1_ok C1.fdk)) ?_ | refine Rt.eq ((vc1_ok C1.fdk)) ?_ | refine Th.eq ((vc1_ok C1.fdk)) ?_
  first | refine Eq.trans ((cbV_of e2)) ?_ | refine Rt.eq ((cbV_of e2)) ?_ | refine Th.eq ((cbV_of e2)) ?_
  rfl
/-- what a flood told -/
def FlM (M : Mem) (b : Nat) (r : Option (Nat × UInt64)) : Prop := ∀ s t, r = some (s, t) → s < 64 ∧ Dr t ∧ mfi M 74 (b + 15) = nI s ∧ mfd M 75 (b + 15) = t
theorem c557_2 {w : UInt64} (bw : Bd w 1704) (iS : SI S) : ∀ (n s : Nat) (t : UInt64) {M : Mem}, ShC G M b g S p → 1 ≤ n → (7 ≤ pop6 s + n ∨ s = 0) → s < 64 → mfi M 74 (b + 15) = nI s → mfd M 75 (b + 15) = t → Dr t → mfd M 68 (b + 14) = w →
    ∃ M', ex G 1 557 2 [(0, vR (some (b + 15)))] [] M = some (.inl (some (vI (bI (fLoop S.H S.bulk w n s t).isSome))), M') ∧ QC noX 0 0 M M' ∧ (∀ f x, f ≠ 75 → mfd M' f x = mfd M f x) ∧ FlM M' b (fLoop S.H S.bulk w n s t)
  | 0, _, _, _, _, h, _, _, _, _, _, _ => absurd h (by decide)
  | n + 1, s, t, M, C, hn, hp, hs, hf, ht, dt, hw => by
    have iH := iS.h
    obtain ⟨M1, e1, q1, f1, d1, t1⟩ := c560 (w := w) hs bw iS C hf ht dt
    have C1 := C.fr0 q1
    have st1 : ∀ κ : Int32 → Mem → Res, cbI (ex G 1 560 0 [(0, vR (some (b + 15))), (1, vD w)] [] M) κ = κ (bI (fSet S.H s w 12 t).isSome) M1 := fun κ => cbI_of e1
    cases hx : fSet S.H s w 12 t with
    | none =>
      have hl : fLoop S.H S.bulk w (n + 1) s t = none := by rw [fLoop, hx]
      refine ⟨M1, ?_, q1, d1, fun s9 t9 h9 => by rw [hl] at h9; cases h9⟩
      rw [E557_2]
      first | refine Eq.trans ((gR_v C.fdk C.fdsh)) ?_ | refine Rt.eq ((gR_v C.fdk C.fdsh)) ?_ | refine Th.eq ((gR_v C.fdk C.fdsh)) ?_
      first | refine Eq.trans ((gR_v C.k C.rTr)) ?_ | refine Rt.eq ((gR_v C.k C.rTr)) ?_ | refine Th.eq ((gR_v C.k C.rTr)) ?_
      first | refine Eq.trans ((gD_v C.trk hw)) ?_ | refine Rt.eq ((gD_v C.trk hw)) ?_ | refine Th.eq ((gD_v C.trk hw)) ?_
      first | refine Eq.trans ((vc1_ok C.fdk)) ?_ | refine Rt.eq ((vc1_ok C.fdk)) ?_ | refine Th.eq ((vc1_ok C.fdk)) ?_
      first | refine Eq.trans ((st1 _)) ?_ | refine Rt.eq ((st1 _)) ?_ | refine Th.eq ((st1 _)) ?_
      rw [hx, hl]
      show (if bI false = 0 then _ else _) = _
      rw [if_pos (show bI false = 0 from rfl), rZ_0]
      rfl
    | some t' =>
      have dt' := fSet_dr iH 12 t t' dt hx
      have ht' := t1 t' hx
      have st : ex G 1 557 2 [(0, vR (some (b + 15)))] [] M = if dCmG t' (dMul (i2D (nI S.H.dep)) (kD 4606056518893174784)) ≤ 0 then rZ 1 M1 else if nI s = 63 then rZ 1 M1 else if nI s = 0 then rZ 1 M1 else vc1 M1 18 (some (b + 15)) (fun a15 => cbV (ex G 1 562 0 [(0, vR (some a15))] [] M1) (fun M14 => ex G 1 557 2 [(0, vR (some (b + 15)))] [] M14)) := by
        rw [E557_2]
        first | refine Eq.trans ((gR_v C.fdk C.fdsh)) ?_ | refine Rt.eq ((gR_v C.fdk C.fdsh)) ?_ | refine Th.eq ((gR_v C.fdk C.fdsh)) ?_
        first | refine Eq.trans ((gR_v C.k C.rTr)) ?_ | refine Rt.eq ((gR_v C.k C.rTr)) ?_ | refine Th.eq ((gR_v C.k C.rTr)) ?_
        first | refine Eq.trans ((gD_v C.trk hw)) ?_ | refine Rt.eq ((gD_v C.trk hw)) ?_ | refine Th.eq ((gD_v C.trk hw)) ?_
        first | refine Eq.trans ((vc1_ok C.fdk)) ?_ | refine Rt.eq ((vc1_ok C.fdk)) ?_ | refine Th.eq ((vc1_ok C.fdk)) ?_
        first | refine Eq.trans ((st1 _)) ?_ | refine Rt.eq ((st1 _)) ?_ | refine Th.eq ((st1 _)) ?_
        rw [hx]
        show (if bI true = 0 then _ else _) = _
        rw [if_neg (show ¬ bI true = 0 by decide)]
        first | refine Eq.trans ((gD_v C1.fdk ht')) ?_ | refine Rt.eq ((gD_v C1.fdk ht')) ?_ | refine Th.eq ((gD_v C1.fdk ht')) ?_
        first | refine Eq.trans ((gR_v C1.fdk C1.fdsh)) ?_ | refine Rt.eq ((gR_v C1.fdk C1.fdsh)) ?_ | refine Th.eq ((gR_v C1.fdk C1.fdsh)) ?_
        first | refine Eq.trans ((gR_v C1.k C1.rLn)) ?_ | refine Rt.eq ((gR_v C1.k C1.rLn)) ?_ | refine Th.eq ((gR_v C1.k C1.rLn)) ?_
        first | refine Eq.trans ((gI_v C1.lk C1.ldep)) ?_ | refine Rt.eq ((gI_v C1.lk C1.ldep)) ?_ | refine Th.eq ((gI_v C1.lk C1.ldep)) ?_
        first | refine Eq.trans ((fD_ok (by (first | exact isN_of (by repeat' (with_reducible first | assumption | exact bd_kD | exact bd_i2D | exact bd_c0 | exact bd_c1 | apply bd_add | apply bd_mul | apply bd_div | apply bd_sub | exact dr_b | exact bd_step | exact bd_Q | exact bd_wide | exact bd_slice | exact bd_part | exact bd_section | exact bd_lift | exact bd_at | exact bd_X | exact bd_ord | exact bd_so | exact bd_vol | exact bd_water | exact bd_draught | exact bd_simT | exact bd_bread | exact bd_br | exact bd_far | exact bd_tank | exact LdB.t (by (first | assumption | exact ldB_plate | exact ldB_item | exact ldB_tank | exact ldB_engine | exact ldB_hold)) | exact LdB.s (by (first | assumption | exact ldB_plate | exact ldB_item | exact ldB_tank | exact ldB_engine | exact ldB_hold)) | exact LdB.u (by (first | assumption | exact ldB_plate | exact ldB_item | exact ldB_tank | exact ldB_engine | exact ldB_hold)) | exact SmB.w (by (first | assumption | exact sums_b)) | exact SmB.l (by (first | assumption | exact sums_b)) | exact SmB.t (by (first | assumption | exact sums_b)) | exact SmB.k (by (first | assumption | exact sums_b)) | exact wt_b | exact bd_lcg | exact bd_tcg | exact bd_kg | exact bd_dr | exact bd_loose | exact bd_free | exact bd_bulk | exact bd_fWater | exact lo_4 | exact lo_8 | exact lo_6 | exact lo_2 | exact lo_18 | exact lo_16 | exact lo_64 | exact lo_72 | exact lo_step | fail)) (by decide) | exact isN_of (by repeat' (with_reducible first | assumption | exact bd_kD | exact bd_i2D | exact bd_c0 | exact bd_c1 | apply bd_add | apply bd_mul | apply bd_div | apply bd_sub | exact dr_b | exact bd_step | exact bd_Q | exact bd_wide | exact bd_slice | exact bd_part | exact bd_section | exact bd_lift | exact bd_at | exact bd_X | exact bd_ord | exact bd_so | exact bd_vol | exact bd_water | exact bd_draught | exact bd_simT | exact bd_bread | exact bd_br | exact bd_far | exact bd_tank | exact LdB.t (by (first | assumption | exact ldB_plate | exact ldB_item | exact ldB_tank | exact ldB_engine | exact ldB_hold)) | exact LdB.s (by (first | assumption | exact ldB_plate | exact ldB_item | exact ldB_tank | exact ldB_engine | exact ldB_hold)) | exact LdB.u (by (first | assumption | exact ldB_plate | exact ldB_item | exact ldB_tank | exact ldB_engine | exact ldB_hold)) | exact SmB.w (by (first | assumption | exact sums_b)) | exact SmB.l (by (first | assumption | exact sums_b)) | exact SmB.t (by (first | assumption | exact sums_b)) | exact SmB.k (by (first | assumption | exact sums_b)) | exact wt_b | exact bd_lcg | exact bd_tcg | exact bd_kg | exact bd_dr | exact bd_loose | exact bd_free | exact bd_bulk | exact bd_fWater | exact lo_4 | exact lo_8 | exact lo_6 | exact lo_2 | exact lo_18 | exact lo_16 | exact lo_64 | exact lo_72 | exact lo_step | fail)) (by omega))))) ?_ | refine Rt.eq ((fD_ok (by (first | exact isN_of (by repeat' (with_reducible first | assumption | exact bd_kD | exact bd_i2D | exact bd_c0 | exact bd_c1 | apply bd_add | apply bd_mul | apply bd_div | apply bd_sub | exact dr_b | exact bd_step | exact bd_Q | exact bd_wide | exact bd_slice | exact bd_part | exact bd_section | exact bd_lift | exact bd_at | exact bd_X | exact bd_ord | exact bd_so | exact bd_vol | exact bd_water | exact bd_draught | exact bd_simT | exact bd_bread | exact bd_br | exact bd_far | exact bd_tank | exact LdB.t (by (first | assumption | exact ldB_plate | exact ldB_item | exact ldB_tank | exact ldB_engine | exact ldB_hold)) | exact LdB.s (by (first | assumption | exact ldB_plate | exact ldB_item | exact ldB_tank | exact ldB_engine | exact ldB_hold)) | exact LdB.u (by (first | assumption | exact ldB_plate | exact ldB_item | exact ldB_tank | exact ldB_engine | exact ldB_hold)) | exact SmB.w (by (first | assumption | exact sums_b)) | exact SmB.l (by (first | assumption | exact sums_b)) | exact SmB.t (by (first | assumption | exact sums_b)) | exact SmB.k (by (first | assumption | exact sums_b)) | exact wt_b | exact bd_lcg | exact bd_tcg | exact bd_kg | exact bd_dr | exact bd_loose | exact bd_free | exact bd_bulk | exact bd_fWater | exact lo_4 | exact lo_8 | exact lo_6 | exact lo_2 | exact lo_18 | exact lo_16 | exact lo_64 | exact lo_72 | exact lo_step | fail)) (by decide) | exact isN_of (by repeat' (with_reducible first | assumption | exact bd_kD | exact bd_i2D | exact bd_c0 | exact bd_c1 | apply bd_add | apply bd_mul | apply bd_div | apply bd_sub | exact dr_b | exact bd_step | exact bd_Q | exact bd_wide | exact bd_slice | exact bd_part | exact bd_section | exact bd_lift | exact bd_at | exact bd_X | exact bd_ord | exact bd_so | exact bd_vol | exact bd_water | exact bd_draught | exact bd_simT | exact bd_bread | exact bd_br | exact bd_far | exact bd_tank | exact LdB.t (by (first | assumption | exact ldB_plate | exact ldB_item | exact ldB_tank | exact ldB_engine | exact ldB_hold)) | exact LdB.s (by (first | assumption | exact ldB_plate | exact ldB_item | exact ldB_tank | exact ldB_engine | exact ldB_hold)) | exact LdB.u (by (first | assumption | exact ldB_plate | exact ldB_item | exact ldB_tank | exact ldB_engine | exact ldB_hold)) | exact SmB.w (by (first | assumption | exact sums_b)) | exact SmB.l (by (first | assumption | exact sums_b)) | exact SmB.t (by (first | assumption | exact sums_b)) | exact SmB.k (by (first | assumption | exact sums_b)) | exact wt_b | exact bd_lcg | exact bd_tcg | exact bd_kg | exact bd_dr | exact bd_loose | exact bd_free | exact bd_bulk | exact bd_fWater | exact lo_4 | exact lo_8 | exact lo_6 | exact lo_2 | exact lo_18 | exact lo_16 | exact lo_64 | exact lo_72 | exact lo_step | fail)) (by omega))))) ?_ | refine Th.eq ((fD_ok (by (first | exact isN_of (by repeat' (with_reducible first | assumption | exact bd_kD | exact bd_i2D | exact bd_c0 | exact bd_c1 | apply bd_add | apply bd_mul | apply bd_div | apply bd_sub | exact dr_b | exact bd_step | exact bd_Q | exact bd_wide | exact bd_slice | exact bd_part | exact bd_section | exact bd_lift | exact bd_at | exact bd_X | exact bd_ord | exact bd_so | exact bd_vol | exact bd_water | exact bd_draught | exact bd_simT | exact bd_bread | exact bd_br | exact bd_far | exact bd_tank | exact LdB.t (by (first | assumption | exact ldB_plate | exact ldB_item | exact ldB_tank | exact ldB_engine | exact ldB_hold)) | exact LdB.s (by (first | assumption | exact ldB_plate | exact ldB_item | exact ldB_tank | exact ldB_engine | exact ldB_hold)) | exact LdB.u (by (first | assumption | exact ldB_plate | exact ldB_item | exact ldB_tank | exact ldB_engine | exact ldB_hold)) | exact SmB.w (by (first | assumption | exact sums_b)) | exact SmB.l (by (first | assumption | exact sums_b)) | exact SmB.t (by (first | assumption | exact sums_b)) | exact SmB.k (by (first | assumption | exact sums_b)) | exact wt_b | exact bd_lcg | exact bd_tcg | exact bd_kg | exact bd_dr | exact bd_loose | exact bd_free | exact bd_bulk | exact bd_fWater | exact lo_4 | exact lo_8 | exact lo_6 | exact lo_2 | exact lo_18 | exact lo_16 | exact lo_64 | exact lo_72 | exact lo_step | fail)) (by decide) | exact isN_of (by repeat' (with_reducible first | assumption | exact bd_kD | exact bd_i2D | exact bd_c0 | exact bd_c1 | apply bd_add | apply bd_mul | apply bd_div | apply bd_sub | exact dr_b | exact bd_step | exact bd_Q | exact bd_wide | exact bd_slice | exact bd_part | exact bd_section | exact bd_lift | exact bd_at | exact bd_X | exact bd_ord | exact bd_so | exact bd_vol | exact bd_water | exact bd_draught | exact bd_simT | exact bd_bread | exact bd_br | exact bd_far | exact bd_tank | exact LdB.t (by (first | assumption | exact ldB_plate | exact ldB_item | exact ldB_tank | exact ldB_engine | exact ldB_hold)) | exact LdB.s (by (first | assumption | exact ldB_plate | exact ldB_item | exact ldB_tank | exact ldB_engine | exact ldB_hold)) | exact LdB.u (by (first | assumption | exact ldB_plate | exact ldB_item | exact ldB_tank | exact ldB_engine | exact ldB_hold)) | exact SmB.w (by (first | assumption | exact sums_b)) | exact SmB.l (by (first | assumption | exact sums_b)) | exact SmB.t (by (first | assumption | exact sums_b)) | exact SmB.k (by (first | assumption | exact sums_b)) | exact wt_b | exact bd_lcg | exact bd_tcg | exact bd_kg | exact bd_dr | exact bd_loose | exact bd_free | exact bd_bulk | exact bd_fWater | exact lo_4 | exact lo_8 | exact lo_6 | exact lo_2 | exact lo_18 | exact lo_16 | exact lo_64 | exact lo_72 | exact lo_step | fail)) (by omega))))) ?_
        rw [gI_v C1.fdk f1, gI_v C1.fdk f1]
      by_cases hc : dCmG t' (dMul (i2D (nI S.H.dep)) (kD 4606056518893174784)) ≤ 0 ∨ s = 63 ∨ s = 0
      · have hl : fLoop S.H S.bulk w (n + 1) s t = some (s, t') := by rw [fLoop, hx]; simp only []; rw [if_pos hc]
        refine ⟨M1, ?_, q1, d1, fun s9 t9 h9 => by rw [hl] at h9; cases h9; exact ⟨hs, dt', f1, ht'⟩⟩
        rw [st, hl]
        rcases hc with h | h | h
        · rw [if_pos h, rZ_1]; rfl
        · rw [h, if_pos (show nI 63 = 63 from rfl), rZ_1]
          split <;> rfl
        · rw [h, if_neg (show ¬ nI 0 = 63 by decide), if_pos (show nI 0 = 0 from rfl), rZ_1]
          split <;> rfl
      · have hl : fLoop S.H S.bulk w (n + 1) s t = fLoop S.H S.bulk w n (spread S.bulk (over s)) t' := by rw [fLoop, hx]; simp only []; rw [if_neg hc]
        have hs0 : s ≠ 0 := fun h => hc (Or.inr (Or.inr h))
        have hs3 : s ≠ 63 := fun h => hc (Or.inr (Or.inl h))
        have s31 : s < 2147483648 := Nat.lt_trans hs (by decide)
        have s0 : 0 < s := Nat.pos_of_ne_zero hs0
        have hg := over_grows S.bulk iS.bk s hs hs0 hs3
        have hlt := (spread_fix S.bulk iS.bk (over s) (over_lt s hs)).2
        have hle := pop6_le _ hlt
        obtain ⟨k1, k2⟩ := popk hg hle hp hs0
        clear hg hle hp
        obtain ⟨M2, e2, q2, d2, f2⟩ := c562 C1 hs f1 iS
        have C2 := C1.fr0 q2
        have w2 : mfd M2 68 (b + 14) = w := by rw [d2, d1 68 _ (by decide)]; exact hw
        have ht2 : mfd M2 75 (b + 15) = t' := by rw [d2]; exact ht'
        obtain ⟨M3, e3, q3, d3, f3⟩ := c557_2 bw iS n (spread S.bulk (over s)) t' C2 k1 (Or.inl k2) hlt f2 ht2 dt' w2
        rw [hl]
        refine ⟨M3, ?_, (q1.tr q2).tr q3, fun f x hfx => (d3 f x hfx).trans (by rw [d2]; exact d1 f x hfx), f3⟩
        rw [st, if_neg (fun h => hc (Or.inl h)), if_neg (show ¬ nI s = 63 from fun h => hs3 ((nI_eqI (a := s) (b := 63) s31 (by decide)).mp h)), if_neg (nI_nz s0 s31), vc1_ok C1.fdk, cbV_of e2]
        exact e3
/-- FLOOD.FLOATS -/
theorem c557 (C : ShC G M b g S false) {h : Nat} (hh : h < 64) (iS : SI S) : ∃ M', ex G 1 557 0 [(0, vR (some (b + 15))), (1, vI (nI h))] [] M = some (.inl (some (vI (bI (S.flo h).isSome))), M') ∧ QC noX 0 0 M M' ∧ WgM M' b S false ∧ FlM M' b (S.flo h) := by
  obtain ⟨M1, e1, q1, T1, d1⟩ := c547 C iS
  have C1 := C.fr0 q1
  have q2 : QC noX 0 0 M1 (sfi M1 74 (b + 15) (nI h)) := QC.sfi rfl
  have C2 := C1.fr0 q2
  obtain ⟨M3, e3, q3, d3, f3⟩ := c558 C2 hh mfi_at iS
  have C3 := C2.fr0 q3
  have m3 : mfd M3 = mfd M1 := d3.trans mfd_sfi
  have q4 : QC noX 0 0 M3 (sfd M3 75 (b + 15) (S.dr false)) := QC.sfd rfl
  have C4 := C3.fr0 q4
  have f4 : mfi (sfd M3 75 (b + 15) (S.dr false)) 74 (b + 15) = nI (spread S.bulk h) := by rw [mfi_sfd]; exact f3
  have m4 : ∀ f x, f ≠ 75 → mfd (sfd M3 75 (b + 15) (S.dr false)) f x = mfd M1 f x := fun f x hf => by rw [mfd_ne hf, m3]
  have W4 : WgM (sfd M3 75 (b + 15) (S.dr false)) b S false := ⟨⟨(m4 _ _ (by decide)).trans T1.w, (m4 _ _ (by decide)).trans T1.l, (m4 _ _ (by decide)).trans T1.t, (m4 _ _ (by decide)).trans T1.k⟩, (m4 _ _ (by decide)).trans d1⟩
  have st : ex G 1 557 0 [(0, vR (some (b + 15))), (1, vI (nI h))] [] M = if dCmG (S.dr false) FP.dconst0 < 0 then rZ 0 (sfd M3 75 (b + 15) (S.dr false)) else ex G 1 557 2 [(0, vR (some (b + 15)))] [] (sfd M3 75 (b + 15) (S.dr false)) := by
    rw [E557_0]
    first | refine Eq.trans ((gR_v C.fdk C.fdsh)) ?_ | refine Rt.eq ((gR_v C.fdk C.fdsh)) ?_ | refine Th.eq ((gR_v C.fdk C.fdsh)) ?_
    first | refine Eq.trans ((gR_v C.k C.rTr)) ?_ | refine Rt.eq ((gR_v C.k C.rTr)) ?_ | refine Th.eq ((gR_v C.k C.rTr)) ?_
    first | refine Eq.trans ((vc1_ok C.trk)) ?_ | refine Rt.eq ((vc1_ok C.trk)) ?_ | refine Th.eq ((vc1_ok C.trk)) ?_
    first | refine Eq.trans ((cbV_of e1)) ?_ | refine Rt.eq ((cbV_of e1)) ?_ | refine Th.eq ((cbV_of e1)) ?_
    first | refine Eq.trans ((pI_ok C1.fdk C1.fdco)) ?_ | refine Rt.eq ((pI_ok C1.fdk C1.fdco)) ?_ | refine Th.eq ((pI_ok C1.fdk C1.fdco)) ?_
    first | refine Eq.trans ((vc1_ok C2.fdk)) ?_ | refine Rt.eq ((vc1_ok C2.fdk)) ?_ | refine Th.eq ((vc1_ok C2.fdk)) ?_
    first | refine Eq.trans ((cbV_of e3)) ?_ | refine Rt.eq ((cbV_of e3)) ?_ | refine Th.eq ((cbV_of e3)) ?_
    first | refine Eq.trans ((gR_v C3.fdk C3.fdsh)) ?_ | refine Rt.eq ((gR_v C3.fdk C3.fdsh)) ?_ | refine Th.eq ((gR_v C3.fdk C3.fdsh)) ?_
    first | refine Eq.trans ((gR_v C3.k C3.rTr)) ?_ | refine Rt.eq ((gR_v C3.k C3.rTr)) ?_ | refine Th.eq ((gR_v C3.k C3.rTr)) ?_
    first | refine Eq.trans ((gD_v C3.trk (show mfd M3 72 (b + 14) = S.dr false by rw [m3]; exact d1))) ?_ | refine Rt.eq ((gD_v C3.trk (show mfd M3 72 (b + 14) = S.dr false by rw [m3]; exact d1))) ?_ | refine Th.eq ((gD_v C3.trk (show mfd M3 72 (b + 14) = S.dr false by rw [m3]; exact d1))) ?_
    first | refine Eq.trans ((pD_ok C3.fdk C3.fdco)) ?_ | refine Rt.eq ((pD_ok C3.fdk C3.fdco)) ?_ | refine Th.eq ((pD_ok C3.fdk C3.fdco)) ?_
    first | refine Eq.trans ((gD_v C4.fdk mfd_at)) ?_ | refine Rt.eq ((gD_v C4.fdk mfd_at)) ?_ | refine Th.eq ((gD_v C4.fdk mfd_at)) ?_
    rfl
  have qa := ((q1.tr q2).tr q3).tr q4
  by_cases hc : dCmG (S.dr false) FP.dconst0 < 0
  · have hn : S.flo h = none := if_pos hc
    refine ⟨_, ?_, qa, W4, fun s t h9 => by rw [hn] at h9; cases h9⟩
    rw [st, if_pos hc, rZ_0, hn]
    rfl
  · have iH := iS.h
    have hn : S.flo h = fLoop S.H S.bulk (S.wt false) 7 (spread S.bulk h) (S.dr false) := if_neg hc
    have hd : Dr (S.dr false) := hDr_dr (fun h9 => hc ((sinks_iff iH).2.mpr h9))
    obtain ⟨M5, e5, q5, d5, f5⟩ := c557_2 (w := S.wt false) wt_b iS 7 (spread S.bulk h) (S.dr false) C4 (by decide) (Or.inl (Nat.le_add_left 7 _)) (spread_fix S.bulk iS.bk h hh).2 f4 mfd_at hd W4.T.w
    rw [hn]
    refine ⟨M5, ?_, qa.tr q5, ⟨⟨(d5 _ _ (by decide)).trans W4.T.w, (d5 _ _ (by decide)).trans W4.T.l, (d5 _ _ (by decide)).trans W4.T.t, (d5 _ _ (by decide)).trans W4.T.k⟩, (d5 _ _ (by decide)).trans W4.d⟩, f5⟩
    rw [st, if_neg hc]
    exact e5
end FLW
