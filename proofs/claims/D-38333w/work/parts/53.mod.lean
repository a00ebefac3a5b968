set_option maxRecDepth 4000
/-! ===== the modulus of a section ===== -/
noncomputable def hAll (P Q R : UInt64) : UInt64 := dAdd (dAdd P Q) R
noncomputable def hAx (H : Hull) (P Q R : UInt64) : UInt64 := dDiv (dAdd (dDiv (dMul Q (i2D (nI H.dep))) (kD 4611686018427387904)) (dMul R (i2D (nI H.dep)))) (hAll P Q R)
noncomputable def hIn (H : Hull) (P Q R n : UInt64) : UInt64 := dAdd (dAdd (dMul (dMul P n) n) (dMul (dMul R (dSub (i2D (nI H.dep)) n)) (dSub (i2D (nI H.dep)) n))) (dMul Q (dAdd (dDiv (dMul (i2D (nI H.dep)) (i2D (nI H.dep))) (kD 4622945017495814144)) (dMul (dSub (dDiv (i2D (nI H.dep)) (kD 4611686018427387904)) n) (dSub (dDiv (i2D (nI H.dep)) (kD 4611686018427387904)) n))))
noncomputable def hMod (H : Hull) (P Q R : UInt64) : UInt64 := if dCmL (hAll P Q R) FP.dconst0 = 0 then FP.dconst0 else dDiv (dDiv (hIn H P Q R (hAx H P Q R)) (dMax (hAx H P Q R) (dSub (i2D (nI H.dep)) (hAx H P Q R)))) (kD 4636737291354636288)
noncomputable def pAr (S : Sh) (p : Bool) (c st : Nat) : UInt64 := dMul (hBr S.H c st) (i2D (nI (S.thick p (c * 3 + st))))
theorem pAr_b {S : Sh} {p : Bool} {c st : Nat}  (i : SI S := by (assumption)) : Zl (pAr S p c st) 1015 ∧ Bd (pAr S p c st) 1050 := by
  have iH := i.h
  have ht : S.thick p (c * 3 + st) ≤ 40 := by
    unfold Sh.thick
    split
    · exact i.pl _
    · exact i.ft _
  obtain ⟨a1, a2⟩ := zl_br (H := S.H) (c := c) (st := st)
  have c1 : Zl (i2D (nI (S.thick p (c * 3 + st)))) 1023 := zl_i2D (by omega)
  have c2 : Bd (i2D (nI (S.thick p (c * 3 + st)))) 1029 := nI_bd (k := 6) (by omega) (by decide)
  unfold pAr
  exact ⟨(zl_mul a1 c1 a2 c2 (by decide) (by decide)).mono (by decide), Bd.up (bd_mul a2 c2) _ (by decide)⟩
theorem dep_lo : ∀ d, d < 13 → 4 ≤ d → 1025 ≤ eF (FP.i2d (Int32.ofNat d)) := by decide +kernel
section MODL
variable {H : Hull} {P Q R : UInt64}
theorem all_b (zP : Zl P 1015) (bP : Bd P 1050) (zQ : Zl Q 1015) (bQ : Bd Q 1050) (zR : Zl R 1015) (bR : Bd R 1050) : Zl (hAll P Q R) 1015 ∧ Bd (hAll P Q R) 1060 := by
  unfold hAll
  exact ⟨zl_add (zl_add zP zQ bP bQ (by decide) (by decide)) zR (bd_add bP bQ) bR (by decide) (by decide), Bd.up (bd_add (bd_add bP bQ) bR) _ (by decide)⟩
theorem all_lo (h : ¬ dCmL (hAll P Q R) FP.dconst0 = 0) (z : Zl (hAll P Q R) 1015) : Lo (hAll P Q R) 1015 := by
  refine ⟨by decide, ?_⟩
  rcases z.2 with h1 | h1
  · exact absurd (by rw [h1, dCmL_e]; decide) h
  · exact h1
theorem ax_b (iH : HI H) (h : ¬ dCmL (hAll P Q R) FP.dconst0 = 0) (zP : Zl P 1015) (bP : Bd P 1050) (zQ : Zl Q 1015) (bQ : Bd Q 1050) (zR : Zl R 1015) (bR : Bd R 1050) : Bd (hAx H P Q R) 1110 ∧ Ps (hAx H P Q R) ∧ Lo (dMax (hAx H P Q R) (dSub (i2D (nI H.dep)) (hAx H P Q R))) 1021 ∧ Bd (dSub (i2D (nI H.dep)) (hAx H P Q R)) 1112 := by
  obtain ⟨zA, bA⟩ := all_b zP bP zQ bQ zR bR
  have lA := all_lo h zA
  obtain ⟨zD, bD⟩ := zl_dep (H := H)
  have n1 := bd_add (bd_div (bd_mul bQ bD) bd_kD lo_2) (bd_mul bR bD)
  have bn : Bd (hAx H P Q R) 1110 := Bd.up (bd_div n1 bA lA) _ (by decide)
  have p1 : Ps (dMul Q (i2D (nI H.dep))) := ps_mul bQ bD zQ.1 zD.1 (by decide)
  have p2 : Ps (dMul R (i2D (nI H.dep))) := ps_mul bR bD zR.1 zD.1 (by decide)
  have p3 : Ps (dDiv (dMul Q (i2D (nI H.dep))) (kD 4611686018427387904)) := ps_div (bd_mul bQ bD) bd_kD lo_2 p1 ps_2 (by decide)
  have pn : Ps (hAx H P Q R) := ps_div n1 bA lA (ps_add (bd_div (bd_mul bQ bD) bd_kD lo_2) (bd_mul bR bD) p3 p2 (by decide)) zA.1 (by decide)
  have bs : Bd (dSub (i2D (nI H.dep)) (hAx H P Q R)) 1112 := Bd.up (bd_sub bD bn) _ (by decide)
  refine ⟨bn, pn, ⟨by decide, ?_⟩, bs⟩
  have f1 := Bd.fin bn (by decide)
  have f2 := Bd.fin bs (by decide)
  rcases Nat.lt_or_ge (eF (hAx H P Q R)) 1021 with hc | hc
  · have d1 : 1025 ≤ eF (i2D (nI H.dep)) := by
      rw [i2D_e]
      exact dep_lo H.dep (by have := iH.d2; omega) iH.d1
    have d2 : eF (i2D (nI H.dep)) ≤ 1027 := bD (by decide)
    have hs := sub_lo (a := i2D (nI H.dep)) (b := hAx H P Q R) (by omega) zD.1 pn (by omega)
    rw [← dSub_e] at hs
    exact (max_lo2 f1 f2 (by decide) hs.1 (by omega)).2
  · exact (max_lo1 f1 f2 (by decide) pn hc).2
end MODL
theorem lo_12 : Lo (kD 4622945017495814144) 1026 := lo_kD _ (by decide)
theorem lo_100 : Lo (kD 4636737291354636288) 1029 := lo_kD _ (by decide)
section MODW
variable {G : Nat → Option Nat} {M : Mem} {b : Nat} {g : SG} {S : Sh} {p : Bool}
theorem c487 (C : ShC G M b g S p) {k st : Nat} (hk : k < 6) (hst : st < 3) : ex G 1 487 0 [(0, vR (some b)), (1, vI (nI k)), (2, vI (nI st))] [] M = some (.inl (some (vR (some (b + 25 + (k * 3 + st))))), M) := by
  rw [E487_0]
  first | refine Eq.trans ((gR_v C.k C.rPl)) ?_ | refine Rt.eq ((gR_v C.k C.rPl)) ?_ | refine Th.eq ((gR_v C.k C.rPl)) ?_
  have e : aAdd (aMul (nI k) 3) (nI st) = nI (k * 3 + st) := by rw [show (3 : Int32) = nI 3 from rfl, aMul_n, aAdd_n]
  rw [e]
  first | refine Eq.trans ((ldR_v C.pak C.paln (show k * 3 + st < 18 by omega) (by decide) (C.pae _ (by omega)))) ?_ | refine Rt.eq ((ldR_v C.pak C.paln (show k * 3 + st < 18 by omega) (by decide) (C.pae _ (by omega)))) ?_ | refine Th.eq ((ldR_v C.pak C.paln (show k * 3 + st < 18 by omega) (by decide) (C.pae _ (by omega)))) ?_
  rfl
theorem c590 (C : ShC G M b g S p) {k st : Nat} (hk : k < 6) (hst : st < 3) (iS : SI S) : ex G 1 590 0 [(0, vR (some (b + 25 + (k * 3 + st))))] [] M = some (.inl (some (vD (pAr S p k st))), M) := by
  have h18 : k * 3 + st < 18 := by omega
  have e1 := c586 (G := G) (c := 1) C h18
  rw [show (k * 3 + st) / 3 = k by omega, show (k * 3 + st) % 3 = st by omega] at e1
  rw [E590_0]
  first | refine Eq.trans ((vc1_ok (C.pk _ h18))) ?_ | refine Rt.eq ((vc1_ok (C.pk _ h18))) ?_ | refine Th.eq ((vc1_ok (C.pk _ h18))) ?_
  first | refine Eq.trans ((cbD_of e1)) ?_ | refine Rt.eq ((cbD_of e1)) ?_ | refine Th.eq ((cbD_of e1)) ?_
  first | refine Eq.trans ((vc1_ok (C.pk _ h18))) ?_ | refine Rt.eq ((vc1_ok (C.pk _ h18))) ?_ | refine Th.eq ((vc1_ok (C.pk _ h18))) ?_
  first | refine Eq.trans ((cbI_of (c587 C h18))) ?_ | refine Rt.eq ((cbI_of (c587 C h18))) ?_ | refine Th.eq ((cbI_of (c587 C h18))) ?_
  first | refine Eq.trans ((fD_ok (isN_of (pAr_b (S := S) (p := p) (c := k) (st := st)).2 (by decide)))) ?_ | refine Rt.eq ((fD_ok (isN_of (pAr_b (S := S) (p := p) (c := k) (st := st)).2 (by decide)))) ?_ | refine Th.eq ((fD_ok (isN_of (pAr_b (S := S) (p := p) (c := k) (st := st)).2 (by decide)))) ?_
  exact rD_ok (isN_of (pAr_b (S := S) (p := p) (c := k) (st := st)).2 (by decide))
theorem bd_mod {k : Nat} (iS : SI S) : Bd (hMod S.H (pAr S p k 0) (pAr S p k 1) (pAr S p k 2)) 1500 := by
  have iH := iS.h
  obtain ⟨z0, b0⟩ := pAr_b (S := S) (p := p) (c := k) (st := 0)
  obtain ⟨z1, b1⟩ := pAr_b (S := S) (p := p) (c := k) (st := 1)
  obtain ⟨z2, b2⟩ := pAr_b (S := S) (p := p) (c := k) (st := 2)
  unfold hMod
  split
  · exact Bd.up (by (repeat' (with_reducible first | assumption | exact bd_kD | exact bd_i2D | exact bd_c0 | exact bd_c1 | apply bd_add | apply bd_mul | apply bd_div | apply bd_sub | exact dr_b | exact bd_step | exact bd_Q | exact bd_wide | exact bd_slice | exact bd_part | exact bd_section | exact bd_lift | exact bd_at | exact bd_X | exact bd_ord | exact bd_so | exact bd_vol | exact bd_water | exact bd_draught | exact bd_simT | exact bd_bread | exact bd_br | exact bd_far | exact bd_tank | exact LdB.t (by (first | assumption | exact ldB_plate | exact ldB_item | exact ldB_tank | exact ldB_engine | exact ldB_hold)) | exact LdB.s (by (first | assumption | exact ldB_plate | exact ldB_item | exact ldB_tank | exact ldB_engine | exact ldB_hold)) | exact LdB.u (by (first | assumption | exact ldB_plate | exact ldB_item | exact ldB_tank | exact ldB_engine | exact ldB_hold)) | exact SmB.w (by (first | assumption | exact sums_b)) | exact SmB.l (by (first | assumption | exact sums_b)) | exact SmB.t (by (first | assumption | exact sums_b)) | exact SmB.k (by (first | assumption | exact sums_b)) | exact wt_b | exact bd_lcg | exact bd_tcg | exact bd_kg | exact bd_dr | exact bd_loose | exact bd_free | exact bd_bulk | exact bd_fWater | exact lo_4 | exact lo_8 | exact lo_6 | exact lo_2 | exact lo_18 | exact lo_16 | exact lo_64 | exact lo_72 | exact lo_12 | exact lo_100 | exact lo_step | fail))) _ (by decide)
  · next hc =>
    obtain ⟨bn, pn, lm, bs⟩ := ax_b iH hc z0 b0 z1 b1 z2 b2
    have bm := bd_max bn bs
    have bi : Bd (hIn S.H (pAr S p k 0) (pAr S p k 1) (pAr S p k 2) (hAx S.H (pAr S p k 0) (pAr S p k 1) (pAr S p k 2))) 1400 := by
      unfold hIn
      exact Bd.up (by (repeat' (with_reducible first | assumption | exact bd_kD | exact bd_i2D | exact bd_c0 | exact bd_c1 | apply bd_add | apply bd_mul | apply bd_div | apply bd_sub | exact dr_b | exact bd_step | exact bd_Q | exact bd_wide | exact bd_slice | exact bd_part | exact bd_section | exact bd_lift | exact bd_at | exact bd_X | exact bd_ord | exact bd_so | exact bd_vol | exact bd_water | exact bd_draught | exact bd_simT | exact bd_bread | exact bd_br | exact bd_far | exact bd_tank | exact LdB.t (by (first | assumption | exact ldB_plate | exact ldB_item | exact ldB_tank | exact ldB_engine | exact ldB_hold)) | exact LdB.s (by (first | assumption | exact ldB_plate | exact ldB_item | exact ldB_tank | exact ldB_engine | exact ldB_hold)) | exact LdB.u (by (first | assumption | exact ldB_plate | exact ldB_item | exact ldB_tank | exact ldB_engine | exact ldB_hold)) | exact SmB.w (by (first | assumption | exact sums_b)) | exact SmB.l (by (first | assumption | exact sums_b)) | exact SmB.t (by (first | assumption | exact sums_b)) | exact SmB.k (by (first | assumption | exact sums_b)) | exact wt_b | exact bd_lcg | exact bd_tcg | exact bd_kg | exact bd_dr | exact bd_loose | exact bd_free | exact bd_bulk | exact bd_fWater | exact lo_4 | exact lo_8 | exact lo_6 | exact lo_2 | exact lo_18 | exact lo_16 | exact lo_64 | exact lo_72 | exact lo_12 | exact lo_100 | exact lo_step | fail))) _ (by decide)
    exact Bd.up (bd_div (bd_div bi bm lm) bd_kD lo_100) _ (by decide)
end MODW
