set_option maxRecDepth 4000
/-! ===== speed ===== -/
noncomputable def nNeed (H : Hull) (foul : Nat) (sk w v : UInt64) : UInt64 := dAdd (dDiv (dMul (dMul (dMul (dDiv (dMul sk (dAdd (kD 4620693217682128896) (i2D (nI foul)))) (kD 4620693217682128896)) v) v) v) (kD 4639833516098453504)) (dDiv (dMul (dMul (dMul (dMul w v) v) v) v) (dMul (i2D (nI H.len)) (kD 4643985272004935680)))
noncomputable def spdL (H : Hull) (foul : Nat) (sk w : UInt64) (pw : Int32) : Nat → UInt64 → UInt64 → UInt64
  | 0, lo, _ => lo
  | n + 1, lo, hi => if dCmG (nNeed H foul sk w (dDiv (dAdd lo hi) (kD 4611686018427387904))) (i2D pw) ≤ 0 then spdL H foul sk w pw n (dDiv (dAdd lo hi) (kD 4611686018427387904)) hi else spdL H foul sk w pw n lo (dDiv (dAdd lo hi) (kD 4611686018427387904))
noncomputable def Sh.speed (S : Sh) (pw : Int32) : UInt64 := if dCmL (S.dr false) FP.dconst0 < 0 then FP.dconst0 else spdL S.H S.foul (hWater S.H (S.dr false) 6) (S.wt false) pw 18 FP.dconst0 (kD 4629700416936869888)
theorem bd_skin {H : Hull} {t : UInt64} (iH : HI H) (dt : Dr t) : Bd (hWater H t 6) 1400 := by
  have h : ∀ k, Bd (hOrd H t 6 k) 1310 := fun k => by
    show Bd (dAdd (dMul (kD 4611686018427387904) t) (dMul (kD 4611686018427387904) (hWide H k t))) 1310
    exact Bd.up (bd_add (bd_mul bd_kD dt.1) (bd_mul bd_kD bd_wide)) _ (by decide)
  exact Bd.up (bd_simp (by decide) h) _ (by decide)
theorem lo_mul {a b : UInt64} {K L N : Nat} (ha : Bd a K) (hb : Bd b L) {x y : Nat} (la : Lo a x) (lb : Lo b y) (h : K + L ≤ 3060 ∧ K ≤ 2040 ∧ L ≤ 2040 ∧ N + 1023 ≤ x + y ∧ 1 ≤ N) : Lo (dMul a b) N := by
  refine ⟨h.2.2.2.2, ?_⟩
  rw [dMul_e]
  have h1 := ha.h h.2.1
  have h2 := hb.h h.2.2.1
  exact mul_lo la.2 lb.2 la.1 lb.1 h.2.2.2.1 h.2.2.2.2 (by omega) (by omega) (by omega)
section NEED
variable {H : Hull} {foul : Nat} {sk w v : UInt64}
theorem need_b (iH : HI H) (bs : Bd sk 1400) (bw : Bd w 1330) (bv : Bd v 1110) : Bd (dAdd (kD 4620693217682128896) (i2D (nI foul))) 1060 ∧ Bd (dMul sk (dAdd (kD 4620693217682128896) (i2D (nI foul)))) 1440 ∧ Bd (dDiv (dMul sk (dAdd (kD 4620693217682128896) (i2D (nI foul)))) (kD 4620693217682128896)) 1450 ∧ Lo (dMul (i2D (nI H.len)) (kD 4643985272004935680)) 1000 ∧ Bd (dMul (i2D (nI H.len)) (kD 4643985272004935680)) 1070 := by
  have h1 : Bd (dAdd (kD 4620693217682128896) (i2D (nI foul))) 1060 := Bd.up (bd_add bd_kD bd_i2D) _ (by decide)
  have h2 : Bd (dMul sk (dAdd (kD 4620693217682128896) (i2D (nI foul)))) 1440 := Bd.up (bd_mul bs h1) _ (by decide)
  have h3 : Bd (dDiv (dMul sk (dAdd (kD 4620693217682128896) (i2D (nI foul)))) (kD 4620693217682128896)) 1450 := Bd.up (bd_div h2 bd_kD lo_8) _ (by decide)
  have hl : Lo (i2D (nI H.len)) 1023 := lo_i2D (nI_nz (by have := iH.l1; omega) (by have := iH.l2; omega))
  have h4 : Lo (dMul (i2D (nI H.len)) (kD 4643985272004935680)) 1000 := lo_mul bd_i2D bd_kD hl (lo_kD 4643985272004935680 (by decide)) (by decide)
  exact ⟨h1, h2, h3, h4, Bd.up (bd_mul bd_i2D bd_kD) _ (by decide)⟩
theorem lo_160 : Lo (kD 4639833516098453504) 1030 := lo_kD _ (by decide)
theorem need_c (iH : HI H) (bs : Bd sk 1400) (bw : Bd w 1330) (bv : Bd v 1110) : Bd (dMul (dMul (dMul (dDiv (dMul sk (dAdd (kD 4620693217682128896) (i2D (nI foul)))) (kD 4620693217682128896)) v) v) v) 1730 ∧ Bd (dDiv (dMul (dMul (dMul (dDiv (dMul sk (dAdd (kD 4620693217682128896) (i2D (nI foul)))) (kD 4620693217682128896)) v) v) v) (kD 4639833516098453504)) 1740 ∧ Bd (dMul (dMul (dMul (dMul w v) v) v) v) 1700 ∧ Bd (dDiv (dMul (dMul (dMul (dMul w v) v) v) v) (dMul (i2D (nI H.len)) (kD 4643985272004935680))) 1730 ∧ Bd (nNeed H foul sk w v) 1750 := by
  obtain ⟨h1, h2, h3, h4, h5⟩ := need_b (foul := foul) iH bs bw bv
  have a1 : Bd (dMul (dMul (dMul (dDiv (dMul sk (dAdd (kD 4620693217682128896) (i2D (nI foul)))) (kD 4620693217682128896)) v) v) v) 1730 := Bd.up (bd_mul (bd_mul (bd_mul h3 bv) bv) bv) _ (by decide)
  have a2 := Bd.up (bd_div a1 bd_kD lo_160) 1740 (by decide)
  have a3 : Bd (dMul (dMul (dMul (dMul w v) v) v) v) 1700 := Bd.up (bd_mul (bd_mul (bd_mul (bd_mul bw bv) bv) bv) bv) _ (by decide)
  have a4 := Bd.up (bd_div a3 h5 h4) 1730 (by decide)
  refine ⟨a1, a2, a3, a4, ?_⟩
  unfold nNeed
  exact Bd.up (bd_add a2 a4) _ (by decide)
end NEED
theorem bd_midv {lo hi : UInt64} {K : Nat} (hK : 1025 ≤ K) (bl : Bd lo K) (bh : Bd hi K) : Bd (dAdd lo hi) (K + 2) ∧ Bd (dDiv (dAdd lo hi) (kD 4611686018427387904)) (K + 4) := by
  have h1 : Bd (dAdd lo hi) (K + 2) := Bd.up (bd_add bl bh) _ (by omega)
  exact ⟨h1, Bd.up (bd_div h1 bd_kD lo_2) _ (by omega)⟩
theorem spd_b {H : Hull} {foul : Nat} {sk w : UInt64} {pw : Int32} : ∀ (n : Nat) (lo hi : UInt64) (K : Nat), 1025 ≤ K → Bd lo K → Bd hi K → Bd (spdL H foul sk w pw n lo hi) (K + 4 * n)
  | 0, lo, hi, K, hK, bl, bh => bl
  | n + 1, lo, hi, K, hK, bl, bh => by
    have bm := (bd_midv hK bl bh).2
    unfold spdL
    split
    · exact Bd.up (spd_b n _ hi (K + 4) (by omega) bm (Bd.up bh _ (by omega))) _ (by omega)
    · exact Bd.up (spd_b n lo _ (K + 4) (by omega) (Bd.up bl _ (by omega)) bm) _ (by omega)
theorem spd_p {H : Hull} {foul : Nat} {sk w : UInt64} {pw : Int32} : ∀ (n : Nat) (lo hi : UInt64) (K : Nat), 1025 ≤ K → K + 4 * n ≤ 2000 → Bd lo K → Bd hi K → Ps lo → Ps hi → Ps (spdL H foul sk w pw n lo hi)
  | 0, lo, hi, K, hK, hK2, bl, bh, pl, ph => pl
  | n + 1, lo, hi, K, hK, hK2, bl, bh, pl, ph => by
    obtain ⟨b1, bm⟩ := bd_midv hK bl bh
    have pm : Ps (dDiv (dAdd lo hi) (kD 4611686018427387904)) := ps_div b1 bd_kD lo_2 (ps_add bl bh pl ph (by omega)) ps_2 (by omega)
    unfold spdL
    split
    · exact spd_p n _ hi (K + 4) (by omega) (by omega) bm (Bd.up bh _ (by omega)) pm ph
    · exact spd_p n lo _ (K + 4) (by omega) (by omega) (Bd.up bl _ (by omega)) bm pl pm
theorem speed_b {S : Sh} {pw : Int32} : Bd (S.speed pw) 1110 ∧ Ps (S.speed pw) := by
  have b32 : Bd (kD 4629700416936869888) 1028 := Bd.up bd_kD _ (by decide)
  unfold Sh.speed
  split
  · exact ⟨Bd.up bd_c0 _ (by decide), ps_c0⟩
  · exact ⟨Bd.up (spd_b 18 FP.dconst0 (kD 4629700416936869888) 1028 (by decide) (Bd.up bd_c0 _ (by decide)) b32) _ (by decide), spd_p 18 FP.dconst0 (kD 4629700416936869888) 1028 (by decide) (by decide) (Bd.up bd_c0 _ (by decide)) b32 ps_c0 (ps_kD _ (by decide))⟩
section SPDC
variable {G : Nat → Option Nat} {M : Mem} {b : Nat} {g : SG} {S : Sh}
theorem c527 (C : ShC G M b g S false) (W : WgM M b S false) {sk v : UInt64} (bs : Bd sk 1400) (bv : Bd v 1110) (iS : SI S) : ex G 1 527 0 [(0, vR (some (b + 7))), (1, vD sk), (3, vD v)] [] M = some (.inl (some (vD (nNeed S.H S.foul sk (S.wt false) v))), M) := by
  have iH := iS.h
  have bw := wt_b2 (S := S) (p := false) (i := iS)
  obtain ⟨h1, h2, h3, h4, h5⟩ := need_b (foul := S.foul) iH bs bw bv
  obtain ⟨a1, a2, a3, a4, a5⟩ := need_c (foul := S.foul) iH bs bw bv
  rw [E527_0]
  first | refine Eq.trans ((gR_v C.ek C.esh)) ?_ | refine Rt.eq ((gR_v C.ek C.esh)) ?_ | refine Th.eq ((gR_v C.ek C.esh)) ?_
  first | refine Eq.trans ((gI_v C.k C.foul)) ?_ | refine Rt.eq ((gI_v C.k C.foul)) ?_ | refine Th.eq ((gI_v C.k C.foul)) ?_
  first | refine Eq.trans ((fD_ok (isN_of h1 (by decide)))) ?_ | refine Rt.eq ((fD_ok (isN_of h1 (by decide)))) ?_ | refine Th.eq ((fD_ok (isN_of h1 (by decide)))) ?_
  first | refine Eq.trans ((fD_ok (isN_of h2 (by decide)))) ?_ | refine Rt.eq ((fD_ok (isN_of h2 (by decide)))) ?_ | refine Th.eq ((fD_ok (isN_of h2 (by decide)))) ?_
  first | refine Eq.trans ((fD_ok (isN_of h3 (by decide)))) ?_ | refine Rt.eq ((fD_ok (isN_of h3 (by decide)))) ?_ | refine Th.eq ((fD_ok (isN_of h3 (by decide)))) ?_
  first | refine Eq.trans ((fD_ok (isN_of (bd_mul h3 bv) (by decide)))) ?_ | refine Rt.eq ((fD_ok (isN_of (bd_mul h3 bv) (by decide)))) ?_ | refine Th.eq ((fD_ok (isN_of (bd_mul h3 bv) (by decide)))) ?_
  first | refine Eq.trans ((fD_ok (isN_of (bd_mul (bd_mul h3 bv) bv) (by decide)))) ?_ | refine Rt.eq ((fD_ok (isN_of (bd_mul (bd_mul h3 bv) bv) (by decide)))) ?_ | refine Th.eq ((fD_ok (isN_of (bd_mul (bd_mul h3 bv) bv) (by decide)))) ?_
  first | refine Eq.trans ((fD_ok (isN_of a1 (by decide)))) ?_ | refine Rt.eq ((fD_ok (isN_of a1 (by decide)))) ?_ | refine Th.eq ((fD_ok (isN_of a1 (by decide)))) ?_
  first | refine Eq.trans ((fD_ok (isN_of a2 (by decide)))) ?_ | refine Rt.eq ((fD_ok (isN_of a2 (by decide)))) ?_ | refine Th.eq ((fD_ok (isN_of a2 (by decide)))) ?_
  first | refine Eq.trans ((gR_v C.ek C.esh)) ?_ | refine Rt.eq ((gR_v C.ek C.esh)) ?_ | refine Th.eq ((gR_v C.ek C.esh)) ?_
  first | refine Eq.trans ((gR_v C.k C.rTr)) ?_ | refine Rt.eq ((gR_v C.k C.rTr)) ?_ | refine Th.eq ((gR_v C.k C.rTr)) ?_
  first | refine Eq.trans ((gD_v C.trk W.T.w)) ?_ | refine Rt.eq ((gD_v C.trk W.T.w)) ?_ | refine Th.eq ((gD_v C.trk W.T.w)) ?_
  first | refine Eq.trans ((fD_ok (isN_of (bd_mul bw bv) (by decide)))) ?_ | refine Rt.eq ((fD_ok (isN_of (bd_mul bw bv) (by decide)))) ?_ | refine Th.eq ((fD_ok (isN_of (bd_mul bw bv) (by decide)))) ?_
  first | refine Eq.trans ((fD_ok (isN_of (bd_mul (bd_mul bw bv) bv) (by decide)))) ?_ | refine Rt.eq ((fD_ok (isN_of (bd_mul (bd_mul bw bv) bv) (by decide)))) ?_ | refine Th.eq ((fD_ok (isN_of (bd_mul (bd_mul bw bv) bv) (by decide)))) ?_
  first | refine Eq.trans ((fD_ok (isN_of (bd_mul (bd_mul (bd_mul bw bv) bv) bv) (by decide)))) ?_ | refine Rt.eq ((fD_ok (isN_of (bd_mul (bd_mul (bd_mul bw bv) bv) bv) (by decide)))) ?_ | refine Th.eq ((fD_ok (isN_of (bd_mul (bd_mul (bd_mul bw bv) bv) bv) (by decide)))) ?_
  first | refine Eq.trans ((fD_ok (isN_of a3 (by decide)))) ?_ | refine Rt.eq ((fD_ok (isN_of a3 (by decide)))) ?_ | refine Th.eq ((fD_ok (isN_of a3 (by decide)))) ?_
  first | refine Eq.trans ((gR_v C.ek C.esh)) ?_ | refine Rt.eq ((gR_v C.ek C.esh)) ?_ | refine Th.eq ((gR_v C.ek C.esh)) ?_
  first | refine Eq.trans ((gR_v C.k C.rLn)) ?_ | refine Rt.eq ((gR_v C.k C.rLn)) ?_ | refine Th.eq ((gR_v C.k C.rLn)) ?_
  first | refine Eq.trans ((gI_v C.lk C.llen)) ?_ | refine Rt.eq ((gI_v C.lk C.llen)) ?_ | refine Th.eq ((gI_v C.lk C.llen)) ?_
  first | refine Eq.trans ((fD_ok (isN_of h5 (by decide)))) ?_ | refine Rt.eq ((fD_ok (isN_of h5 (by decide)))) ?_ | refine Th.eq ((fD_ok (isN_of h5 (by decide)))) ?_
  first | refine Eq.trans ((fD_ok (isN_of a4 (by decide)))) ?_ | refine Rt.eq ((fD_ok (isN_of a4 (by decide)))) ?_ | refine Th.eq ((fD_ok (isN_of a4 (by decide)))) ?_
  show fD (nNeed S.H S.foul sk (S.wt false) v) _ = _
  first | refine Eq.trans ((fD_ok (isN_of a5 (by decide)))) ?_ | refine Rt.eq ((fD_ok (isN_of a5 (by decide)))) ?_ | refine Th.eq ((fD_ok (isN_of a5 (by decide)))) ?_
  exact rD_ok (isN_of a5 (by decide))
theorem c526_3 (C : ShC G M b g S false) (W : WgM M b S false) {sk : UInt64} (bs : Bd sk 1400) (iS : SI S) {pw : Int32} : ∀ (n k : Nat) (lo hi : UInt64) (K : Nat), k + n = 18 → 1025 ≤ K → K + 4 * n ≤ 1104 → Bd lo K → Bd hi K → ex G 1 526 3 [(0, vR (some (b + 7))), (1, vI pw), (2, vD sk), (4, vD lo), (6, vD hi), (8, vI (nI k))] [] M = some (.inl (some (vD (spdL S.H S.foul sk (S.wt false) pw n lo hi))), M)
  | 0, k, lo, hi, K, hk, hK, hK2, bl, bh => by
    have e : k = 18 := by omega
    subst e
    rw [E526_3, if_neg (by decide)]
    exact rD_ok (isN_of bl (by omega))
  | n + 1, k, lo, hi, K, hk, hK, hK2, bl, bh => by
    obtain ⟨b1, bm⟩ := bd_midv hK bl bh
    rw [E526_3, if_pos (nI_lt_L 18 18 rfl (by omega) (by decide)), show aAdd (nI k) 1 = nI (k + 1) from aAdd_n k 1]
    first | refine Eq.trans ((fD_ok (isN_of b1 (by omega)))) ?_ | refine Rt.eq ((fD_ok (isN_of b1 (by omega)))) ?_ | refine Th.eq ((fD_ok (isN_of b1 (by omega)))) ?_
    first | refine Eq.trans ((fD_ok (isN_of bm (by omega)))) ?_ | refine Rt.eq ((fD_ok (isN_of bm (by omega)))) ?_ | refine Th.eq ((fD_ok (isN_of bm (by omega)))) ?_
    first | refine Eq.trans ((vc1_ok C.ek)) ?_ | refine Rt.eq ((vc1_ok C.ek)) ?_ | refine Th.eq ((vc1_ok C.ek)) ?_
    first | refine Eq.trans ((cbD_of (c527 C W bs (Bd.up bm _ (by omega)) iS))) ?_ | refine Rt.eq ((cbD_of (c527 C W bs (Bd.up bm _ (by omega)) iS))) ?_ | refine Th.eq ((cbD_of (c527 C W bs (Bd.up bm _ (by omega)) iS))) ?_
    unfold spdL
    by_cases h : dCmG (nNeed S.H S.foul sk (S.wt false) (dDiv (dAdd lo hi) (kD 4611686018427387904))) (i2D pw) ≤ 0
    · rw [if_pos h, if_pos h]
      exact c526_3 C W bs iS n (k + 1) _ hi (K + 4) (by omega) (by omega) (by omega) bm (Bd.up bh _ (by omega))
    · rw [if_neg h, if_neg h]
      exact c526_3 C W bs iS n (k + 1) lo _ (K + 4) (by omega) (by omega) (by omega) (Bd.up bl _ (by omega)) bm
/-- ENGINE.SPEED -/
theorem c526 (C : ShC G M b g S false) (iS : SI S) {pw : Int32} : ∃ M', ex G 1 526 0 [(0, vR (some (b + 7))), (1, vI pw)] [] M = some (.inl (some (vD (S.speed pw))), M') ∧ QC noX 0 0 M M' ∧ WgM M' b S false := by
  have iH := iS.h
  obtain ⟨M1, e1, q1, T1, d1⟩ := c547 C iS
  have C1 := C.fr0 q1
  have W1 : WgM M1 b S false := ⟨T1, d1⟩
  have e2 := c549' C1 W1
  unfold Sh.speed
  by_cases h : dCmL (S.dr false) FP.dconst0 < 0
  · refine ⟨M1, ?_, q1, W1⟩
    rw [decide_eq_true h] at e2
    rw [if_pos h, E526_0]
    first | refine Eq.trans ((gR_v C.ek C.esh)) ?_ | refine Rt.eq ((gR_v C.ek C.esh)) ?_ | refine Th.eq ((gR_v C.ek C.esh)) ?_
    first | refine Eq.trans ((gR_v C.k C.rTr)) ?_ | refine Rt.eq ((gR_v C.k C.rTr)) ?_ | refine Th.eq ((gR_v C.k C.rTr)) ?_
    first | refine Eq.trans ((vc1_ok C.trk)) ?_ | refine Rt.eq ((vc1_ok C.trk)) ?_ | refine Th.eq ((vc1_ok C.trk)) ?_
    first | refine Eq.trans ((cbV_of e1)) ?_ | refine Rt.eq ((cbV_of e1)) ?_ | refine Th.eq ((cbV_of e1)) ?_
    first | refine Eq.trans ((gR_v C1.ek C1.esh)) ?_ | refine Rt.eq ((gR_v C1.ek C1.esh)) ?_ | refine Th.eq ((gR_v C1.ek C1.esh)) ?_
    first | refine Eq.trans ((gR_v C1.k C1.rTr)) ?_ | refine Rt.eq ((gR_v C1.k C1.rTr)) ?_ | refine Th.eq ((gR_v C1.k C1.rTr)) ?_
    first | refine Eq.trans ((vc1_ok C1.trk)) ?_ | refine Rt.eq ((vc1_ok C1.trk)) ?_ | refine Th.eq ((vc1_ok C1.trk)) ?_
    first | refine Eq.trans ((cbI_of e2)) ?_ | refine Rt.eq ((cbI_of e2)) ?_ | refine Th.eq ((cbI_of e2)) ?_
    rw [if_pos (show bI (!true) = 0 from rfl)]
    exact rD_ok (by (first | exact isN_of (by repeat' (with_reducible first | assumption | exact bd_kD | exact bd_i2D | exact bd_c0 | exact bd_c1 | apply bd_add | apply bd_mul | apply bd_div | apply bd_sub | exact dr_b | exact bd_step | exact bd_Q | exact bd_wide | exact bd_slice | exact bd_part | exact bd_section | exact bd_lift | exact bd_at | exact bd_X | exact bd_ord | exact bd_so | exact bd_vol | exact bd_water | exact bd_draught | exact bd_simT | exact bd_bread | exact bd_br | exact bd_far | exact bd_tank | exact LdB.t (by (first | assumption | exact ldB_plate | exact ldB_item | exact ldB_tank | exact ldB_engine | exact ldB_hold)) | exact LdB.s (by (first | assumption | exact ldB_plate | exact ldB_item | exact ldB_tank | exact ldB_engine | exact ldB_hold)) | exact LdB.u (by (first | assumption | exact ldB_plate | exact ldB_item | exact ldB_tank | exact ldB_engine | exact ldB_hold)) | exact SmB.w (by (first | assumption | exact sums_b)) | exact SmB.l (by (first | assumption | exact sums_b)) | exact SmB.t (by (first | assumption | exact sums_b)) | exact SmB.k (by (first | assumption | exact sums_b)) | exact wt_b | exact bd_lcg | exact bd_tcg | exact bd_kg | exact bd_dr | exact bd_loose | exact bd_free | exact bd_bulk | exact bd_fWater | exact lo_4 | exact lo_8 | exact lo_6 | exact lo_2 | exact lo_18 | exact lo_16 | exact lo_64 | exact lo_72 | exact lo_32 | exact lo_12 | exact lo_100 | exact lo_step | fail)) (by decide) | exact isN_of (by repeat' (with_reducible first | assumption | exact bd_kD | exact bd_i2D | exact bd_c0 | exact bd_c1 | apply bd_add | apply bd_mul | apply bd_div | apply bd_sub | exact dr_b | exact bd_step | exact bd_Q | exact bd_wide | exact bd_slice | exact bd_part | exact bd_section | exact bd_lift | exact bd_at | exact bd_X | exact bd_ord | exact bd_so | exact bd_vol | exact bd_water | exact bd_draught | exact bd_simT | exact bd_bread | exact bd_br | exact bd_far | exact bd_tank | exact LdB.t (by (first | assumption | exact ldB_plate | exact ldB_item | exact ldB_tank | exact ldB_engine | exact ldB_hold)) | exact LdB.s (by (first | assumption | exact ldB_plate | exact ldB_item | exact ldB_tank | exact ldB_engine | exact ldB_hold)) | exact LdB.u (by (first | assumption | exact ldB_plate | exact ldB_item | exact ldB_tank | exact ldB_engine | exact ldB_hold)) | exact SmB.w (by (first | assumption | exact sums_b)) | exact SmB.l (by (first | assumption | exact sums_b)) | exact SmB.t (by (first | assumption | exact sums_b)) | exact SmB.k (by (first | assumption | exact sums_b)) | exact wt_b | exact bd_lcg | exact bd_tcg | exact bd_kg | exact bd_dr | exact bd_loose | exact bd_free | exact bd_bulk | exact bd_fWater | exact lo_4 | exact lo_8 | exact lo_6 | exact lo_2 | exact lo_18 | exact lo_16 | exact lo_64 | exact lo_72 | exact lo_32 | exact lo_12 | exact lo_100 | exact lo_step | fail)) (by omega)))
  · have hd := afl_dr h
    obtain ⟨f, e3⟩ := c515 (G := G) C1.L (t := S.dr false)
    have C3 := C1.fr0 (QC.sdA (a := b + 3) (g := f))
    have W3 : WgM (sdA M1 (b + 3) f) b S false := W1.sdA
    refine ⟨sdA M1 (b + 3) f, ?_, q1.tr QC.sdA, W3⟩
    rw [decide_eq_false h] at e2
    rw [if_neg h, E526_0]
    first | refine Eq.trans ((gR_v C.ek C.esh)) ?_ | refine Rt.eq ((gR_v C.ek C.esh)) ?_ | refine Th.eq ((gR_v C.ek C.esh)) ?_
    first | refine Eq.trans ((gR_v C.k C.rTr)) ?_ | refine Rt.eq ((gR_v C.k C.rTr)) ?_ | refine Th.eq ((gR_v C.k C.rTr)) ?_
    first | refine Eq.trans ((vc1_ok C.trk)) ?_ | refine Rt.eq ((vc1_ok C.trk)) ?_ | refine Th.eq ((vc1_ok C.trk)) ?_
    first | refine Eq.trans ((cbV_of e1)) ?_ | refine Rt.eq ((cbV_of e1)) ?_ | refine Th.eq ((cbV_of e1)) ?_
    first | refine Eq.trans ((gR_v C1.ek C1.esh)) ?_ | refine Rt.eq ((gR_v C1.ek C1.esh)) ?_ | refine Th.eq ((gR_v C1.ek C1.esh)) ?_
    first | refine Eq.trans ((gR_v C1.k C1.rTr)) ?_ | refine Rt.eq ((gR_v C1.k C1.rTr)) ?_ | refine Th.eq ((gR_v C1.k C1.rTr)) ?_
    first | refine Eq.trans ((vc1_ok C1.trk)) ?_ | refine Rt.eq ((vc1_ok C1.trk)) ?_ | refine Th.eq ((vc1_ok C1.trk)) ?_
    first | refine Eq.trans ((cbI_of e2)) ?_ | refine Rt.eq ((cbI_of e2)) ?_ | refine Th.eq ((cbI_of e2)) ?_
    rw [if_neg (show ¬ bI (!false) = 0 by decide)]
    first | refine Eq.trans ((gR_v C1.ek C1.esh)) ?_ | refine Rt.eq ((gR_v C1.ek C1.esh)) ?_ | refine Th.eq ((gR_v C1.ek C1.esh)) ?_
    first | refine Eq.trans ((gR_v C1.k C1.rLn)) ?_ | refine Rt.eq ((gR_v C1.k C1.rLn)) ?_ | refine Th.eq ((gR_v C1.k C1.rLn)) ?_
    first | refine Eq.trans ((gR_v C1.ek C1.esh)) ?_ | refine Rt.eq ((gR_v C1.ek C1.esh)) ?_ | refine Th.eq ((gR_v C1.ek C1.esh)) ?_
    first | refine Eq.trans ((gR_v C1.k C1.rTr)) ?_ | refine Rt.eq ((gR_v C1.k C1.rTr)) ?_ | refine Th.eq ((gR_v C1.k C1.rTr)) ?_
    first | refine Eq.trans ((gD_v C1.trk W1.d)) ?_ | refine Rt.eq ((gD_v C1.trk W1.d)) ?_ | refine Th.eq ((gD_v C1.trk W1.d)) ?_
    first | refine Eq.trans ((vc1_ok C1.lk)) ?_ | refine Rt.eq ((vc1_ok C1.lk)) ?_ | refine Th.eq ((vc1_ok C1.lk)) ?_
    first | refine Eq.trans ((cbD_of e3)) ?_ | refine Rt.eq ((cbD_of e3)) ?_ | refine Th.eq ((cbD_of e3)) ?_
    exact c526_3 C3 W3 (bd_skin iH hd) iS 18 0 FP.dconst0 (kD 4629700416936869888) 1028 rfl (by decide) (by decide) (Bd.up bd_c0 _ (by decide)) (Bd.up bd_kD _ (by decide))
end SPDC
section SPDT
variable {G : Nat → Option Nat} {M : Mem} {m u : Nat} {g : SG} {S : Sh} {w : Nat} {lots : List LotA} {ll le : Nat} {lx : Nat → Nat}
theorem t706 (T : ShT G M m u g S w) {c : Nat} {sk W v : UInt64} (bs : Bd sk 1400) (bw : Bd W 1330) (bv : Bd v 1110) (iS : SI S) : ex G c 706 0 [(0, vR (some u)), (1, vD sk), (3, vD W), (5, vD v)] [] M = some (.inl (some (vD (nNeed S.H S.foul sk W v))), M) := by
  have iH := iS.h
  obtain ⟨h1, h2, h3, h4, h5⟩ := need_b (foul := S.foul) iH bs bw bv
  obtain ⟨a1, a2, a3, a4, a5⟩ := need_c (foul := S.foul) iH bs bw bv
  rw [E706_0]
  first | refine Eq.trans ((gI_v T.ln.k T.foul)) ?_ | refine Rt.eq ((gI_v T.ln.k T.foul)) ?_ | refine Th.eq ((gI_v T.ln.k T.foul)) ?_
  first | refine Eq.trans ((fD_ok (isN_of h1 (by decide)))) ?_ | refine Rt.eq ((fD_ok (isN_of h1 (by decide)))) ?_ | refine Th.eq ((fD_ok (isN_of h1 (by decide)))) ?_
  first | refine Eq.trans ((fD_ok (isN_of h2 (by decide)))) ?_ | refine Rt.eq ((fD_ok (isN_of h2 (by decide)))) ?_ | refine Th.eq ((fD_ok (isN_of h2 (by decide)))) ?_
  first | refine Eq.trans ((fD_ok (isN_of h3 (by decide)))) ?_ | refine Rt.eq ((fD_ok (isN_of h3 (by decide)))) ?_ | refine Th.eq ((fD_ok (isN_of h3 (by decide)))) ?_
  first | refine Eq.trans ((fD_ok (isN_of (bd_mul h3 bv) (by decide)))) ?_ | refine Rt.eq ((fD_ok (isN_of (bd_mul h3 bv) (by decide)))) ?_ | refine Th.eq ((fD_ok (isN_of (bd_mul h3 bv) (by decide)))) ?_
  first | refine Eq.trans ((fD_ok (isN_of (bd_mul (bd_mul h3 bv) bv) (by decide)))) ?_ | refine Rt.eq ((fD_ok (isN_of (bd_mul (bd_mul h3 bv) bv) (by decide)))) ?_ | refine Th.eq ((fD_ok (isN_of (bd_mul (bd_mul h3 bv) bv) (by decide)))) ?_
  first | refine Eq.trans ((fD_ok (isN_of a1 (by decide)))) ?_ | refine Rt.eq ((fD_ok (isN_of a1 (by decide)))) ?_ | refine Th.eq ((fD_ok (isN_of a1 (by decide)))) ?_
  first | refine Eq.trans ((fD_ok (isN_of a2 (by decide)))) ?_ | refine Rt.eq ((fD_ok (isN_of a2 (by decide)))) ?_ | refine Th.eq ((fD_ok (isN_of a2 (by decide)))) ?_
  first | refine Eq.trans ((fD_ok (isN_of (bd_mul bw bv) (by decide)))) ?_ | refine Rt.eq ((fD_ok (isN_of (bd_mul bw bv) (by decide)))) ?_ | refine Th.eq ((fD_ok (isN_of (bd_mul bw bv) (by decide)))) ?_
  first | refine Eq.trans ((fD_ok (isN_of (bd_mul (bd_mul bw bv) bv) (by decide)))) ?_ | refine Rt.eq ((fD_ok (isN_of (bd_mul (bd_mul bw bv) bv) (by decide)))) ?_ | refine Th.eq ((fD_ok (isN_of (bd_mul (bd_mul bw bv) bv) (by decide)))) ?_
  first | refine Eq.trans ((fD_ok (isN_of (bd_mul (bd_mul (bd_mul bw bv) bv) bv) (by decide)))) ?_ | refine Rt.eq ((fD_ok (isN_of (bd_mul (bd_mul (bd_mul bw bv) bv) bv) (by decide)))) ?_ | refine Th.eq ((fD_ok (isN_of (bd_mul (bd_mul (bd_mul bw bv) bv) bv) (by decide)))) ?_
  first | refine Eq.trans ((fD_ok (isN_of a3 (by decide)))) ?_ | refine Rt.eq ((fD_ok (isN_of a3 (by decide)))) ?_ | refine Th.eq ((fD_ok (isN_of a3 (by decide)))) ?_
  first | refine Eq.trans ((gI_v T.ln.k T.ln.fl)) ?_ | refine Rt.eq ((gI_v T.ln.k T.ln.fl)) ?_ | refine Th.eq ((gI_v T.ln.k T.ln.fl)) ?_
  first | refine Eq.trans ((fD_ok (isN_of h5 (by decide)))) ?_ | refine Rt.eq ((fD_ok (isN_of h5 (by decide)))) ?_ | refine Th.eq ((fD_ok (isN_of h5 (by decide)))) ?_
  first | refine Eq.trans ((fD_ok (isN_of a4 (by decide)))) ?_ | refine Rt.eq ((fD_ok (isN_of a4 (by decide)))) ?_ | refine Th.eq ((fD_ok (isN_of a4 (by decide)))) ?_
  show fD (nNeed S.H S.foul sk W v) _ = _
  first | refine Eq.trans ((fD_ok (isN_of a5 (by decide)))) ?_ | refine Rt.eq ((fD_ok (isN_of a5 (by decide)))) ?_ | refine Th.eq ((fD_ok (isN_of a5 (by decide)))) ?_
  exact rD_ok (isN_of a5 (by decide))
theorem t705_3 (T : ShT G M m u g S w) {sk W : UInt64} (bs : Bd sk 1400) (bw : Bd W 1330) (iS : SI S) {pw : Int32} {c : Nat} : ∀ (n k : Nat) (lo hi : UInt64) (K : Nat), k + n = 18 → 1025 ≤ K → K + 4 * n ≤ 1104 → Bd lo K → Bd hi K → ex G c 705 3 [(0, vR (some u)), (1, vI pw), (4, vD sk), (6, vD W), (8, vD lo), (10, vD hi), (12, vI (nI k))] [] M = some (.inl (some (vD (spdL S.H S.foul sk W pw n lo hi))), M)
  | 0, k, lo, hi, K, hk, hK, hK2, bl, bh => by
    have e : k = 18 := by omega
    subst e
    rw [E705_3, if_neg (by decide)]
    exact rD_ok (isN_of bl (by omega))
  | n + 1, k, lo, hi, K, hk, hK, hK2, bl, bh => by
    obtain ⟨b1, bm⟩ := bd_midv hK bl bh
    rw [E705_3, if_pos (nI_lt_L 18 18 rfl (by omega) (by decide)), show aAdd (nI k) 1 = nI (k + 1) from aAdd_n k 1]
    first | refine Eq.trans ((fD_ok (isN_of b1 (by omega)))) ?_ | refine Rt.eq ((fD_ok (isN_of b1 (by omega)))) ?_ | refine Th.eq ((fD_ok (isN_of b1 (by omega)))) ?_
    first | refine Eq.trans ((fD_ok (isN_of bm (by omega)))) ?_ | refine Rt.eq ((fD_ok (isN_of bm (by omega)))) ?_ | refine Th.eq ((fD_ok (isN_of bm (by omega)))) ?_
    first | refine Eq.trans ((vc1_ok T.ln.k)) ?_ | refine Rt.eq ((vc1_ok T.ln.k)) ?_ | refine Th.eq ((vc1_ok T.ln.k)) ?_
    first | refine Eq.trans ((cbD_of (t706 T bs bw (Bd.up bm _ (by omega)) iS))) ?_ | refine Rt.eq ((cbD_of (t706 T bs bw (Bd.up bm _ (by omega)) iS))) ?_ | refine Th.eq ((cbD_of (t706 T bs bw (Bd.up bm _ (by omega)) iS))) ?_
    unfold spdL
    by_cases h : dCmG (nNeed S.H S.foul sk W (dDiv (dAdd lo hi) (kD 4611686018427387904))) (i2D pw) ≤ 0
    · rw [if_pos h, if_pos h]
      exact t705_3 T bs bw iS n (k + 1) _ hi (K + 4) (by omega) (by omega) (by omega) bm (Bd.up bh _ (by omega))
    · rw [if_neg h, if_neg h]
      exact t705_3 T bs bw iS n (k + 1) lo _ (K + 4) (by omega) (by omega) (by omega) (Bd.up bl _ (by omega)) bm
/-- SPEED -/
theorem t705 (T : TC G M m u g S w lots ll le lx) {pw : Int32} : ∃ M', ex G 2 705 0 [(0, vR (some u)), (1, vI pw)] [] M = some (.inl (some (vD (S.speed pw))), M') ∧ QC noX 14 56 M M' := by
  have iS := T.i
  have iH := iS.h
  obtain ⟨M1, e1, q1, -⟩ := t670 (p := false) T
  have T1 := T.ex q1 e1
  unfold Sh.speed
  by_cases h : dCmL (S.dr false) FP.dconst0 < 0
  · refine ⟨M1, ?_, q1.mono (fun _ h => h) (by decide) (by decide)⟩
    rw [E705_0, if_pos h]
    first | refine Eq.trans ((vc1_ok T.t.ln.k)) ?_ | refine Rt.eq ((vc1_ok T.t.ln.k)) ?_ | refine Th.eq ((vc1_ok T.t.ln.k)) ?_
    first | refine Eq.trans ((cbD_of e1)) ?_ | refine Rt.eq ((cbD_of e1)) ?_ | refine Th.eq ((cbD_of e1)) ?_
    rw [if_pos ((dr_neg iS).mpr h)]
    exact rD_ok (by (first | exact isN_of (by repeat' (with_reducible first | assumption | exact bd_kD | exact bd_i2D | exact bd_c0 | exact bd_c1 | apply bd_add | apply bd_mul | apply bd_div | apply bd_sub | exact dr_b | exact bd_step | exact bd_Q | exact bd_wide | exact bd_slice | exact bd_part | exact bd_section | exact bd_lift | exact bd_at | exact bd_X | exact bd_ord | exact bd_so | exact bd_vol | exact bd_water | exact bd_draught | exact bd_simT | exact bd_bread | exact bd_br | exact bd_far | exact bd_tank | exact LdB.t (by (first | assumption | exact ldB_plate | exact ldB_item | exact ldB_tank | exact ldB_engine | exact ldB_hold)) | exact LdB.s (by (first | assumption | exact ldB_plate | exact ldB_item | exact ldB_tank | exact ldB_engine | exact ldB_hold)) | exact LdB.u (by (first | assumption | exact ldB_plate | exact ldB_item | exact ldB_tank | exact ldB_engine | exact ldB_hold)) | exact SmB.w (by (first | assumption | exact sums_b)) | exact SmB.l (by (first | assumption | exact sums_b)) | exact SmB.t (by (first | assumption | exact sums_b)) | exact SmB.k (by (first | assumption | exact sums_b)) | exact wt_b | exact bd_lcg | exact bd_tcg | exact bd_kg | exact bd_dr | exact bd_loose | exact bd_free | exact bd_bulk | exact bd_fWater | exact lo_4 | exact lo_8 | exact lo_6 | exact lo_2 | exact lo_18 | exact lo_16 | exact lo_64 | exact lo_72 | exact lo_32 | exact lo_12 | exact lo_100 | exact lo_step | fail)) (by decide) | exact isN_of (by repeat' (with_reducible first | assumption | exact bd_kD | exact bd_i2D | exact bd_c0 | exact bd_c1 | apply bd_add | apply bd_mul | apply bd_div | apply bd_sub | exact dr_b | exact bd_step | exact bd_Q | exact bd_wide | exact bd_slice | exact bd_part | exact bd_section | exact bd_lift | exact bd_at | exact bd_X | exact bd_ord | exact bd_so | exact bd_vol | exact bd_water | exact bd_draught | exact bd_simT | exact bd_bread | exact bd_br | exact bd_far | exact bd_tank | exact LdB.t (by (first | assumption | exact ldB_plate | exact ldB_item | exact ldB_tank | exact ldB_engine | exact ldB_hold)) | exact LdB.s (by (first | assumption | exact ldB_plate | exact ldB_item | exact ldB_tank | exact ldB_engine | exact ldB_hold)) | exact LdB.u (by (first | assumption | exact ldB_plate | exact ldB_item | exact ldB_tank | exact ldB_engine | exact ldB_hold)) | exact SmB.w (by (first | assumption | exact sums_b)) | exact SmB.l (by (first | assumption | exact sums_b)) | exact SmB.t (by (first | assumption | exact sums_b)) | exact SmB.k (by (first | assumption | exact sums_b)) | exact wt_b | exact bd_lcg | exact bd_tcg | exact bd_kg | exact bd_dr | exact bd_loose | exact bd_free | exact bd_bulk | exact bd_fWater | exact lo_4 | exact lo_8 | exact lo_6 | exact lo_2 | exact lo_18 | exact lo_16 | exact lo_64 | exact lo_72 | exact lo_32 | exact lo_12 | exact lo_100 | exact lo_step | fail)) (by omega)))
  · have hd := afl_dr h
    obtain ⟨M2, e2, q2, -⟩ := t663 (p := false) T1
    have T2 := T1.ex q2 e2
    refine ⟨M2, ?_, q1.tr q2⟩
    rw [E705_0, if_neg h]
    first | refine Eq.trans ((vc1_ok T.t.ln.k)) ?_ | refine Rt.eq ((vc1_ok T.t.ln.k)) ?_ | refine Th.eq ((vc1_ok T.t.ln.k)) ?_
    first | refine Eq.trans ((cbD_of e1)) ?_ | refine Rt.eq ((cbD_of e1)) ?_ | refine Th.eq ((cbD_of e1)) ?_
    rw [if_neg (fun h9 => h ((dr_neg iS).mp h9))]
    first | refine Eq.trans ((vc1_ok T1.t.ln.k)) ?_ | refine Rt.eq ((vc1_ok T1.t.ln.k)) ?_ | refine Th.eq ((vc1_ok T1.t.ln.k)) ?_
    first | refine Eq.trans ((cbD_of (t643 (w := 6) T1.t.ln T1.ct.sim.d (by decide)))) ?_ | refine Rt.eq ((cbD_of (t643 (w := 6) T1.t.ln T1.ct.sim.d (by decide)))) ?_ | refine Th.eq ((cbD_of (t643 (w := 6) T1.t.ln T1.ct.sim.d (by decide)))) ?_
    first | refine Eq.trans ((vc1_ok T1.t.ln.k)) ?_ | refine Rt.eq ((vc1_ok T1.t.ln.k)) ?_ | refine Th.eq ((vc1_ok T1.t.ln.k)) ?_
    first | refine Eq.trans ((cbD_of e2)) ?_ | refine Rt.eq ((cbD_of e2)) ?_ | refine Th.eq ((cbD_of e2)) ?_
    exact t705_3 T2.t (bd_skin iH hd) (wt_b2 (i := iS)) iS 18 0 FP.dconst0 (kD 4629700416936869888) 1028 rfl (by decide) (by decide) (Bd.up bd_c0 _ (by decide)) (Bd.up bd_kD _ (by decide))
end SPDT
