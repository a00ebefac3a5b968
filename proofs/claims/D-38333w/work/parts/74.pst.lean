set_option maxRecDepth 4000
/-! ===== stresses aren't negative ===== -/
/-- the greater of two of which the first isn't negative -/
theorem ord_ps {a b : UInt64} (fa : eF a < 2047) (fb : eF b < 2047) (pa : Ps a) : Ps (dMax a b) := by
  unfold Ps
  rw [dMax_e]
  unfold Native.java_lang_Math.nans.pick64
  split
  · next e =>
    cases hs : sgn b with
    | false => rw [if_pos rfl]; exact hs
    | true =>
      exfalso
      obtain ⟨c, q, h1, -⟩ := fl_dec fa
      obtain ⟨d, r, g1, -⟩ := fl_dec fb
      have h3 : FP.dcmp a b = FP.Core.order (FP.Core.decode FP.Core.b64 a.toNat) (FP.Core.decode FP.Core.b64 b.toNat) := rfl
      rw [h1, g1, pa.h, hs] at h3
      rw [h3] at e
      injection e with e
      have e2 := Int.compare_eq_lt.mp e
      generalize FP.Core.inUnits c q (min q r) = m at e2
      generalize FP.Core.inUnits d r (min q r) = n at e2
      have e3 : ((m : Nat) : Int) < -(n : Int) := e2
      omega
  · rw [if_pos rfl]; exact pa.h
  · rw [sgn_top pa.h]
    exact pa.h
theorem ps_div0 {a b : UInt64} {K L : Nat} (ba : Bd a K) (hK : K ≤ 2040) (bb : Bd b L) (hL : L ≤ 2040) (h0 : mg b ≠ 0) (pa : Ps a) (pb : Ps b) : Ps (dDiv a b) := by
  obtain ⟨c, q, h1, -⟩ := fl_dec (Bd.fin ba hK)
  obtain ⟨d, r, g1, -, g2, -, -, -, g7, g8⟩ := fl_dec (Bd.fin bb hL)
  have hd : d ≠ 0 := by
    intro e
    subst e
    rcases g7 with h | h
    · rw [h] at g8
      apply h0
      omega
    · omega
  unfold Ps
  rw [dDiv_e, div_as h1 g1 hd, rU_sgn, pa.h, pb.h]
  rfl
theorem ps_sq {a x : UInt64} {K L : Nat} (ba : Bd a K) (bx : Bd x L) (h : max (max (K + L - 1021) (max (K + 2) (L + 2))) L ≤ 2040) (pa : Ps a) : Ps (dMul (dMul a x) x) := by
  have bm := bd_mul ba bx
  unfold Ps
  have e1 : sgn (dMul a x) = sgn x := by
    rw [dMul_e, mul_sgn (Bd.fin ba (by omega)) (Bd.fin bx (by omega)), pa.h]
    cases sgn x <;> rfl
  rw [dMul_e, mul_sgn (Bd.fin bm (by omega)) (Bd.fin bx (by omega)), e1]
  cases sgn x <;> rfl
theorem ps_sq1 {x : UInt64} {L : Nat} (bx : Bd x L) (h : L ≤ 2040) : Ps (dMul x x) := by
  unfold Ps
  rw [dMul_e, mul_sgn (Bd.fin bx h) (Bd.fin bx h)]
  cases sgn x <;> rfl
theorem ps_12 : Ps (kD 4622945017495814144) := ps_kD _ (by decide)
theorem ps_100 : Ps (kD 4636737291354636288) := ps_kD _ (by decide)
theorem ps_9999 : Ps (kD 4666722622711529472) := ps_kD _ (by decide)
theorem ps_mod {S : Sh} {p : Bool} {k : Nat} (iS : SI S) : Ps (S.mod p k) := by
  have iH := iS.h
  obtain ⟨z0, b0⟩ := pAr_b (S := S) (p := p) (c := k) (st := 0)
  obtain ⟨z1, b1⟩ := pAr_b (S := S) (p := p) (c := k) (st := 1)
  obtain ⟨z2, b2⟩ := pAr_b (S := S) (p := p) (c := k) (st := 2)
  unfold Sh.mod hMod
  split
  · exact ps_c0
  · next hc =>
    obtain ⟨bn, pn, lm, bs⟩ := ax_b iH hc z0 b0 z1 b1 z2 b2
    obtain ⟨zD, bD⟩ := zl_dep (H := S.H)
    have bm := bd_max bn bs
    have f1 := Bd.fin bn (by decide)
    have f2 := Bd.fin bs (by decide)
    have pm : Ps (dMax (hAx S.H (pAr S p k 0) (pAr S p k 1) (pAr S p k 2)) (dSub (i2D (nI S.H.dep)) (hAx S.H (pAr S p k 0) (pAr S p k 1) (pAr S p k 2)))) := by
      have := ord_ps f1 f2 pn
      exact this
    generalize hAx S.H (pAr S p k 0) (pAr S p k 1) (pAr S p k 2) = n at *
    generalize pAr S p k 0 = P at *
    generalize pAr S p k 1 = Q at *
    generalize pAr S p k 2 = R at *
    have bd2 : Bd (dSub (dDiv (i2D (nI S.H.dep)) (kD 4611686018427387904)) n) 1112 := Bd.up (bd_sub (bd_div bD bd_kD lo_2) bn) _ (by decide)
    have i1 : Ps (dMul (dMul P n) n) := ps_mul (bd_mul b0 bn) bn (ps_mul b0 bn z0.1 pn (by decide)) pn (by decide)
    have i2 : Ps (dMul (dMul R (dSub (i2D (nI S.H.dep)) n)) (dSub (i2D (nI S.H.dep)) n)) := ps_sq b2 bs (by decide) z2.1
    have i3 : Ps (dMul (dSub (dDiv (i2D (nI S.H.dep)) (kD 4611686018427387904)) n) (dSub (dDiv (i2D (nI S.H.dep)) (kD 4611686018427387904)) n)) := ps_sq1 bd2 (by decide)
    have i4 : Ps (dDiv (dMul (i2D (nI S.H.dep)) (i2D (nI S.H.dep))) (kD 4622945017495814144)) := ps_div (bd_mul bD bD) bd_kD lo_12 (ps_mul bD bD zD.1 zD.1 (by decide)) ps_12 (by decide)
    have j3 : Bd (dMul (dSub (dDiv (i2D (nI S.H.dep)) (kD 4611686018427387904)) n) (dSub (dDiv (i2D (nI S.H.dep)) (kD 4611686018427387904)) n)) 1300 := Bd.up (bd_mul bd2 bd2) _ (by decide)
    have j4 : Bd (dDiv (dMul (i2D (nI S.H.dep)) (i2D (nI S.H.dep))) (kD 4622945017495814144)) 1300 := Bd.up (bd_div (bd_mul bD bD) bd_kD lo_12) _ (by decide)
    have i5 : Ps (dMul Q (dAdd (dDiv (dMul (i2D (nI S.H.dep)) (i2D (nI S.H.dep))) (kD 4622945017495814144)) (dMul (dSub (dDiv (i2D (nI S.H.dep)) (kD 4611686018427387904)) n) (dSub (dDiv (i2D (nI S.H.dep)) (kD 4611686018427387904)) n)))) := ps_mul b1 (bd_add j4 j3) z1.1 (ps_add j4 j3 i4 i3 (by decide)) (by decide)
    have j1 : Bd (dMul (dMul P n) n) 1300 := Bd.up (bd_mul (bd_mul b0 bn) bn) _ (by decide)
    have j2 : Bd (dMul (dMul R (dSub (i2D (nI S.H.dep)) n)) (dSub (i2D (nI S.H.dep)) n)) 1300 := Bd.up (bd_mul (bd_mul b2 bs) bs) _ (by decide)
    have j5 : Bd (dMul Q (dAdd (dDiv (dMul (i2D (nI S.H.dep)) (i2D (nI S.H.dep))) (kD 4622945017495814144)) (dMul (dSub (dDiv (i2D (nI S.H.dep)) (kD 4611686018427387904)) n) (dSub (dDiv (i2D (nI S.H.dep)) (kD 4611686018427387904)) n)))) 1400 := Bd.up (bd_mul b1 (bd_add j4 j3)) _ (by decide)
    have i6 : Ps (hIn S.H P Q R n) := ps_add (bd_add j1 j2) j5 (ps_add j1 j2 i1 i2 (by decide)) i5 (by decide)
    have j6 : Bd (hIn S.H P Q R n) 1410 := Bd.up (bd_add (bd_add j1 j2) j5) _ (by decide)
    exact ps_div (bd_div j6 bm lm) bd_kD lo_100 (ps_div j6 bm lm i6 pm (by decide)) ps_100 (by decide)
theorem ps_str {S : Sh} {p : Bool} {s c : Nat} (iS : SI S) (hc : c < 6) : Ps (S.str p s c) := by
  have m1 := Bd.up (bd_bnM (H := S.H) (cy := S.carry p) (be := S.bear p s) c (by omega) (fun c _ => bd_carry iS c) (fun c _ => bd_be iS)) 2010 (by omega)
  have m2 := Bd.up (bd_bnM (H := S.H) (cy := S.carry p) (be := S.bear p s) (c + 1) (by omega) (fun c _ => bd_carry iS c) (fun c _ => bd_be iS)) 2010 (by omega)
  unfold Sh.str bnT
  by_cases hc : dCmL (S.mod p c) FP.dconst0 = 0
  · rw [if_pos hc]; exact ps_9999
  · rw [if_neg hc]
    have pm : Ps (dMax (dAbs (bnM S.H (S.carry p) (S.bear p s) c)) (dAbs (bnM S.H (S.carry p) (S.bear p s) (c + 1)))) := by
      rcases dMax_or (dAbs (bnM S.H (S.carry p) (S.bear p s) c)) (dAbs (bnM S.H (S.carry p) (S.bear p s) (c + 1))) with h | h
      · rw [h]; exact ps_abs
      · rw [h]; exact ps_abs
    exact ps_div0 (bd_max (bd_abs m1) (bd_abs m2)) (by decide) (bd_mod (S := S) (p := p) (k := c) iS) (by decide) (mg0_cmp hc) pm (ps_mod iS)
