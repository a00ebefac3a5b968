set_option maxRecDepth 4000
/-! ===== rounding up ===== -/
theorem v16_mid {a b : UInt64} (ha : V16 a) (hb : V16 b) : V16 (dDiv (dAdd a b) (kD 4611686018427387904)) := by
  have ba : Bd a 1027 := fun _ => by have := ha.1; unfold eF; omega
  have bb : Bd b 1027 := fun _ => by have := hb.1; unfold eF; omega
  have ps := ps_add ba bb ha.2 hb.2 (by decide)
  exact ⟨half_32 ⟨sum_16 ha hb, ps⟩, ps_div (bd_add ba bb) bd_kD lo_2 ps ps_2 (by decide)⟩
theorem v16_i {n : Nat} (h : n ≤ 12) : V16 (i2D (nI n)) := by
  rw [i2D_e]
  obtain e | e | e | e | e | e | e | e | e | e | e | e | e : n = 0 ∨ n = 1 ∨ n = 2 ∨ n = 3 ∨ n = 4 ∨ n = 5 ∨ n = 6 ∨ n = 7 ∨ n = 8 ∨ n = 9 ∨ n = 10 ∨ n = 11 ∨ n = 12 := by omega
  all_goals (subst e; exact ⟨by decide, by decide⟩)
theorem v16_drL {H : Hull} {w : UInt64} : ∀ (n : Nat) (lo hi : UInt64), V16 lo → V16 hi → V16 (hDrL H w n lo hi)
  | 0, _, _, _, h => h
  | n + 1, lo, hi, hl, hh => by
    have hm := v16_mid hl hh
    unfold hDrL
    split
    · exact v16_drL n _ _ hm hh
    · exact v16_drL n _ _ hl hm
theorem v16_dr {S : Sh} {p : Bool} (iS : SI S) (h : ¬ dCmL (S.dr p) FP.dconst0 < 0) : V16 (S.dr p) := by
  have iH := iS.h
  have hs : ¬ hSinks S.H (S.wt p) := fun h9 => h ((sinks_iff iH).1.mpr h9)
  have h0 : V16 FP.dconst0 := ⟨by decide, by decide⟩
  have e : S.dr p = hDrL S.H (S.wt p) 20 FP.dconst0 (i2D (nI S.H.dep)) := if_neg hs
  rw [e]
  exact v16_drL 20 _ _ h0 (v16_i iH.d2)
noncomputable def ceP (x : UInt64) (e : Int32) : UInt64 :=
  if jCmp (jAnd (jShr (kJ 4503599627370495) e) (d2J x)) 0 = 0 then x else if dCmL (dMul FP.dconst1 x) FP.dconst0 ≤ 0 then j2D (jAnd (d2J x) (jXor (jShr (kJ 4503599627370495) e) (kJ 18446744073709551615))) else dAdd (j2D (jAnd (d2J x) (jXor (jShr (kJ 4503599627370495) e) (kJ 18446744073709551615)))) FP.dconst1
noncomputable def ceE (x : UInt64) : Int32 := j2I (jSub (jShr (jAnd (d2J x) (kJ 9218868437227405312)) 52) (kJ 1023))
noncomputable def ceV (x : UInt64) : UInt64 := if ceE x < 0 then (if dCmL x FP.dconst0 = 0 then x else if dCmG x FP.dconst0 < 0 then kD 9223372036854775808 else FP.dconst1) else if ceE x < 52 then ceP x (ceE x) else x
theorem and_le {x : UInt64} {y : Int64} (hx : sgn x = false) : mg (j2D (jAnd (d2J x) y)) ≤ mg x ∧ sgn (j2D (jAnd (d2J x) y)) = false := by
  rw [j2D_e, jAnd_e, d2J_e]
  have h1 : (x.toInt64 &&& y).toUInt64 = x &&& y.toUInt64 := rfl
  have h2 : (x &&& y.toUInt64).toNat ≤ x.toNat := by
    rw [UInt64.toNat_and]
    exact Nat.and_le_left
  have h3 : x.toNat < 9223372036854775808 := by
    unfold sgn at hx
    have := of_decide_eq_false hx
    omega
  rw [h1]
  unfold mg sgn
  exact ⟨by omega, decide_eq_false (by omega)⟩
theorem ceV_b {x : UInt64} {K : Nat} (hx : sgn x = false) (bx : Bd x K) (hK : K ≤ 2000) (hK2 : 1023 ≤ K) : Bd (ceV x) (K + 2) ∧ sgn (ceV x) = false := by
  have b1 : Bd FP.dconst1 1023 := fun _ => by decide
  have p1 : sgn FP.dconst1 = false := by decide
  obtain ⟨z1, z2⟩ := cmp_zero bx (by omega) hx
  unfold ceV
  split
  · split
    · exact ⟨Bd.up bx _ (by omega), hx⟩
    · exact ⟨Bd.up b1 _ (by omega), p1⟩
  · split
    · have ha := and_le (x := x) (y := jXor (jShr (kJ 4503599627370495) (ceE x)) (kJ 18446744073709551615)) hx
      have bt : Bd (j2D (jAnd (d2J x) (jXor (jShr (kJ 4503599627370495) (ceE x)) (kJ 18446744073709551615)))) K := fun h => Nat.le_trans (Nat.div_le_div_right ha.1) (bx.h h)
      unfold ceP
      split
      · exact ⟨Bd.up bx _ (by omega), hx⟩
      · split
        · exact ⟨Bd.up bt _ (by omega), ha.2⟩
        · exact ⟨Bd.up (bd_add bt b1) _ (by omega), ps_add bt b1 ha.2 p1 (by omega)⟩
    · exact ⟨Bd.up bx _ (by omega), hx⟩
section CEI
variable {G : Nat → Option Nat} {c : Nat} {M : Mem}
/-- Math.ceil -/
theorem x72 {x : UInt64} {K : Nat} (hx : sgn x = false) (bx : Bd x K) (hK : K ≤ 2000) (hK2 : 1023 ≤ K) : ex G c 72 0 [(0, vD x)] [] M = some (.inl (some (vD (ceV x))), M) := by
  obtain ⟨bc, -⟩ := ceV_b hx bx hK hK2
  have nx : isN x := isN_of bx (by omega)
  have nc : isN (ceV x) := isN_of bc (by omega)
  have e73 : ex G c 73 0 [(0, vD x)] [] M = some (.inl (some (vI (ceE x))), M) := by
    rw [E73_0]
    first | refine Eq.trans ((fD_ok nx)) ?_ | refine Rt.eq ((fD_ok nx)) ?_ | refine Th.eq ((fD_ok nx)) ?_
    rfl
  have e96 : ex G c 96 0 [(0, vD x), (2, vD (kD 9223372036854775808)), (4, vD FP.dconst1), (6, vD FP.dconst1)] [] M = some (.inl (some (vD (ceV x))), M) := by
    have key : ∀ y, ceV x = y → rD y M = some (.inl (some (vD (ceV x))), M) := fun y hy => by rw [← hy]; exact rD_ok nc
    rw [E96_0, cbI_of e73]
    by_cases h0 : ceE x < 0
    · rw [if_pos h0]
      by_cases h1 : dCmL x FP.dconst0 = 0
      · rw [if_pos h1]
        exact key _ (by unfold ceV; rw [if_pos h0, if_pos h1])
      · rw [if_neg h1]
        by_cases h2 : dCmG x FP.dconst0 < 0
        · rw [if_pos h2]
          exact key _ (by unfold ceV; rw [if_pos h0, if_neg h1, if_pos h2])
        · rw [if_neg h2]
          exact key _ (by unfold ceV; rw [if_pos h0, if_neg h1, if_neg h2])
    · rw [if_neg h0]
      by_cases h1 : ceE x < 52
      · have hc : ceV x = ceP x (ceE x) := by unfold ceV; rw [if_neg h0, if_pos h1]
        rw [if_pos h1, if_neg (by decide), E96_13]
        first | refine Eq.trans ((fD_ok nx)) ?_ | refine Rt.eq ((fD_ok nx)) ?_ | refine Th.eq ((fD_ok nx)) ?_
        unfold ceP at hc
        by_cases h2 : jCmp (jAnd (jShr (kJ 4503599627370495) (ceE x)) (d2J x)) 0 = 0
        · rw [if_pos h2] at hc ⊢
          exact key _ hc
        · rw [if_neg h2] at hc ⊢
          have ha := and_le (x := x) (y := jXor (jShr (kJ 4503599627370495) (ceE x)) (kJ 18446744073709551615)) hx
          have bt : Bd (j2D (jAnd (d2J x) (jXor (jShr (kJ 4503599627370495) (ceE x)) (kJ 18446744073709551615)))) K := fun h => Nat.le_trans (Nat.div_le_div_right ha.1) (bx.h h)
          first | refine Eq.trans ((fD_ok (isN_of bt (by omega)))) ?_ | refine Rt.eq ((fD_ok (isN_of bt (by omega)))) ?_ | refine Th.eq ((fD_ok (isN_of bt (by omega)))) ?_
          first | refine Eq.trans ((fD_ok (isN_of (Bd.up (bd_mul bd_c1 bx) (K + 5) (by omega)) (by omega)))) ?_ | refine Rt.eq ((fD_ok (isN_of (Bd.up (bd_mul bd_c1 bx) (K + 5) (by omega)) (by omega)))) ?_ | refine Th.eq ((fD_ok (isN_of (Bd.up (bd_mul bd_c1 bx) (K + 5) (by omega)) (by omega)))) ?_
          by_cases h3 : dCmL (dMul FP.dconst1 x) FP.dconst0 ≤ 0
          · rw [if_pos h3] at hc ⊢
            exact key _ hc
          · rw [if_neg h3] at hc ⊢
            first | refine Eq.trans ((fD_ok (isN_of (bd_add bt bd_c1) (by omega)))) ?_ | refine Rt.eq ((fD_ok (isN_of (bd_add bt bd_c1) (by omega)))) ?_ | refine Th.eq ((fD_ok (isN_of (bd_add bt bd_c1) (by omega)))) ?_
            exact key _ hc
      · rw [if_neg h1]
        exact key _ (by unfold ceV; rw [if_neg h0, if_neg h1])
  have e95 : ex G c 95 0 [(0, vD x)] [] M = some (.inl (some (vD (ceV x))), M) := by
    rw [E95_0, cbD_of e96]
    exact rD_ok nc
  rw [E72_0, dbD_of e95]
  exact rD_ok nc
end CEI

/-- a double that is no negative, as a whole number -/
theorem d2I_n {x : UInt64} (hx : sgn x = false) (hE : eF x ≤ 1040) : ∃ n, n < 524288 ∧ d2I x = nI n := by
  obtain ⟨c, q, h1, hc, hq, -, h2, -⟩ := fl_dec (a := x) (by omega)
  rw [hx] at h1
  have e : d2I x = Int32.ofInt (max (-2147483648) (min 2147483647 (FP.Core.truncate false c q))) := by
    rw [d2I_e]
    show FP.Core.toI (FP.Core.decode FP.Core.b64 x.toNat) = _
    rw [h1]
    rfl
  have ht : FP.Core.truncate false c q = ((c * 2 ^ q.toNat / 2 ^ (-q).toNat : Nat) : Int) := rfl
  have hlt : c * 2 ^ q.toNat / 2 ^ (-q).toNat < 524288 := by
    by_cases h0 : c = 0
    · rw [h0, Nat.zero_mul, Nat.zero_div]; decide
    · have h3 := h2 h0
      have hl : c < 2 ^ (c.log2 + 1) := Nat.lt_log2_self
      rcases Int.le_total 0 q with hq0 | hq0
      · have e1 : (-q).toNat = 0 := by omega
        rw [e1, Nat.pow_zero, Nat.div_one]
        calc c * 2 ^ q.toNat < 2 ^ (c.log2 + 1) * 2 ^ q.toNat := Nat.mul_lt_mul_of_pos_right hl (Nat.two_pow_pos _)
          _ = 2 ^ (c.log2 + 1 + q.toNat) := pow_add' _ _
          _ ≤ 2 ^ 19 := Nat.pow_le_pow_right (by decide) (by omega)
      · have e1 : q.toNat = 0 := by omega
        rw [e1, Nat.pow_zero, Nat.mul_one]
        apply Nat.div_lt_of_lt_mul
        calc c < 2 ^ (c.log2 + 1) := hl
          _ ≤ 2 ^ ((-q).toNat + 19) := Nat.pow_le_pow_right (by decide) (by omega)
          _ = 2 ^ (-q).toNat * 524288 := by rw [Nat.pow_add]
  refine ⟨c * 2 ^ q.toNat / 2 ^ (-q).toNat, hlt, ?_⟩
  rw [e, ht]
  generalize c * 2 ^ q.toNat / 2 ^ (-q).toNat = n at hlt
  rw [show max (-2147483648) (min 2147483647 (n : Int)) = (n : Int) by omega]
  apply Int32.toInt_inj.mp
  rw [nI_toInt (by omega), Int32.toInt_ofInt]
  have hz : Int32.size = 4294967296 := rfl
  rw [hz]
  exact Int.bmod_eq_of_le (by omega) (by omega)
