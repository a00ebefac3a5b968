set_option maxRecDepth 4000
/-! ===== plates' panels; hours of jobs ===== -/
theorem d2I_k {x : UInt64} {k : Nat} (hx : sgn x = false) (hk : k ≤ 30) (hE : eF x ≤ 1023 + k) : ∃ n, n < 2 ^ (k + 1) ∧ d2I x = nI n := by
  obtain ⟨c, q, h1, hc, hq, -, h2, -⟩ := fl_dec (a := x) (by omega)
  rw [hx] at h1
  have e : d2I x = Int32.ofInt (max (-2147483648) (min 2147483647 (FP.Core.truncate false c q))) := by
    rw [d2I_e]
    show FP.Core.toI (FP.Core.decode FP.Core.b64 x.toNat) = _
    rw [h1]
    rfl
  have ht : FP.Core.truncate false c q = ((c * 2 ^ q.toNat / 2 ^ (-q).toNat : Nat) : Int) := rfl
  have hlt : c * 2 ^ q.toNat / 2 ^ (-q).toNat < 2 ^ (k + 1) := by
    by_cases h0 : c = 0
    · rw [h0, Nat.zero_mul, Nat.zero_div]; exact Nat.two_pow_pos _
    · have h3 := h2 h0
      have hl : c < 2 ^ (c.log2 + 1) := Nat.lt_log2_self
      rcases Int.le_total 0 q with hq0 | hq0
      · have e1 : (-q).toNat = 0 := by omega
        rw [e1, Nat.pow_zero, Nat.div_one]
        calc c * 2 ^ q.toNat < 2 ^ (c.log2 + 1) * 2 ^ q.toNat := Nat.mul_lt_mul_of_pos_right hl (Nat.two_pow_pos _)
          _ = 2 ^ (c.log2 + 1 + q.toNat) := pow_add' _ _
          _ ≤ 2 ^ (k + 1) := Nat.pow_le_pow_right (by decide) (by omega)
      · have e1 : q.toNat = 0 := by omega
        rw [e1, Nat.pow_zero, Nat.mul_one]
        apply Nat.div_lt_of_lt_mul
        calc c < 2 ^ (c.log2 + 1) := hl
          _ ≤ 2 ^ ((-q).toNat + (k + 1)) := Nat.pow_le_pow_right (by decide) (by omega)
          _ = 2 ^ (-q).toNat * 2 ^ (k + 1) := by rw [Nat.pow_add]
  refine ⟨c * 2 ^ q.toNat / 2 ^ (-q).toNat, hlt, ?_⟩
  have hp : 2 ^ (k + 1) ≤ 2 ^ 31 := Nat.pow_le_pow_right (by decide) (by omega)
  rw [show (2 : Nat) ^ 31 = 2147483648 by decide] at hp
  rw [e, ht]
  generalize c * 2 ^ q.toNat / 2 ^ (-q).toNat = n at hlt
  rw [show max (-2147483648) (min 2147483647 (n : Int)) = (n : Int) by omega]
  apply Int32.toInt_inj.mp
  rw [nI_toInt (by omega), Int32.toInt_ofInt]
  have hz : Int32.size = 4294967296 := rfl
  rw [hz]
  exact Int.bmod_eq_of_le (by omega) (by omega)

theorem br_10 {H : Hull} (iH : HI H) {c st : Nat} : Bd (dMul (hBr H c st) (kD 4621819117588971520)) 1035 ∧ sgn (dMul (hBr H c st) (kD 4621819117588971520)) = false := by
  have bk : Bd (kD 4621819117588971520) 1026 := Bd.up bd_kD _ (by decide)
  have pk : Ps (kD 4621819117588971520) := ps_kD _ (by decide)
  have hbr : ∀ c j, Bd (hBread H c j) 1030 ∧ Ps (hBread H c j) := fun c j => by
    obtain ⟨h1, h2⟩ := zl_both (H := H) (c := c) (j := j)
    have hp : Ps (i2D (hBoth H c j)) := ps_i2D (by unfold hBoth; rw [aAdd_n]; exact nI_pos (by have := iH.h c j; have := iH.h (c + 1) j; omega))
    unfold hBread
    exact ⟨Bd.up (bd_div2 h2 bd_kD lo_8 (by decide) (by decide)) _ (by decide), ps_div h2 bd_kD lo_8 hp ps_8 (by decide)⟩
  have h : Bd (hBr H c st) 1030 ∧ Ps (hBr H c st) := by
    unfold hBr
    split
    · exact hbr c 1
    · split
      · have hd := iH.d2
        have h2 : Bd (i2D (nI H.dep)) 1027 := nI_bd (k := 4) (by omega) (by decide)
        have p2 : Ps (i2D (nI H.dep)) := ps_i2D (nI_pos (by omega))
        have b2 : Bd (kD 4611686018427387904) 1024 := Bd.up bd_kD _ (by decide)
        exact ⟨Bd.up (bd_mul b2 h2) _ (by decide), ps_mul b2 h2 ps_2 p2 (by decide)⟩
      · exact hbr c 4
  exact ⟨Bd.up (bd_mul h.1 bk) _ (by decide), ps_mul h.1 bk h.2 pk (by decide)⟩
/-- a panel's length and breadth; the hours that a job wants -/
def Sh.pLg (S : Sh) : Nat := S.H.len * 10 / 6
noncomputable def Sh.pWd (S : Sh) (k : Nat) : Nat := max 1 (d2I (dMul (hBr S.H (k / 3) (k % 3)) (kD 4621819117588971520))).toNatClampNeg

theorem pWd_e {S : Sh} (iS : SI S) (k : Nat) : ∃ n, n < 8192 ∧ d2I (dMul (hBr S.H (k / 3) (k % 3)) (kD 4621819117588971520)) = nI n ∧ S.pWd k = max 1 n := by
  obtain ⟨b1, p1⟩ := br_10 iS.h (c := k / 3) (st := k % 3)
  obtain ⟨n, hn, e⟩ := d2I_k p1 (k := 12) (by decide) (b1.h (by decide))
  refine ⟨n, hn, e, ?_⟩
  unfold Sh.pWd
  rw [e, nI_clamp (by omega)]
theorem pWd_b {S : Sh} (iS : SI S) (k : Nat) : 1 ≤ S.pWd k ∧ S.pWd k ≤ 8192 := by
  obtain ⟨n, hn, -, e⟩ := pWd_e iS k
  omega
theorem pLg_b {S : Sh} (iS : SI S) : S.pLg ≤ 133 := by
  have := iS.h.l2
  unfold Sh.pLg
  omega
section PLT
variable {G : Nat → Option Nat} {M : Mem} {b m u : Nat} {g : SG} {S : Sh} {p : Bool} {w : Nat}
theorem c592 (C : ShC G M b g S p) (iS : SI S) {k : Nat} (hk : k < 18) : ex G 1 592 0 [(0, vR (some (b + 25 + k)))] [] M = some (.inl (some (vI (nI S.pLg))), M) := by
  have hl := iS.h.l2
  rw [E592_0, gR_v (C.pk k hk) (C.psh k hk), gR_v C.k C.rLn, gI_v C.lk C.llen, show aMul (nI S.H.len) 10 = nI (S.H.len * 10) from aMul_n _ 10, show aDiv (nI (S.H.len * 10)) 6 = nI (S.H.len * 10 / 6) from aDiv_n (b := 6) (by omega) (by decide), dvI_ok (by decide)]
  rfl
theorem c593 (C : ShC G M b g S p) (iS : SI S) {k : Nat} (hk : k < 18) : ex G 1 593 0 [(0, vR (some (b + 25 + k)))] [] M = some (.inl (some (vI (nI (S.pWd k)))), M) := by
  obtain ⟨n, hn, e, ew⟩ := pWd_e iS k
  obtain ⟨b1, -⟩ := br_10 iS.h (c := k / 3) (st := k % 3)
  have e74 : ex G 1 74 0 [(0, vI 1), (1, vI (nI n))] [] M = some (.inl (some (vI (nI (max 1 n)))), M) := x74 (a := 1) (by decide) (by omega)
  rw [E593_0, vc1_ok (C.pk k hk), cbD_of (c586 C hk)]
  first | refine Eq.trans ((fD_ok (isN_of b1 (by decide)))) ?_ | refine Rt.eq ((fD_ok (isN_of b1 (by decide)))) ?_ | refine Th.eq ((fD_ok (isN_of b1 (by decide)))) ?_
  rw [e, cbI_of e74, ew]
  rfl
/-- PLATES.PANEL -/
theorem c595 (C : ShC G M b g S p) (iS : SI S) {k : Nat} (hk : k < 18) : ex G 1 595 0 [(0, vR (some (b + 25 + k)))] [] M = some (.inl (some (vI (nI (S.pLg * S.pWd k)))), M) := by
  rw [E595_0, vc1_ok (C.pk k hk), cbI_of (c592 C iS hk), vc1_ok (C.pk k hk), cbI_of (c593 C iS hk), aMul_n]
  rfl
theorem t686 (T : ShT G M m u g S w) (iS : SI S) : ex G 2 686 0 [(0, vR (some u))] [] M = some (.inl (some (vI (nI S.pLg))), M) := by
  have hl := iS.h.l2
  rw [E686_0, gI_v T.ln.k T.ln.fl, show aMul (nI S.H.len) 10 = nI (S.H.len * 10) from aMul_n _ 10, show aDiv (nI (S.H.len * 10)) 6 = nI (S.H.len * 10 / 6) from aDiv_n (b := 6) (by omega) (by decide), dvI_ok (by decide)]
  rfl
theorem t687 (T : ShT G M m u g S w) (iS : SI S) {k : Nat} (hk : k < 18) : ex G 2 687 0 [(0, vR (some u)), (1, vI (nI k))] [] M = some (.inl (some (vI (nI (S.pWd k)))), M) := by
  obtain ⟨n, hn, e, ew⟩ := pWd_e iS k
  obtain ⟨b1, -⟩ := br_10 iS.h (c := k / 3) (st := k % 3)
  have iH := iS.h
  have e74 : ex G 2 74 0 [(0, vI 1), (1, vI (nI n))] [] M = some (.inl (some (vI (nI (max 1 n)))), M) := x74 (a := 1) (by decide) (by omega)
  rw [E687_0, show aDiv (nI k) 3 = nI (k / 3) from aDiv_n (b := 3) (by omega) (by decide), dvI_ok (by decide), show aRem (nI k) 3 = nI (k % 3) from aRem_n (b := 3) (by omega) (by decide), dvI_ok (by decide), vc1_ok T.ln.k, cbD_of (t653 T.ln (by omega) (Nat.mod_lt _ (by decide)))]
  first | refine Eq.trans ((fD_ok (isN_of b1 (by decide)))) ?_ | refine Rt.eq ((fD_ok (isN_of b1 (by decide)))) ?_ | refine Th.eq ((fD_ok (isN_of b1 (by decide)))) ?_
  rw [e, cbI_of e74, ew]
  rfl
end PLT
