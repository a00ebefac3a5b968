set_option maxRecDepth 8000
/-! ===== the hours of a job ===== -/
def bcN (n : Nat) : Nat := ((n >>> 0) &&& 1) + ((n >>> 1) &&& 1) + ((n >>> 2) &&& 1) + ((n >>> 3) &&& 1) + ((n >>> 4) &&& 1) + ((n >>> 5) &&& 1)
noncomputable def Sh.hrs (S : Sh) (j : Nat) : Nat := if j = 0 then 2 * S.H.len else if j < 19 then (if S.plan (j - 1) = 0 then 0 else 8 + S.pLg * S.pWd (j - 1) / 100) else if j = 19 then 10 + 10 * bcN S.bulk else if j = 20 then 12 * S.power + 10 else if j = 21 then S.H.len else if j = 22 then 36 else 20
theorem bcN_b (n : Nat) : bcN n ≤ 6 := by
  have h : ∀ m : Nat, m &&& 1 ≤ 1 := fun m => Nat.and_le_right
  have h0 := h (n >>> 0)
  have h1 := h (n >>> 1)
  have h2 := h (n >>> 2)
  have h3 := h (n >>> 3)
  have h4 := h (n >>> 4)
  have h5 := h (n >>> 5)
  unfold bcN
  omega
theorem hrs_b {S : Sh} (iS : SI S) (j : Nat) : S.hrs j ≤ 20000 := by
  have h1 := iS.h.l2
  have h2 := pLg_b iS
  have h3 := (pWd_b iS (j - 1)).2
  have h4 := bcN_b S.bulk
  have h5 := iS.pw
  have h6 : S.pLg * S.pWd (j - 1) ≤ 133 * 8192 := Nat.mul_le_mul h2 h3
  unfold Sh.hrs
  split
  · omega
  · split
    · split
      · omega
      · omega
    · split
      · omega
      · split
        · omega
        · split
          · omega
          · split <;> omega
def ushX (x y : Int32) : Int32 := (x.toUInt32 >>> (y.toUInt32 &&& Int32.toUInt32 31)).toInt32
def bc5 (v4 : Int32) : Int32 := (v4 + ushX v4 16) &&& 63
def bc4 (v3 : Int32) : Int32 := bc5 (v3 + ushX v3 8)
def bc3 (v2 : Int32) : Int32 := bc4 ((v2 + ushX v2 4) &&& 252645135)
def bc2 (v1 : Int32) : Int32 := bc3 ((v1 &&& 858993459) + (ushX v1 2 &&& 858993459))
def bc1 (x : Int32) : Int32 := bc2 (x - (ushX x 1 &&& 1431655765))
theorem bc_e : ∀ n, n < 64 → bc1 (nI n) = nI (bcN n) := by decide +kernel
theorem x62 {G : Nat → Option Nat} {M : Mem} {c n : Nat} (h : n < 64) : ex G c 62 0 [(0, vI (nI n))] [] M = some (.inl (some (vI (nI (bcN n)))), M) := by
  rw [← bc_e n h, E62_0]
  simp only [aUsh_e, aAnd_e, aAdd_e, aSub_e]
  rfl
section HRS
variable {G : Nat → Option Nat} {M : Mem} {b m u : Nat} {g : SG} {S : Sh} {p : Bool} {w : Nat}
/-- HOURSOF -/
theorem t690 (T : ShT G M m u g S w) (iS : SI S) {j : Nat} (hj : j < 24) : ex G 2 690 0 [(0, vR (some u)), (1, vI (nI j))] [] M = some (.inl (some (vI (nI (S.hrs j)))), M) := by
  have hl := iS.h.l2
  have hbk := iS.bk
  have hpw := iS.pw
  have e691 : ex G 2 691 0 [(0, vR (some u)), (1, vI (nI j))] [] M = some (.inl (some (vI (bI (decide (1 ≤ j ∧ j < 19))))), M) := by
    rw [E691_0]
    by_cases h0 : j = 0
    · rw [if_pos (nI_le_L 0 0 rfl (by omega) (by decide)), decide_eq_false (by omega), rZ_0]; rfl
    · rw [if_neg (nI_nle_L 0 0 rfl (by omega) (by omega))]
      by_cases h1 : j < 19
      · rw [if_pos (nI_lt_L 19 19 rfl h1 (by decide)), decide_eq_true (by omega), rZ_1]; rfl
      · rw [if_neg (nI_nlt_L 19 19 rfl (by omega) (by omega)), decide_eq_false (by omega), rZ_0]; rfl
  rw [E690_0]
  unfold Sh.hrs
  by_cases h0 : j = 0
  · subst h0
    rw [if_pos (by decide), if_pos rfl, gI_v T.ln.k T.ln.fl, show aMul 2 (nI S.H.len) = nI (2 * S.H.len) from aMul_n 2 _]
    rfl
  · rw [if_neg (nI_ne_L 0 0 rfl (by omega) (by decide) h0), if_neg h0, vc1_ok T.ln.k, cbI_of e691]
    by_cases h1 : j < 19
    · have hk : j - 1 < 18 := by omega
      rw [decide_eq_true (by omega), bI_t, if_pos h1, gR_v T.ln.k T.rPl, show aSub (nI j) 1 = nI (j - 1) from aSub_n (b := 1) (by omega), ldI_v T.plk T.pll hk (by decide) (T.plv _ hk)]
      have hpl := iS.pl (j - 1)
      by_cases hz : S.plan (j - 1) = 0
      · rw [if_pos (nI_eq_L 0 0 rfl hz), if_pos hz]; rfl
      · have b2 := pLg_b iS
        have b3 := (pWd_b iS (j - 1)).2
        have h6 : S.pLg * S.pWd (j - 1) ≤ 133 * 8192 := Nat.mul_le_mul b2 b3
        rw [if_neg (nI_ne_L 0 0 rfl (by omega) (by decide) hz), if_neg hz, vc1_ok T.ln.k, cbI_of (t686 T iS), vc1_ok T.ln.k, cbI_of (t687 T iS hk), aMul_n, show aDiv (nI (S.pLg * S.pWd (j - 1))) 100 = nI (S.pLg * S.pWd (j - 1) / 100) from aDiv_n (b := 100) (by omega) (by decide), dvI_ok (by decide), show aAdd 8 (nI (S.pLg * S.pWd (j - 1) / 100)) = nI (8 + S.pLg * S.pWd (j - 1) / 100) from aAdd_n 8 _]
        rfl
    · rw [decide_eq_false (by omega), bI_f, if_neg h1]
      obtain h | h | h | h | h : j = 19 ∨ j = 20 ∨ j = 21 ∨ j = 22 ∨ j = 23 := by omega
      · subst h
        rw [if_pos (by decide), if_pos rfl, gI_v T.ln.k T.bulk, cbI_of (x62 (by omega)), show aMul 10 (nI (bcN S.bulk)) = nI (10 * bcN S.bulk) from aMul_n 10 _, show aAdd 10 (nI (10 * bcN S.bulk)) = nI (10 + 10 * bcN S.bulk) from aAdd_n 10 _]; rfl
      · subst h
        rw [if_neg (by decide), if_pos (by decide), if_neg (by decide), if_pos rfl, gI_v T.ln.k T.power, show aMul 12 (nI S.power) = nI (12 * S.power) from aMul_n 12 _, show aAdd (nI (12 * S.power)) 10 = nI (12 * S.power + 10) from aAdd_n _ 10]; rfl
      · subst h
        rw [if_neg (by decide), if_neg (by decide), if_pos (by decide), if_neg (by decide), if_neg (by decide), if_pos rfl, gI_v T.ln.k T.ln.fl]; rfl
      · subst h
        rw [if_neg (by decide), if_neg (by decide), if_neg (by decide), if_pos (by decide), if_neg (by decide), if_neg (by decide), if_neg (by decide), if_pos rfl]; rfl
      · subst h
        rw [if_neg (by decide), if_neg (by decide), if_neg (by decide), if_neg (by decide), if_neg (by decide), if_neg (by decide), if_neg (by decide), if_neg (by decide)]; rfl
end HRS
