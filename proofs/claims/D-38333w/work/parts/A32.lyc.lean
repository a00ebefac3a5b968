set_option maxRecDepth 8000
/-! ===== laying down: the class ===== -/
section LYC
variable {G : Nat → Option Nat} {b : Nat} {g : SG} {p : Bool}
theorem c637 {S : Sh} {M : Mem} (C : ShC G M b g S p) {j : Nat} (hj : j < 24) (n : Nat) : ∃ M', ex G 1 637 0 [(0, vR (some (b + 58 + 2 * j))), (1, vI (nI n))] [] M = some (.inl none, M') ∧ ShC G M' b g ((S.s_hj j n).s_lj j n) p ∧ QW (inS b) 0 0 M M' := by
  have C1 := C.w_hours (k := j) n
  obtain ⟨M1, hM1⟩ : ∃ M1, M1 = sfi M 132 (b + 58 + 2 * j) (nI n) := ⟨_, rfl⟩
  rw [← hM1] at C1
  have C2 := C1.w_left (k := j) n
  obtain ⟨M2, hM2⟩ : ∃ M2, M2 = sfi M1 133 (b + 58 + 2 * j) (nI n) := ⟨_, rfl⟩
  rw [← hM2] at C2
  have q1 : QW (inS b) 0 0 M M1 := by rw [hM1]; exact QW.sfi (by unfold inS; omega)
  have q2 : QW (inS b) 0 0 M1 M2 := by rw [hM2]; exact QW.sfi (by unfold inS; omega)
  refine ⟨M2, ?_, C2, q1.tr q2⟩
  rw [E637_0, pI_ok (C.jk j hj) (C.jco j hj), ← hM1, pI_ok (C1.jk j hj) (C1.jco j hj), ← hM2]
  rfl
theorem c626_3 {c : Nat} (hc : c < 6) : ∀ (n st : Nat) (S : Sh) (M : Mem), st + n = 3 → SI S → ShC G M b g S p → ∃ M', ex G 1 626 3 [(0, vR (some (b + 55))), (1, vI (nI c)), (2, vI (nI st))] [] M = ex G 1 626 1 [(0, vR (some (b + 55))), (1, vI (nI (c + 1)))] [] M' ∧ ShC G M' b g (Sh.layL n (1 + 3 * c + st) S) p ∧ SI (Sh.layL n (1 + 3 * c + st) S) ∧ QW (inS b) 0 0 M M'
  | 0, st, S, M, hs, iS, C => by
    have e : st = 3 := by omega
    subst e
    refine ⟨M, ?_, C, iS, QW.rf⟩
    rw [E626_3, if_neg (by decide), show aAdd (nI c) 1 = nI (c + 1) from aAdd_n c 1]
  | n + 1, st, S, M, hs, iS, C => by
    have hst : st < 3 := by omega
    have hj : 1 + 3 * c + st < 24 := by omega
    have hk : c * 3 + st < 18 := by omega
    have hkj : 1 + 3 * c + st - 1 = c * 3 + st := by omega
    have hh : S.hrs (1 + 3 * c + st) = if S.plan (c * 3 + st) = 0 then 0 else 8 + S.pLg * S.pWd (c * 3 + st) / 100 := by
      unfold Sh.hrs
      rw [if_neg (by omega), if_pos (by omega), hkj]
    obtain ⟨M1, e1, C1, q1⟩ := c637 C hj (S.hrs (1 + 3 * c + st))
    obtain ⟨M', e', C', i', q'⟩ := c626_3 hc n (st + 1) (S.lay1 (1 + 3 * c + st)) M1 (by omega) iS.lay1 C1
    refine ⟨M', Eq.trans ?_ e', C', i', q1.tr q'⟩
    have e623 : ex G 1 623 0 [(0, vI (nI c)), (1, vI (nI st))] [] M = some (.inl (some (vI (nI (1 + 3 * c + st)))), M) := by
      rw [E623_0, show aMul 3 (nI c) = nI (3 * c) from aMul_n 3 c, show aAdd 1 (nI (3 * c)) = nI (1 + 3 * c) from aAdd_n 1 _, aAdd_n]
      rfl
    rw [E626_3, if_pos (nI_lt_L 3 3 rfl hst (by decide)), gR_v C.jsk C.jsh, vc1_ok C.k, cbR_of (c487 C hc hst), gR_v C.jsk C.jsa, cbI_of e623, jb_v C hj, gI_v (C.pk _ hk) (C.ppl _ hk), show aAdd (nI st) 1 = nI (st + 1) from aAdd_n st 1]
    have hpl := iS.pl (c * 3 + st)
    rw [hh] at e1
    by_cases hz : S.plan (c * 3 + st) = 0
    · rw [if_pos hz] at e1
      have e1' : ex G 1 637 0 [(0, vR (some (b + 58 + 2 * (1 + 3 * c + st)))), (1, vI 0)] [] M = some (.inl none, M1) := e1
      rw [if_pos (nI_eq_L 0 0 rfl hz), vc1_ok (C.jk _ hj), cbV_of e1']
    · have b2 := pLg_b iS
      have b3 := (pWd_b iS (c * 3 + st)).2
      have h6 : S.pLg * S.pWd (c * 3 + st) ≤ 133 * 8192 := Nat.mul_le_mul b2 b3
      rw [if_neg hz] at e1
      rw [if_neg (nI_ne_L 0 0 rfl (by omega) (by decide) hz), vc1_ok (C.pk _ hk), cbI_of (c595 C iS hk), show aDiv (nI (S.pLg * S.pWd (c * 3 + st))) 100 = nI (S.pLg * S.pWd (c * 3 + st) / 100) from aDiv_n (b := 100) (by omega) (by decide), dvI_ok (by decide), show aAdd 8 (nI (S.pLg * S.pWd (c * 3 + st) / 100)) = nI (8 + S.pLg * S.pWd (c * 3 + st) / 100) from aAdd_n 8 _, vc1_ok (C.jk _ hj), cbV_of e1]
end LYC
