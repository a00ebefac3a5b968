set_option maxRecDepth 8000
/-! ===== laying down: the class, the other jobs ===== -/
section LYE
variable {G : Nat → Option Nat} {b : Nat} {g : SG} {p : Bool}
/-- one job's hours are set -/
theorem c637h {S : Sh} {M : Mem} (C : ShC G M b g S p) (iS : SI S) {j : Nat} (hj : j < 24) {z : Int32} (hz : z = nI (S.hrs j)) : ∃ M', ex G 1 637 0 [(0, vR (some (b + 58 + 2 * j))), (1, vI z)] [] M = some (.inl none, M') ∧ ShC G M' b g (S.lay1 j) p ∧ SI (S.lay1 j) ∧ QW (inS b) 0 0 M M' := by
  subst hz
  obtain ⟨M', e, C', q⟩ := c637 C hj (S.hrs j)
  exact ⟨M', e, C', iS.lay1, q⟩
theorem c626_e {S : Sh} {M : Mem} (C : ShC G M b g S p) (iS : SI S) : ∃ M', ex G 1 626 1 [(0, vR (some (b + 55))), (1, vI (nI 6))] [] M = some (.inl none, M') ∧ ShC G M' b g (Sh.layL 5 19 S) p ∧ QW (inS b) 0 0 M M' := by
  have hbk := iS.bk
  obtain ⟨M1, e1, C1, i1, q1⟩ := c637h C iS (j := 19) (by decide) (z := nI (10 + 10 * bcN S.bulk)) rfl
  obtain ⟨M2, e2, C2, i2, q2⟩ := c637h C1 i1 (j := 20) (by decide) (z := nI (12 * (S.lay1 19).power + 10)) rfl
  obtain ⟨M3, e3, C3, i3, q3⟩ := c637h C2 i2 (j := 21) (by decide) (z := nI ((S.lay1 19).lay1 20).H.len) rfl
  obtain ⟨M4, e4, C4, i4, q4⟩ := c637h C3 i3 (j := 22) (by decide) (z := 36) rfl
  obtain ⟨M5, e5, C5, i5, q5⟩ := c637h C4 i4 (j := 23) (by decide) (z := 20) rfl
  refine ⟨M5, ?_, C5, (((q1.tr q2).tr q3).tr q4).tr q5⟩
  have j19 : ∀ κ : Option Nat → Res, ldR M 108 (some (b + 56)) 19 κ = κ (some (b + 58 + 2 * 19)) := fun κ => jb_v C (j := 19) (by decide)
  have j20 : ∀ κ : Option Nat → Res, ldR M1 108 (some (b + 56)) 20 κ = κ (some (b + 58 + 2 * 20)) := fun κ => jb_v C1 (j := 20) (by decide)
  have j21 : ∀ κ : Option Nat → Res, ldR M2 108 (some (b + 56)) 21 κ = κ (some (b + 58 + 2 * 21)) := fun κ => jb_v C2 (j := 21) (by decide)
  have j22 : ∀ κ : Option Nat → Res, ldR M3 108 (some (b + 56)) 22 κ = κ (some (b + 58 + 2 * 22)) := fun κ => jb_v C3 (j := 22) (by decide)
  have j23 : ∀ κ : Option Nat → Res, ldR M4 108 (some (b + 56)) 23 κ = κ (some (b + 58 + 2 * 23)) := fun κ => jb_v C4 (j := 23) (by decide)
  rw [E626_1, if_neg (by decide), gR_v C.jsk C.jsa, j19, gR_v C.jsk C.jsh, gI_v C.k C.bulk, cbI_of (x62 (by omega)), show aMul 10 (nI (bcN S.bulk)) = nI (10 * bcN S.bulk) from aMul_n 10 _, show aAdd 10 (nI (10 * bcN S.bulk)) = nI (10 + 10 * bcN S.bulk) from aAdd_n 10 _, vc1_ok (C.jk 19 (by decide)), cbV_of e1]
  rw [gR_v C1.jsk C1.jsa, j20, gR_v C1.jsk C1.jsh, gR_v C1.k C1.rEn, gI_v C1.ek C1.epw, show aMul 12 (nI (S.lay1 19).power) = nI (12 * (S.lay1 19).power) from aMul_n 12 _, show aAdd (nI (12 * (S.lay1 19).power)) 10 = nI (12 * (S.lay1 19).power + 10) from aAdd_n _ 10, vc1_ok (C1.jk 20 (by decide)), cbV_of e2]
  rw [gR_v C2.jsk C2.jsa, j21, gR_v C2.jsk C2.jsh, gR_v C2.k C2.rLn, gI_v C2.lk C2.llen, vc1_ok (C2.jk 21 (by decide)), cbV_of e3]
  rw [gR_v C3.jsk C3.jsa, j22, vc1_ok (C3.jk 22 (by decide)), cbV_of e4]
  rw [gR_v C4.jsk C4.jsa, j23, vc1_ok (C4.jk 23 (by decide)), cbV_of e5]
  rfl
end LYE
