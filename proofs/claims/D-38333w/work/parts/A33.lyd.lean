set_option maxRecDepth 8000
/-! ===== laying down: the class, whole ===== -/
theorem layL_add : ∀ (n k : Nat) (r : Nat) (S : Sh), Sh.layL (n + r) k S = Sh.layL r (k + n) (Sh.layL n k S)
  | 0, k, r, S => by
    rw [Nat.zero_add]
    rfl
  | n + 1, k, r, S => by
    rw [show n + 1 + r = (n + r) + 1 by omega]
    show Sh.layL (n + r) (k + 1) (S.lay1 k) = Sh.layL r (k + (n + 1)) (Sh.layL n (k + 1) (S.lay1 k))
    rw [layL_add n (k + 1) r, show k + 1 + n = k + (n + 1) by omega]
section LYD
variable {G : Nat → Option Nat} {b : Nat} {g : SG} {p : Bool}
/-- the strakes' jobs -/
theorem c626_1 : ∀ (n c : Nat) (S : Sh) (M : Mem), c + n = 6 → SI S → ShC G M b g S p → ∃ M', ex G 1 626 1 [(0, vR (some (b + 55))), (1, vI (nI c))] [] M = ex G 1 626 1 [(0, vR (some (b + 55))), (1, vI (nI 6))] [] M' ∧ ShC G M' b g (Sh.layL (3 * n) (1 + 3 * c) S) p ∧ SI (Sh.layL (3 * n) (1 + 3 * c) S) ∧ QW (inS b) 0 0 M M'
  | 0, c, S, M, hc, iS, C => by
    have e : c = 6 := by omega
    subst e
    exact ⟨M, rfl, C, iS, QW.rf⟩
  | n + 1, c, S, M, hc, iS, C => by
    have hc6 : c < 6 := by omega
    obtain ⟨M1, e1, C1, i1, q1⟩ := c626_3 hc6 3 0 S M rfl iS C
    obtain ⟨M2, e2, C2, i2, q2⟩ := c626_1 n (c + 1) _ M1 (by omega) i1 C1
    have hl : Sh.layL (3 * (n + 1)) (1 + 3 * c) S = Sh.layL (3 * n) (1 + 3 * (c + 1)) (Sh.layL 3 (1 + 3 * c + 0) S) := by
      rw [show 3 * (n + 1) = 3 + 3 * n by omega, layL_add 3, show 1 + 3 * c + 3 = 1 + 3 * (c + 1) by omega, show 1 + 3 * c + 0 = 1 + 3 * c from rfl]
    rw [hl]
    refine ⟨M2, Eq.trans ?_ e2, C2, i2, q1.tr q2⟩
    rw [E626_1, if_pos (nI_lt_L 6 6 rfl hc6 (by decide)), show (0 : Int32) = nI 0 from rfl]
    exact e1
end LYD
