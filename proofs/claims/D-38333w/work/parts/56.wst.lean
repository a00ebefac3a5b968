set_option maxRecDepth 4000
/-! ===== Strength.worst: the first of the greatest ===== -/
noncomputable def wsL (f : Nat → UInt64) : Nat → Nat → Nat → Nat
  | 0, _, w => w
  | n + 1, k, w => wsL f n (k + 1) (if dCmL (f k) (f w) ≤ 0 then w else k)
noncomputable def worstOf (f : Nat → UInt64) : Nat := wsL f 5 1 0
theorem wsL_lt {f : Nat → UInt64} : ∀ (n k w : Nat), k + n = 6 → w < 6 → wsL f n k w < 6
  | 0, _, _, _, h => h
  | n + 1, k, w, hk, h => by
    unfold wsL
    refine wsL_lt n (k + 1) _ (by omega) ?_
    split
    · exact h
    · omega
theorem worst_lt {f : Nat → UInt64} : worstOf f < 6 := wsL_lt 5 1 0 rfl (by decide)
section WST
variable {G : Nat → Option Nat} {M : Mem} {b : Nat} {g : SG} {S : Sh} {p : Bool}
theorem c574_1 (C : ShC G M b g S p) {f : Nat → UInt64} (hf : ∀ c, c < 6 → mad M (b + 21) c = f c) : ∀ (n k w : Nat), k + n = 6 → w < 6 → ex G 1 574 1 [(0, vR (some (b + 16))), (1, vI (nI w)), (2, vI (nI k))] [] M = some (.inl (some (vI (nI (wsL f n k w)))), M)
  | 0, k, w, hk, hw => by
    have e : k = 6 := by omega
    subst e
    rw [E574_1, if_neg (by decide)]
    rfl
  | n + 1, k, w, hk, hw => by
    rw [E574_1, if_pos (show nI k < 6 from nI_lt (a := k) (b := 6) (by omega) (by decide)), show aAdd (nI k) 1 = nI (k + 1) from aAdd_n k 1]
    first | refine Eq.trans ((gR_v C.stk C.rsss)) ?_ | refine Rt.eq ((gR_v C.stk C.rsss)) ?_ | refine Th.eq ((gR_v C.stk C.rsss)) ?_
    first | refine Eq.trans ((ldD_v C.sssk C.sssln (show k < 6 by omega) (by decide) (hf k (by omega)))) ?_ | refine Rt.eq ((ldD_v C.sssk C.sssln (show k < 6 by omega) (by decide) (hf k (by omega)))) ?_ | refine Th.eq ((ldD_v C.sssk C.sssln (show k < 6 by omega) (by decide) (hf k (by omega)))) ?_
    first | refine Eq.trans ((gR_v C.stk C.rsss)) ?_ | refine Rt.eq ((gR_v C.stk C.rsss)) ?_ | refine Th.eq ((gR_v C.stk C.rsss)) ?_
    first | refine Eq.trans ((ldD_v C.sssk C.sssln hw (by decide) (hf w hw))) ?_ | refine Rt.eq ((ldD_v C.sssk C.sssln hw (by decide) (hf w hw))) ?_ | refine Th.eq ((ldD_v C.sssk C.sssln hw (by decide) (hf w hw))) ?_
    unfold wsL
    by_cases hc : dCmL (f k) (f w) ≤ 0
    · rw [if_pos hc, if_pos hc]
      exact c574_1 C hf n (k + 1) w (by omega) hw
    · rw [if_neg hc, if_neg hc]
      exact c574_1 C hf n (k + 1) k (by omega) (by omega)
theorem c574 (C : ShC G M b g S p) {f : Nat → UInt64} (hf : ∀ c, c < 6 → mad M (b + 21) c = f c) : ex G 1 574 0 [(0, vR (some (b + 16)))] [] M = some (.inl (some (vI (nI (worstOf f)))), M) := by
  rw [E574_0]
  exact c574_1 C hf 5 1 0 rfl (by decide)
end WST
