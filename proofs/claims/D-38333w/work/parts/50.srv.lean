set_option maxRecDepth 4000
/-! ===== Flood.survives ===== -/
noncomputable def Sh.svL (S : Sh) : Nat → Nat → Nat → Nat
  | 0, _, m => m
  | n + 1, k, m => S.svL n (k + 1) (m + (if (S.flo (3 <<< k)).isSome then 1 else 0))
noncomputable def Sh.surv (S : Sh) : Nat := S.svL 5 0 0
theorem three_lt : ∀ k, k < 5 → 3 <<< k < 64 := by decide
section SRV
variable {G : Nat → Option Nat} {M : Mem} {b : Nat} {g : SG} {S : Sh}
theorem c556_1 (iS : SI S) : ∀ (n k m : Nat) {M : Mem}, ShC G M b g S false → k + n = 5 → ∃ M', ex G 1 556 1 [(0, vR (some (b + 15))), (1, vI (nI m)), (2, vI (nI k))] [] M = some (.inl (some (vI (nI (S.svL n k m)))), M') ∧ QC noX 0 0 M M'
  | 0, k, m, M, C, hk => by
    have e : k = 5 := by omega
    subst e
    refine ⟨M, ?_, QC.rf⟩
    rw [E556_1, if_neg (by decide)]
    rfl
  | n + 1, k, m, M, C, hk => by
    obtain ⟨M1, e1, q1, W1, F1⟩ := c557 C (three_lt k (by omega)) iS
    have C1 := C.fr0 q1
    obtain ⟨M2, e2, q2⟩ := c556_1 iS n (k + 1) (m + (if (S.flo (3 <<< k)).isSome then 1 else 0)) C1 (by omega)
    refine ⟨M2, ?_, q1.tr q2⟩
    have st1 : ∀ κ : Int32 → Mem → Res, cbI (ex G 1 557 0 [(0, vR (some (b + 15))), (1, vI (nI (3 <<< k)))] [] M) κ = κ (bI (S.flo (3 <<< k)).isSome) M1 := fun κ => cbI_of e1
    rw [E556_1, if_pos (show nI k < 5 from nI_lt (a := k) (b := 5) (by omega) (by decide)), show aAdd (nI k) 1 = nI (k + 1) from aAdd_n k 1, show aShl 3 (nI k) = nI (3 <<< k) from aShl_n (a := 3) (by omega)]
    first | refine Eq.trans ((vc1_ok C.fdk)) ?_ | refine Rt.eq ((vc1_ok C.fdk)) ?_ | refine Th.eq ((vc1_ok C.fdk)) ?_
    first | refine Eq.trans ((st1 _)) ?_ | refine Rt.eq ((st1 _)) ?_ | refine Th.eq ((st1 _)) ?_
    show _ = some (Sum.inl (some (vI (nI (S.svL n (k + 1) (m + (if (S.flo (3 <<< k)).isSome then 1 else 0)))))), M2)
    rw [← e2]
    cases (S.flo (3 <<< k)).isSome
    · rw [if_pos (show bI false = 0 from rfl), show aAdd (nI m) 0 = nI (m + 0) from aAdd_n m 0]
      rfl
    · rw [if_neg (show ¬ bI true = 0 by decide), show aAdd (nI m) 1 = nI (m + 1) from aAdd_n m 1]
      rfl
/-- FLOOD.SURVIVES -/
theorem c556 (C : ShC G M b g S false) (iS : SI S) : ∃ M', ex G 1 556 0 [(0, vR (some (b + 15)))] [] M = some (.inl (some (vI (nI S.surv))), M') ∧ QC noX 0 0 M M' := by
  rw [E556_0]
  exact c556_1 iS 5 0 0 C rfl
end SRV
