set_option maxRecDepth 4000
/-! ===== what a ship breaks, by the class ===== -/
section BRW
variable {G : Nat → Option Nat} {M : Mem} {b : Nat} {g : SG} {S : Sh} {r : Nat → Nat}
theorem pk_kept {k : Nat} (hk : k < 7) : pick8 k 784 785 786 787 788 789 790 792 = 784 + k := by
  obtain h | h | h | h | h | h | h : k = 0 ∨ k = 1 ∨ k = 2 ∨ k = 3 ∨ k = 4 ∨ k = 5 ∨ k = 6 := by omega
  all_goals (subst h; rfl)
theorem pk_wat {k : Nat} (hk : k < 7) : pick8 k 758 758 758 758 758 758 758 791 = 758 := by
  obtain h | h | h | h | h | h | h : k = 0 ∨ k = 1 ∨ k = 2 ∨ k = 3 ∨ k = 4 ∨ k = 5 ∨ k = 6 := by omega
  all_goals (subst h; rfl)
/-- RULE.ISBROKEN -/
theorem c757 (C : ShC G M b g S false) (hG : SeaG G) (hr : RuleG G r) (iS : SI S) {k : Nat} (hk : k < 8) : ∃ M', ex G 1 757 0 [(0, vR (some (r k))), (1, vR (some b))] [] M = some (.inl (some (vI (bI (S.brk k)))), M') ∧ QC (ntX b) 0 0 M M' := by
  have up : ∀ {M M'}, QC noX 0 0 M M' → QC (ntX b) 0 0 M M' := fun q => q.mono (fun _ h => absurd h (fun h => h)) (Nat.le_refl _) (Nat.le_refl _)
  obtain ⟨M1, e1, q1, T1, d1⟩ := c547 C iS
  have C1 := C.fr0 q1
  have W1 : WgM M1 b S false := ⟨T1, d1⟩
  by_cases h7 : k = 7
  · subst h7
    refine ⟨M1, ?_, up q1⟩
    have e2 : ex G 1 791 0 [(0, vR (some (r 7)))] [] M1 = some (.inl (some (vI 0)), M1) := by rw [E791_0, rZ_0]; rfl
    have e3 : ex G 1 792 0 [(0, vR (some (r 7))), (1, vR (some b))] [] M1 = some (.inl (some (vI (bI (S.kept 7)))), M1) := by
      rw [E792_0, gI_v C1.k C1.foul]
      exact rZ_d
    rw [E757_0, gR_v C.k C.rTr, vc1_ok C.trk, cbV_of e1, nn_ok, dsg_r hr (by decide)]
    show dbI (ex G 1 791 0 [(0, vR (some (r 7)))] [] M1) _ = _
    rw [dbI_of e2, if_pos rfl, nn_ok, dsg_r hr (by decide)]
    show dbI (ex G 1 792 0 [(0, vR (some (r 7))), (1, vR (some b))] [] M1) _ = _
    rw [dbI_of e3]
    show (_ : Res) = some (.inl (some (vI (bI (!S.kept 7)))), M1)
    cases S.kept 7
    · rw [bI_f, rZ_1]; rfl
    · rw [bI_t, rZ_0]; rfl
  · have hk7 : k < 7 := by omega
    have e2 : ex G 1 758 0 [(0, vR (some (r k)))] [] M1 = some (.inl (some (vI 1)), M1) := by rw [E758_0, rZ_1]; rfl
    have e3 := c549' C1 W1
    have hb : S.brk k = !(S.afl && S.kept k) := by unfold Sh.brk; rw [if_neg h7]
    rw [hb]
    unfold Sh.afl
    by_cases ha : dCmL (S.dr false) FP.dconst0 < 0
    · refine ⟨M1, ?_, up q1⟩
      rw [decide_eq_true ha] at e3 ⊢
      rw [E757_0, gR_v C.k C.rTr, vc1_ok C.trk, cbV_of e1, nn_ok, dsg_r hr hk, pk_wat hk7, dbI_of e2, if_neg (show ¬ (1 : Int32) = 0 by decide), gR_v C1.k C1.rTr, vc1_ok C1.trk, cbI_of e3]
      rw [show (if bI (!true) = 0 then (rZ 1 M1 : Res) else _) = rZ 1 M1 from if_pos rfl, rZ_1]
      rfl
    · rw [decide_eq_false ha] at e3 ⊢
      obtain ⟨M2, e4, q2⟩ := c_kept C1 hG W1 iS ha hk7 (a0 := some (r k))
      refine ⟨M2, ?_, (up q1).tr q2⟩
      rw [E757_0, gR_v C.k C.rTr, vc1_ok C.trk, cbV_of e1, nn_ok, dsg_r hr hk, pk_wat hk7, dbI_of e2, if_neg (show ¬ (1 : Int32) = 0 by decide), gR_v C1.k C1.rTr, vc1_ok C1.trk, cbI_of e3, if_neg (show ¬ bI (!false) = 0 by decide), nn_ok, dsg_r hr hk, pk_kept hk7, dbI_of e4]
      cases S.kept k
      · rw [bI_f, rZ_1]; rfl
      · rw [bI_t, rZ_0]; rfl
theorem c756 (hr : RuleG G r) {k : Nat} (hk : k < 8) : ex G 1 756 0 [(0, vI (nI k))] [] M = some (.inl (some (vR (some (r k)))), M) := by
  obtain h | h | h | h | h | h | h | h : k = 0 ∨ k = 1 ∨ k = 2 ∨ k = 3 ∨ k = 4 ∨ k = 5 ∨ k = 6 ∨ k = 7 := by omega
  · subst h; rw [E756_0, if_pos (by decide), show G 64 = some (r 0) from hr.1 0 hk]; rfl
  · subst h; rw [E756_0, if_neg (by decide), if_pos (by decide), show G 63 = some (r 1) from hr.1 1 hk]; rfl
  · subst h; rw [E756_0, if_neg (by decide), if_neg (by decide), if_pos (by decide), show G 62 = some (r 2) from hr.1 2 hk]; rfl
  · subst h; rw [E756_0, if_neg (by decide), if_neg (by decide), if_neg (by decide), if_pos (by decide), show G 61 = some (r 3) from hr.1 3 hk]; rfl
  · subst h; rw [E756_0, if_neg (by decide), if_neg (by decide), if_neg (by decide), if_neg (by decide), if_pos (by decide), show G 60 = some (r 4) from hr.1 4 hk]; rfl
  · subst h; rw [E756_0, if_neg (by decide), if_neg (by decide), if_neg (by decide), if_neg (by decide), if_neg (by decide), if_pos (by decide), show G 59 = some (r 5) from hr.1 5 hk]; rfl
  · subst h; rw [E756_0, if_neg (by decide), if_neg (by decide), if_neg (by decide), if_neg (by decide), if_neg (by decide), if_neg (by decide), if_pos (by decide), show G 58 = some (r 6) from hr.1 6 hk]; rfl
  · subst h; rw [E756_0, if_neg (by decide), if_neg (by decide), if_neg (by decide), if_neg (by decide), if_neg (by decide), if_neg (by decide), if_neg (by decide), show G 65 = some (r 7) from hr.1 7 hk]; rfl
theorem c199_1 (hG : SeaG G) (hr : RuleG G r) (iS : SI S) : ∀ (n k s : Nat) (M : Mem), k + n = 8 → s < 4096 → ShC G M b g S false → ∃ M', ex G 1 199 1 [(0, vR (some b)), (1, vI (nI s)), (2, vI (nI k))] [] M = some (.inl (some (vI (nI (bsL S.brk n k s)))), M') ∧ QC (ntX b) 0 0 M M'
  | 0, k, s, M, hk, hs, C => by
    have e : k = 8 := by omega
    subst e
    refine ⟨M, ?_, QC.rf⟩
    rw [E199_1, if_neg (by decide)]
    rfl
  | n + 1, k, s, M, hk, hs, C => by
    obtain ⟨M1, e1, q1⟩ := c757 C hG hr iS (k := k) (by omega)
    have h757 : pick8 k 757 757 757 757 757 757 757 757 = 757 := by unfold pick8; split <;> rfl
    have o0 : aOr (nI s) 0 = nI s := by rw [show (0 : Int32) = nI 0 from rfl, aOr_n, Nat.or_zero]
    rw [E199_1, if_pos (nI_lt_L 8 8 rfl (by omega) (by decide)), cbR_of (c756 hr (by omega)), nn_ok, dsg_r hr (by omega), h757, dbI_of e1, show aAdd (nI k) 1 = nI (k + 1) from aAdd_n k 1, show aShl 1 (nI k) = nI (1 <<< k) from aShl_n (a := 1) (by omega), aOr_n, o0, bsL_s]
    cases S.brk k
    · rw [bI_f, nmI_ok]
      obtain ⟨M', e', q'⟩ := c199_1 hG hr iS n (k + 1) s M1 (by omega) hs (C.frN q1)
      exact ⟨M', e', q1.tr q'⟩
    · rw [bI_t, nmI_ok]
      obtain ⟨M', e', q'⟩ := c199_1 hG hr iS n (k + 1) (s ||| (1 <<< k)) M1 (by omega) (or_lt hs (by omega)) (C.frN q1)
      exact ⟨M', e', q1.tr q'⟩
/-- BREAKSOF -/
theorem c199 (C : ShC G M b g S false) (hG : SeaG G) (hr : RuleG G r) (iS : SI S) : ∃ M', ex G 1 199 0 [(0, vR (some b))] [] M = some (.inl (some (vI (nI S.breaks))), M') ∧ QC (ntX b) 0 0 M M' := by
  rw [E199_0]
  exact c199_1 hG hr iS 8 0 0 M (Nat.zero_add _) (by decide) C
end BRW
