set_option maxRecDepth 8000
/-! ===== laying down: the reference ===== -/
section LYW
variable {G : Nat → Option Nat} {m u : Nat} {g : SG} {w : Nat}
theorem t689_1 : ∀ (n i : Nat) (S : Sh) (M : Mem), i + n = 24 → SI S → ShT G M m u g S w → ∃ M', ex G 2 689 1 [(0, vR (some u)), (1, vI (nI i))] [] M = some (.inl none, M') ∧ ShT G M' m u g (Sh.layL n i S) w ∧ QW (inT u) 0 0 M M'
  | 0, i, S, M, hi, iS, T => by
    have e : i = 24 := by omega
    subst e
    refine ⟨M, ?_, T, QW.rf⟩
    rw [E689_1, if_neg (by decide)]
    rfl
  | n + 1, i, S, M, hi, iS, T => by
    have hi24 : i < 24 := by omega
    have T1 := T.w_hours (k := i) (S.hrs i)
    obtain ⟨M1, hM1⟩ : ∃ M1, M1 = sai M (u + 15) i (nI (S.hrs i)) := ⟨_, rfl⟩
    rw [← hM1] at T1
    have T2 := T1.w_left (k := i) (S.hrs i)
    obtain ⟨M2, hM2⟩ : ∃ M2, M2 = sai M1 (u + 16) i (nI (S.hrs i)) := ⟨_, rfl⟩
    rw [← hM2] at T2
    have hr : mai M1 (u + 15) i = nI (S.hrs i) := by rw [hM1, mai_sai, up2_at9]
    obtain ⟨M', e', T', q'⟩ := t689_1 n (i + 1) (S.lay1 i) M2 (by omega) iS.lay1 T2
    have q1 : QW (inT u) 0 0 M M1 := by rw [hM1]; exact QW.sai (by unfold inT; omega)
    have q2 : QW (inT u) 0 0 M1 M2 := by rw [hM2]; exact QW.sai (by unfold inT; omega)
    refine ⟨M', Eq.trans ?_ e', T', (q1.tr q2).tr q'⟩
    rw [E689_1, if_pos (nI_lt_L 24 24 rfl hi24 (by decide)), gR_v T.ln.k T.rHr, vc1_ok T.ln.k, cbI_of (t690 T iS hi24), stI_ok T.hrk T.hrc T.hrl hi24 (by decide), ← hM1, gR_v T1.ln.k T1.rLf, gR_v T1.ln.k T1.rHr, ldI_v T1.hrk T1.hrl hi24 (by decide) hr, stI_ok T1.lfk T1.lfc T1.lfl hi24 (by decide), ← hM2, show aAdd (nI i) 1 = nI (i + 1) from aAdd_n i 1]
end LYW
