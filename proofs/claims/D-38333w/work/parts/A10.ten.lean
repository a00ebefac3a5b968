set_option maxRecDepth 4000
/-! ===== the reference's engine ===== -/
section TEN
variable {G : Nat → Option Nat} {M : Mem} {m u : Nat} {g : SG} {S : Sh} {w : Nat}
/-- GIVES -/
theorem t697 (T : ShT G M m u g S w) (iS : SI S) : ∃ M', ex G 2 697 0 [(0, vR (some u))] [] M = some (.inl (some (vI (nI S.gives))), M') ∧ QC noX (fcC S.pipes.length) (8 * fcC S.pipes.length + 4) M M' := by
  have hp := iS.pw
  have e1 := t667 (c := 2) T iS
  unfold Sh.gives
  cases h : S.eng
  · rw [h] at e1
    refine ⟨M, ?_, QC.rf⟩
    rw [E697_0, vc1_ok T.ln.k, cbI_of e1, bI_f]
    rfl
  · rw [h] at e1
    obtain ⟨M1, e2, q1⟩ := t698 iS.P T.N
    have bf := nFlow_leT iS.P T.N
    refine ⟨M1, ?_, q1⟩
    rw [E697_0, vc1_ok T.ln.k, cbI_of e1, bI_t, gI_v T.ln.k T.power, vc1_ok T.ln.k, cbI_of e2]
    rw [show aMul 100 (nI S.power) = nI (100 * S.power) from aMul_n 100 _, show aMul 20 (nI (nFlow S.pipes)) = nI (20 * nFlow S.pipes) from aMul_n 20 _, cbI_of (x67 (by omega) (by omega)), if_pos rfl]
    rfl
/-- the engine's cells: power or tell -/
def enC (n w : Nat) : Nat := fcC n + (if w = 7 ∨ w = 8 then n * fcC (n - 1) else 1)
def enS (n w : Nat) : Nat := 8 * fcC n + 12 + (if w = 7 ∨ w = 8 then n * (8 * fcC (n - 1) + 4) else 0)
/-- ENGINE.TELL -/
theorem t716 (T : ShT G M m u g S w) (iS : SI S) {v : Nat} (hv : v < 9) : ∃ M', ex G 2 716 0 [(0, vR (some u)), (1, vI (nI v))] [] M = some (.inl (some (vI (nI (S.engT v)))), M') ∧ QC noX (enC S.pipes.length v) (enS S.pipes.length v) M M' := by
  have hP := iS.P
  have N := T.N
  have k := T.ln.k
  obtain h | h | h | h | h | h | h | h | h : v = 0 ∨ v = 1 ∨ v = 2 ∨ v = 3 ∨ v = 4 ∨ v = 5 ∨ v = 6 ∨ v = 7 ∨ v = 8 := by omega
  · subst h
    refine ⟨M, ?_, QC.rf⟩
    rw [E716_0, if_pos (by decide), gI_v k T.power]
    rfl
  · subst h
    refine ⟨M, ?_, QC.rf⟩
    rw [E716_0, if_neg (by decide), if_pos (by decide), gR_v k T.rPp, vc1_ok N.pps.k, cbI_of (c5 N.pps)]
    rfl
  · subst h
    obtain ⟨M1, e1, q1⟩ := t698 hP N
    refine ⟨M1, ?_, q1.mono (fun _ h => h) (by unfold enC; omega) (by unfold enS; omega)⟩
    rw [E716_0, if_neg (by decide), if_neg (by decide), if_pos (by decide), vc1_ok k, cbI_of e1]
    rfl
  · subst h
    obtain ⟨M1, e1, q1⟩ := t715 hP N
    refine ⟨M1, ?_, q1.mono (fun _ h => h) (by unfold enC; simp) (by unfold enS; simp)⟩
    rw [E716_0, if_neg (by decide), if_neg (by decide), if_neg (by decide), if_pos (by decide), vc1_ok k, cbI_of e1]
    rfl
  · subst h
    refine ⟨M, ?_, QC.rf⟩
    have e1 : ex G 2 717 0 [(0, vR (some u)), (1, vI (nI 4))] [] M = _ := (E717_0 G 2 M (some u) (nI 4)).trans (t717_1 (w := 4) hP N (q := fun k => (pA S.pipes k).burst) (by decide) (fun k hk => (N.px k _ (pA_e hk)).2.2.2.2.2.2.2) S.pipes.length 0 0 (Nat.zero_add _) (by decide))
    rw [E716_0, if_neg (by decide), if_neg (by decide), if_neg (by decide), if_neg (by decide), if_pos (by decide), vc1_ok k]
    exact (cbI_of e1).trans rfl
  · subst h
    refine ⟨M, ?_, QC.rf⟩
    have e1 : ex G 2 717 0 [(0, vR (some u)), (1, vI (nI 3))] [] M = _ := (E717_0 G 2 M (some u) (nI 3)).trans (t717_1 (w := 3) hP N (q := fun k => (pA S.pipes k).shut) (by decide) (fun k hk => (N.px k _ (pA_e hk)).2.2.2.2.2.2.1) S.pipes.length 0 0 (Nat.zero_add _) (by decide))
    rw [E716_0, if_neg (by decide), if_neg (by decide), if_neg (by decide), if_neg (by decide), if_neg (by decide), if_pos (by decide), vc1_ok k]
    exact (cbI_of e1).trans rfl
  · subst h
    obtain ⟨M1, e1, q1⟩ := t697 T iS
    refine ⟨M1, ?_, q1.mono (fun _ h => h) (by unfold enC; omega) (by unfold enS; omega)⟩
    rw [E716_0, if_neg (by decide), if_neg (by decide), if_neg (by decide), if_neg (by decide), if_neg (by decide), if_neg (by decide), if_pos (by decide), vc1_ok k, cbI_of e1]
    rfl
  · subst h
    obtain ⟨M1, e1, q1⟩ := t698 hP N
    obtain ⟨M2, e2, q2⟩ := t718_1 (G := G) hP S.pipes.length 0 0 M1 (Nat.zero_add _) (by decide) (N.fr0 q1)
    refine ⟨M2, ?_, (q1.tr q2).mono (fun _ h => h) (by unfold enC; simp) (by unfold enS; simp)⟩
    have e3 : ex G 2 718 0 [(0, vR (some u))] [] M = some (.inl (some (vI (nI (nSpr S.pipes)))), M2) := by
      rw [E718_0, vc1_ok N.k, cbI_of e1]
      exact e2
    rw [E716_0, if_neg (by decide), if_neg (by decide), if_neg (by decide), if_neg (by decide), if_neg (by decide), if_neg (by decide), if_neg (by decide), if_pos (by decide), vc1_ok k, cbI_of e3]
    rfl
  · subst h
    obtain ⟨M1, e1, q1⟩ := t698 hP N
    obtain ⟨M2, e2, q2⟩ := t719_1 (G := G) hP S.pipes.length 0 (nFlow S.pipes) M1 (Nat.zero_add _) (nFlow_leT hP N) (N.fr0 q1)
    refine ⟨M2, ?_, (q1.tr q2).mono (fun _ h => h) (by unfold enC; simp) (by unfold enS; simp)⟩
    have e3 : ex G 2 719 0 [(0, vR (some u))] [] M = some (.inl (some (vI (nI (nLst S.pipes)))), M2) := by
      rw [E719_0, vc1_ok N.k, cbI_of e1]
      exact e2
    rw [E716_0, if_neg (by decide), if_neg (by decide), if_neg (by decide), if_neg (by decide), if_neg (by decide), if_neg (by decide), if_neg (by decide), if_neg (by decide), vc1_ok k, cbI_of e3]
    rfl
end TEN
