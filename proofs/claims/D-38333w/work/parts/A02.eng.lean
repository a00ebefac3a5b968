set_option maxRecDepth 4000
/-! ===== the class' engine: gives, tell ===== -/
theorem ShC.frN {G : Nat → Option Nat} {n s : Nat} {M M' : Mem} {b : Nat} {g : SG} {S : Sh} {p : Bool} (C : ShC G M b g S p) (q : QC (ntX b) n s M M') : ShC G M' b g S p :=
  C.fr q (fun h => by have := h.1; omega) (fun h => by have := h.2; omega) (fun j hj h => by have := h.2; omega)
theorem SI.P {S : Sh} (i : SI S) : PI S.pipes := ⟨i.pn, i.pi⟩
noncomputable def Sh.gives (S : Sh) : Nat := if S.eng then min (100 * S.power) (20 * nFlow S.pipes) else 0
noncomputable def Sh.engT (S : Sh) (w : Nat) : Nat := match w with
  | 0 => S.power
  | 1 => S.pipes.length
  | 2 => nFlow S.pipes
  | 3 => nNar S.pipes
  | 4 => bset (fun k => (pA S.pipes k).burst) S.pipes.length
  | 5 => bset (fun k => (pA S.pipes k).shut) S.pipes.length
  | 6 => S.gives
  | 7 => nSpr S.pipes
  | _ => nLst S.pipes
section ENG
variable {G : Nat → Option Nat} {M : Mem} {b : Nat} {g : SG} {S : Sh} {p : Bool}
/-- ENGINE.GIVES -/
theorem c525 (C : ShC G M b g S p) (iS : SI S) : ∃ M', ex G 1 525 0 [(0, vR (some (b + 7)))] [] M = some (.inl (some (vI (nI S.gives))), M') ∧ QC (ntX b) 0 0 M M' := by
  have hl := iS.lf 20
  have hp := iS.pw
  have e1 := c612 (G := G) (c := 1) C (j := 20) (by decide) (by omega)
  have e1' : ex G 1 612 0 [(0, vR (some (b + 55))), (1, vI 20)] [] M = some (.inl (some (vI (bI S.eng))), M) := e1
  unfold Sh.gives
  cases h : S.eng
  · refine ⟨M, ?_, QC.rf⟩
    rw [h] at e1'
    rw [E525_0, gR_v C.ek C.esh, gR_v C.k C.rJb, vc1_ok C.jsk, cbI_of e1', if_pos (show bI false = 0 from rfl)]
    rfl
  · obtain ⟨M1, e2, q1, -⟩ := c530' iS.P C.N
    have bf := nFlow_le iS.P C.N
    refine ⟨M1, ?_, q1⟩
    rw [h] at e1'
    rw [E525_0, gR_v C.ek C.esh, gR_v C.k C.rJb, vc1_ok C.jsk, cbI_of e1', if_neg (show ¬ bI true = 0 by decide), gI_v C.ek C.epw, gR_v C.ek C.ent, vc1_ok C.nk, cbI_of e2]
    rw [show aMul 100 (nI S.power) = nI (100 * S.power) from aMul_n 100 _, show aMul 20 (nI (nFlow S.pipes)) = nI (20 * nFlow S.pipes) from aMul_n 20 _, cbI_of (x67 (by omega) (by omega)), if_pos rfl]
    rfl
theorem gives_le (C : ShC G M b g S p) (iS : SI S) : S.gives ≤ 2000 := by
  have hp := iS.pw
  unfold Sh.gives
  split
  · omega
  · omega
/-- ENGINE.TELL -/
theorem c524 (C : ShC G M b g S p) (iS : SI S) {w : Nat} (hw : w < 9) : ∃ M', ex G 1 524 0 [(0, vR (some (b + 7))), (1, vI (nI w))] [] M = some (.inl (some (vI (nI (S.engT w)))), M') ∧ QC (ntX b) 0 0 M M' := by
  have hP := iS.P
  have N := C.N
  obtain h | h | h | h | h | h | h | h | h : w = 0 ∨ w = 1 ∨ w = 2 ∨ w = 3 ∨ w = 4 ∨ w = 5 ∨ w = 6 ∨ w = 7 ∨ w = 8 := by omega
  · subst h
    refine ⟨M, ?_, QC.rf⟩
    rw [E524_0, if_pos (by decide), gI_v C.ek C.epw]
    rfl
  · subst h
    refine ⟨M, ?_, QC.rf⟩
    rw [E524_0, if_neg (by decide), if_pos (by decide), gR_v C.ek C.ent, gR_v C.nk C.npi, vc1_ok N.pps.k, cbI_of (c5 N.pps)]
    rfl
  · subst h
    obtain ⟨M1, e1, q1, -⟩ := c530' hP N
    refine ⟨M1, ?_, q1⟩
    rw [E524_0, if_neg (by decide), if_neg (by decide), if_pos (by decide), gR_v C.ek C.ent, vc1_ok C.nk, cbI_of e1]
    rfl
  · subst h
    obtain ⟨M1, e1, q1⟩ := c535 hP N
    refine ⟨M1, ?_, q1⟩
    rw [E524_0, if_neg (by decide), if_neg (by decide), if_neg (by decide), if_pos (by decide), gR_v C.ek C.ent, vc1_ok C.nk, cbI_of e1]
    rfl
  · subst h
    refine ⟨M, ?_, QC.rf⟩
    have e1 : ex G 1 537 0 [(0, vR (some (b + 8)))] [] M = _ := (E537_0 G 1 M (some (b + 8))).trans (c537_1 hP N S.pipes.length 0 0 (Nat.zero_add _) (by decide))
    rw [E524_0, if_neg (by decide), if_neg (by decide), if_neg (by decide), if_neg (by decide), if_pos (by decide), gR_v C.ek C.ent, vc1_ok C.nk, cbI_of e1]
    rfl
  · subst h
    refine ⟨M, ?_, QC.rf⟩
    have e1 : ex G 1 538 0 [(0, vR (some (b + 8)))] [] M = _ := (E538_0 G 1 M (some (b + 8))).trans (c538_1 hP N S.pipes.length 0 0 (Nat.zero_add _) (by decide))
    rw [E524_0, if_neg (by decide), if_neg (by decide), if_neg (by decide), if_neg (by decide), if_neg (by decide), if_pos (by decide), gR_v C.ek C.ent, vc1_ok C.nk, cbI_of e1]
    rfl
  · subst h
    obtain ⟨M1, e1, q1⟩ := c525 C iS
    refine ⟨M1, ?_, q1⟩
    rw [E524_0, if_neg (by decide), if_neg (by decide), if_neg (by decide), if_neg (by decide), if_neg (by decide), if_neg (by decide), if_pos (by decide), vc1_ok C.ek, cbI_of e1]
    rfl
  · subst h
    obtain ⟨M1, e1, q1, -⟩ := c530' hP N
    obtain ⟨M2, e2, q2⟩ := c539_1 (G := G) hP S.pipes.length 0 0 M1 (Nat.zero_add _) (by decide) (N.fr q1)
    refine ⟨M2, ?_, q1.tr q2⟩
    have e3 : ex G 1 539 0 [(0, vR (some (b + 8)))] [] M = some (.inl (some (vI (nI (nSpr S.pipes)))), M2) := by
      rw [E539_0, vc1_ok N.nk, cbI_of e1]
      exact e2
    rw [E524_0, if_neg (by decide), if_neg (by decide), if_neg (by decide), if_neg (by decide), if_neg (by decide), if_neg (by decide), if_neg (by decide), if_pos (by decide), gR_v C.ek C.ent, vc1_ok C.nk, cbI_of e3]
    rfl
  · subst h
    obtain ⟨M1, e1, q1, -⟩ := c530' hP N
    obtain ⟨M2, e2, q2⟩ := c541_1 (G := G) hP S.pipes.length 0 (nFlow S.pipes) M1 (Nat.zero_add _) (nFlow_le hP N) (N.fr q1)
    refine ⟨M2, ?_, q1.tr q2⟩
    have e3 : ex G 1 541 0 [(0, vR (some (b + 8)))] [] M = some (.inl (some (vI (nI (nLst S.pipes)))), M2) := by
      rw [E541_0, vc1_ok N.nk, cbI_of e1]
      exact e2
    rw [E524_0, if_neg (by decide), if_neg (by decide), if_neg (by decide), if_neg (by decide), if_neg (by decide), if_neg (by decide), if_neg (by decide), if_neg (by decide), gR_v C.ek C.ent, vc1_ok C.nk, cbI_of e3]
    rfl
end ENG
