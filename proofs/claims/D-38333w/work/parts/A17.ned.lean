set_option maxRecDepth 4000
/-! ===== the water a ship needs: walks ===== -/
def spS (k : Nat) : Nat := if k = 5 then 33 else 32 - k
/-- the constants of the spots -/
def SpotG (G : Nat → Option Nat) (r : Nat → Nat) : Prop := (∀ k, k < 6 → G (spS k) = some (r k)) ∧ ∀ i j, i < 6 → j < 6 → r i = r j → i = j
def pick6 (k m0 m1 m2 m3 m4 m5 : Nat) : Nat := match k with
  | 0 => m0 | 1 => m1 | 2 => m2 | 3 => m3 | 4 => m4 | _ => m5
/-- is the water at a spot (depth d, the tide t) enough -/
noncomputable def Sh.enough (S : Sh) (t d : Int32) : Bool := !decide (dCmL (S.dr false) FP.dconst0 < 0) && !decide (aSub t d < S.need)
section NED
variable {G : Nat → Option Nat} {r : Nat → Nat}
theorem dsg_p (hr : SpotG G r) {k : Nat} (hk : k < 6) {κ : Nat → Res} {m0 m1 m2 m3 m4 m5 : Nat} : dsg G (r k) κ [32, m0, 31, m1, 30, m2, 29, m3, 28, m4, 33, m5] = κ (pick6 k m0 m1 m2 m3 m4 m5) := by
  have ne : ∀ i, i < 6 → i ≠ k → r i ≠ r k := fun i hi h e => h (hr.2 i k hi hk e)
  have g0 : G 32 = some (r 0) := hr.1 0 (by decide)
  have g1 : G 31 = some (r 1) := hr.1 1 (by decide)
  have g2 : G 30 = some (r 2) := hr.1 2 (by decide)
  have g3 : G 29 = some (r 3) := hr.1 3 (by decide)
  have g4 : G 28 = some (r 4) := hr.1 4 (by decide)
  have g5 : G 33 = some (r 5) := hr.1 5 (by decide)
  obtain h | h | h | h | h | h : k = 0 ∨ k = 1 ∨ k = 2 ∨ k = 3 ∨ k = 4 ∨ k = 5 := by omega
  · subst h; rw [dsg_h g0]; rfl
  · subst h; rw [dsg_s g0 (ne 0 (by decide) (by decide)), dsg_h g1]; rfl
  · subst h; rw [dsg_s g0 (ne 0 (by decide) (by decide)), dsg_s g1 (ne 1 (by decide) (by decide)), dsg_h g2]; rfl
  · subst h; rw [dsg_s g0 (ne 0 (by decide) (by decide)), dsg_s g1 (ne 1 (by decide) (by decide)), dsg_s g2 (ne 2 (by decide) (by decide)), dsg_h g3]; rfl
  · subst h; rw [dsg_s g0 (ne 0 (by decide) (by decide)), dsg_s g1 (ne 1 (by decide) (by decide)), dsg_s g2 (ne 2 (by decide) (by decide)), dsg_s g3 (ne 3 (by decide) (by decide)), dsg_h g4]; rfl
  · subst h; rw [dsg_s g0 (ne 0 (by decide) (by decide)), dsg_s g1 (ne 1 (by decide) (by decide)), dsg_s g2 (ne 2 (by decide) (by decide)), dsg_s g3 (ne 3 (by decide) (by decide)), dsg_s g4 (ne 4 (by decide) (by decide)), dsg_h g5]; rfl
theorem c302 {M : Mem} (hr : SpotG G r) {k : Nat} (hk : k < 6) : ex G 1 302 0 [(0, vI (nI k))] [] M = some (.inl (some (vR (some (r k)))), M) := by
  obtain h | h | h | h | h | h : k = 0 ∨ k = 1 ∨ k = 2 ∨ k = 3 ∨ k = 4 ∨ k = 5 := by omega
  · subst h; rw [E302_0, if_pos (by decide), show G 32 = some (r 0) from hr.1 0 hk]; rfl
  · subst h; rw [E302_0, if_neg (by decide), if_pos (by decide), show G 31 = some (r 1) from hr.1 1 hk]; rfl
  · subst h; rw [E302_0, if_neg (by decide), if_neg (by decide), if_pos (by decide), show G 30 = some (r 2) from hr.1 2 hk]; rfl
  · subst h; rw [E302_0, if_neg (by decide), if_neg (by decide), if_neg (by decide), if_pos (by decide), show G 29 = some (r 3) from hr.1 3 hk]; rfl
  · subst h; rw [E302_0, if_neg (by decide), if_neg (by decide), if_neg (by decide), if_neg (by decide), if_pos (by decide), show G 28 = some (r 4) from hr.1 4 hk]; rfl
  · subst h; rw [E302_0, if_neg (by decide), if_neg (by decide), if_neg (by decide), if_neg (by decide), if_neg (by decide), show G 33 = some (r 5) from hr.1 5 hk]; rfl
/-- a spot's depth, its room -/
theorem c_deep {M : Mem} {k : Nat} (hk : k < 6) {a : Option Nat} : ex G 1 (pick6 k 796 798 800 803 805 807) 0 [(0, vR a)] [] M = some (.inl (some (vI (tbI tDeep k))), M) := by
  obtain h | h | h | h | h | h : k = 0 ∨ k = 1 ∨ k = 2 ∨ k = 3 ∨ k = 4 ∨ k = 5 := by omega
  · subst h; exact (E796_0 G 1 M a).trans rfl
  · subst h; exact (E798_0 G 1 M a).trans rfl
  · subst h; exact (E800_0 G 1 M a).trans rfl
  · subst h; exact (E803_0 G 1 M a).trans rfl
  · subst h; exact (E805_0 G 1 M a).trans rfl
  · subst h; exact (E807_0 G 1 M a).trans rfl
theorem c_room {M : Mem} {k : Nat} (hk : k < 6) {a : Option Nat} : ex G 1 (pick6 k 795 797 799 802 804 806) 0 [(0, vR a)] [] M = some (.inl (some (vI (tbI tRoom k))), M) := by
  obtain h | h | h | h | h | h : k = 0 ∨ k = 1 ∨ k = 2 ∨ k = 3 ∨ k = 4 ∨ k = 5 := by omega
  · subst h; exact (E795_0 G 1 M a).trans rfl
  · subst h; exact (E797_0 G 1 M a).trans rfl
  · subst h; exact (E799_0 G 1 M a).trans rfl
  · subst h; exact (E802_0 G 1 M a).trans rfl
  · subst h; exact (E804_0 G 1 M a).trans rfl
  · subst h; exact (E806_0 G 1 M a).trans rfl
/-- EDGE.NEED -/
theorem c307 {M : Mem} {b : Nat} {g : SG} {S : Sh} (C : ShC G M b g S false) (iS : SI S) : ∃ M', ex G 1 307 0 [(0, vR (some b))] [] M = some (.inl (some (vI S.need)), M') ∧ QC noX 0 0 M M' := by
  obtain ⟨M1, e1, q1, T1, d1⟩ := c547 C iS
  have C1 := C.fr0 q1
  have W1 : WgM M1 b S false := ⟨T1, d1⟩
  have e3 := c549' C1 W1
  refine ⟨M1, ?_, q1⟩
  unfold Sh.need
  by_cases ha : dCmL (S.dr false) FP.dconst0 < 0
  · rw [decide_eq_true ha] at e3
    rw [if_pos ha, E307_0, gR_v C.k C.rTr, vc1_ok C.trk, cbV_of e1, gR_v C1.k C1.rTr, vc1_ok C1.trk, cbI_of e3]
    rfl
  · obtain ⟨b1, p1⟩ := bd_10dr iS ha
    rw [decide_eq_false ha] at e3
    rw [if_neg ha, E307_0, gR_v C.k C.rTr, vc1_ok C.trk, cbV_of e1, gR_v C1.k C1.rTr, vc1_ok C1.trk, cbI_of e3, if_neg (show ¬ bI (!false) = 0 by decide), gR_v C1.k C1.rTr, gD_v C1.trk W1.d]
    first | refine Eq.trans ((fD_ok (isN_of b1 (by decide)))) ?_ | refine Rt.eq ((fD_ok (isN_of b1 (by decide)))) ?_ | refine Th.eq ((fD_ok (isN_of b1 (by decide)))) ?_
    rw [cbD_of (x72 p1 b1 (by decide) (by decide))]
    rfl
/-- EDGE.ISDEEP -/
theorem c311 {M : Mem} {b : Nat} {g : SG} {S : Sh} (C : ShC G M b g S false) (hr : SpotG G r) (iS : SI S) {k : Nat} (hk : k < 6) {t : Int32} : ∃ M', ex G 1 311 0 [(0, vR (some b)), (1, vI (nI k)), (2, vI t)] [] M = some (.inl (some (vI (bI (S.enough t (tbI tDeep k))))), M') ∧ QC noX 0 0 M M' := by
  obtain ⟨M1, e1, q1⟩ := c307 C iS
  refine ⟨M1, ?_, q1⟩
  rw [E311_0, cbI_of e1]
  unfold Sh.enough
  by_cases ha : dCmL (S.dr false) FP.dconst0 < 0
  · have hn : S.need = -1 := if_pos ha
    rw [if_pos hn, decide_eq_true ha, rZ_0]
    rfl
  · obtain ⟨n, hn, e⟩ := need_n iS ha
    have hne : ¬ S.need = -1 := by
      rw [e]
      intro h
      have := nI_pos (n := n) (by omega)
      rw [h] at this
      exact this (by decide)
    rw [if_neg hne, decide_eq_false ha, cbR_of (c302 hr hk), nn_ok, dsg_p hr hk, dbI_of (c_deep hk)]
    exact rZ_nd
end NED
section NET2
variable {G : Nat → Option Nat} {m u : Nat} {g : SG} {S : Sh} {w : Nat} {lots : List LotA} {ll le : Nat} {lx : Nat → Nat}
/-- NEEDS -/
theorem t694 {M : Mem} (T : TC G M m u g S w lots ll le lx) : ∃ M', ex G 2 694 0 [(0, vR (some u))] [] M = some (.inl (some (vI S.need)), M') ∧ QC noX 7 28 M M' := by
  have iS := T.i
  obtain ⟨M1, e1, q1, -⟩ := t670 (p := false) T
  have e1' : ex G 2 670 0 [(0, vR (some u)), (1, vI 0)] [] M = some (.inl (some (vD (S.dr false))), M1) := e1
  refine ⟨M1, ?_, q1⟩
  unfold Sh.need
  rw [E694_0, vc1_ok T.t.ln.k, cbD_of e1']
  by_cases ha : dCmL (S.dr false) FP.dconst0 < 0
  · rw [if_pos ((dr_neg iS).mpr ha), if_pos ha]
    rfl
  · obtain ⟨b1, p1⟩ := bd_10dr iS ha
    rw [if_neg (fun h => ha ((dr_neg iS).mp h)), if_neg ha]
    first | refine Eq.trans ((fD_ok (isN_of b1 (by decide)))) ?_ | refine Rt.eq ((fD_ok (isN_of b1 (by decide)))) ?_ | refine Th.eq ((fD_ok (isN_of b1 (by decide)))) ?_
    rw [cbD_of (x72 p1 b1 (by decide) (by decide))]
    rfl
/-- ISENOUGH -/
theorem t693 {M : Mem} (T : TC G M m u g S w lots ll le lx) {day : Nat} (hday : mfi M 196 m = nI day) (hd : day < 2147483648) {d : Int32} : ∃ M', ex G 2 693 0 [(0, vR (some u)), (1, vI d)] [] M = some (.inl (some (vI (bI (S.enough (tide day) d)))), M') ∧ QC noX 7 28 M M' := by
  have iS := T.i
  obtain ⟨M1, e1, q1⟩ := t694 T
  have T1 := T.ex q1 e1
  have hm := T.l.ml
  refine ⟨M1, ?_, q1⟩
  rw [E693_0, vc1_ok T.t.ln.k, cbI_of e1]
  unfold Sh.enough
  by_cases ha : dCmL (S.dr false) FP.dconst0 < 0
  · have hn : S.need = -1 := if_pos ha
    rw [hn, if_pos (by decide), decide_eq_true ha, rZ_0]
    rfl
  · obtain ⟨n, hn, e⟩ := need_n iS ha
    have hne : ¬ S.need < 0 := by
      rw [e]
      exact nI_pos (by omega)
    rw [if_neg hne, decide_eq_false ha, gR_v T1.t.ln.k T1.t.this, gI_v T1.l.k ((q1.fi 196 _ hm rfl).trans hday), cbI_of (t411 T1.ct hd)]
    exact rZ_nd
end NET2
