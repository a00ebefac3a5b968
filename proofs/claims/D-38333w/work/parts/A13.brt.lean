set_option maxRecDepth 4000
/-! ===== what a ship breaks, by the reference ===== -/
theorem dcmp_N {x y : UInt64} (nx : isN x) (ny : isN y) : ∃ o, FP.dcmp x y = some o := by
  have hx := eF_N2 nx
  have hy := eF_N2 ny
  have e : FP.dcmp x y = FP.Core.order (FP.Core.decode FP.Core.b64 x.toNat) (FP.Core.decode FP.Core.b64 y.toNat) := rfl
  by_cases fx : eF x < 2047
  · by_cases fy : eF y < 2047
    · rw [e, dec_mg fx, dec_mg fy]; exact ⟨_, rfl⟩
    · rw [e, dec_mg fx, dec_inf (by omega) ny]; exact ⟨_, rfl⟩
  · by_cases fy : eF y < 2047
    · rw [e, dec_inf (by omega) nx, dec_mg fy]; exact ⟨_, rfl⟩
    · rw [e, dec_inf (by omega) nx, dec_inf (by omega) ny]; exact ⟨_, rfl⟩
theorem cGL {x y : UInt64} (nx : isN x) (ny : isN y) : dCmG x y = dCmL x y := by
  obtain ⟨o, h⟩ := dcmp_N nx ny
  rw [dCmL_e, dCmG_e, h]
  cases o <;> rfl
def or8 (b0 b1 b2 b3 b4 b5 b6 b7 : Bool) : Nat :=
  let s0 := if b0 then 0 ||| (1 <<< 0) else 0
  let s1 := if b1 then s0 ||| (1 <<< 1) else s0
  let s2 := if b2 then s1 ||| (1 <<< 2) else s1
  let s3 := if b3 then s2 ||| (1 <<< 3) else s2
  let s4 := if b4 then s3 ||| (1 <<< 4) else s3
  let s5 := if b5 then s4 ||| (1 <<< 5) else s4
  let s6 := if b6 then s5 ||| (1 <<< 6) else s5
  if b7 then s6 ||| (1 <<< 7) else s6
theorem bset8 (q : Nat → Bool) : bset q 8 = or8 (q 0) (q 1) (q 2) (q 3) (q 4) (q 5) (q 6) (q 7) := rfl
def bN (b : Bool) : Nat := if b then 1 else 0
theorem bI_N (b : Bool) : bI b = nI (bN b) := by cases b <;> rfl
theorem or8_e (b0 b1 b2 b3 b4 b5 b6 b7 : Bool) : or8 b0 b1 b2 b3 b4 b5 b6 b7 = ((((bN b7 <<< 7) ||| (((bN b0 ||| (bN b1 <<< 1)) ||| (bN b2 <<< 2)) ||| (bN b3 <<< 3))) ||| (bN b4 <<< 4)) ||| (bN b5 <<< 5)) ||| (bN b6 <<< 6) := by
  cases b0 <;> cases b1 <;> cases b2 <;> cases b3 <;> cases b4 <;> cases b5 <;> cases b6 <;> cases b7 <;> rfl
theorem or8_t (b7 : Bool) : or8 true true true true true true true b7 = (bN b7 <<< 7) ||| 127 := by
  cases b7 <;> rfl

section BRT
variable {G : Nat → Option Nat} {m u : Nat} {g : SG} {S : Sh} {w : Nat} {lots : List LotA} {ll le : Nat} {lx : Nat → Nat}
theorem z381 {M : Mem} {b : Bool} {z : Int32} (h : bI b = z) : ex G 2 381 0 [(0, vI z)] [] M = some (.inl (some (vI (nI (bN b)))), M) := by
  subst h
  rw [← bI_N]
  exact t381
theorem shl_N {a k : Nat} (hk : k < 32) {z : Int32} (hz : nI k = z) : aShl (nI a) z = nI (a <<< k) := by
  subst hz
  exact aShl_n hk
theorem t720_25 {M : Mem} (T : TC G M m u g S w lots ll le lx) (ha : ¬ dCmL (S.dr false) FP.dconst0 < 0) {b5 : Bool} {z : Int32} (hz : bI b5 = z) {s : Nat} : ∃ M', ex G 2 720 25 [(0, vR (some u))] [vI z, vI (nI s)] M = some (.inl (some (vI (nI ((s ||| (bN b5 <<< 5)) ||| (bN (!S.kept 6) <<< 6))))), M') ∧ QC noX 14 56 M M' := by
  have iS := T.i
  obtain ⟨M1, e1, q1⟩ := t674 T
  have T1 := T.ex q1 e1
  have h7 : S.told 7 = S.trim false := if_neg ha
  have bt := told_b iS (k := 7)
  rw [h7] at e1 bt
  refine ⟨M1, ?_, q1⟩
  have bl : Bd (dDiv (i2D (nI S.H.len)) (kD 4630826316843712512)) _ := bd_div bd_i2D bd_kD (lo_kD _ (by decide))
  have n1 := isN_of bl (by decide)
  rw [E720_25, cbI_of (z381 hz), vc1_ok T.t.ln.k, cbD_of e1]
  first | refine Eq.trans ((fD_ok (isN_of bt (by decide)))) ?_ | refine Rt.eq ((fD_ok (isN_of bt (by decide)))) ?_ | refine Th.eq ((fD_ok (isN_of bt (by decide)))) ?_
  first | refine Eq.trans ((gI_v T1.t.ln.k T1.t.ln.fl)) ?_ | refine Rt.eq ((gI_v T1.t.ln.k T1.t.ln.fl)) ?_ | refine Th.eq ((gI_v T1.t.ln.k T1.t.ln.fl)) ?_
  first | refine Eq.trans ((fD_ok n1)) ?_ | refine Rt.eq ((fD_ok n1)) ?_ | refine Th.eq ((fD_ok n1)) ?_
  rw [← cGL (isN_of (bd_abs bt) (by decide)) n1, shl_N (k := 5) (z := 5) (by decide) rfl]
  have hk : S.kept 6 = decide (dCmG (dAbs (S.trim false)) (dDiv (i2D (nI S.H.len)) (kD 4630826316843712512)) ≤ 0) := rfl
  rw [hk]
  by_cases h : dCmG (dAbs (S.trim false)) (dDiv (i2D (nI S.H.len)) (kD 4630826316843712512)) ≤ 0
  · rw [if_pos h, decide_eq_true h, cbI_of (z381 (b := false) (z := 0) rfl), shl_N (k := 6) (z := 6) (by decide) rfl, aOr_n, aOr_n]
    rfl
  · rw [if_neg h, decide_eq_false h, cbI_of (z381 (b := true) (z := 1) rfl), shl_N (k := 6) (z := 6) (by decide) rfl, aOr_n, aOr_n]
    rfl
theorem t720_21 {M : Mem} (T : TC G M m u g S w lots ll le lx) (ha : ¬ dCmL (S.dr false) FP.dconst0 < 0) {b4 : Bool} {z : Int32} (hz : bI b4 = z) {s : Nat} : ∃ M', ex G 2 720 21 [(0, vR (some u)), (4, vI (nI (nFlow S.pipes)))] [vI z, vI (nI s)] M = some (.inl (some (vI (nI (((s ||| (bN b4 <<< 4)) ||| (bN (!S.kept 5) <<< 5)) ||| (bN (!S.kept 6) <<< 6))))), M') ∧ QC noX (14 + fcC S.pipes.length + S.pipes.length * fcC (S.pipes.length - 1)) (56 + (8 * fcC S.pipes.length + 4) + S.pipes.length * (8 * fcC (S.pipes.length - 1) + 4)) M M' := by
  have iS := T.i
  have hP := iS.P
  have N := T.t.N
  have bf := nFlow_leT hP N
  have hk : S.kept 5 = (!decide (nI (nFlow S.pipes) ≤ 0) && !decide (nI (nLst S.pipes * 2) < nI (nFlow S.pipes))) := rfl
  rw [hk]
  by_cases h : nFlow S.pipes = 0
  · obtain ⟨M1, e1, q1⟩ := t720_25 T ha (b5 := true) (z := 1) rfl (s := s ||| (bN b4 <<< 4))
    refine ⟨M1, ?_, q1.mono (fun _ h => h) (by omega) (by omega)⟩
    rw [E720_21, cbI_of (z381 hz), if_pos (nI_eq_L 0 0 rfl h), shl_N (k := 4) (z := 4) (by decide) rfl, aOr_n, e1]
    rw [h, decide_eq_true (show nI 0 ≤ 0 by decide)]
    rfl
  · obtain ⟨M1, e1, q1⟩ := t698 hP N
    obtain ⟨M2, e2, q2⟩ := t719_1 (G := G) hP S.pipes.length 0 (nFlow S.pipes) M1 (Nat.zero_add _) bf (N.fr0 q1)
    have e3 : ex G 2 719 0 [(0, vR (some u))] [] M = some (.inl (some (vI (nI (nLst S.pipes)))), M2) := by
      rw [E719_0, vc1_ok N.k, cbI_of e1]
      exact e2
    have q3 := q1.tr q2
    have T2 := T.ex q3 e3
    rw [decide_eq_false (nI_nle_L 0 0 rfl (by omega) (by omega))]
    by_cases h2 : nI (nLst S.pipes * 2) < nI (nFlow S.pipes)
    · obtain ⟨M3, e4, q4⟩ := t720_25 T2 ha (b5 := true) (z := 1) rfl (s := s ||| (bN b4 <<< 4))
      refine ⟨M3, ?_, (q3.tr q4).mono (fun _ h => h) (by omega) (by omega)⟩
      rw [E720_21, cbI_of (z381 hz), if_neg (nI_ne_L 0 0 rfl (by omega) (by decide) h), vc1_ok T.t.ln.k, cbI_of e3, show aMul (nI (nLst S.pipes)) 2 = nI (nLst S.pipes * 2) from aMul_n _ 2, if_pos h2, shl_N (k := 4) (z := 4) (by decide) rfl, aOr_n, e4, decide_eq_true h2]
      rfl
    · obtain ⟨M3, e4, q4⟩ := t720_25 T2 ha (b5 := false) (z := 0) rfl (s := s ||| (bN b4 <<< 4))
      refine ⟨M3, ?_, (q3.tr q4).mono (fun _ h => h) (by omega) (by omega)⟩
      rw [E720_21, cbI_of (z381 hz), if_neg (nI_ne_L 0 0 rfl (by omega) (by decide) h), vc1_ok T.t.ln.k, cbI_of e3, show aMul (nI (nLst S.pipes)) 2 = nI (nLst S.pipes * 2) from aMul_n _ 2, if_neg h2, shl_N (k := 4) (z := 4) (by decide) rfl, aOr_n, e4, decide_eq_false h2]
      rfl
theorem t720_18 {M : Mem} (T : TC G M m u g S w lots ll le lx) (ha : ¬ dCmL (S.dr false) FP.dconst0 < 0) {b3 : Bool} {z : Int32} (hz : bI b3 = z) {s t : Nat} : ∃ M', ex G 2 720 18 [(0, vR (some u)), (4, vI (nI (nFlow S.pipes)))] [vI z, vI (nI s), vI (nI t)] M = some (.inl (some (vI (nI ((((t ||| (s ||| (bN b3 <<< 3))) ||| (bN (!S.kept 4) <<< 4)) ||| (bN (!S.kept 5) <<< 5)) ||| (bN (!S.kept 6) <<< 6))))), M') ∧ QC noX (28 + 2 * fcC S.pipes.length + S.pipes.length * fcC (S.pipes.length - 1)) (112 + 2 * (8 * fcC S.pipes.length + 4) + S.pipes.length * (8 * fcC (S.pipes.length - 1) + 4)) M M' := by
  have iS := T.i
  obtain ⟨M1, e1, q1⟩ := t697 T.t iS
  have T1 := T.ex q1 e1
  obtain ⟨M2, e2, q2⟩ := t705 T1 (pw := nI S.gives)
  have T2 := T1.ex q2 e2
  have bs : isN (S.speed (nI S.gives)) := isN_of (speed_b (S := S)).1 (by decide)
  have hk : S.kept 4 = !decide (dCmL (S.speed (nI S.gives)) (kD 4618441417868443648) < 0) := rfl
  rw [hk]
  have hc := cGL bs (isN_of (bd_kD (n := 4618441417868443648)) (by decide))
  by_cases h : dCmL (S.speed (nI S.gives)) (kD 4618441417868443648) < 0
  · obtain ⟨M3, e3, q3⟩ := t720_21 T2 ha (b4 := true) (z := 1) rfl (s := t ||| (s ||| (bN b3 <<< 3)))
    refine ⟨M3, ?_, ((q1.tr q2).tr q3).mono (fun _ h => h) (by omega) (by omega)⟩
    rw [E720_18, cbI_of (z381 hz), shl_N (k := 3) (z := 3) (by decide) rfl, aOr_n, aOr_n, nmI_ok, vc1_ok T.t.ln.k, cbI_of e1, vc1_ok T1.t.ln.k, cbD_of e2, hc, if_pos h, e3, decide_eq_true h]
    rfl
  · obtain ⟨M3, e3, q3⟩ := t720_21 T2 ha (b4 := false) (z := 0) rfl (s := t ||| (s ||| (bN b3 <<< 3)))
    refine ⟨M3, ?_, ((q1.tr q2).tr q3).mono (fun _ h => h) (by omega) (by omega)⟩
    rw [E720_18, cbI_of (z381 hz), shl_N (k := 3) (z := 3) (by decide) rfl, aOr_n, aOr_n, nmI_ok, vc1_ok T.t.ln.k, cbI_of e1, vc1_ok T1.t.ln.k, cbD_of e2, hc, if_neg h, e3, decide_eq_false h]
    rfl
theorem t720_15 {M : Mem} (T : TC G M m u g S w lots ll le lx) (ha : ¬ dCmL (S.dr false) FP.dconst0 < 0) {b2 : Bool} {z : Int32} (hz : bI b2 = z) {s t : Nat} : ∃ M', ex G 2 720 15 [(0, vR (some u)), (4, vI (nI (nFlow S.pipes)))] [vI z, vI (nI s), vI (nI t)] M = some (.inl (some (vI (nI ((((t ||| ((s ||| (bN b2 <<< 2)) ||| (bN (!S.kept 3) <<< 3))) ||| (bN (!S.kept 4) <<< 4)) ||| (bN (!S.kept 5) <<< 5)) ||| (bN (!S.kept 6) <<< 6))))), M') ∧ QC noX (63 + 2 * fcC S.pipes.length + S.pipes.length * fcC (S.pipes.length - 1)) (252 + 2 * (8 * fcC S.pipes.length + 4) + S.pipes.length * (8 * fcC (S.pipes.length - 1) + 4)) M M' := by
  have iS := T.i
  obtain ⟨M1, e1, q1⟩ := t677 T
  have T1 := T.ex q1 e1
  have hk : S.kept 3 = !decide (nI S.surv < 3) := rfl
  rw [hk]
  by_cases h : nI S.surv < 3
  · obtain ⟨M3, e3, q3⟩ := t720_18 T1 ha (b3 := true) (z := 1) rfl (s := s ||| (bN b2 <<< 2)) (t := t)
    refine ⟨M3, ?_, (q1.tr q3).mono (fun _ h => h) (by omega) (by omega)⟩
    rw [E720_15, cbI_of (z381 hz), vc1_ok T.t.ln.k, cbI_of e1, if_pos h, shl_N (k := 2) (z := 2) (by decide) rfl, aOr_n, e3, decide_eq_true h]
    rfl
  · obtain ⟨M3, e3, q3⟩ := t720_18 T1 ha (b3 := false) (z := 0) rfl (s := s ||| (bN b2 <<< 2)) (t := t)
    refine ⟨M3, ?_, (q1.tr q3).mono (fun _ h => h) (by omega) (by omega)⟩
    rw [E720_15, cbI_of (z381 hz), vc1_ok T.t.ln.k, cbI_of e1, if_neg h, shl_N (k := 2) (z := 2) (by decide) rfl, aOr_n, e3, decide_eq_false h]
    rfl
theorem t720_12 {M : Mem} (T : TC G M m u g S w lots ll le lx) (ha : ¬ dCmL (S.dr false) FP.dconst0 < 0) {b1 : Bool} {z : Int32} (hz : bI b1 = z) {s t : Nat} : ∃ M', ex G 2 720 12 [(0, vR (some u)), (4, vI (nI (nFlow S.pipes)))] [vI z, vI (nI s), vI (nI t)] M = some (.inl (some (vI (nI ((((t ||| (((s ||| (bN b1 <<< 1)) ||| (bN (!S.kept 2) <<< 2)) ||| (bN (!S.kept 3) <<< 3))) ||| (bN (!S.kept 4) <<< 4)) ||| (bN (!S.kept 5) <<< 5)) ||| (bN (!S.kept 6) <<< 6))))), M') ∧ QC noX (84 + 2 * fcC S.pipes.length + S.pipes.length * fcC (S.pipes.length - 1)) (336 + 2 * (8 * fcC S.pipes.length + 4) + S.pipes.length * (8 * fcC (S.pipes.length - 1) + 4)) M M' := by
  have iS := T.i
  obtain ⟨M1, e1, q1⟩ := t679 (p := false) T
  have T1 := T.ex q1 e1
  have hk : S.kept 2 = decide (dCmG (S.great false 0) (i2D (nI S.limit)) ≤ 0) := rfl
  rw [hk]
  have e1' : ex G 2 679 0 [(0, vR (some u)), (1, vI 0)] [] M = some (.inl (some (vD (S.great false 0))), M1) := e1
  have hc := cGL (great_N (S := S) (p := false) (k := 0) iS) (isN_of (bd_i2D (i := nI S.limit)) (by decide))
  by_cases h : dCmG (S.great false 0) (i2D (nI S.limit)) ≤ 0
  · obtain ⟨M3, e3, q3⟩ := t720_15 T1 ha (b2 := false) (z := 0) rfl (s := s ||| (bN b1 <<< 1)) (t := t)
    refine ⟨M3, ?_, (q1.tr q3).mono (fun _ h => h) (by omega) (by omega)⟩
    rw [E720_12, cbI_of (z381 hz), vc1_ok T.t.ln.k, cbD_of e1', gI_v T1.t.ln.k T1.t.limit, ← hc, if_pos h, shl_N (k := 1) (z := 1) (by decide) rfl, aOr_n, e3, decide_eq_true h]
    rfl
  · obtain ⟨M3, e3, q3⟩ := t720_15 T1 ha (b2 := true) (z := 1) rfl (s := s ||| (bN b1 <<< 1)) (t := t)
    refine ⟨M3, ?_, (q1.tr q3).mono (fun _ h => h) (by omega) (by omega)⟩
    rw [E720_12, cbI_of (z381 hz), vc1_ok T.t.ln.k, cbD_of e1', gI_v T1.t.ln.k T1.t.limit, ← hc, if_neg h, shl_N (k := 1) (z := 1) (by decide) rfl, aOr_n, e3, decide_eq_false h]
    rfl
theorem t720_8 {M : Mem} (T : TC G M m u g S w lots ll le lx) (ha : ¬ dCmL (S.dr false) FP.dconst0 < 0) {b0 : Bool} {z : Int32} (hz : bI b0 = z) {t : Nat} : ∃ M', ex G 2 720 8 [(0, vR (some u)), (4, vI (nI (nFlow S.pipes)))] [vI z, vI (nI t)] M = some (.inl (some (vI (nI ((((t ||| (((bN b0 ||| (bN (!S.kept 1) <<< 1)) ||| (bN (!S.kept 2) <<< 2)) ||| (bN (!S.kept 3) <<< 3))) ||| (bN (!S.kept 4) <<< 4)) ||| (bN (!S.kept 5) <<< 5)) ||| (bN (!S.kept 6) <<< 6))))), M') ∧ QC noX (140 + 2 * fcC S.pipes.length + S.pipes.length * fcC (S.pipes.length - 1)) (560 + 2 * (8 * fcC S.pipes.length + 4) + S.pipes.length * (8 * fcC (S.pipes.length - 1) + 4)) M M' := by
  have iS := T.i
  obtain ⟨M1, e1, q1⟩ := t671 T
  have T1 := T.ex q1 e1
  have h5 : S.told 5 = S.gm false := if_neg ha
  have bt := told_b iS (k := 5)
  rw [h5] at e1 bt
  have hk : S.kept 1 = (!decide (dCmL (S.gm false) (kD 4598175219545276416) < 0) && decide (nI (S.list false) ≤ 2)) := rfl
  rw [hk]
  have hc := cGL (isN_of bt (by decide)) (isN_of (bd_kD (n := 4598175219545276416)) (by decide))
  by_cases h : dCmL (S.gm false) (kD 4598175219545276416) < 0
  · obtain ⟨M3, e3, q3⟩ := t720_12 T1 ha (b1 := true) (z := 1) rfl (s := bN b0) (t := t)
    refine ⟨M3, ?_, (q1.tr q3).mono (fun _ h => h) (by omega) (by omega)⟩
    rw [E720_8, cbI_of (z381 hz), vc1_ok T.t.ln.k, cbD_of e1, hc, if_pos h, e3, decide_eq_true h]
    rfl
  · obtain ⟨M2, e2, q2⟩ := t673 T1
    have T2 := T1.ex q2 e2
    by_cases h2 : nI (S.list false) ≤ 2
    · obtain ⟨M3, e3, q3⟩ := t720_12 T2 ha (b1 := false) (z := 0) rfl (s := bN b0) (t := t)
      refine ⟨M3, ?_, ((q1.tr q2).tr q3).mono (fun _ h => h) (by omega) (by omega)⟩
      rw [E720_8, cbI_of (z381 hz), vc1_ok T.t.ln.k, cbD_of e1, hc, if_neg h, vc1_ok T1.t.ln.k, cbI_of e2, if_pos h2, e3, decide_eq_false h, decide_eq_true h2]
      rfl
    · obtain ⟨M3, e3, q3⟩ := t720_12 T2 ha (b1 := true) (z := 1) rfl (s := bN b0) (t := t)
      refine ⟨M3, ?_, ((q1.tr q2).tr q3).mono (fun _ h => h) (by omega) (by omega)⟩
      rw [E720_8, cbI_of (z381 hz), vc1_ok T.t.ln.k, cbD_of e1, hc, if_neg h, vc1_ok T1.t.ln.k, cbI_of e2, if_neg h2, e3, decide_eq_false h, decide_eq_false h2]
      rfl
def brC (n : Nat) : Nat := 147 + 3 * fcC n + n * fcC (n - 1)
def brS (n : Nat) : Nat := 588 + 3 * (8 * fcC n + 4) + n * (8 * fcC (n - 1) + 4)
theorem t720_3 {M : Mem} (T : TC G M m u g S w lots ll le lx) {b7 : Bool} {z : Int32} (hz : bI b7 = z) (h7 : b7 = !S.kept 7) : ∃ M', ex G 2 720 3 [(0, vR (some u))] [vI z] M = some (.inl (some (vI (nI S.breaks))), M') ∧ QC noX (brC S.pipes.length) (brS S.pipes.length) M M' := by
  have iS := T.i
  have iH := iS.h
  have N := T.t.N
  obtain ⟨M1, e1, q1, -⟩ := t670 (p := false) T
  have T1 := T.ex q1 e1
  have e1' : ex G 2 670 0 [(0, vR (some u)), (1, vI 0)] [] M = some (.inl (some (vD (S.dr false))), M1) := e1
  have hb7 : S.brk 7 = b7 := by rw [h7]; rfl
  have hbk : ∀ k, k ≠ 7 → S.brk k = !(S.afl && S.kept k) := fun k h => if_neg h
  unfold Sh.breaks
  rw [bset8, hb7, hbk 0 (by decide), hbk 1 (by decide), hbk 2 (by decide), hbk 3 (by decide), hbk 4 (by decide), hbk 5 (by decide), hbk 6 (by decide)]
  unfold Sh.afl
  by_cases ha : dCmL (S.dr false) FP.dconst0 < 0
  · refine ⟨M1, ?_, q1.mono (fun _ h => h) (by unfold brC; omega) (by unfold brS; omega)⟩
    rw [decide_eq_true ha, E720_3, cbI_of (z381 hz), shl_N (k := 7) (z := 7) (by decide) rfl, nmI_ok, vc1_ok T.t.ln.k, cbD_of e1', if_pos ((dr_neg iS).mpr ha)]
    have h127 : aOr (nI (bN b7 <<< 7)) 127 = nI ((bN b7 <<< 7) ||| 127) := aOr_n _ 127
    rw [h127, ← or8_t]
    rfl
  · obtain ⟨M2, e2, q2⟩ := t698 iS.P T1.t.N
    have T2 := T1.ex q2 e2
    have hd := afl_dr ha
    have nd : isN (dMul (i2D (nI S.H.dep)) (kD 4604930618986332160)) := by (first | exact isN_of (by repeat' (with_reducible first | assumption | exact bd_kD | exact bd_i2D | exact bd_c0 | exact bd_c1 | apply bd_add | apply bd_mul | apply bd_div | apply bd_sub | exact dr_b | exact bd_step | exact bd_Q | exact bd_wide | exact bd_slice | exact bd_part | exact bd_section | exact bd_lift | exact bd_at | exact bd_X | exact bd_ord | exact bd_so | exact bd_vol | exact bd_water | exact bd_draught | exact bd_simT | exact bd_bread | exact bd_br | exact bd_far | exact bd_tank | exact LdB.t (by (first | assumption | exact ldB_plate | exact ldB_item | exact ldB_tank | exact ldB_engine | exact ldB_hold)) | exact LdB.s (by (first | assumption | exact ldB_plate | exact ldB_item | exact ldB_tank | exact ldB_engine | exact ldB_hold)) | exact LdB.u (by (first | assumption | exact ldB_plate | exact ldB_item | exact ldB_tank | exact ldB_engine | exact ldB_hold)) | exact SmB.w (by (first | assumption | exact sums_b)) | exact SmB.l (by (first | assumption | exact sums_b)) | exact SmB.t (by (first | assumption | exact sums_b)) | exact SmB.k (by (first | assumption | exact sums_b)) | exact wt_b | exact bd_lcg | exact bd_tcg | exact bd_kg | exact bd_dr | exact bd_loose | exact bd_free | exact bd_bulk | exact bd_fWater | exact lo_4 | exact lo_8 | exact lo_6 | exact lo_2 | exact lo_18 | exact lo_16 | exact lo_64 | exact lo_72 | exact lo_32 | exact lo_12 | exact lo_100 | exact lo_step | fail)) (by decide) | exact isN_of (by repeat' (with_reducible first | assumption | exact bd_kD | exact bd_i2D | exact bd_c0 | exact bd_c1 | apply bd_add | apply bd_mul | apply bd_div | apply bd_sub | exact dr_b | exact bd_step | exact bd_Q | exact bd_wide | exact bd_slice | exact bd_part | exact bd_section | exact bd_lift | exact bd_at | exact bd_X | exact bd_ord | exact bd_so | exact bd_vol | exact bd_water | exact bd_draught | exact bd_simT | exact bd_bread | exact bd_br | exact bd_far | exact bd_tank | exact LdB.t (by (first | assumption | exact ldB_plate | exact ldB_item | exact ldB_tank | exact ldB_engine | exact ldB_hold)) | exact LdB.s (by (first | assumption | exact ldB_plate | exact ldB_item | exact ldB_tank | exact ldB_engine | exact ldB_hold)) | exact LdB.u (by (first | assumption | exact ldB_plate | exact ldB_item | exact ldB_tank | exact ldB_engine | exact ldB_hold)) | exact SmB.w (by (first | assumption | exact sums_b)) | exact SmB.l (by (first | assumption | exact sums_b)) | exact SmB.t (by (first | assumption | exact sums_b)) | exact SmB.k (by (first | assumption | exact sums_b)) | exact wt_b | exact bd_lcg | exact bd_tcg | exact bd_kg | exact bd_dr | exact bd_loose | exact bd_free | exact bd_bulk | exact bd_fWater | exact lo_4 | exact lo_8 | exact lo_6 | exact lo_2 | exact lo_18 | exact lo_16 | exact lo_64 | exact lo_72 | exact lo_32 | exact lo_12 | exact lo_100 | exact lo_step | fail)) (by omega))
    have hc := cGL (isN_of (told_b iS (k := 4)) (by decide) : isN (S.dr false)) nd
    have hk : S.kept 0 = decide (dCmG (S.dr false) (dMul (i2D (nI S.H.dep)) (kD 4604930618986332160)) ≤ 0) := rfl
    rw [decide_eq_false ha, or8_e]
    by_cases h : dCmG (S.dr false) (dMul (i2D (nI S.H.dep)) (kD 4604930618986332160)) ≤ 0
    · obtain ⟨M3, e3, q3⟩ := t720_8 T2 ha (b0 := false) (z := 0) rfl (t := bN b7 <<< 7)
      refine ⟨M3, ?_, ((q1.tr q2).tr q3).mono (fun _ h => h) (by unfold brC; omega) (by unfold brS; omega)⟩
      rw [E720_3, cbI_of (z381 hz), shl_N (k := 7) (z := 7) (by decide) rfl, nmI_ok, vc1_ok T.t.ln.k, cbD_of e1', if_neg (fun h => ha ((dr_neg iS).mp h)), vc1_ok T1.t.ln.k, cbI_of e2, gI_v T2.t.ln.k T2.t.ln.fd]
      first | refine Eq.trans ((fD_ok nd)) ?_ | refine Rt.eq ((fD_ok nd)) ?_ | refine Th.eq ((fD_ok nd)) ?_
      rw [← hc, if_pos h, e3, hk, decide_eq_true h]
      rfl
    · obtain ⟨M3, e3, q3⟩ := t720_8 T2 ha (b0 := true) (z := 1) rfl (t := bN b7 <<< 7)
      refine ⟨M3, ?_, ((q1.tr q2).tr q3).mono (fun _ h => h) (by unfold brC; omega) (by unfold brS; omega)⟩
      rw [E720_3, cbI_of (z381 hz), shl_N (k := 7) (z := 7) (by decide) rfl, nmI_ok, vc1_ok T.t.ln.k, cbD_of e1', if_neg (fun h => ha ((dr_neg iS).mp h)), vc1_ok T1.t.ln.k, cbI_of e2, gI_v T2.t.ln.k T2.t.ln.fd]
      first | refine Eq.trans ((fD_ok nd)) ?_ | refine Rt.eq ((fD_ok nd)) ?_ | refine Th.eq ((fD_ok nd)) ?_
      rw [← hc, if_neg h, e3, hk, decide_eq_false h]
      rfl
/-- BREAKS -/
theorem t720 {M : Mem} (T : TC G M m u g S w lots ll le lx) : ∃ M', ex G 2 720 0 [(0, vR (some u))] [] M = some (.inl (some (vI (nI S.breaks))), M') ∧ QC noX (brC S.pipes.length) (brS S.pipes.length) M M' := by
  have hk : S.kept 7 = decide (nI S.foul ≤ 8) := rfl
  by_cases h : nI S.foul ≤ 8
  · obtain ⟨M', e, q⟩ := t720_3 T (b7 := false) (z := 0) rfl (by rw [hk, decide_eq_true h]; rfl)
    exact ⟨M', by rw [E720_0, gI_v T.t.ln.k T.t.foul, if_pos h, e], q⟩
  · obtain ⟨M', e, q⟩ := t720_3 T (b7 := true) (z := 1) rfl (by rw [hk, decide_eq_false h]; rfl)
    exact ⟨M', by rw [E720_0, gI_v T.t.ln.k T.t.foul, if_neg h, e], q⟩
end BRT
