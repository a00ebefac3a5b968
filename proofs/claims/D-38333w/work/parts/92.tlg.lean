set_option maxRecDepth 4000
/-! ===== the reference: lighten ===== -/
section TLG
variable {G : Nat → Option Nat} {m u : Nat} {g : SG} {S : Sh} {w : Nat} {lots : List LotA} {ll le : Nat} {lx : Nat → Nat}
theorem Zr.sai_ {M : Mem} {a i : Nat} {v : Int32} (Z : Zr M) (ha : a < mnx M) : Zr (sai M a i v) := by
  intro x hx
  have hx' : mnx M ≤ x := by rw [mnx_sai] at hx; exact hx
  obtain ⟨h1, h2, h3, h4, h5, h6, h7, h8⟩ := Z x hx'
  refine ⟨by rw [mcl_sai, mco_sai, mln_sai]; exact h1, by rw [mfi_sai]; exact h2, by rw [mfj_sai]; exact h3, by rw [mfd_sai]; exact h4, by rw [mfr_sai]; exact h5, fun j => ?_, by rw [mad_sai]; exact h7, by rw [mar_sai]; exact h8⟩
  rw [sai_ne (by omega)]
  exact h6 j
theorem LtT.sai_ {M : Mem} {a i : Nat} {v : Int32} (T : LtT G M m lots ll le lx) : LtT G (sai M a i v) m lots ll le lx :=
  ⟨Eq.trans (congrFun mcl_sai _) T.k, Eq.trans (congrFun (congrFun mfr_sai _) _) T.r, AL.sai_ T.al, by rw [mnx_sai]; exact T.ml, fun j hj => by rw [mnx_sai]; exact T.xl j hj, fun j x hx => by
    rw [mcl_sai, mco_sai, mfi_sai, mfd_sai]; exact T.x j x hx, T.xi⟩
theorem ConT.sai_ {M : Mem} {a i : Nat} {v : Int32} (h : ConT G M) (ha : mco M a = 2) : ConT G (sai M a i v) := by
  have hd : ∀ {g n : Nat} {f : Nat → UInt64}, TabD0 G M g n f → TabD0 G (sai M a i v) g n f := by
    rintro g n f ⟨b, e, k, co, lt, ln, v⟩
    exact ⟨b, e, by rw [mcl_sai]; exact k, by rw [mco_sai]; exact co, by rw [mnx_sai]; exact lt, by rw [mln_sai]; exact ln, fun j hj => by rw [mad_sai]; exact v j hj⟩
  have hi : ∀ {g n : Nat} {f : Nat → Int32}, TabI0 G M g n f → TabI0 G (sai M a i v) g n f := by
    rintro g n f ⟨b, e, k, co, lt, ln, v⟩
    exact ⟨b, e, by rw [mcl_sai]; exact k, by rw [mco_sai]; exact co, by rw [mnx_sai]; exact lt, by rw [mln_sai]; exact ln, fun j hj => by rw [sai_ne (fun e => by rw [e, ha] at co; cases co)]; exact v j hj⟩
  have hm : ∀ {g n k : Nat} {f : Nat → Nat → Int32}, TabM0 G M g n k f → TabM0 G (sai M a i v) g n k f := by
    rintro g n k f ⟨b, e, kd, co, lt, ln, v⟩
    refine ⟨b, e, by rw [mcl_sai]; exact kd, by rw [mco_sai]; exact co, by rw [mnx_sai]; exact lt, by rw [mln_sai]; exact ln, fun j hj => ?_⟩
    obtain ⟨r, r1, r2, r3, r4, r5, r6⟩ := v j hj
    exact ⟨r, by rw [mar_sai]; exact r1, by rw [mcl_sai]; exact r2, by rw [mco_sai]; exact r3, by rw [mnx_sai]; exact r4, by rw [mln_sai]; exact r5, fun y hy => by rw [sai_ne (fun e => by rw [e, ha] at r3; cases r3)]; exact r6 y hy⟩
  exact ⟨hd h.sim, hd h.ang, hm h.seas, hm h.along, hm h.up, hi h.deep, hi h.moon, hi h.spring, hi h.room, hi h.home, hi h.order⟩
def inT (u : Nat) : Nat → Prop := fun a => u ≤ a ∧ a < u + 25
/-- a plan is written -/
theorem TC.plan {M : Mem} (T : TC G M m u g S w lots ll le lx) {k n : Nat} (hn : n ≤ 40) : TC G (sai M (u + 11) k (nI n)) m u g (S.s_p k n) w lots ll le lx ∧ QW (inT u) 0 0 M (sai M (u + 11) k (nI n)) :=
  ⟨⟨T.t.w_plan n, T.l.sai_, T.hl, T.h8, T.cg, T.i.s_p hn, T.z.sai_ (by have := T.t.lt; omega), T.ct.sai_ T.t.plc⟩, QW.sai ⟨by omega, by omega⟩⟩
theorem t678_1 : ∀ (n k : Nat) (S : Sh) (M : Mem), k + n = 18 → TC G M m u g S w lots ll le lx →
    ∃ M', ex G 2 678 1 [(0, vR (some u)), (1, vI (nI k))] [] M = ex G 2 678 4 [(0, vR (some u)), (1, vI (nI 0)), (2, vI (nI 0))] [] M' ∧ TC G M' m u g (Sh.thinL n k S) w lots ll le lx ∧ QW (inT u) 0 0 M M'
  | 0, k, S, M, hk, T => by
    have e : k = 18 := by omega
    subst e
    refine ⟨M, ?_, T, QW.rf⟩
    rw [E678_1, if_neg (by decide)]
    rfl
  | n + 1, k, S, M, hk, T => by
    have hk18 : k < 18 := by omega
    obtain ⟨T1, q1⟩ := T.plan (k := k) (n := 3) (by decide)
    obtain ⟨M', e', T', q'⟩ := t678_1 n (k + 1) _ _ (by omega) T1
    refine ⟨M', Eq.trans ?_ e', T', q1.tr q'⟩
    rw [E678_1, if_pos (nI_lt_L 18 18 rfl hk18 (by decide)), show aAdd (nI k) 1 = nI (k + 1) from aAdd_n k 1]
    first | refine Eq.trans ((gR_v T.t.ln.k T.t.rPl)) ?_ | refine Rt.eq ((gR_v T.t.ln.k T.t.rPl)) ?_ | refine Th.eq ((gR_v T.t.ln.k T.t.rPl)) ?_
    first | refine Eq.trans ((stI_ok T.t.plk T.t.plc T.t.pll hk18 (by decide))) ?_ | refine Rt.eq ((stI_ok T.t.plk T.t.plc T.t.pll hk18 (by decide))) ?_ | refine Th.eq ((stI_ok T.t.plk T.t.plc T.t.pll hk18 (by decide))) ?_
    rfl
theorem t678_15 {M : Mem} (T : TC G M m u g S w lots ll le lx) {c k : Nat} (hc : c < 6) (hk : k < 18) {i1 i2 : Int32} :
    ∃ M', ex G 2 678 15 [(0, vR (some u)), (1, vI i1), (2, vI i2), (5, vI (nI c)), (6, vI (nI k))] [] M = ex G 2 678 4 [(0, vR (some u)), (1, vI i1), (2, vI (aAdd i2 1))] [] M' ∧ TC G M' m u g (if S.plan (3 * c + 1) + 4 ≤ S.plan k then S.s_p (3 * c + 1) (S.plan (3 * c + 1) + 1) else S) w lots ll le lx ∧ QW (inT u) 0 0 M M' := by
  have p1 := T.i.pl (3 * c + 1)
  have p2 := T.i.pl k
  have e3 : aAdd (aMul 3 (nI c)) 1 = nI (3 * c + 1) := by rw [show (3 : Int32) = nI 3 from rfl, aMul_n]; exact aAdd_n _ 1
  have h31 : 3 * c + 1 < 18 := by omega
  have hle : nI (S.plan (3 * c + 1)) ≤ aSub (nI (S.plan k)) 4 ↔ S.plan (3 * c + 1) + 4 ≤ S.plan k := by
    generalize S.plan (3 * c + 1) = x at p1
    generalize S.plan k = y at p2
    rw [aSub_e]
    have h : ∀ x, x < 41 → ∀ y, y < 41 → (nI x ≤ nI y - 4 ↔ x + 4 ≤ y) := by decide +kernel
    exact h x (by omega) y (by omega)
  by_cases h : S.plan (3 * c + 1) + 4 ≤ S.plan k
  · obtain ⟨T1, q1⟩ := T.plan (k := 3 * c + 1) (n := S.plan (3 * c + 1) + 1) (by omega)
    rw [if_pos h]
    refine ⟨_, ?_, T1, q1⟩
    rw [E678_15, e3]
    first | refine Eq.trans ((gR_v T.t.ln.k T.t.rPl)) ?_ | refine Rt.eq ((gR_v T.t.ln.k T.t.rPl)) ?_ | refine Th.eq ((gR_v T.t.ln.k T.t.rPl)) ?_
    first | refine Eq.trans ((ldI_v T.t.plk T.t.pll h31 (by decide) (T.t.plv _ h31))) ?_ | refine Rt.eq ((ldI_v T.t.plk T.t.pll h31 (by decide) (T.t.plv _ h31))) ?_ | refine Th.eq ((ldI_v T.t.plk T.t.pll h31 (by decide) (T.t.plv _ h31))) ?_
    first | refine Eq.trans ((gR_v T.t.ln.k T.t.rPl)) ?_ | refine Rt.eq ((gR_v T.t.ln.k T.t.rPl)) ?_ | refine Th.eq ((gR_v T.t.ln.k T.t.rPl)) ?_
    first | refine Eq.trans ((ldI_v T.t.plk T.t.pll hk (by decide) (T.t.plv _ hk))) ?_ | refine Rt.eq ((ldI_v T.t.plk T.t.pll hk (by decide) (T.t.plv _ hk))) ?_ | refine Th.eq ((ldI_v T.t.plk T.t.pll hk (by decide) (T.t.plv _ hk))) ?_
    rw [if_pos (hle.mpr h)]
    first | refine Eq.trans ((gR_v T.t.ln.k T.t.rPl)) ?_ | refine Rt.eq ((gR_v T.t.ln.k T.t.rPl)) ?_ | refine Th.eq ((gR_v T.t.ln.k T.t.rPl)) ?_
    first | refine Eq.trans ((ldI_v T.t.plk T.t.pll h31 (by decide) (T.t.plv _ h31))) ?_ | refine Rt.eq ((ldI_v T.t.plk T.t.pll h31 (by decide) (T.t.plv _ h31))) ?_ | refine Th.eq ((ldI_v T.t.plk T.t.pll h31 (by decide) (T.t.plv _ h31))) ?_
    rw [show aAdd (nI (S.plan (3 * c + 1))) 1 = nI (S.plan (3 * c + 1) + 1) from aAdd_n _ 1]
    first | refine Eq.trans ((stI_ok T.t.plk T.t.plc T.t.pll h31 (by decide))) ?_ | refine Rt.eq ((stI_ok T.t.plk T.t.plc T.t.pll h31 (by decide))) ?_ | refine Th.eq ((stI_ok T.t.plk T.t.plc T.t.pll h31 (by decide))) ?_
    rfl
  · rw [if_neg h]
    refine ⟨M, ?_, T, QW.rf⟩
    rw [E678_15, e3]
    first | refine Eq.trans ((gR_v T.t.ln.k T.t.rPl)) ?_ | refine Rt.eq ((gR_v T.t.ln.k T.t.rPl)) ?_ | refine Th.eq ((gR_v T.t.ln.k T.t.rPl)) ?_
    first | refine Eq.trans ((ldI_v T.t.plk T.t.pll h31 (by decide) (T.t.plv _ h31))) ?_ | refine Rt.eq ((ldI_v T.t.plk T.t.pll h31 (by decide) (T.t.plv _ h31))) ?_ | refine Th.eq ((ldI_v T.t.plk T.t.pll h31 (by decide) (T.t.plv _ h31))) ?_
    first | refine Eq.trans ((gR_v T.t.ln.k T.t.rPl)) ?_ | refine Rt.eq ((gR_v T.t.ln.k T.t.rPl)) ?_ | refine Th.eq ((gR_v T.t.ln.k T.t.rPl)) ?_
    first | refine Eq.trans ((ldI_v T.t.plk T.t.pll hk (by decide) (T.t.plv _ hk))) ?_ | refine Rt.eq ((ldI_v T.t.plk T.t.pll hk (by decide) (T.t.plv _ hk))) ?_ | refine Th.eq ((ldI_v T.t.plk T.t.pll hk (by decide) (T.t.plv _ hk))) ?_
    rw [if_neg (fun h9 => h (hle.mp h9))]
theorem t678_13 {M : Mem} (T : TC G M m u g S w lots ll le lx) {c k r : Nat} (hc : c < 6) (hk : k = S.thK c) {i2 : Int32} :
    ∃ M', ex G 2 678 13 [(0, vR (some u)), (1, vI (nI r)), (2, vI i2), (5, vI (nI c))] [vI (nI k)] M = ex G 2 678 4 [(0, vR (some u)), (1, vI (nI (r + if S.plan (S.thK c) < 40 then 1 else 0))), (2, vI (aAdd i2 1))] [] M' ∧ TC G M' m u g (S.thick1 c) w lots ll le lx ∧ QW (inT u) 0 0 M M' := by
  have hk18 : k < 18 := by
    rw [hk]; unfold Sh.thK
    split <;> omega
  have p2 := T.i.pl k
  unfold Sh.thick1 Sh.th1
  rw [← hk]
  by_cases h : S.plan k < 40
  · obtain ⟨T1, q1⟩ := T.plan (k := k) (n := S.plan k + 1) (by omega)
    rw [if_pos h, if_pos h]
    obtain ⟨M', e', T', q'⟩ := t678_15 T1 hc hk18 (i1 := nI (r + 1)) (i2 := i2)
    refine ⟨M', Eq.trans ?_ e', T', q1.tr q'⟩
    rw [E678_13]
    first | refine Eq.trans ((gR_v T.t.ln.k T.t.rPl)) ?_ | refine Rt.eq ((gR_v T.t.ln.k T.t.rPl)) ?_ | refine Th.eq ((gR_v T.t.ln.k T.t.rPl)) ?_
    first | refine Eq.trans ((ldI_v T.t.plk T.t.pll hk18 (by decide) (T.t.plv _ hk18))) ?_ | refine Rt.eq ((ldI_v T.t.plk T.t.pll hk18 (by decide) (T.t.plv _ hk18))) ?_ | refine Th.eq ((ldI_v T.t.plk T.t.pll hk18 (by decide) (T.t.plv _ hk18))) ?_
    rw [if_pos (nI_lt_L 40 40 rfl h (by decide))]
    first | refine Eq.trans ((gR_v T.t.ln.k T.t.rPl)) ?_ | refine Rt.eq ((gR_v T.t.ln.k T.t.rPl)) ?_ | refine Th.eq ((gR_v T.t.ln.k T.t.rPl)) ?_
    first | refine Eq.trans ((ldI_v T.t.plk T.t.pll hk18 (by decide) (T.t.plv _ hk18))) ?_ | refine Rt.eq ((ldI_v T.t.plk T.t.pll hk18 (by decide) (T.t.plv _ hk18))) ?_ | refine Th.eq ((ldI_v T.t.plk T.t.pll hk18 (by decide) (T.t.plv _ hk18))) ?_
    rw [show aAdd (nI (S.plan k)) 1 = nI (S.plan k + 1) from aAdd_n _ 1, show aAdd (nI r) 1 = nI (r + 1) from aAdd_n _ 1]
    first | refine Eq.trans ((stI_ok T.t.plk T.t.plc T.t.pll hk18 (by decide))) ?_ | refine Rt.eq ((stI_ok T.t.plk T.t.plc T.t.pll hk18 (by decide))) ?_ | refine Th.eq ((stI_ok T.t.plk T.t.plc T.t.pll hk18 (by decide))) ?_
    rfl
  · rw [if_neg h, if_neg h]
    obtain ⟨M', e', T', q'⟩ := t678_15 T hc hk18 (i1 := nI (r + 0)) (i2 := i2)
    refine ⟨M', Eq.trans ?_ e', T', q'⟩
    rw [E678_13]
    first | refine Eq.trans ((gR_v T.t.ln.k T.t.rPl)) ?_ | refine Rt.eq ((gR_v T.t.ln.k T.t.rPl)) ?_ | refine Th.eq ((gR_v T.t.ln.k T.t.rPl)) ?_
    first | refine Eq.trans ((ldI_v T.t.plk T.t.pll hk18 (by decide) (T.t.plv _ hk18))) ?_ | refine Rt.eq ((ldI_v T.t.plk T.t.pll hk18 (by decide) (T.t.plv _ hk18))) ?_ | refine Th.eq ((ldI_v T.t.plk T.t.pll hk18 (by decide) (T.t.plv _ hk18))) ?_
    rw [if_neg (nI_nlt_L 40 40 rfl (by omega) (by omega))]
    rfl
theorem t678_4 : ∀ (n t r : Nat) (S : Sh) (M : Mem), t + n = 80 → r ≤ t → TC G M m u g S w lots ll le lx →
    ∃ M', ex G 2 678 4 [(0, vR (some u)), (1, vI (nI r)), (2, vI (nI t))] [] M = some (.inl (some (vI (Sh.ligL n r S).1)), M') ∧ TC G M' m u g (Sh.ligL n r S).2 w lots ll le lx ∧ QW (inT u) (42 * (n + 1)) (168 * (n + 1)) M M'
  | n, t, r, S, M, ht, hr, T => by
    have iS := T.i
    obtain ⟨M1, e1, q1⟩ := t679 (p := true) T
    have e1' : ex G 2 679 0 [(0, vR (some u)), (1, vI 1)] [] M = _ := e1
    have T1 := T.ex q1 e1
    have hq : QW (inT u) (42 * (n + 1)) (168 * (n + 1)) M M1 := q1.qw0.mono (fun _ h => h) (by omega) (by omega)
    rw [E678_4, vc1_ok T.t.ln.k, cbD_of e1']
    by_cases h : dCmL (S.dr true) FP.dconst0 < 0
    · refine ⟨M1, ?_, ?_, hq⟩
      · rw [if_pos ((great_neg iS (by decide)).mpr h)]
        cases n <;> (unfold Sh.ligL; rw [if_pos h]) <;> rfl
      · cases n <;> (unfold Sh.ligL) <;> first | exact T1 | (rw [if_pos h]; exact T1)
    · rw [if_neg (fun h9 => h ((great_neg iS (by decide)).mp h9)), gI_v T1.t.ln.k T1.t.limit]
      by_cases h2 : dCmG (S.great true 0) (i2D (nI S.limit)) ≤ 0
      · refine ⟨M1, ?_, ?_, hq⟩
        · rw [if_pos h2]
          cases n <;> (unfold Sh.ligL; rw [if_neg h, if_pos h2]) <;> rfl
        · cases n <;> (unfold Sh.ligL) <;> first | exact T1 | (rw [if_neg h, if_pos h2]; exact T1)
      · rw [if_neg h2]
        match n, ht with
        | 0, ht =>
          refine ⟨M1, ?_, ?_, hq⟩
          · rw [if_pos (nI_eq_L 80 80 rfl (by omega))]
            unfold Sh.ligL
            rw [if_neg h, if_neg h2]
            rfl
          · unfold Sh.ligL; exact T1
        | n + 1, ht =>
          rw [if_neg (nI_ne_L 80 80 rfl (by omega) (by decide) (by omega)), vc1_ok T1.t.ln.k]
          obtain ⟨M2, e2, q2⟩ := t683 T1 h
          have T2 := T1.ex q2 e2
          have hw := (look_lt (S := S) (p := true) (k := 0)).1
          rw [cbI_of e2]
          obtain ⟨M3, e3, T3, q3⟩ := t678_13 (r := r) T2 hw (k := S.thK (S.look true 0).2.1) rfl (i2 := nI t)
          obtain ⟨M', e', T', q'⟩ := t678_4 n (t + 1) (r + if S.plan (S.thK (S.look true 0).2.1) < 40 then 1 else 0) _ M3 (by omega) (by split <;> omega) T3
          have hl : Sh.ligL (n + 1) r S = Sh.ligL n (r + if S.plan (S.thK (S.look true 0).2.1) < 40 then 1 else 0) (S.thick1 (S.look true 0).2.1) := by
            show (if dCmL (S.dr true) FP.dconst0 < 0 then _ else if dCmG (S.great true 0) (i2D (nI S.limit)) ≤ 0 then _ else _) = _
            rw [if_neg h, if_neg h2]
          rw [hl]
          refine ⟨M', Eq.trans ?_ e', T', (((q1.qw0.tr q2.qw0).tr q3).tr q').mono (fun _ h => h) (by omega) (by omega)⟩
          rw [show aAdd (nI t) 1 = nI (t + 1) from aAdd_n t 1] at e3
          rw [← e3]
          generalize (S.look true 0).2.1 = c at hw
          have p0 := iS.pl (3 * c)
          have p2 := iS.pl (3 * c + 2)
          have e3 : aMul 3 (nI c) = nI (3 * c) := by rw [show (3 : Int32) = nI 3 from rfl, aMul_n]
          have e32 : aAdd (nI (3 * c)) 2 = nI (3 * c + 2) := aAdd_n _ 2
          rw [e3, e32]
          first | refine Eq.trans ((gR_v T2.t.ln.k T2.t.rPl)) ?_ | refine Rt.eq ((gR_v T2.t.ln.k T2.t.rPl)) ?_ | refine Th.eq ((gR_v T2.t.ln.k T2.t.rPl)) ?_
          first | refine Eq.trans ((ldI_v T2.t.plk T2.t.pll (show 3 * c + 2 < 18 by omega) (by decide) (T2.t.plv _ (by omega)))) ?_ | refine Rt.eq ((ldI_v T2.t.plk T2.t.pll (show 3 * c + 2 < 18 by omega) (by decide) (T2.t.plv _ (by omega)))) ?_ | refine Th.eq ((ldI_v T2.t.plk T2.t.pll (show 3 * c + 2 < 18 by omega) (by decide) (T2.t.plv _ (by omega)))) ?_
          first | refine Eq.trans ((gR_v T2.t.ln.k T2.t.rPl)) ?_ | refine Rt.eq ((gR_v T2.t.ln.k T2.t.rPl)) ?_ | refine Th.eq ((gR_v T2.t.ln.k T2.t.rPl)) ?_
          first | refine Eq.trans ((ldI_v T2.t.plk T2.t.pll (show 3 * c < 18 by omega) (by decide) (T2.t.plv _ (by omega)))) ?_ | refine Rt.eq ((ldI_v T2.t.plk T2.t.pll (show 3 * c < 18 by omega) (by decide) (T2.t.plv _ (by omega)))) ?_ | refine Th.eq ((ldI_v T2.t.plk T2.t.pll (show 3 * c < 18 by omega) (by decide) (T2.t.plv _ (by omega)))) ?_
          unfold Sh.thK
          by_cases c1 : S.plan (3 * c + 2) < S.plan (3 * c)
          · rw [if_pos (nI_lt c1 (by omega)), if_pos c1]
          · rw [if_neg (nI_nlt (by omega) (by omega)), if_neg c1]
/-- LIGHTEN -/
theorem t678 {M : Mem} (T : TC G M m u g S w lots ll le lx) :
    ∃ M', ex G 2 678 0 [(0, vR (some u))] [] M = some (.inl (some (vI S.lighten.1)), M') ∧ TC G M' m u g S.lighten.2 w lots ll le lx ∧ QW (inT u) 3402 13608 M M' := by
  obtain ⟨M1, e1, T1, q1⟩ := t678_1 18 0 S M rfl T
  obtain ⟨M', e', T', q'⟩ := t678_4 80 0 0 S.thin M1 rfl (Nat.le_refl _) T1
  refine ⟨M', ?_, T', (q1.tr q').mono (fun _ h => h) (by decide) (by decide)⟩
  rw [E678_0]
  exact e1.trans e'
end TLG
