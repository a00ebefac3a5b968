set_option maxRecDepth 4000
/-! ===== the reference: test, greatest, worst, weakest, hardest ===== -/
theorem ConT.qa {G : Nat → Option Nat} {M M' : Mem} {A : Nat → Prop} (h : ConT G M) (q : QA A M M') (hA : ∀ a, A a → mco M a = 2) : ConT G M' := by
  have hd : ∀ {g n : Nat} {f : Nat → UInt64}, TabD0 G M g n f → TabD0 G M' g n f := by
    rintro g n f ⟨a, e, k, co, lt, ln, v⟩
    exact ⟨a, e, (q.q.cl a lt).trans k, (q.q.co a lt).trans co, Nat.lt_of_lt_of_le lt q.q.nx.1, by rw [q.q.ln a lt]; exact ln, fun j hj => (q.ad a j (fun h9 => by rw [hA a h9] at co; cases co)).trans (v j hj)⟩
  have hi : ∀ {g n : Nat} {f : Nat → Int32}, TabI0 G M g n f → TabI0 G M' g n f := by
    rintro g n f ⟨a, e, k, co, lt, ln, v⟩
    exact ⟨a, e, (q.q.cl a lt).trans k, (q.q.co a lt).trans co, Nat.lt_of_lt_of_le lt q.q.nx.1, by rw [q.q.ln a lt]; exact ln, fun j hj => (q.q.ai a j lt (fun h => h)).trans (v j hj)⟩
  have hm : ∀ {g n k : Nat} {f : Nat → Nat → Int32}, TabM0 G M g n k f → TabM0 G M' g n k f := by
    rintro g n k f ⟨a, e, kd, co, lt, ln, v⟩
    refine ⟨a, e, (q.q.cl a lt).trans kd, (q.q.co a lt).trans co, Nat.lt_of_lt_of_le lt q.q.nx.1, by rw [q.q.ln a lt]; exact ln, fun i hi => ?_⟩
    obtain ⟨r, r1, r2, r3, r4, r5, r6⟩ := v i hi
    exact ⟨r, (q.q.ar a i lt).trans r1, (q.q.cl r r4).trans r2, (q.q.co r r4).trans r3, Nat.lt_of_lt_of_le r4 q.q.nx.1, by rw [q.q.ln r r4]; exact r5, fun j hj => (q.q.ai r j r4 (fun h => h)).trans (r6 j hj)⟩
  exact ⟨hd h.sim, hd h.ang, hm h.seas, hm h.along, hm h.up, hi h.deep, hi h.moon, hi h.spring, hi h.room, hi h.home, hi h.order⟩
noncomputable def Sh.grS (S : Sh) (p : Bool) (s : Nat) : UInt64 := if dCmL (S.dr p) FP.dconst0 < 0 then kD 13830554455654793216 else S.vS p s
section TSU
variable {G : Nat → Option Nat} {m u : Nat} {g : SG} {S : Sh} {w : Nat} {lots : List LotA} {ll le : Nat} {lx : Nat → Nat} {p : Bool}
/-- TEST -/
theorem t681 {M : Mem} (T : TC G M m u g S w lots ll le lx) {s : Nat} (hs : s < 3) : ∃ M', ex G 2 681 0 [(0, vR (some u)), (1, vI (nI s)), (2, vI (bI p))] [] M = some (.inl (some (vI (bI (!decide (dCmL (S.dr p) FP.dconst0 < 0))))), M') ∧ QC noX 7 28 M M' ∧ (¬ dCmL (S.dr p) FP.dconst0 < 0 → StT M' u S p s 6) := by
  have iS := T.i
  obtain ⟨M1, e1, q1, L1⟩ := t670 (p := p) T
  have T1 := T.ex q1 e1
  by_cases h : dCmL (S.dr p) FP.dconst0 < 0
  · refine ⟨M1, ?_, q1, fun h9 => absurd h h9⟩
    rw [decide_eq_true h, E681_0]
    first | refine Eq.trans ((vc1_ok T.t.ln.k)) ?_ | refine Rt.eq ((vc1_ok T.t.ln.k)) ?_ | refine Th.eq ((vc1_ok T.t.ln.k)) ?_
    first | refine Eq.trans ((cbD_of e1)) ?_ | refine Rt.eq ((cbD_of e1)) ?_ | refine Th.eq ((cbD_of e1)) ?_
    rw [if_pos ((dr_negp iS).mpr h), rZ_0]
    rfl
  · have hco : ∀ a, mo3 u a → mco M1 a = 2 := by
      intro a ha
      rcases ha with h | h | h
      · rw [h]; exact T1.t.ssc
      · rw [h]; exact T1.t.shc
      · rw [h]; exact T1.t.moc
    obtain ⟨M2, e2, q2, h2⟩ := t681_3 (p := p) hs iS 6 0 FP.dconst0 M1 rfl T1.t T1.ct (fun M' q => T1.ct.qa q hco) L1 (Bd.up bd_c0 _ (by decide)) rfl (fun c hc => absurd hc (Nat.not_lt_zero c))
    refine ⟨M2, ?_, q1.tr q2.q, fun _ => h2⟩
    rw [decide_eq_false h, E681_0]
    first | refine Eq.trans ((vc1_ok T.t.ln.k)) ?_ | refine Rt.eq ((vc1_ok T.t.ln.k)) ?_ | refine Th.eq ((vc1_ok T.t.ln.k)) ?_
    first | refine Eq.trans ((cbD_of e1)) ?_ | refine Rt.eq ((cbD_of e1)) ?_ | refine Th.eq ((cbD_of e1)) ?_
    rw [if_neg (fun h9 => h ((dr_negp iS).mp h9))]
    exact e2
theorem t680_3 {M : Mem} (T : ShT G M m u g S w) {s : Nat} (h : StT M u S p s 6) (iS : SI S) : ∀ (n k : Nat) (x : UInt64), k + n = 6 → isN x → Ps x → ex G 2 680 3 [(3, vD x), (5, vR (some (u + 22))), (6, vI (nI 6)), (7, vI (nI k))] [] M = some (.inl (some (vD (gmL (S.str p s) n k x))), M)
  | 0, k, x, hk, nx, px => by
    have e : k = 6 := by omega
    subst e
    rw [E680_3, if_neg (by decide)]
    exact rD_ok nx
  | n + 1, k, x, hk, nx, px => by
    have hk6 : k < 6 := by omega
    have a := str_NP (p := p) (s := s) iS k hk6
    have hm := dMax_mg nx px.h a.1 a.2.h
    rw [E680_3, if_pos (nI_lt hk6 (by decide)), show aAdd (nI k) 1 = nI (k + 1) from aAdd_n k 1]
    first | refine Eq.trans ((ldD_v T.ssk T.ssl hk6 (by decide) (h.st k hk6))) ?_ | refine Rt.eq ((ldD_v T.ssk T.ssl hk6 (by decide) (h.st k hk6))) ?_ | refine Th.eq ((ldD_v T.ssk T.ssl hk6 (by decide) (h.st k hk6))) ?_
    first | refine Eq.trans ((fD_ok nx)) ?_ | refine Rt.eq ((fD_ok nx)) ?_ | refine Th.eq ((fD_ok nx)) ?_
    first | refine Eq.trans ((fD_ok a.1)) ?_ | refine Rt.eq ((fD_ok a.1)) ?_ | refine Th.eq ((fD_ok a.1)) ?_
    refine t680_3 T h iS n (k + 1) _ (by omega) ?_ ?_
    · rw [hm]; split
      · exact a.1
      · exact nx
    · rw [hm]; split
      · exact a.2
      · exact px
/-- GREATEST -/
theorem t680 {M : Mem} (T : TC G M m u g S w lots ll le lx) {s : Nat} (hs : s < 3) : ∃ M', ex G 2 680 0 [(0, vR (some u)), (1, vI (nI s)), (2, vI (bI p))] [] M = some (.inl (some (vD (S.grS p s))), M') ∧ QC noX 7 28 M M' := by
  have iS := T.i
  obtain ⟨M1, e1, q1, h1⟩ := t681 (p := p) T hs
  have T1 := T.ex q1 e1
  refine ⟨M1, ?_, q1⟩
  rw [E680_0]
  first | refine Eq.trans ((vc1_ok T.t.ln.k)) ?_ | refine Rt.eq ((vc1_ok T.t.ln.k)) ?_ | refine Th.eq ((vc1_ok T.t.ln.k)) ?_
  first | refine Eq.trans ((cbI_of e1)) ?_ | refine Rt.eq ((cbI_of e1)) ?_ | refine Th.eq ((cbI_of e1)) ?_
  unfold Sh.grS
  by_cases h : dCmL (S.dr p) FP.dconst0 < 0
  · rw [decide_eq_true h, if_pos (show bI (!true) = 0 from rfl), if_pos h]
    exact rD_ok (by (first | exact isN_of (by repeat' (with_reducible first | assumption | exact bd_kD | exact bd_i2D | exact bd_c0 | exact bd_c1 | apply bd_add | apply bd_mul | apply bd_div | apply bd_sub | exact dr_b | exact bd_step | exact bd_Q | exact bd_wide | exact bd_slice | exact bd_part | exact bd_section | exact bd_lift | exact bd_at | exact bd_X | exact bd_ord | exact bd_so | exact bd_vol | exact bd_water | exact bd_draught | exact bd_simT | exact bd_bread | exact bd_br | exact bd_far | exact bd_tank | exact LdB.t (by (first | assumption | exact ldB_plate | exact ldB_item | exact ldB_tank | exact ldB_engine | exact ldB_hold)) | exact LdB.s (by (first | assumption | exact ldB_plate | exact ldB_item | exact ldB_tank | exact ldB_engine | exact ldB_hold)) | exact LdB.u (by (first | assumption | exact ldB_plate | exact ldB_item | exact ldB_tank | exact ldB_engine | exact ldB_hold)) | exact SmB.w (by (first | assumption | exact sums_b)) | exact SmB.l (by (first | assumption | exact sums_b)) | exact SmB.t (by (first | assumption | exact sums_b)) | exact SmB.k (by (first | assumption | exact sums_b)) | exact wt_b | exact bd_lcg | exact bd_tcg | exact bd_kg | exact bd_dr | exact bd_loose | exact bd_free | exact bd_bulk | exact bd_fWater | exact lo_4 | exact lo_8 | exact lo_6 | exact lo_2 | exact lo_18 | exact lo_16 | exact lo_64 | exact lo_72 | exact lo_32 | exact lo_12 | exact lo_100 | exact lo_step | fail)) (by decide) | exact isN_of (by repeat' (with_reducible first | assumption | exact bd_kD | exact bd_i2D | exact bd_c0 | exact bd_c1 | apply bd_add | apply bd_mul | apply bd_div | apply bd_sub | exact dr_b | exact bd_step | exact bd_Q | exact bd_wide | exact bd_slice | exact bd_part | exact bd_section | exact bd_lift | exact bd_at | exact bd_X | exact bd_ord | exact bd_so | exact bd_vol | exact bd_water | exact bd_draught | exact bd_simT | exact bd_bread | exact bd_br | exact bd_far | exact bd_tank | exact LdB.t (by (first | assumption | exact ldB_plate | exact ldB_item | exact ldB_tank | exact ldB_engine | exact ldB_hold)) | exact LdB.s (by (first | assumption | exact ldB_plate | exact ldB_item | exact ldB_tank | exact ldB_engine | exact ldB_hold)) | exact LdB.u (by (first | assumption | exact ldB_plate | exact ldB_item | exact ldB_tank | exact ldB_engine | exact ldB_hold)) | exact SmB.w (by (first | assumption | exact sums_b)) | exact SmB.l (by (first | assumption | exact sums_b)) | exact SmB.t (by (first | assumption | exact sums_b)) | exact SmB.k (by (first | assumption | exact sums_b)) | exact wt_b | exact bd_lcg | exact bd_tcg | exact bd_kg | exact bd_dr | exact bd_loose | exact bd_free | exact bd_bulk | exact bd_fWater | exact lo_4 | exact lo_8 | exact lo_6 | exact lo_2 | exact lo_18 | exact lo_16 | exact lo_64 | exact lo_72 | exact lo_32 | exact lo_12 | exact lo_100 | exact lo_step | fail)) (by omega)))
  · rw [decide_eq_false h, if_neg (show ¬ bI (!false) = 0 by decide), if_neg h]
    first | refine Eq.trans ((gR_v T1.t.ln.k T1.t.rSs)) ?_ | refine Rt.eq ((gR_v T1.t.ln.k T1.t.rSs)) ?_ | refine Th.eq ((gR_v T1.t.ln.k T1.t.rSs)) ?_
    first | refine Eq.trans ((alen_ok T1.t.ssk T1.t.ssl)) ?_ | refine Rt.eq ((alen_ok T1.t.ssk T1.t.ssl)) ?_ | refine Th.eq ((alen_ok T1.t.ssk T1.t.ssl)) ?_
    refine Eq.trans (t680_3 (p := p) T1.t (h1 h) iS 6 0 FP.dconst0 rfl (isN_of bd_c0 (by decide)) ps_c0) ?_
    rw [gm_eq (str_NP iS)]
    rfl
/-- WORST -/
theorem t679 {M : Mem} (T : TC G M m u g S w lots ll le lx) : ∃ M', ex G 2 679 0 [(0, vR (some u)), (1, vI (bI p))] [] M = some (.inl (some (vD (S.great p 0))), M') ∧ QC noX 21 84 M M' := by
  have iS := T.i
  obtain ⟨M1, e1, q1⟩ := t680 (p := p) (s := 0) T (by decide)
  have T1 := T.ex q1 e1
  obtain ⟨M2, e2, q2⟩ := t680 (p := p) (s := 1) T1 (by decide)
  have T2 := T1.ex q2 e2
  obtain ⟨M3, e3, q3⟩ := t680 (p := p) (s := 2) T2 (by decide)
  refine ⟨M3, ?_, (q1.tr q2).tr q3⟩
  have nn : ∀ s, isN (S.grS p s) := by
    intro s
    unfold Sh.grS
    split
    · exact isN_of bd_kD (by decide)
    · exact (vS_N iS).1
  have hm : ∀ x y : UInt64, isN x → isN y → isN (dMax x y) := by
    intro x y hx hy
    rcases dMax_or x y with h | h
    · rw [h]; exact hx
    · rw [h]; exact hy
  rw [E679_0]
  first | refine Eq.trans ((vc1_ok T.t.ln.k)) ?_ | refine Rt.eq ((vc1_ok T.t.ln.k)) ?_ | refine Th.eq ((vc1_ok T.t.ln.k)) ?_
  first | refine Eq.trans ((cbD_of e1)) ?_ | refine Rt.eq ((cbD_of e1)) ?_ | refine Th.eq ((cbD_of e1)) ?_
  first | refine Eq.trans ((vc1_ok T1.t.ln.k)) ?_ | refine Rt.eq ((vc1_ok T1.t.ln.k)) ?_ | refine Th.eq ((vc1_ok T1.t.ln.k)) ?_
  first | refine Eq.trans ((cbD_of e2)) ?_ | refine Rt.eq ((cbD_of e2)) ?_ | refine Th.eq ((cbD_of e2)) ?_
  first | refine Eq.trans ((vc1_ok T2.t.ln.k)) ?_ | refine Rt.eq ((vc1_ok T2.t.ln.k)) ?_ | refine Th.eq ((vc1_ok T2.t.ln.k)) ?_
  first | refine Eq.trans ((cbD_of e3)) ?_ | refine Rt.eq ((cbD_of e3)) ?_ | refine Th.eq ((cbD_of e3)) ?_
  first | refine Eq.trans ((fD_ok (nn 1))) ?_ | refine Rt.eq ((fD_ok (nn 1))) ?_ | refine Th.eq ((fD_ok (nn 1))) ?_
  first | refine Eq.trans ((fD_ok (nn 2))) ?_ | refine Rt.eq ((fD_ok (nn 2))) ?_ | refine Th.eq ((fD_ok (nn 2))) ?_
  first | refine Eq.trans ((fD_ok (nn 0))) ?_ | refine Rt.eq ((fD_ok (nn 0))) ?_ | refine Th.eq ((fD_ok (nn 0))) ?_
  first | refine Eq.trans ((fD_ok (hm _ _ (nn 1) (nn 2)))) ?_ | refine Rt.eq ((fD_ok (hm _ _ (nn 1) (nn 2)))) ?_ | refine Th.eq ((fD_ok (hm _ _ (nn 1) (nn 2)))) ?_
  have hv : dMax (S.grS p 0) (dMax (S.grS p 1) (S.grS p 2)) = S.great p 0 := by
    unfold Sh.grS Sh.great
    by_cases h : dCmL (S.dr p) FP.dconst0 < 0
    · rw [if_pos h, if_pos h, if_pos h, if_pos h]
      have : ∀ x : UInt64, dMax x x = x := fun x => (dMax_or x x).elim id id
      rw [this, this]
    · rw [if_neg h, if_neg h, if_neg h, if_neg h]
      exact (look_v3 iS).x.symm
  rw [hv]
  exact rD_ok (great_N iS)
/-- TESTED -/
theorem t684 {M : Mem} (T : TC G M m u g S w lots ll le lx) {s k : Nat} (hs : s < 3) (hk : k < 19) : ∃ M', ex G 2 684 0 [(0, vR (some u)), (1, vI (nI s)), (2, vI (bI p)), (3, vI (nI k))] [] M = some (.inl (some (vD (if dCmL (S.dr p) FP.dconst0 < 0 then kD 13830554455654793216 else tellN (S.str p s) (S.she p s) (S.mom p s) k))), M') ∧ QC noX 14 56 M M' := by
  have iS := T.i
  obtain ⟨M1, e1, q1, h1⟩ := t681 (p := p) T hs
  have T1 := T.ex q1 e1
  by_cases h : dCmL (S.dr p) FP.dconst0 < 0
  · refine ⟨M1, ?_, q1.mono (fun _ h => h) (by decide) (by decide)⟩
    rw [decide_eq_true h] at e1
    rw [E684_0, if_pos h]
    first | refine Eq.trans ((vc1_ok T.t.ln.k)) ?_ | refine Rt.eq ((vc1_ok T.t.ln.k)) ?_ | refine Th.eq ((vc1_ok T.t.ln.k)) ?_
    first | refine Eq.trans ((cbI_of e1)) ?_ | refine Rt.eq ((cbI_of e1)) ?_ | refine Th.eq ((cbI_of e1)) ?_
    rw [if_pos (show bI (!true) = 0 from rfl)]
    exact rD_ok (by (first | exact isN_of (by repeat' (with_reducible first | assumption | exact bd_kD | exact bd_i2D | exact bd_c0 | exact bd_c1 | apply bd_add | apply bd_mul | apply bd_div | apply bd_sub | exact dr_b | exact bd_step | exact bd_Q | exact bd_wide | exact bd_slice | exact bd_part | exact bd_section | exact bd_lift | exact bd_at | exact bd_X | exact bd_ord | exact bd_so | exact bd_vol | exact bd_water | exact bd_draught | exact bd_simT | exact bd_bread | exact bd_br | exact bd_far | exact bd_tank | exact LdB.t (by (first | assumption | exact ldB_plate | exact ldB_item | exact ldB_tank | exact ldB_engine | exact ldB_hold)) | exact LdB.s (by (first | assumption | exact ldB_plate | exact ldB_item | exact ldB_tank | exact ldB_engine | exact ldB_hold)) | exact LdB.u (by (first | assumption | exact ldB_plate | exact ldB_item | exact ldB_tank | exact ldB_engine | exact ldB_hold)) | exact SmB.w (by (first | assumption | exact sums_b)) | exact SmB.l (by (first | assumption | exact sums_b)) | exact SmB.t (by (first | assumption | exact sums_b)) | exact SmB.k (by (first | assumption | exact sums_b)) | exact wt_b | exact bd_lcg | exact bd_tcg | exact bd_kg | exact bd_dr | exact bd_loose | exact bd_free | exact bd_bulk | exact bd_fWater | exact lo_4 | exact lo_8 | exact lo_6 | exact lo_2 | exact lo_18 | exact lo_16 | exact lo_64 | exact lo_72 | exact lo_32 | exact lo_12 | exact lo_100 | exact lo_step | fail)) (by decide) | exact isN_of (by repeat' (with_reducible first | assumption | exact bd_kD | exact bd_i2D | exact bd_c0 | exact bd_c1 | apply bd_add | apply bd_mul | apply bd_div | apply bd_sub | exact dr_b | exact bd_step | exact bd_Q | exact bd_wide | exact bd_slice | exact bd_part | exact bd_section | exact bd_lift | exact bd_at | exact bd_X | exact bd_ord | exact bd_so | exact bd_vol | exact bd_water | exact bd_draught | exact bd_simT | exact bd_bread | exact bd_br | exact bd_far | exact bd_tank | exact LdB.t (by (first | assumption | exact ldB_plate | exact ldB_item | exact ldB_tank | exact ldB_engine | exact ldB_hold)) | exact LdB.s (by (first | assumption | exact ldB_plate | exact ldB_item | exact ldB_tank | exact ldB_engine | exact ldB_hold)) | exact LdB.u (by (first | assumption | exact ldB_plate | exact ldB_item | exact ldB_tank | exact ldB_engine | exact ldB_hold)) | exact SmB.w (by (first | assumption | exact sums_b)) | exact SmB.l (by (first | assumption | exact sums_b)) | exact SmB.t (by (first | assumption | exact sums_b)) | exact SmB.k (by (first | assumption | exact sums_b)) | exact wt_b | exact bd_lcg | exact bd_tcg | exact bd_kg | exact bd_dr | exact bd_loose | exact bd_free | exact bd_bulk | exact bd_fWater | exact lo_4 | exact lo_8 | exact lo_6 | exact lo_2 | exact lo_18 | exact lo_16 | exact lo_64 | exact lo_72 | exact lo_32 | exact lo_12 | exact lo_100 | exact lo_step | fail)) (by omega)))
  · have H := h1 h
    rw [decide_eq_false h] at e1
    by_cases h18 : k = 18
    · obtain ⟨M2, e2, q2⟩ := t680 (p := p) T1 hs
      refine ⟨M2, ?_, q1.tr q2⟩
      rw [E684_0, if_neg h]
      first | refine Eq.trans ((vc1_ok T.t.ln.k)) ?_ | refine Rt.eq ((vc1_ok T.t.ln.k)) ?_ | refine Th.eq ((vc1_ok T.t.ln.k)) ?_
      first | refine Eq.trans ((cbI_of e1)) ?_ | refine Rt.eq ((cbI_of e1)) ?_ | refine Th.eq ((cbI_of e1)) ?_
      rw [if_neg (show ¬ bI (!false) = 0 by decide), if_pos (nI_eq_L 18 18 rfl h18)]
      first | refine Eq.trans ((vc1_ok T1.t.ln.k)) ?_ | refine Rt.eq ((vc1_ok T1.t.ln.k)) ?_ | refine Th.eq ((vc1_ok T1.t.ln.k)) ?_
      first | refine Eq.trans ((cbD_of e2)) ?_ | refine Rt.eq ((cbD_of e2)) ?_ | refine Th.eq ((cbD_of e2)) ?_
      have : S.grS p s = tellN (S.str p s) (S.she p s) (S.mom p s) k := by
        unfold Sh.grS tellN
        rw [if_neg h, if_neg (by omega), if_neg (by omega), if_neg (by omega)]
        rfl
      rw [this]
      refine rD_ok ?_
      rw [← this]
      unfold Sh.grS
      rw [if_neg h]
      exact (vS_N iS).1
    · refine ⟨M1, ?_, q1.mono (fun _ h => h) (by decide) (by decide)⟩
      rw [E684_0, if_neg h]
      first | refine Eq.trans ((vc1_ok T.t.ln.k)) ?_ | refine Rt.eq ((vc1_ok T.t.ln.k)) ?_ | refine Th.eq ((vc1_ok T.t.ln.k)) ?_
      first | refine Eq.trans ((cbI_of e1)) ?_ | refine Rt.eq ((cbI_of e1)) ?_ | refine Th.eq ((cbI_of e1)) ?_
      rw [if_neg (show ¬ bI (!false) = 0 by decide), if_neg (nI_ne_L 18 18 rfl (by omega) (by decide) h18)]
      unfold tellN
      by_cases c1 : k < 6
      · rw [if_pos (nI_lt_L 6 6 rfl c1 (by decide)), if_pos c1]
        first | refine Eq.trans ((gR_v T1.t.ln.k T1.t.rSs)) ?_ | refine Rt.eq ((gR_v T1.t.ln.k T1.t.rSs)) ?_ | refine Th.eq ((gR_v T1.t.ln.k T1.t.rSs)) ?_
        first | refine Eq.trans ((ldD_v T1.t.ssk T1.t.ssl c1 (by decide) (H.st k c1))) ?_ | refine Rt.eq ((ldD_v T1.t.ssk T1.t.ssl c1 (by decide) (H.st k c1))) ?_ | refine Th.eq ((ldD_v T1.t.ssk T1.t.ssl c1 (by decide) (H.st k c1))) ?_
        exact rD_ok (str_N iS c1)
      · rw [if_neg (nI_nlt_L 6 6 rfl (by omega) (by omega)), if_neg c1]
        by_cases c2 : k < 12
        · rw [if_pos (nI_lt_L 12 12 rfl c2 (by decide)), if_pos c2, show aSub (nI k) 6 = nI (k - 6) from aSub_n (a := k) (b := 6) (by omega)]
          first | refine Eq.trans ((gR_v T1.t.ln.k T1.t.rSh)) ?_ | refine Rt.eq ((gR_v T1.t.ln.k T1.t.rSh)) ?_ | refine Th.eq ((gR_v T1.t.ln.k T1.t.rSh)) ?_
          first | refine Eq.trans ((ldD_v T1.t.shk T1.t.shl (show k - 6 < 6 by omega) (by decide) (H.sh (k - 6) (by omega)))) ?_ | refine Rt.eq ((ldD_v T1.t.shk T1.t.shl (show k - 6 < 6 by omega) (by decide) (H.sh (k - 6) (by omega)))) ?_ | refine Th.eq ((ldD_v T1.t.shk T1.t.shl (show k - 6 < 6 by omega) (by decide) (H.sh (k - 6) (by omega)))) ?_
          exact rD_ok (isN_of (she_b iS (by omega)) (by decide))
        · rw [if_neg (nI_nlt_L 12 12 rfl (by omega) (by omega)), if_neg c2, if_pos (show k < 18 by omega), show aSub (nI k) 12 = nI (k - 12) from aSub_n (a := k) (b := 12) (by omega)]
          first | refine Eq.trans ((gR_v T1.t.ln.k T1.t.rMo)) ?_ | refine Rt.eq ((gR_v T1.t.ln.k T1.t.rMo)) ?_ | refine Th.eq ((gR_v T1.t.ln.k T1.t.rMo)) ?_
          first | refine Eq.trans ((ldD_v T1.t.mok T1.t.mol (show k - 12 < 6 by omega) (by decide) (H.mo (k - 12) (by omega)))) ?_ | refine Rt.eq ((ldD_v T1.t.mok T1.t.mol (show k - 12 < 6 by omega) (by decide) (H.mo (k - 12) (by omega)))) ?_ | refine Th.eq ((ldD_v T1.t.mok T1.t.mol (show k - 12 < 6 by omega) (by decide) (H.mo (k - 12) (by omega)))) ?_
          exact rD_ok (isN_of (mom_b iS (by omega)) (by decide))
theorem oI_neg1 {b : Option Nat} (hb : ∀ k, b = some k → k < 2147483648) : oI b = -1 ↔ b = none := by
  cases b with
  | none => exact ⟨fun _ => rfl, fun _ => rfl⟩
  | some k =>
    have := hb k rfl
    refine ⟨fun h => ?_, fun h => by cases h⟩
    have h1 : ¬ nI k < 0 := nI_pos this
    rw [show oI (some k) = nI k from rfl] at h
    rw [h] at h1
    exact absurd (by decide) h1
theorem t685_4 {M : Mem} (T : ShT G M m u g S w) {s : Nat} (h : StT M u S p s 6) {W : UInt64} : ∀ (n k : Nat) (b : Option Nat), k + n = 6 → (∀ x, b = some x → x < 6) → ex G 2 685 4 [(0, vR (some u)), (1, vI (bI p)), (2, vD W), (4, vI (oI b)), (5, vI (nI s)), (6, vI (nI k))] [] M = ex G 2 685 1 [(0, vR (some u)), (1, vI (bI p)), (2, vD W), (4, vI (oI (wkL (S.str p s) W n k b))), (5, vI (nI (s + 1)))] [] M
  | 0, k, b, hk, hb => by
    have e : k = 6 := by omega
    subst e
    rw [E685_4, if_neg (by decide), show aAdd (nI s) 1 = nI (s + 1) from aAdd_n s 1]
    rfl
  | n + 1, k, b, hk, hb => by
    have hk6 : k < 6 := by omega
    have hb2 : ∀ x, b = some x → x < 2147483648 := fun x hx => Nat.lt_trans (hb x hx) (by decide)
    rw [E685_4, if_pos (nI_lt_L 6 6 rfl hk6 (by decide)), show aAdd (nI k) 1 = nI (k + 1) from aAdd_n k 1]
    first | refine Eq.trans ((gR_v T.ln.k T.rSs)) ?_ | refine Rt.eq ((gR_v T.ln.k T.rSs)) ?_ | refine Th.eq ((gR_v T.ln.k T.rSs)) ?_
    first | refine Eq.trans ((ldD_v T.ssk T.ssl hk6 (by decide) (h.st k hk6))) ?_ | refine Rt.eq ((ldD_v T.ssk T.ssl hk6 (by decide) (h.st k hk6))) ?_ | refine Th.eq ((ldD_v T.ssk T.ssl hk6 (by decide) (h.st k hk6))) ?_
    unfold wkL
    by_cases c : dCmL (S.str p s k) W = 0
    · rw [if_pos c, if_pos c]
      cases b with
      | none =>
        rw [if_pos (show oI none = -1 from rfl)]
        exact t685_4 T h n (k + 1) (some k) (by omega) (fun x hx => by injection hx with hx; omega)
      | some x =>
        have hx := hb x rfl
        rw [if_neg (fun h9 => by have := (oI_neg1 hb2).mp h9; cases this)]
        show (if nI k < nI x then _ else _) = ex G 2 685 1 [(0, vR (some u)), (1, vI (bI p)), (2, vD W), (4, vI (oI (wkL (S.str p s) W n (k + 1) (if k < x then some k else some x)))), (5, vI (nI (s + 1)))] [] M
        by_cases c2 : k < x
        · rw [if_pos (nI_lt c2 (by omega)), if_pos c2]
          exact t685_4 T h n (k + 1) (some k) (by omega) (fun x hx => by injection hx with hx; omega)
        · rw [if_neg (nI_nlt (by omega) (by omega)), if_neg c2]
          exact t685_4 T h n (k + 1) (some x) (by omega) hb
    · rw [if_neg c, if_neg c]
      exact t685_4 T h n (k + 1) b (by omega) hb
noncomputable def wkS (S : Sh) (p : Bool) (W : UInt64) (s : Nat) (b : Option Nat) : Option Nat := if S.vS p s = W then omin b (S.wS p s) else b
noncomputable def wkSL (S : Sh) (p : Bool) (W : UInt64) : Nat → Nat → Option Nat → Option Nat
  | 0, _, b => b
  | n + 1, s, b => wkSL S p W n (s + 1) (wkS S p W s b)
theorem wkS_lt {W : UInt64} {s : Nat} {b : Option Nat} (hb : ∀ x, b = some x → x < 6) : ∀ x, wkS S p W s b = some x → x < 6 := by
  intro x hx
  unfold wkS at hx
  have hw : S.wS p s < 6 := worst_lt
  split at hx
  · cases b with
    | none => injection hx with hx; omega
    | some y =>
      injection hx with hx
      have := hb y rfl
      omega
  · exact hb x hx
theorem t685_1 {W : UInt64} (nW : isN W) (pW : Ps W) : ∀ (n s : Nat) (b : Option Nat) {M : Mem}, TC G M m u g S w lots ll le lx → ¬ dCmL (S.dr p) FP.dconst0 < 0 → s + n = 3 → (∀ x, b = some x → x < 6) → (∀ s, mg (S.vS p s) ≤ mg W ∨ 3 ≤ s) → ∃ M', ex G 2 685 1 [(0, vR (some u)), (1, vI (bI p)), (2, vD W), (4, vI (oI b)), (5, vI (nI s))] [] M = some (.inl (some (vI (oI (wkSL S p W n s b)))), M') ∧ QC noX (7 * n) (28 * n) M M'
  | 0, s, b, M, T, hd, hs, hb, hm => by
    have e : s = 3 := by omega
    subst e
    refine ⟨M, ?_, QC.rf⟩
    rw [E685_1, if_neg (by decide)]
    rfl
  | n + 1, s, b, M, T, hd, hs, hb, hm => by
    have hs3 : s < 3 := by omega
    have hW : ¬ dCmL W FP.dconst0 < 0 := by
      have h0 : isN FP.dconst0 := isN_of bd_c0 (by decide)
      rw [cL_lt nW pW h0 ps_c0]
      show ¬ mg W < 0
      omega
    obtain ⟨M1, e1, q1, h1⟩ := t681 (p := p) T hs3
    have T1 := T.ex q1 e1
    have hms : mg (S.vS p s) ≤ mg W := (hm s).elim id (fun h => absurd h (by omega))
    have hk := wk_sea (str_NP (S := S) (p := p) (s := s) T.i) nW pW hms b
    obtain ⟨M', e', q'⟩ := t685_1 nW pW n (s + 1) (wkS S p W s b) T1 hd (by omega) (wkS_lt hb) hm
    refine ⟨M', Eq.trans ?_ e', (q1.tr q').mono (fun _ h => h) (by omega) (by omega)⟩
    rw [E685_1, if_pos (nI_lt_L 3 3 rfl hs3 (by decide)), if_neg hW]
    first | refine Eq.trans ((vc1_ok T.t.ln.k)) ?_ | refine Rt.eq ((vc1_ok T.t.ln.k)) ?_ | refine Th.eq ((vc1_ok T.t.ln.k)) ?_
    first | refine Eq.trans ((cbI_of e1)) ?_ | refine Rt.eq ((cbI_of e1)) ?_ | refine Th.eq ((cbI_of e1)) ?_
    refine Eq.trans (t685_4 (p := p) T1.t (h1 hd) 6 0 b rfl hb) ?_
    rw [hk]
    rfl
/-- WEAKEST -/
theorem t685 {M : Mem} (T : TC G M m u g S w lots ll le lx) : ∃ M', ex G 2 685 0 [(0, vR (some u)), (1, vI (bI p))] [] M = some (.inl (some (vI (oI (S.weak p)))), M') ∧ QC noX 42 168 M M' := by
  have iS := T.i
  obtain ⟨M1, e1, q1⟩ := t679 (p := p) T
  have T1 := T.ex q1 e1
  unfold Sh.weak
  by_cases h : dCmL (S.dr p) FP.dconst0 < 0
  · refine ⟨M1, ?_, q1.mono (fun _ h => h) (by decide) (by decide)⟩
    have hg : S.great p 0 = kD 13830554455654793216 := if_pos h
    rw [E685_0]
    first | refine Eq.trans ((vc1_ok T.t.ln.k)) ?_ | refine Rt.eq ((vc1_ok T.t.ln.k)) ?_ | refine Th.eq ((vc1_ok T.t.ln.k)) ?_
    first | refine Eq.trans ((cbD_of e1)) ?_ | refine Rt.eq ((cbD_of e1)) ?_ | refine Th.eq ((cbD_of e1)) ?_
    rw [hg, E685_1, if_pos (by decide), if_pos cmp_neg1.1, if_pos h]
    rfl
  · have V := look_v3 (p := p) iS
    have hg : S.great p 0 = (S.look p 0).1 := if_neg h
    obtain ⟨M2, e2, q2⟩ := t685_1 (p := p) V.n V.p 3 0 none T1 h rfl (fun x hx => by cases hx) (fun s => by
      by_cases c : 3 ≤ s
      · exact Or.inr c
      · left
        obtain h | h | h : s = 0 ∨ s = 1 ∨ s = 2 := by omega
        · subst h; exact V.l0
        · subst h; exact V.l1
        · subst h; exact V.l2)
    refine ⟨M2, ?_, q1.tr q2⟩
    rw [E685_0]
    first | refine Eq.trans ((vc1_ok T.t.ln.k)) ?_ | refine Rt.eq ((vc1_ok T.t.ln.k)) ?_ | refine Th.eq ((vc1_ok T.t.ln.k)) ?_
    first | refine Eq.trans ((cbD_of e1)) ?_ | refine Rt.eq ((cbD_of e1)) ?_ | refine Th.eq ((cbD_of e1)) ?_
    rw [hg]
    refine Eq.trans e2 ?_
    rw [if_neg h]
    have : wkSL S p (S.look p 0).1 3 0 none = some (S.look p 0).2.2 := V.k
    rw [this]
theorem t683_3 {M : Mem} (T : ShT G M m u g S w) {s : Nat} (h : StT M u S true s 6) {W : UInt64} : ∀ (n k : Nat), k + n = 6 → ex G 2 683 3 [(0, vR (some u)), (1, vD W), (3, vI (nI s)), (4, vI (nI k))] [] M = (match hdL (S.str true s) W n k with
      | some x => some (.inl (some (vI (nI x))), M)
      | none => ex G 2 683 1 [(0, vR (some u)), (1, vD W), (3, vI (nI (s + 1)))] [] M)
  | 0, k, hk => by
    have e : k = 6 := by omega
    subst e
    rw [E683_3, if_neg (by decide), show aAdd (nI s) 1 = nI (s + 1) from aAdd_n s 1]
    rfl
  | n + 1, k, hk => by
    have hk6 : k < 6 := by omega
    rw [E683_3, if_pos (nI_lt_L 6 6 rfl hk6 (by decide)), show aAdd (nI k) 1 = nI (k + 1) from aAdd_n k 1]
    first | refine Eq.trans ((gR_v T.ln.k T.rSs)) ?_ | refine Rt.eq ((gR_v T.ln.k T.rSs)) ?_ | refine Th.eq ((gR_v T.ln.k T.rSs)) ?_
    first | refine Eq.trans ((ldD_v T.ssk T.ssl hk6 (by decide) (h.st k hk6))) ?_ | refine Rt.eq ((ldD_v T.ssk T.ssl hk6 (by decide) (h.st k hk6))) ?_ | refine Th.eq ((ldD_v T.ssk T.ssl hk6 (by decide) (h.st k hk6))) ?_
    unfold hdL
    by_cases c : dCmL (S.str true s k) W = 0
    · rw [if_pos c, if_pos c]; rfl
    · rw [if_neg c, if_neg c]
      exact t683_3 T h n (k + 1) (by omega)
/-- HARDEST -/
theorem t683 {M : Mem} (T : TC G M m u g S w lots ll le lx) (hd : ¬ dCmL (S.dr true) FP.dconst0 < 0) : ∃ M', ex G 2 683 0 [(0, vR (some u)), (1, vD (S.great true 0))] [] M = some (.inl (some (vI (nI (S.look true 0).2.1))), M') ∧ QC noX 21 84 M M' := by
  have iS := T.i
  have V := look_v3 (p := true) iS
  have hg : S.great true 0 = (S.look true 0).1 := if_neg hd
  rw [hg]
  have sea : ∀ s, s < 3 → mg (S.vS true s) ≤ mg (S.look true 0).1 → ∀ {M : Mem}, TC G M m u g S w lots ll le lx → ∃ M', QC noX 7 28 M M' ∧ TC G M' m u g S w lots ll le lx ∧ ex G 2 683 1 [(0, vR (some u)), (1, vD (S.look true 0).1), (3, vI (nI s))] [] M = (if S.vS true s = (S.look true 0).1 then some (.inl (some (vI (nI (S.wS true s)))), M') else ex G 2 683 1 [(0, vR (some u)), (1, vD (S.look true 0).1), (3, vI (nI (s + 1)))] [] M') := by
    intro s hs hm M T
    obtain ⟨M1, e1, q1, h1⟩ := t681 (p := true) T hs
    have T1 := T.ex q1 e1
    refine ⟨M1, q1, T1, ?_⟩
    rw [E683_1, if_pos (nI_lt_L 3 3 rfl hs (by decide))]
    first | refine Eq.trans ((vc1_ok T.t.ln.k)) ?_ | refine Rt.eq ((vc1_ok T.t.ln.k)) ?_ | refine Th.eq ((vc1_ok T.t.ln.k)) ?_
    first | refine Eq.trans ((cbI_of e1)) ?_ | refine Rt.eq ((cbI_of e1)) ?_ | refine Th.eq ((cbI_of e1)) ?_
    refine Eq.trans (t683_3 T1.t (h1 hd) 6 0 rfl) ?_
    rw [hd_sea (str_NP iS) V.n V.p hm]
    show (match (if S.vS true s = (S.look true 0).1 then some (S.wS true s) else none) with | some x => _ | none => _) = _
    by_cases c : S.vS true s = (S.look true 0).1
    · rw [if_pos c, if_pos c]
    · rw [if_neg c, if_neg c]
  obtain ⟨M1, q1, T1, e1⟩ := sea 0 (by decide) V.l0 T
  obtain ⟨M2, q2, T2, e2⟩ := sea 1 (by decide) V.l1 T1
  obtain ⟨M3, q3, T3, e3⟩ := sea 2 (by decide) V.l2 T2
  have vs := V.s
  rw [E683_0]
  show ∃ M', ex G 2 683 1 [(0, vR (some u)), (1, vD (S.look true 0).1), (3, vI (nI 0))] [] M = _ ∧ _
  rw [e1]
  by_cases c0 : S.vS true 0 = (S.look true 0).1
  · rw [if_pos c0] at vs
    injection vs with vs
    exact ⟨M1, by rw [if_pos c0, vs], q1.mono (fun _ h => h) (by decide) (by decide)⟩
  · rw [if_neg c0] at vs
    rw [if_neg c0, e2]
    by_cases c1 : S.vS true 1 = (S.look true 0).1
    · rw [if_pos c1] at vs
      injection vs with vs
      exact ⟨M2, by rw [if_pos c1, vs], (q1.tr q2).mono (fun _ h => h) (by decide) (by decide)⟩
    · rw [if_neg c1] at vs
      rw [if_neg c1, e3]
      by_cases c2 : S.vS true 2 = (S.look true 0).1
      · rw [if_pos c2] at vs
        injection vs with vs
        exact ⟨M3, by rw [if_pos c2, vs], (q1.tr q2).tr q3⟩
      · rw [if_neg c2] at vs
        cases vs
end TSU
