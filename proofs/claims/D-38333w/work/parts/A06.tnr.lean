set_option maxRecDepth 4000
/-! ===== the reference's net: search whole ===== -/
section TNR
variable {G : Nat → Option Nat} {u : Nat} {g : SG} {P : List Pipe} {f : Nat → Nat}
/-- the labels as they stand -/
abbrev LbS (M : Mem) (ra : Nat) (P : List Pipe) (sh : Int32) (f : Nat → Nat) (T : Nat → Bool) (pk : Nat → Nat) (al : Nat → Bool) (dep τ : Nat → Nat) (s : Nat) : Prop := (RcT M ra T pk al) ∧ (Lab P.length (pF P) (pT P) (pW P) (okS P sh) f T pk al dep τ s)
theorem LbS.r {M : Mem} {ra : Nat} {P : List Pipe} {sh : Int32} {f : Nat → Nat} {T : Nat → Bool} {pk : Nat → Nat} {al : Nat → Bool} {dep τ : Nat → Nat} {s : Nat} (self_ : LbS M ra P sh f T pk al dep τ s) : RcT M ra T pk al := self_.1
theorem LbS.l {M : Mem} {ra : Nat} {P : List Pipe} {sh : Int32} {f : Nat → Nat} {T : Nat → Bool} {pk : Nat → Nat} {al : Nat → Bool} {dep τ : Nat → Nat} {s : Nat} (self_ : LbS M ra P sh f T pk al dep τ s) : Lab P.length (pF P) (pT P) (pW P) (okS P sh) f T pk al dep τ s := self_.2
def atX (a : Nat) : Nat → Prop := fun x => x = a
theorem t702_6 (hP : PI P) (hf : ∀ k, k < P.length → f k ≤ pW P k) {fa ra r : Nat} {sh : Int32} (hfr : fa ≠ ra) (hpr : ∀ i, i < P.length → g.ps i ≠ ra) (hr : r < 8) : ∀ (n j : Nat) (M : Mem) (T : Nat → Bool) (pk : Nat → Nat) (al : Nat → Bool) (dep τ : Nat → Nat), j + n = P.length → NtT G M u g P → FlT M fa P f → LbS M ra P sh f T pk al dep τ (P.length * r + j) →
    ∃ M' T' pk' al' dep' τ', ex G 2 702 6 [(0, vR (some u)), (1, vI sh), (2, vR (some fa)), (3, vR (some ra)), (4, vI (nI r)), (5, vI (nI j))] [] M = ex G 2 702 4 [(0, vR (some u)), (1, vI sh), (2, vR (some fa)), (3, vR (some ra)), (4, vI (nI (r + 1)))] [] M' ∧ QC (atX ra) 0 0 M M' ∧ LbS M' ra P sh f T' pk' al' dep' τ' (P.length * (r + 1))
  | 0, j, M, T, pk, al, dep, τ, hj, N, F, L => by
    have hl := hP.1
    refine ⟨M, T, pk, al, dep, τ, ?_, QC.rf, by rw [show P.length * (r + 1) = P.length * r + j by rw [Nat.mul_add, Nat.mul_one, ← hj, Nat.add_zero]]; exact L⟩
    rw [E702_6, gR_v N.k N.rp, vc1_ok N.pps.k, cbI_of (c5 N.pps), if_neg (nI_nlt (by omega) (by omega)), show aAdd (nI r) 1 = nI (r + 1) from aAdd_n r 1]
  | n + 1, j, M, T, pk, al, dep, τ, hj, N, F, L => by
    have hl := hP.1
    have hjl : j < P.length := by omega
    have hn : 0 < P.length := by omega
    have hmod : (P.length * r + j) % P.length = j := by rw [Nat.mul_add_mod, Nat.mod_eq_of_lt hjl]
    have hp : ∀ v, v < 8 → v ≠ 0 → T v = true → pk v < 12 := fun v hv h0 ht => by
      have := (L.l.u hP.h8 hv h0 ht).1
      omega
    obtain ⟨p1, p2, p3, p4, p5⟩ := hP.k hjl
    have next : ∀ M1 T1 pk1 al1 dep1 τ1, QC (atX ra) 0 0 M M1 → LbS M1 ra P sh f T1 pk1 al1 dep1 τ1 (P.length * r + j + 1) → ex G 2 702 6 [(0, vR (some u)), (1, vI sh), (2, vR (some fa)), (3, vR (some ra)), (4, vI (nI r)), (5, vI (nI j))] [] M = ex G 2 702 6 [(0, vR (some u)), (1, vI sh), (2, vR (some fa)), (3, vR (some ra)), (4, vI (nI r)), (5, vI (nI (j + 1)))] [] M1 →
      ∃ M' T' pk' al' dep' τ', ex G 2 702 6 [(0, vR (some u)), (1, vI sh), (2, vR (some fa)), (3, vR (some ra)), (4, vI (nI r)), (5, vI (nI j))] [] M = ex G 2 702 4 [(0, vR (some u)), (1, vI sh), (2, vR (some fa)), (3, vR (some ra)), (4, vI (nI (r + 1)))] [] M' ∧ QC (atX ra) 0 0 M M' ∧ LbS M' ra P sh f T' pk' al' dep' τ' (P.length * (r + 1)) := by
      intro M1 T1 pk1 al1 dep1 τ1 q1 L1 e1
      obtain ⟨M', T', pk', al', dep', τ', e', q', L'⟩ := t702_6 hP hf hfr hpr hr n (j + 1) M1 T1 pk1 al1 dep1 τ1 (by omega) (N.fr q1 (fun i hi h => hpr i hi h)) (F.fr q1 (fun h => hfr h)) L1
      exact ⟨M', T', pk', al', dep', τ', e1.trans e', q1.tr q', L'⟩
    cases ho : okS P sh j
    · refine next M T pk al dep τ QC.rf ⟨L.r, L.l.skip (fun a h _ _ => ?_) hP.h8 hn⟩ ?_
      · rw [hmod, ho] at h; cases h
      · have e3 := t703 (c := 2) N hjl (sh := sh)
        rw [ho] at e3
        rw [E702_6, gR_v N.k N.rp, vc1_ok N.pps.k, cbI_of (c5 N.pps), if_pos (nI_lt hjl (by omega)), vc1_ok N.k, cbI_of e3, bI_f, show aAdd (nI j) 1 = nI (j + 1) from aAdd_n j 1]
    · have e6 := t702_6s N hP (fa := fa) (ra := ra) (r := r) (sh := sh) F hf L.r hp hjl ho
      by_cases c1 : T (pF P j) = true ∧ T (pT P j) = false ∧ f j < pW P j
      · obtain ⟨a1, a2, a3⟩ := c1
        rw [a1, a2, decide_eq_true a3] at e6
        rw [if_pos (show (true && (!false && true)) = true from rfl)] at e6
        obtain ⟨M1, hM1⟩ : ∃ M1, M1 = sai M ra (pT P j) (nI (2 * j)) := ⟨_, rfl⟩
        rw [← hM1] at e6
        have q1 : QC (atX ra) 0 0 M M1 := by rw [hM1]; exact qc_sai rfl
        have x0 : pT P j ≠ 0 := fun e => by rw [e, L.l.tr.z] at a2; cases a2
        have R1 : RcT M1 ra (setT T (pT P j)) (updN pk (pT P j) j) (updB al (pT P j) true) := by
          refine ⟨by rw [hM1, mcl_sai]; exact L.r.k, by rw [hM1, mco_sai]; exact L.r.co, by rw [hM1, mln_sai]; exact L.r.ln, by rw [hM1, mnx_sai]; exact L.r.lt, fun v hv => ?_⟩
          rw [cd_set x0, hM1, mai_sai, up2_if]
          by_cases e : v = pT P j
          · rw [if_pos ⟨rfl, e⟩, if_pos e]; rfl
          · rw [if_neg (fun h => e h.2), if_neg e]; exact L.r.v v hv
        have L1 := L.l.new (a := true) hn hP.h8 (by rw [hmod]; exact ho) (by rw [hmod]; exact a1) (by rw [hmod]; show 1 ≤ pW P j - f j; omega) (by rw [hmod]; exact a2)
        rw [hmod] at L1
        have N1 := N.fr q1 (fun i hi h => hpr i hi h)
        have F1 := F.fr q1 (fun h => hfr h)
        have hp1 : ∀ v, v < 8 → v ≠ 0 → setT T (pT P j) v = true → updN pk (pT P j) j v < 12 := fun v hv h0 ht => by
          have := (L1.u hP.h8 hv h0 ht).1
          show updN pk (hdP (pF P) (pT P) true j) j v < 12
          omega
        have e13 := t702_13 N1 hP (r := r) (sh := sh) F1 hf R1 hp1 hjl
        have hF1 : setT T (pT P j) (pF P j) = true := by
          unfold setT
          split
          · rfl
          · exact a1
        rw [hF1, show (setT T (pT P j) (pT P j) && (!true && decide (0 < f j))) = false by simp, if_neg (by decide)] at e13
        exact next M1 _ _ _ _ _ q1 ⟨R1, L1⟩ (e6.trans e13)
      · have hif : (T (pF P j) && (!T (pT P j) && decide (f j < pW P j))) = false := by
          cases b1 : T (pF P j)
          · rfl
          · cases b2 : T (pT P j)
            · rw [decide_eq_false (fun h => c1 ⟨b1, b2, h⟩)]; rfl
            · rfl
        rw [hif, if_neg (by decide)] at e6
        have e13 := t702_13 N hP (r := r) (sh := sh) F hf L.r hp hjl
        by_cases c2 : T (pT P j) = true ∧ T (pF P j) = false ∧ 0 < f j
        · obtain ⟨a1, a2, a3⟩ := c2
          rw [a1, a2, decide_eq_true a3] at e13
          rw [if_pos (show (true && (!false && true)) = true from rfl)] at e13
          obtain ⟨M1, hM1⟩ : ∃ M1, M1 = sai M ra (pF P j) (nI (2 * j + 1)) := ⟨_, rfl⟩
          rw [← hM1] at e13
          have q1 : QC (atX ra) 0 0 M M1 := by rw [hM1]; exact qc_sai rfl
          have x0 : pF P j ≠ 0 := fun e => by rw [e, L.l.tr.z] at a2; cases a2
          have R1 : RcT M1 ra (setT T (pF P j)) (updN pk (pF P j) j) (updB al (pF P j) false) := by
            refine ⟨by rw [hM1, mcl_sai]; exact L.r.k, by rw [hM1, mco_sai]; exact L.r.co, by rw [hM1, mln_sai]; exact L.r.ln, by rw [hM1, mnx_sai]; exact L.r.lt, fun v hv => ?_⟩
            rw [cd_set x0, hM1, mai_sai, up2_if]
            by_cases e : v = pF P j
            · rw [if_pos ⟨rfl, e⟩, if_pos e]; rfl
            · rw [if_neg (fun h => e h.2), if_neg e]; exact L.r.v v hv
          have L1 := L.l.new (a := false) hn hP.h8 (by rw [hmod]; exact ho) (by rw [hmod]; exact a1) (by rw [hmod]; show 1 ≤ f j; omega) (by rw [hmod]; exact a2)
          rw [hmod] at L1
          exact next M1 _ _ _ _ _ q1 ⟨R1, L1⟩ (e6.trans e13)
        · have hif2 : (T (pT P j) && (!T (pF P j) && decide (0 < f j))) = false := by
            cases b1 : T (pT P j)
            · rfl
            · cases b2 : T (pF P j)
              · rw [decide_eq_false (fun h => c2 ⟨b1, b2, h⟩)]; rfl
              · rfl
          rw [hif2, if_neg (by decide)] at e13
          refine next M T pk al dep τ QC.rf ⟨L.r, L.l.skip (fun a h ht hr => ?_) hP.h8 hn⟩ (e6.trans e13)
          rw [hmod] at ht hr ⊢
          apply Classical.byContradiction
          intro hx
          have hx' := Bool.eq_false_iff.mpr hx
          cases a
          · exact c2 ⟨ht, hx', hr⟩
          · have hr' : 1 ≤ pW P j - f j := hr
            exact c1 ⟨ht, hx', by omega⟩
theorem t702_4 (hP : PI P) (hf : ∀ k, k < P.length → f k ≤ pW P k) {fa ra : Nat} {sh : Int32} (hfr : fa ≠ ra) (hpr : ∀ i, i < P.length → g.ps i ≠ ra) : ∀ (n r : Nat) (M : Mem) (T : Nat → Bool) (pk : Nat → Nat) (al : Nat → Bool) (dep τ : Nat → Nat), r + n = 8 → NtT G M u g P → FlT M fa P f → LbS M ra P sh f T pk al dep τ (P.length * r) →
    ∃ M' T' pk' al' dep' τ', ex G 2 702 4 [(0, vR (some u)), (1, vI sh), (2, vR (some fa)), (3, vR (some ra)), (4, vI (nI r))] [] M = some (.inl (some (vR (some ra))), M') ∧ QC (atX ra) 0 0 M M' ∧ LbS M' ra P sh f T' pk' al' dep' τ' (8 * P.length)
  | 0, r, M, T, pk, al, dep, τ, hr, N, F, L => by
    have e : r = 8 := by omega
    subst e
    refine ⟨M, T, pk, al, dep, τ, ?_, QC.rf, by rw [Nat.mul_comm]; exact L⟩
    rw [E702_4, if_neg (by decide)]
    rfl
  | n + 1, r, M, T, pk, al, dep, τ, hr, N, F, L => by
    obtain ⟨M1, T1, pk1, al1, dep1, τ1, e1, q1, L1⟩ := t702_6 hP hf hfr hpr (sh := sh) (r := r) (by omega) P.length 0 M T pk al dep τ (Nat.zero_add _) N F L
    obtain ⟨M', T', pk', al', dep', τ', e', q', L'⟩ := t702_4 hP hf hfr hpr (sh := sh) n (r + 1) M1 T1 pk1 al1 dep1 τ1 (by omega) (N.fr q1 (fun i hi h => hpr i hi h)) (F.fr q1 (fun h => hfr h)) L1
    refine ⟨M', T', pk', al', dep', τ', Eq.trans ?_ e', q1.tr q', L'⟩
    rw [E702_4, if_pos (nI_lt_L 8 8 rfl (by omega) (by decide))]
    exact e1
theorem t702_1 {fa ra : Nat} {sh : Int32} : ∀ (n i : Nat) (M : Mem), i + n = 8 → 1 ≤ i → mcl M ra = 100 → mco M ra = 2 → mln M ra = 8 → (∀ v, 1 ≤ v → v < i → mai M ra v = -2) →
    ∃ M', ex G 2 702 1 [(0, vR (some u)), (1, vI sh), (2, vR (some fa)), (3, vR (some ra)), (4, vI (nI i))] [] M = ex G 2 702 4 [(0, vR (some u)), (1, vI sh), (2, vR (some fa)), (3, vR (some ra)), (4, vI (nI 0))] [] M' ∧ QC (atX ra) 0 0 M M' ∧ (∀ v, v < 8 → mai M' ra v = if v = 0 then -1 else -2)
  | 0, i, M, hi, h1, k, co, ln, hv => by
    have e : i = 8 := by omega
    subst e
    refine ⟨sai M ra 0 (-1), ?_, qc_sai rfl, fun v hv8 => ?_⟩
    · rw [E702_1, if_neg (by decide), show (0 : Int32) = nI 0 from rfl, stI_ok k co ln (by decide) (by decide)]
    · rw [mai_sai, up2_if]
      by_cases e : v = 0
      · rw [if_pos ⟨rfl, e⟩, if_pos e]
      · rw [if_neg (fun h => e h.2), if_neg e]
        exact hv v (by omega) hv8
  | n + 1, i, M, hi, h1, k, co, ln, hv => by
    obtain ⟨M1, hM1⟩ : ∃ M1, M1 = sai M ra i (-2) := ⟨_, rfl⟩
    have q1 : QC (atX ra) 0 0 M M1 := by rw [hM1]; exact qc_sai rfl
    obtain ⟨M', e', q', v'⟩ := t702_1 (sh := sh) (fa := fa) n (i + 1) M1 (by omega) (by omega) (by rw [hM1, mcl_sai]; exact k) (by rw [hM1, mco_sai]; exact co) (by rw [hM1, mln_sai]; exact ln) (fun v a b => by
      rw [hM1, mai_sai, up2_if]
      by_cases e : v = i
      · rw [if_pos ⟨rfl, e⟩]
      · rw [if_neg (fun h => e h.2)]
        exact hv v a (by omega))
    refine ⟨M', Eq.trans ?_ e', q1.tr q', v'⟩
    rw [E702_1, if_pos (nI_lt_L 8 8 rfl (by omega) (by decide)), stI_ok k co ln (by omega) (by decide), ← hM1, show aAdd (nI i) 1 = nI (i + 1) from aAdd_n i 1]
theorem lab_0 {P : List Pipe} {sh : Int32} {f : Nat → Nat} : Lab P.length (pF P) (pT P) (pW P) (okS P sh) f (fun v => decide (v = 0)) (fun _ => 0) (fun _ => false) (fun _ => 0) (fun _ => 0) 0 := by
  refine ⟨⟨rfl, rfl, fun v _ h0 h => absurd (of_decide_eq_true h) h0⟩, rfl, fun v _ h0 h => absurd (of_decide_eq_true h) h0, fun t ht => absurd ht (Nat.not_lt_zero t), fun v _ _ => ?_⟩
  show 0 + 1 ≤ cntT (fun v => decide (v = 0))
  decide
/-- REACH -/
theorem t702 {M : Mem} (hP : PI P) (N : NtT G M u g P) {fa : Nat} (F : FlT M fa P f) (hf : ∀ k, k < P.length → f k ≤ pW P k) {sh : Int32} :
    ∃ M' T pk al dep τ, ex G 2 702 0 [(0, vR (some u)), (1, vI sh), (2, vR (some fa))] [] M = some (.inl (some (vR (some (mnx M)))), M') ∧ QC noX 1 8 M M' ∧ mnx M' = mnx M + 1 ∧ LbS M' (mnx M) P sh f T pk al dep τ (8 * P.length) := by
  obtain ⟨M0, hM0⟩ : ∃ M0, M0 = marr M 2 100 8 := ⟨_, rfl⟩
  have q0 : QC noX 1 8 M M0 := by rw [hM0]; exact qc_marr
  have n0 : mnx M0 = mnx M + 1 := by rw [hM0, mnx_marr]
  have k0 : mcl M0 (mnx M) = 100 := by rw [hM0, mcl_marr]; exact up1_at9
  have o0 : mco M0 (mnx M) = 2 := by rw [hM0, mco_marr]; exact up1_at9
  have l0 : mln M0 (mnx M) = 8 := by rw [hM0, mln_marr]; exact up1_at9
  have hpr : ∀ i, i < P.length → g.ps i ≠ mnx M := fun i hi h => by have := N.pxl i hi; omega
  have hfr : fa ≠ mnx M := fun h => by have := F.lt; omega
  obtain ⟨M1, e1, q1, v1⟩ := t702_1 (G := G) (u := u) (fa := fa) (ra := mnx M) (sh := sh) 7 1 M0 rfl (Nat.le_refl _) k0 o0 l0 (fun v a b => by omega)
  have q01 : QC noX 1 8 M M1 := q0.fresh q1 (fun a h => by rw [show a = mnx M from h]; exact Nat.le_refl _)
  have hlt : mnx M < mnx M0 := by omega
  have L1 : LbS M1 (mnx M) P sh f (fun v => decide (v = 0)) (fun _ => 0) (fun _ => false) (fun _ => 0) (fun _ => 0) (P.length * 0) := by
    refine ⟨⟨(q1.cl _ hlt).trans k0, (q1.co _ hlt).trans o0, (q1.ln _ hlt).trans l0, Nat.lt_of_lt_of_le hlt q1.nx.1, fun v hv => ?_⟩, by rw [Nat.mul_zero]; exact lab_0⟩
    rw [v1 v hv]
    unfold cdV
    by_cases e : v = 0
    · rw [if_pos e, if_pos (decide_eq_true e)]
      rw [if_pos e]
    · rw [if_neg e, if_neg (fun h => e (of_decide_eq_true h))]
  obtain ⟨M', T', pk', al', dep', τ', e', q', L'⟩ := t702_4 (G := G) (u := u) hP hf hfr hpr (sh := sh) 8 0 M1 _ _ _ _ _ (by decide) (N.fr0 q01) (F.fr q01 (fun h => h)) L1
  refine ⟨M', T', pk', al', dep', τ', ?_, q01.fresh q' (fun a h => by rw [show a = mnx M from h]; exact Nat.le_refl _), ?_, L'⟩
  · rw [E702_0, show (8 : Int32) = nI 8 from rfl, mka_ok (by decide), ← hM0]
    exact e1.trans e'
  · have a1 := q1.nx
    have a2 := q'.nx
    omega
end TNR
