set_option maxRecDepth 4000
/-! ===== the class' net: reach ===== -/
abbrev Bfs (P : List Pipe) (f : Nat → Nat) (T : Nat → Bool) (pk : Nat → Nat) (al : Nat → Bool) (dep : Nat → Nat) (Q : Nat → Nat) (a l : Nat) : Prop := (Tr P.length (pF P) (pT P) (pW P) (pO P) f T pk al dep) ∧ (∀ i, i < l → Q i < 8 ∧ T (Q i) = true) ∧ (∀ v, v < 8 → T v = true → ∃ i, i < l ∧ Q i = v) ∧ (∀ i, i < a → PCl P f T (Q i) P.length) ∧ (a ≤ l) ∧ (cntT T = l)
theorem Bfs.tr {P : List Pipe} {f : Nat → Nat} {T : Nat → Bool} {pk : Nat → Nat} {al : Nat → Bool} {dep : Nat → Nat} {Q : Nat → Nat} {a l : Nat} (self_ : Bfs P f T pk al dep Q a l) : Tr P.length (pF P) (pT P) (pW P) (pO P) f T pk al dep := self_.1
theorem Bfs.q {P : List Pipe} {f : Nat → Nat} {T : Nat → Bool} {pk : Nat → Nat} {al : Nat → Bool} {dep : Nat → Nat} {Q : Nat → Nat} {a l : Nat} (self_ : Bfs P f T pk al dep Q a l) : ∀ i, i < l → Q i < 8 ∧ T (Q i) = true := self_.2.1
theorem Bfs.s {P : List Pipe} {f : Nat → Nat} {T : Nat → Bool} {pk : Nat → Nat} {al : Nat → Bool} {dep : Nat → Nat} {Q : Nat → Nat} {a l : Nat} (self_ : Bfs P f T pk al dep Q a l) : ∀ v, v < 8 → T v = true → ∃ i, i < l ∧ Q i = v := self_.2.2.1
theorem Bfs.c {P : List Pipe} {f : Nat → Nat} {T : Nat → Bool} {pk : Nat → Nat} {al : Nat → Bool} {dep : Nat → Nat} {Q : Nat → Nat} {a l : Nat} (self_ : Bfs P f T pk al dep Q a l) : ∀ i, i < a → PCl P f T (Q i) P.length := self_.2.2.2.1
theorem Bfs.le {P : List Pipe} {f : Nat → Nat} {T : Nat → Bool} {pk : Nat → Nat} {al : Nat → Bool} {dep : Nat → Nat} {Q : Nat → Nat} {a l : Nat} (self_ : Bfs P f T pk al dep Q a l) : a ≤ l := self_.2.2.2.2.1
theorem Bfs.cn {P : List Pipe} {f : Nat → Nat} {T : Nat → Bool} {pk : Nat → Nat} {al : Nat → Bool} {dep : Nat → Nat} {Q : Nat → Nat} {a l : Nat} (self_ : Bfs P f T pk al dep Q a l) : cntT T = l := self_.2.2.2.2.2
abbrev BfM (M : Mem) (b : Nat) (T : Nat → Bool) (pk : Nat → Nat) (al : Nat → Bool) (Q : Nat → Nat) (l : Nat) : Prop := (RcM M b T) ∧ (ByM M b T pk al) ∧ (∀ i, i < l → mai M (b + 12) i = nI (Q i))
theorem BfM.r {M : Mem} {b : Nat} {T : Nat → Bool} {pk : Nat → Nat} {al : Nat → Bool} {Q : Nat → Nat} {l : Nat} (self_ : BfM M b T pk al Q l) : RcM M b T := self_.1
theorem BfM.y {M : Mem} {b : Nat} {T : Nat → Bool} {pk : Nat → Nat} {al : Nat → Bool} {Q : Nat → Nat} {l : Nat} (self_ : BfM M b T pk al Q l) : ByM M b T pk al := self_.2.1
theorem BfM.q {M : Mem} {b : Nat} {T : Nat → Bool} {pk : Nat → Nat} {al : Nat → Bool} {Q : Nat → Nat} {l : Nat} (self_ : BfM M b T pk al Q l) : ∀ i, i < l → mai M (b + 12) i = nI (Q i) := self_.2.2
theorem cnt_le (T : Nat → Bool) : cntT T ≤ 8 := by
  unfold cntT
  (repeat' split) <;> omega
section RCH
variable {G : Nat → Option Nat} {b : Nat} {g : SG} {P : List Pipe} {f : Nat → Nat}
theorem c531_9 (hP : PI P) (hf : ∀ k, k < P.length → f k ≤ pW P k) {a v : Nat} : ∀ (n j l : Nat) (T : Nat → Bool) (pk : Nat → Nat) (al : Nat → Bool) (dep Q : Nat → Nat) (M : Mem), j + n = P.length → NtC G M b g P → FwM M g P f → BfM M b T pk al Q l → Bfs P f T pk al dep Q a l → a < l → Q a = v → PCl P f T v j →
    ∃ M' T' pk' al' dep' Q' l', ex G 1 531 9 [(0, vR (some (b + 8))), (1, vI (nI (a + 1))), (2, vI (nI l)), (3, vI (nI v)), (4, vI (nI j))] [] M = ex G 1 531 7 [(0, vR (some (b + 8))), (1, vI (nI (a + 1))), (2, vI (nI l'))] [] M' ∧ QC (ntX b) 0 0 M M' ∧ mfi M' = mfi M ∧ BfM M' b T' pk' al' Q' l' ∧ Bfs P f T' pk' al' dep' Q' (a + 1) l'
  | 0, j, l, T, pk, al, dep, Q, M, hj, N, hF, B, I, ha, hv, hc => by
    have e : j = P.length := by omega
    subst e
    have hl := hP.1
    refine ⟨M, T, pk, al, dep, Q, l, ?_, QC.rf, rfl, B, ⟨I.tr, I.q, I.s, fun i hi => ?_, ha, I.cn⟩⟩
    · rw [E531_9, gR_v N.nk N.npi, vc1_ok N.pps.k, cbI_of (c5 N.pps), if_neg (nI_nlt (Nat.le_refl _) (by omega))]
    · by_cases h : i = a
      · rw [h, hv]; exact hc
      · exact I.c i (by omega)
  | n + 1, j, l, T, pk, al, dep, Q, M, hj, N, hF, B, I, ha, hv, hc => by
    have hjl : j < P.length := by omega
    have hl := hP.1
    have hva := I.q a ha
    rw [hv] at hva
    have hl8 := cnt_le T
    rw [I.cn] at hl8
    rw [E531_9, gR_v N.nk N.npi, vc1_ok N.pps.k, cbI_of (c5 N.pps), if_pos (nI_lt hjl (by omega)), gR_v N.nk N.npi, vc1_ok N.pps.k, cbR_of (c6 N.pps hjl), cst_p N hjl, vc1_ok N.nk, show aAdd (nI j) 1 = nI (j + 1) from aAdd_n j 1]
    rcases c532 N hP hF B.r hf hjl hva.1 hva.2 with ⟨e, hcl⟩ | ⟨al1, x, x8, hx, hok, hx1, hx2, hres, e⟩
    · rw [cbI_of e, if_pos rfl]
      refine c531_9 hP hf n (j + 1) l T pk al dep Q M (by omega) N hF B I ha hv (fun k hk ho => ?_)
      by_cases h : k = j
      · rw [h]; rw [h] at ho; exact hcl ho
      · exact hc k (by omega) ho
    · rw [cbI_of e, if_neg (fun h => absurd h (by have := nI_pos (n := x) (by omega); intro h9; rw [h9] at this; exact this (by decide)))]
      obtain ⟨M1, hM1⟩ : ∃ M1, M1 = sai M (b + 11) x (nI (j + if al1 then 0 else 20)) := ⟨_, rfl⟩
      rw [← hM1]
      have q1 : QC (ntX b) 0 0 M M1 := by rw [hM1]; exact qc_sai ⟨by omega, by omega⟩
      have N1 := N.fr q1
      obtain ⟨M2, hM2⟩ : ∃ M2, M2 = sai M1 (b + 10) x (z2Z 1) := ⟨_, rfl⟩
      have q2 : QC (ntX b) 0 0 M1 M2 := by rw [hM2]; exact qc_sai ⟨by omega, by omega⟩
      have N2 := N1.fr q2
      obtain ⟨M3, hM3⟩ : ∃ M3, M3 = sai M2 (b + 12) l (nI x) := ⟨_, rfl⟩
      have q3 : QC (ntX b) 0 0 M2 M3 := by rw [hM3]; exact qc_sai ⟨by omega, by omega⟩
      have N3 := N2.fr q3
      have hfi : mfi M3 = mfi M := by rw [hM3, mfi_sai, hM2, mfi_sai, hM1, mfi_sai]
      obtain ⟨cn1, cn2⟩ := cnt_set x8 hx
      rw [I.cn] at cn1 cn2
      have hl7 : l < 8 := by omega
      have hT' : Tr P.length (pF P) (pT P) (pW P) (pO P) f (setT T x) (updN pk x j) (updB al x al1) (updN dep x (dep (if al1 then pF P j else pT P j) + 1)) :=
        I.tr.add hx hjl hok hx1 (by rw [← hx2]; exact hva.2) hres
      have B3 : BfM M3 b (setT T x) (updN pk x j) (updB al x al1) (updN Q l x) (l + 1) := by
        refine ⟨fun y hy => ?_, fun y hy hy0 ht => ?_, fun i hi => ?_⟩
        · rw [hM3, sai_ne (by omega), hM2, sai_ix]
          unfold setT
          by_cases h : y = x
          · rw [if_pos ⟨rfl, h⟩, if_pos h, z2Z_e]; rfl
          · rw [if_neg (fun h9 => h h9.2), if_neg h, hM1, sai_ne (by omega)]
            exact B.r y hy
        · rw [hM3, sai_ne (by omega), hM2, sai_ne (by omega), hM1, sai_ix]
          unfold updN updB
          unfold setT at ht
          by_cases h : y = x
          · rw [if_pos ⟨rfl, h⟩, if_pos h, if_pos h]
          · rw [if_neg (fun h9 => h h9.2), if_neg h, if_neg h]
            rw [if_neg h] at ht
            exact B.y y hy hy0 ht
        · rw [hM3, sai_ix]
          unfold updN
          by_cases h : i = l
          · rw [if_pos ⟨rfl, h⟩, if_pos h]
          · rw [if_neg (fun h9 => h h9.2), if_neg h, hM2, sai_ne (by omega), hM1, sai_ne (by omega)]
            exact B.q i (by omega)
      have hQa : updN Q l x a = v := by
        unfold updN
        rw [if_neg (by omega)]; exact hv
      have I3 : Bfs P f (setT T x) (updN pk x j) (updB al x al1) (updN dep x (dep (if al1 then pF P j else pT P j) + 1)) (updN Q l x) a (l + 1) := by
        refine ⟨hT', fun i hi => ?_, fun y hy ht => ?_, fun i hi => ?_, by omega, cn1⟩
        · unfold updN setT
          by_cases h : i = l
          · rw [if_pos h]; exact ⟨x8, if_pos rfl⟩
          · rw [if_neg h]
            have := I.q i (by omega)
            refine ⟨this.1, ?_⟩
            split
            · rfl
            · exact this.2
        · unfold setT at ht
          by_cases h : y = x
          · refine ⟨l, by omega, ?_⟩
            unfold updN
            rw [if_pos rfl, h]
          · rw [if_neg h] at ht
            obtain ⟨i, hi, hq⟩ := I.s y hy ht
            refine ⟨i, by omega, ?_⟩
            unfold updN
            rw [if_neg (by omega)]; exact hq
        · have : updN Q l x i = Q i := by unfold updN; rw [if_neg (by omega)]
          rw [this]
          exact (I.c i hi).mono
      have hc3 : PCl P f (setT T x) v (j + 1) := by
        intro k hk ho
        by_cases h : k = j
        · subst h
          unfold setT
          cases al1
          · simp only [Bool.false_eq_true, if_false] at hx1 hx2 hres
            refine ⟨fun h1 h2 => ?_, fun _ _ => by rw [if_pos hx1.symm]⟩
            exfalso
            have := (hP.k hjl).2.2.1
            exact this (by rw [h1, hx2])
          · simp only [if_true] at hx1 hx2 hres
            refine ⟨fun _ _ => by rw [if_pos hx1.symm], fun h1 h2 => ?_⟩
            exfalso
            have := (hP.k hjl).2.2.1
            exact this (by rw [h1, hx2])
        · exact hc.mono k (by omega) ho
      obtain ⟨M', T', pk', al', dep', Q', l', e', r1, r2, r3, r4⟩ := c531_9 hP hf n (j + 1) (l + 1) _ _ _ _ _ M3 (by omega) N3 (fun k hk => by rw [hfi]; exact hF k hk) B3 I3 (by omega) hQa hc3
      refine ⟨M', T', pk', al', dep', Q', l', ?_, ((q1.tr q2).tr q3).tr r1, r2.trans hfi, r3, r4⟩
      refine Eq.trans ?_ e'
      rw [gR_v N1.nk N1.nre, stI_ok N1.rek N1.reco N1.reln x8 (by decide), ← hM2, gR_v N2.nk N2.nqu, stI_ok N2.quk N2.quco N2.quln hl7 (by decide), ← hM3, show aAdd (nI l) 1 = nI (l + 1) from aAdd_n l 1]
theorem c531_7 (hP : PI P) (hf : ∀ k, k < P.length → f k ≤ pW P k) : ∀ (n a l : Nat) (T : Nat → Bool) (pk : Nat → Nat) (al : Nat → Bool) (dep Q : Nat → Nat) (M : Mem), a + n = 8 → NtC G M b g P → FwM M g P f → BfM M b T pk al Q l → Bfs P f T pk al dep Q a l →
    ∃ M' T' pk' al' dep', ex G 1 531 7 [(0, vR (some (b + 8))), (1, vI (nI a)), (2, vI (nI l))] [] M = some (.inl (some (vI (bI (T' 7)))), M') ∧ QC (ntX b) 0 0 M M' ∧ mfi M' = mfi M ∧ RcM M' b T' ∧ ByM M' b T' pk' al' ∧ Tr P.length (pF P) (pT P) (pW P) (pO P) f T' pk' al' dep' ∧ Cl P.length (pF P) (pT P) (pW P) (pO P) f T'
  | n, a, l, T, pk, al, dep, Q, M, hn, N, hF, B, I => by
    have hl8 := cnt_le T
    rw [I.cn] at hl8
    by_cases ha : a < l
    · match n, hn with
      | 0, hn => exact absurd ha (by omega)
      | n + 1, hn =>
        have hva := I.q a ha
        obtain ⟨M1, T1, pk1, al1, dep1, Q1, l1, e1, q1, f1, B1, I1⟩ := c531_9 hP hf P.length 0 l T pk al dep Q M (Nat.zero_add _) N hF B I ha rfl (fun k hk => absurd hk (Nat.not_lt_zero k))
        obtain ⟨M', T', pk', al', dep', e', r1, r2, r3⟩ := c531_7 hP hf n (a + 1) l1 T1 pk1 al1 dep1 Q1 M1 (by omega) (N.fr q1) (fun k hk => by rw [f1]; exact hF k hk) B1 I1
        refine ⟨M', T', pk', al', dep', Eq.trans ?_ e', q1.tr r1, r2.trans f1, r3⟩
        rw [E531_7, if_pos (nI_lt ha (by omega)), gR_v N.nk N.nqu, ldI_v N.quk N.quln (show a < 8 by omega) (by decide) (B.q a ha), show aAdd (nI a) 1 = nI (a + 1) from aAdd_n a 1]
        exact e1
    · refine ⟨M, T, pk, al, dep, ?_, QC.rf, rfl, B.r, B.y, I.tr, ?_⟩
      · rw [E531_7, if_neg (nI_nlt (by omega) (by omega)), gR_v N.nk N.nre]
        first | refine Eq.trans ((ldI_v (i := 7) N.rek N.reln (by decide) (by decide) (B.r 7 (by decide)))) ?_ | refine Rt.eq ((ldI_v (i := 7) N.rek N.reln (by decide) (by decide) (B.r 7 (by decide)))) ?_ | refine Th.eq ((ldI_v (i := 7) N.rek N.reln (by decide) (by decide) (B.r 7 (by decide)))) ?_
        exact rZ_b
      · intro k hk ho
        have hpk := hP.k hk
        refine ⟨fun h1 h2 => ?_, fun h1 h2 => ?_⟩
        · obtain ⟨i, hi, hq⟩ := I.s _ hpk.1 h1
          exact (I.c i (by omega) k hk ho).1 hq.symm h2
        · obtain ⟨i, hi, hq⟩ := I.s _ hpk.2.1 h1
          exact (I.c i (by omega) k hk ho).2 hq.symm h2
def T0 : Nat → Bool := fun v => v == 0
theorem c531_1 : ∀ (n i : Nat) (M : Mem), i + n = 8 → NtC G M b g P → (∀ v, v < i → mai M (b + 10) v = bI (T0 v)) →
    ∃ M', ex G 1 531 1 [(0, vR (some (b + 8))), (1, vI (nI i))] [] M = ex G 1 531 7 [(0, vR (some (b + 8))), (1, vI (nI 0)), (2, vI (nI 1))] [] M' ∧ QC (ntX b) 0 0 M M' ∧ mfi M' = mfi M ∧ RcM M' b T0 ∧ mai M' (b + 12) 0 = nI 0
  | 0, i, M, hi, N, h => by
    have e : i = 8 := by omega
    subst e
    have q1 : QC (ntX b) 0 0 M (sai M (b + 12) 0 0) := qc_sai ⟨by omega, by omega⟩
    refine ⟨sai M (b + 12) 0 0, ?_, q1, mfi_sai, fun v hv => by rw [sai_ne (by omega)]; exact h v hv, ?_⟩
    · rw [E531_1, if_neg (by decide), gR_v N.nk N.nqu]
      first | refine Eq.trans ((stI_ok (i := 0) N.quk N.quco N.quln (by decide) (by decide))) ?_ | refine Rt.eq ((stI_ok (i := 0) N.quk N.quco N.quln (by decide) (by decide))) ?_ | refine Th.eq ((stI_ok (i := 0) N.quk N.quco N.quln (by decide) (by decide))) ?_
      rfl
    · rw [sai_ix, if_pos ⟨rfl, rfl⟩]; rfl
  | n + 1, i, M, hi, N, h => by
    have hi8 : i < 8 := by omega
    have q1 : ∀ v, QC (ntX b) 0 0 M (sai M (b + 10) i v) := fun v => qc_sai ⟨by omega, by omega⟩
    have hs : ∀ v, v < i + 1 → mai (sai M (b + 10) i (bI (T0 i))) (b + 10) v = bI (T0 v) := fun v hv => by
      rw [sai_ix]
      by_cases e : v = i
      · rw [if_pos ⟨rfl, e⟩, e]
      · rw [if_neg (fun h9 => e h9.2)]; exact h v (by omega)
    obtain ⟨M', e', r1, r2, r3⟩ := c531_1 n (i + 1) (sai M (b + 10) i (bI (T0 i))) (by omega) (N.fr (q1 _)) hs
    refine ⟨M', Eq.trans ?_ e', (q1 _).tr r1, r2.trans mfi_sai, r3⟩
    rw [E531_1, if_pos (nI_lt_L 8 8 rfl hi8 (by decide)), gR_v N.nk N.nre, show aAdd (nI i) 1 = nI (i + 1) from aAdd_n i 1]
    by_cases h0 : i = 0
    · rw [if_pos (nI_eq_L 0 0 rfl h0)]
      first | refine Eq.trans ((stI_ok N.rek N.reco N.reln hi8 (by decide))) ?_ | refine Rt.eq ((stI_ok N.rek N.reco N.reln hi8 (by decide))) ?_ | refine Th.eq ((stI_ok N.rek N.reco N.reln hi8 (by decide))) ?_
      rw [h0, z2Z_e]
      rfl
    · rw [if_neg (nI_ne_L 0 0 rfl (by omega) (by decide) h0)]
      first | refine Eq.trans ((stI_ok N.rek N.reco N.reln hi8 (by decide))) ?_ | refine Rt.eq ((stI_ok N.rek N.reco N.reln hi8 (by decide))) ?_ | refine Th.eq ((stI_ok N.rek N.reco N.reln hi8 (by decide))) ?_
      have : T0 i = false := beq_false_of_ne h0
      rw [this, z2Z_e]
      rfl
/-- REACH -/
theorem c531 {M : Mem} (hP : PI P) (hf : ∀ k, k < P.length → f k ≤ pW P k) (N : NtC G M b g P) (hF : FwM M g P f) :
    ∃ M' T' pk' al' dep', ex G 1 531 0 [(0, vR (some (b + 8)))] [] M = some (.inl (some (vI (bI (T' 7)))), M') ∧ QC (ntX b) 0 0 M M' ∧ mfi M' = mfi M ∧ RcM M' b T' ∧ ByM M' b T' pk' al' ∧ Tr P.length (pF P) (pT P) (pW P) (pO P) f T' pk' al' dep' ∧ Cl P.length (pF P) (pT P) (pW P) (pO P) f T' := by
  obtain ⟨M1, e1, q1, f1, R1, Q1⟩ := c531_1 (P := P) (g := g) (G := G) 8 0 M rfl N (fun v hv => absurd hv (Nat.not_lt_zero v))
  have t0 : ∀ v, T0 v = true → v = 0 := fun v h => eq_of_beq h
  have I1 : Bfs P f T0 (fun _ => 0) (fun _ => false) (fun _ => 0) (fun _ => 0) 0 1 := by
    refine ⟨⟨rfl, rfl, fun v _ h0 ht => absurd (t0 v ht) h0⟩, fun i _ => ⟨Nat.zero_lt_succ 7, rfl⟩, fun v _ ht => ⟨0, by decide, (t0 v ht).symm⟩, fun i hi => absurd hi (Nat.not_lt_zero i), by decide, by decide⟩
  have B1 : BfM M1 b T0 (fun _ => 0) (fun _ => false) (fun _ => 0) 1 := ⟨R1, fun v _ h0 ht => absurd (t0 v ht) h0, fun i hi => by
    have : i = 0 := by omega
    rw [this]; exact Q1⟩
  obtain ⟨M', T', pk', al', dep', e', r1, r2, r3⟩ := c531_7 (G := G) hP hf 8 0 1 T0 _ _ _ _ M1 rfl (N.fr q1) (fun k hk => by rw [f1]; exact hF k hk) B1 I1
  refine ⟨M', T', pk', al', dep', ?_, q1.tr r1, r2.trans f1, r3⟩
  rw [E531_0]
  exact e1.trans e'
end RCH
