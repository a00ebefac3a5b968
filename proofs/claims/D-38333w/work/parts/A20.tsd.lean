set_option maxRecDepth 4000
/-! ===== the reference's schedule: walk ===== -/
/-- how long the tables are that loops run over -/
def ConN (G : Nat → Option Nat) (M : Mem) : Prop := (∀ a, G 57 = some a → a < mnx M ∧ nI (mln M a) = nI 24) ∧ (∀ a, G 56 = some a → a < mnx M ∧ nI (mln M a) = nI 4)
theorem ConN.fr {G : Nat → Option Nat} {M M' : Mem} {X : Nat → Prop} {n s : Nat} (C : ConN G M) (q : QC X n s M M') : ConN G M' :=
  ⟨fun a h => ⟨Nat.lt_of_lt_of_le (C.1 a h).1 q.nx.1, by rw [q.ln _ (C.1 a h).1]; exact (C.1 a h).2⟩, fun a h => ⟨Nat.lt_of_lt_of_le (C.2 a h).1 q.nx.1, by rw [q.ln _ (C.2 a h).1]; exact (C.2 a h).2⟩⟩
theorem TmT.sai {M : Mem} {a b i : Nat} {v : Int32} (A : TmT M a) : TmT (sai M b i v) a := ⟨by rw [mcl_sai]; exact A.k, by rw [mco_sai]; exact A.co, by rw [mln_sai]; exact A.ln, by rw [mnx_sai]; exact A.lt⟩
section TSD
variable {G : Nat → Option Nat} {m u : Nat} {g : SG} {S : Sh} {w : Nat} {M0 : Mem} {N s : Nat}
theorem jLn_b (iS : SI S) (j : Nat) : jLn S.left j ≤ 2500 := by
  have := iS.lf j
  unfold jLn
  omega
theorem ea_b (iS : SI S) (j : Nat) : ea (jLn S.left) j ≤ 15000 := by
  have := eaF_b (jLn_b iS) 6 j
  exact this
theorem t709_3 (T0 : ShT G M0 m u g S w) (iS : SI S) {a1 a2 j ot : Nat} {x3 i6 : Int32} (hj : j < 24) (h1 : mnx M0 ≤ a1) : ∀ (n k x : Nat) (M : Mem), k + n = 24 → QC noX N s M0 M → TmT M a1 → mai M a1 j = nI x → x ≤ 30000 → (∀ i, i ∈ jAh j → mai M a1 i = nI (ea (jLn S.left) i)) →
    ∃ M', ex G 2 709 3 [(0, vR (some u)), (1, vR (some a1)), (2, vR (some a2)), (3, vI x3), (4, vR (some ot)), (5, vI (nI 24)), (6, vI i6), (7, vI (nI j)), (8, vI (nI k))] [] M = ex G 2 709 3 [(0, vR (some u)), (1, vR (some a1)), (2, vR (some a2)), (3, vI x3), (4, vR (some ot)), (5, vI (nI 24)), (6, vI i6), (7, vI (nI j)), (8, vI (nI 24))] [] M' ∧ QC noX N s M0 M' ∧ TmT M' a1 ∧ mai M' a1 j = nI (eaP (jLn S.left) (ea (jLn S.left)) j n k x) ∧ (∀ i, i ≠ j → mai M' a1 i = mai M a1 i) ∧ mcl M' = mcl M ∧ mco M' = mco M ∧ mln M' = mln M ∧ mnx M' = mnx M ∧ (∀ b, b ≠ a1 → mai M' b = mai M b)
  | 0, k, x, M, hk, q, A, hx, hb, hB => by
    have e : k = 24 := by omega
    subst e
    exact ⟨M, rfl, q, A, hx, fun _ _ => rfl, rfl, rfl, rfl, rfl, fun _ _ => rfl⟩
  | n + 1, k, x, M, hk, q, A, hx, hb, hB => by
    have hk24 : k < 24 := by omega
    have hbs : ∀ j, j < 24 → jBs j < 2147483648 := by decide
    have e1 : aAdd (nI k) 1 = nI (k + 1) := aAdd_n k 1
    show ∃ M', _ = _ ∧ _ ∧ _ ∧ mai M' a1 j = nI (eaP (jLn S.left) (ea (jLn S.left)) j n (k + 1) (if (jAh j).contains k then max x (ea (jLn S.left) k + jLn S.left k) else x)) ∧ _
    cases hc : (jAh j).contains k
    · obtain ⟨M', e', r⟩ := t709_3 T0 iS (a2 := a2) (ot := ot) (x3 := x3) (i6 := i6) hj h1 n (k + 1) x M (by omega) q A hx hb hB
      refine ⟨M', Eq.trans ?_ e', r⟩
      rw [E709_3, if_pos (nI_lt_L 24 24 rfl hk24 (by decide)), cbI_of (t425 hj), cbI_of (t379 (hbs j hj) (by omega)), jBs_bt j hj k hk24, hc, bI_f, e1]
    · have hm := List.contains_iff_mem.mp hc
      have T := T0.fr0 q
      have b1 := ea_b iS k
      have b2 := jLn_b iS k
      obtain ⟨M1, hM1⟩ : ∃ M1, M1 = sai M a1 j (nI (max x (ea (jLn S.left) k + jLn S.left k))) := ⟨_, rfl⟩
      have q1 : QC noX N s M0 M1 := by rw [hM1]; exact qc_nai q h1
      have A1 : TmT M1 a1 := by rw [hM1]; exact A.sai
      have hne : ∀ i, i ≠ j → mai M1 a1 i = mai M a1 i := fun i hi => by rw [hM1, mai_sai, up2_if, if_neg (fun h => hi h.2)]
      have hjn : ∀ i, i ∈ jAh j → i ≠ j := fun i hi h => by
        have := (jRk_lt j hj i hi).2
        rw [h] at this
        omega
      obtain ⟨M', e', q', A', v', o', r1, r2, r3, r4, r5⟩ := t709_3 T0 iS (a2 := a2) (ot := ot) (x3 := x3) (i6 := i6) hj h1 n (k + 1) _ M1 (by omega) q1 A1 (by rw [hM1, mai_sai, up2_at9]) (Nat.max_le.mpr ⟨hb, by omega⟩) (fun i hi => by rw [hne i (hjn i hi)]; exact hB i hi)
      refine ⟨M', Eq.trans ?_ e', q', A', v', fun i hi => (o' i hi).trans (hne i hi), by rw [r1, hM1, mcl_sai], by rw [r2, hM1, mco_sai], by rw [r3, hM1, mln_sai], by rw [r4, hM1, mnx_sai], fun b hb => by rw [r5 b hb, hM1, mai_sai]; funext i; rw [up2_if, if_neg (fun h => hb h.1)]⟩
      rw [E709_3, if_pos (nI_lt_L 24 24 rfl hk24 (by decide)), cbI_of (t425 hj), cbI_of (t379 (hbs j hj) (by omega)), jBs_bt j hj k hk24, hc, bI_t, ldI_v A.k A.ln hj (by decide) hx, ldI_v A.k A.ln hk24 (by decide) (hB k hm), vc1_ok T.ln.k, cbI_of (t710 T iS hk24), aAdd_n, cbI_of (x74 (by omega) (by omega)), stI_ok A.k A.co A.ln hj (by decide), ← hM1, e1]
/-- the earliest days, and the end -/
theorem t709_1 (T0 : ShT G M0 m u g S w) (iS : SI S) (C0 : ConT G M0) {a1 a2 ot : Nat} (h1 : mnx M0 ≤ a1) (hot : G 57 = some ot) : ∀ (n i x : Nat) (M : Mem), i + n = 24 → QC noX N s M0 M → TmT M a1 → x ≤ 17500 → (∀ k, k < i → mai M a1 (tOr k) = nI (ea (jLn S.left) (tOr k))) →
    ∃ M', ex G 2 709 1 [(0, vR (some u)), (1, vR (some a1)), (2, vR (some a2)), (3, vI (nI x)), (4, vR (some ot)), (5, vI (nI 24)), (6, vI (nI i))] [] M = ex G 2 709 9 [(0, vR (some u)), (2, vR (some a2)), (3, vI (nI ((List.range' i n).foldl (fun y k => max y (ea (jLn S.left) (tOr k) + jLn S.left (tOr k))) x))), (4, vI 23)] [] M' ∧ QC noX N s M0 M' ∧ TmT M' a1 ∧ (∀ j, j < 24 → mai M' a1 j = nI (ea (jLn S.left) j)) ∧ mcl M' = mcl M ∧ mco M' = mco M ∧ mln M' = mln M ∧ mnx M' = mnx M ∧ (∀ b, b ≠ a1 → mai M' b = mai M b)
  | 0, i, x, M, hi, q, A, hx, hB => by
    have e : i = 24 := by omega
    subst e
    refine ⟨M, ?_, q, A, fun j hj => ?_, rfl, rfl, rfl, rfl, fun _ _ => rfl⟩
    · rw [E709_1, if_neg (nI_nlt (Nat.le_refl _) (by decide))]
      rfl
    · obtain ⟨k, hk, e⟩ := tOr_all j hj
      rw [← e]
      exact hB k hk
  | n + 1, i, x, M, hi, q, A, hx, hB => by
    have hi24 : i < 24 := by omega
    obtain ⟨hj, ht⟩ := tOr_b i hi24
    have T := T0.fr0 q
    obtain ⟨oa, oe, ok_, -, olt, oln, ov⟩ := C0.order
    have hoe : oa = ot := by rw [hot] at oe; injection oe with oe; exact oe.symm
    rw [hoe] at ok_ olt oln ov
    obtain ⟨M1, hM1⟩ : ∃ M1, M1 = sai M a1 (tOr i) (nI 0) := ⟨_, rfl⟩
    have q1 : QC noX N s M0 M1 := by rw [hM1]; exact qc_nai q h1
    have A1 : TmT M1 a1 := by rw [hM1]; exact A.sai
    have hne : ∀ k, k ≠ tOr i → mai M1 a1 k = mai M a1 k := fun k hk => by rw [hM1, mai_sai, up2_if, if_neg (fun h => hk h.2)]
    have hB1 : ∀ j, j ∈ jAh (tOr i) → mai M1 a1 j = nI (ea (jLn S.left) j) := fun j hjm => by
      obtain ⟨k, hk, e⟩ := tOr_top i hi24 j hjm
      rw [hne j (fun h => by
        have := (jRk_lt _ hj j hjm).2
        rw [h] at this
        omega), ← e]
      exact hB k hk
    obtain ⟨M2, e2, q2, A2, v2, o2, r1, r2, r3, r4, r5⟩ := t709_3 T0 iS (a2 := a2) (ot := ot) (x3 := nI x) (i6 := nI i) hj h1 24 0 0 M1 rfl q1 A1 (by rw [hM1, mai_sai, up2_at9]) (by decide) hB1
    rw [eaP_e hj] at v2
    have T2 := T0.fr0 q2
    have b1 := ea_b iS (tOr i)
    have b2 := jLn_b iS (tOr i)
    obtain ⟨M', e', q', A', v', s1, s2, s3, s4, s5⟩ := t709_1 T0 iS C0 (a2 := a2) h1 hot n (i + 1) (max x (ea (jLn S.left) (tOr i) + jLn S.left (tOr i))) M2 (by omega) q2 A2 (Nat.max_le.mpr ⟨hx, by omega⟩) (fun k hk => by
      by_cases e : k = i
      · rw [e]; exact v2
      · have hki : tOr k ≠ tOr i := fun h => e (tOr_inj k (by omega) i hi24 h)
        rw [o2 _ hki, hne _ hki]
        exact hB k (by omega))
    refine ⟨M', Eq.trans ?_ e', q', A', v', by rw [s1, r1, hM1, mcl_sai], by rw [s2, r2, hM1, mco_sai], by rw [s3, r3, hM1, mln_sai], by rw [s4, r4, hM1, mnx_sai], fun b hb => by rw [s5 b hb, r5 b hb, hM1, mai_sai]; funext i; rw [up2_if, if_neg (fun h => hb h.1)]⟩
    have hld : ∀ κ : Int32 → Res, ldI M 100 (some ot) (nI i) κ = κ (nI (tOr i)) := fun κ => by
      have k1 : mcl M ot = 100 := (q.cl _ olt).trans ok_
      have k2 : mln M ot = mln M0 ot := q.ln _ olt
      have k3 : mai M ot i = nI (tOr i) := by rw [q.ai _ _ olt (fun h => h), ov i hi24, ht]
      unfold ldI
      simp only []
      rw [if_pos ⟨k1, nI_pos (by omega), by rw [nI_clamp (by omega), k2]; omega⟩, nI_clamp (by omega), k3]
    rw [E709_1, if_pos (nI_lt hi24 (by decide)), hld, show (0 : Int32) = nI 0 from rfl, stI_ok A.k A.co A.ln hj (by decide), ← hM1, e2, E709_3, if_neg (by decide), ldI_v A2.k A2.ln hj (by decide) v2, vc1_ok T2.ln.k, cbI_of (t710 T2 iS hj), aAdd_n, cbI_of (x74 (by omega) (by omega)), show aAdd (nI i) 1 = nI (i + 1) from aAdd_n i 1]
end TSD
