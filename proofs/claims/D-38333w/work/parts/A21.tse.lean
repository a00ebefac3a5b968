set_option maxRecDepth 4000
/-! ===== the reference's schedule: latest days ===== -/
def dI (i : Nat) : Int32 := if i = 0 then -1 else nI (i - 1)
theorem dec_n (i : Nat) : aAdd (nI i) (-1) = dI i := by
  unfold dI
  by_cases h : i = 0
  · subst h
    rw [if_pos rfl, aAdd_e]
    decide
  · rw [if_neg h, aAdd_e]
    obtain ⟨k, hk⟩ : ∃ k, i = k + 1 := ⟨i - 1, by omega⟩
    subst hk
    rw [← nI_add, Int32.add_assoc, show nI 1 + (-1 : Int32) = 0 by decide, Int32.add_zero]
    rfl
def laP (ln f : Nat → Nat) (j : Nat) : Nat → Nat → Nat → Nat
  | 0, _, x => x
  | n + 1, k, x => laP ln f j n (k + 1) (if (jAh k).contains j then min x (f k - ln j) else x)
theorem laP_f {ln f : Nat → Nat} {j : Nat} : ∀ (n k x : Nat), laP ln f j n k x = (List.range' k n).foldl (fun m k => if (jAh k).contains j then min m (f k - ln j) else m) x
  | 0, _, _ => rfl
  | n + 1, k, x => by
    rw [List.range'_succ]
    exact laP_f n (k + 1) _
theorem laP_e {ln : Nat → Nat} {j : Nat} (hj : j < 24) : laP ln (la ln) j 24 0 (endJ ln - ln j) = la ln j := by
  rw [laP_f, la_e hj, ← List.range_eq_range']
section TSE
variable {G : Nat → Option Nat} {m u : Nat} {g : SG} {S : Sh} {w : Nat} {M0 : Mem} {N s : Nat}
theorem end_bS (iS : SI S) : endJ (jLn S.left) ≤ 17500 := end_b (jLn_b iS)
theorem la_b (iS : SI S) {j : Nat} (hj : j < 24) : la (jLn S.left) j ≤ 17500 := by
  have h1 := la_le (ln := jLn S.left) hj
  have h2 := end_bS iS
  omega
theorem t709_11 (T0 : ShT G M0 m u g S w) (iS : SI S) {a2 j : Nat} {x3 i4 : Int32} (hj : j < 24) (h1 : mnx M0 ≤ a2) : ∀ (n k x : Nat) (M : Mem), k + n = 24 → QC noX N s M0 M → TmT M a2 → mai M a2 j = nI x → x ≤ 17500 → (∀ k, k < 24 → j ∈ jAh k → mai M a2 k = nI (la (jLn S.left) k)) →
    ∃ M', ex G 2 709 11 [(0, vR (some u)), (2, vR (some a2)), (3, vI x3), (4, vI i4), (5, vI (nI j)), (6, vI (nI k))] [] M = ex G 2 709 9 [(0, vR (some u)), (2, vR (some a2)), (3, vI x3), (4, vI (aAdd i4 (-1)))] [] M' ∧ QC noX N s M0 M' ∧ TmT M' a2 ∧ mai M' a2 j = nI (laP (jLn S.left) (la (jLn S.left)) j n k x) ∧ (∀ i, i ≠ j → mai M' a2 i = mai M a2 i) ∧ mcl M' = mcl M ∧ mco M' = mco M ∧ mln M' = mln M ∧ mnx M' = mnx M ∧ (∀ b, b ≠ a2 → mai M' b = mai M b)
  | 0, k, x, M, hk, q, A, hx, hb, hB => by
    have e : k = 24 := by omega
    subst e
    refine ⟨M, ?_, q, A, hx, fun _ _ => rfl, rfl, rfl, rfl, rfl, fun _ _ => rfl⟩
    rw [E709_11, if_neg (by decide)]
  | n + 1, k, x, M, hk, q, A, hx, hb, hB => by
    have hk24 : k < 24 := by omega
    have hbs : ∀ j, j < 24 → jBs j < 2147483648 := by decide
    have e1 : aAdd (nI k) 1 = nI (k + 1) := aAdd_n k 1
    show ∃ M', _ = _ ∧ _ ∧ _ ∧ mai M' a2 j = nI (laP (jLn S.left) (la (jLn S.left)) j n (k + 1) (if (jAh k).contains j then min x (la (jLn S.left) k - jLn S.left j) else x)) ∧ _
    cases hc : (jAh k).contains j
    · obtain ⟨M', e', r⟩ := t709_11 T0 iS (x3 := x3) (i4 := i4) hj h1 n (k + 1) x M (by omega) q A hx hb hB
      refine ⟨M', Eq.trans ?_ e', r⟩
      rw [E709_11, if_pos (nI_lt_L 24 24 rfl hk24 (by decide)), cbI_of (t425 hk24), cbI_of (t379 (hbs k hk24) (by omega)), jBs_bt k hk24 j hj, hc, bI_f, e1]
    · have hm := List.contains_iff_mem.mp hc
      have T := T0.fr0 q
      have b1 := la_b iS hk24
      have b2 := ln_la (ln := jLn S.left) hk24 hm
      obtain ⟨M1, hM1⟩ : ∃ M1, M1 = sai M a2 j (nI (min x (la (jLn S.left) k - jLn S.left j))) := ⟨_, rfl⟩
      have q1 : QC noX N s M0 M1 := by rw [hM1]; exact qc_nai q h1
      have A1 : TmT M1 a2 := by rw [hM1]; exact A.sai
      have hne : ∀ i, i ≠ j → mai M1 a2 i = mai M a2 i := fun i hi => by rw [hM1, mai_sai, up2_if, if_neg (fun h => hi h.2)]
      have hjn : ∀ i, i < 24 → j ∈ jAh i → i ≠ j := fun i hi hji h => by
        have := (jRk_lt i hi j hji).2
        rw [h] at this
        omega
      obtain ⟨M', e', q', A', v', o', r1, r2, r3, r4, r5⟩ := t709_11 T0 iS (x3 := x3) (i4 := i4) hj h1 n (k + 1) _ M1 (by omega) q1 A1 (by rw [hM1, mai_sai, up2_at9]) (by omega) (fun i hi hji => by rw [hne i (hjn i hi hji)]; exact hB i hi hji)
      refine ⟨M', Eq.trans ?_ e', q', A', v', fun i hi => (o' i hi).trans (hne i hi), by rw [r1, hM1, mcl_sai], by rw [r2, hM1, mco_sai], by rw [r3, hM1, mln_sai], by rw [r4, hM1, mnx_sai], fun b hb => by rw [r5 b hb, hM1, mai_sai]; funext i; rw [up2_if, if_neg (fun h => hb h.1)]⟩
      rw [E709_11, if_pos (nI_lt_L 24 24 rfl hk24 (by decide)), cbI_of (t425 hk24), cbI_of (t379 (hbs k hk24) (by omega)), jBs_bt k hk24 j hj, hc, bI_t, ldI_v A.k A.ln hj (by decide) hx, ldI_v A.k A.ln hk24 (by decide) (hB k hk24 hm), vc1_ok T.ln.k, cbI_of (t710 T iS hj), aSub_n b2, cbI_of (x67 (by omega) (by omega)), stI_ok A.k A.co A.ln hj (by decide), ← hM1, e1]
theorem tOr_bot : ∀ i, i < 24 → ∀ k, k < 24 → tOr i ∈ jAh k → ∃ p, p < 24 ∧ i < p ∧ tOr p = k := by decide
theorem t709_9 (T0 : ShT G M0 m u g S w) (iS : SI S) (C0 : ConT G M0) {a2 : Nat} (h1 : mnx M0 ≤ a2) : ∀ (i : Nat) (M : Mem), i ≤ 24 → QC noX N s M0 M → TmT M a2 → (∀ k, i ≤ k → k < 24 → mai M a2 (tOr k) = nI (la (jLn S.left) (tOr k))) →
    ∃ M', ex G 2 709 9 [(0, vR (some u)), (2, vR (some a2)), (3, vI (nI (endJ (jLn S.left)))), (4, vI (dI i))] [] M = some (.inl none, M') ∧ QC noX N s M0 M' ∧ TmT M' a2 ∧ (∀ j, j < 24 → mai M' a2 j = nI (la (jLn S.left) j)) ∧ mcl M' = mcl M ∧ mco M' = mco M ∧ mln M' = mln M ∧ mnx M' = mnx M ∧ (∀ b, b ≠ a2 → mai M' b = mai M b)
  | 0, M, hi, q, A, hB => by
    refine ⟨M, ?_, q, A, fun j hj => ?_, rfl, rfl, rfl, rfl, fun _ _ => rfl⟩
    · rw [E709_9, if_pos (show dI 0 < 0 by decide)]
      rfl
    · obtain ⟨k, hk, e⟩ := tOr_all j hj
      rw [← e]
      exact hB k (Nat.zero_le _) hk
  | i + 1, M, hi, q, A, hB => by
    have hi24 : i < 24 := by omega
    obtain ⟨hj, ht⟩ := tOr_b i hi24
    have T := T0.fr0 q
    have hd : dI (i + 1) = nI i := by unfold dI; rw [if_neg (by omega)]; rfl
    have b1 := end_ge (ln := jLn S.left) hj
    have b2 := end_bS iS
    have C : TabI G M 57 24 (tbI tOrder) := by
      obtain ⟨oa, oe, ok_, -, olt, oln, ov⟩ := C0.order
      exact ⟨oa, oe, (q.cl _ olt).trans ok_, by rw [q.ln _ olt]; exact oln, fun j hj => (q.ai _ _ olt (fun h => h)).trans (ov j hj)⟩
    obtain ⟨M1, hM1⟩ : ∃ M1, M1 = sai M a2 (tOr i) (nI (endJ (jLn S.left) - jLn S.left (tOr i))) := ⟨_, rfl⟩
    have q1 : QC noX N s M0 M1 := by rw [hM1]; exact qc_nai q h1
    have A1 : TmT M1 a2 := by rw [hM1]; exact A.sai
    have hne : ∀ k, k ≠ tOr i → mai M1 a2 k = mai M a2 k := fun k hk => by rw [hM1, mai_sai, up2_if, if_neg (fun h => hk h.2)]
    have hB1 : ∀ k, k < 24 → tOr i ∈ jAh k → mai M1 a2 k = nI (la (jLn S.left) k) := fun k hk hm => by
      obtain ⟨p, hp24, hp, e⟩ := tOr_bot i hi24 k hk hm
      rw [hne k (fun h => by
        have := (jRk_lt k hk _ hm).2
        rw [h] at this
        omega), ← e]
      exact hB p (by omega) hp24
    obtain ⟨M2, e2, q2, A2, v2, o2, r1, r2, r3, r4, r5⟩ := t709_11 T0 iS (x3 := nI (endJ (jLn S.left))) (i4 := nI i) hj h1 24 0 _ M1 rfl q1 A1 (by rw [hM1, mai_sai, up2_at9]) (by omega) hB1
    rw [laP_e hj] at v2
    rw [dec_n] at e2
    obtain ⟨M', e', q', A', v', s1, s2, s3, s4, s5⟩ := t709_9 T0 iS C0 h1 i M2 (by omega) q2 A2 (fun k hk hk24 => by
      by_cases e : k = i
      · rw [e]; exact v2
      · have hki : tOr k ≠ tOr i := fun h => e (tOr_inj k (by omega) i hi24 h)
        rw [o2 _ hki, hne _ hki]
        exact hB k (by omega) hk24)
    refine ⟨M', Eq.trans ?_ e', q', A', v', by rw [s1, r1, hM1, mcl_sai], by rw [s2, r2, hM1, mco_sai], by rw [s3, r3, hM1, mln_sai], by rw [s4, r4, hM1, mnx_sai], fun b hb => by rw [s5 b hb, r5 b hb, hM1, mai_sai]; funext i; rw [up2_if, if_neg (fun h => hb h.1)]⟩
    rw [hd, E709_9, if_neg (nI_pos (by omega)), ldI_t C hi24 (by decide), ht, vc1_ok T.ln.k, cbI_of (t710 T iS hj), aSub_n (by omega), stI_ok A.k A.co A.ln hj (by decide), ← hM1, show (0 : Int32) = nI 0 from rfl]
    exact e2
theorem fold_max_le {f : Nat → Nat} {B : Nat} : ∀ (l : List Nat) (a : Nat), a ≤ B → (∀ x, x ∈ l → f x ≤ B) → l.foldl (fun m i => max m (f i)) a ≤ B
  | [], _, h, _ => h
  | x :: l, a, h, hs => fold_max_le l (max a (f x)) (Nat.max_le.mpr ⟨h, hs x (List.mem_cons_self ..)⟩) (fun y hy => hs y (List.mem_cons_of_mem _ hy))
theorem fold_max_sub {f h : Nat → Nat} (l l' : List Nat) (hh : ∀ x, x ∈ l → ∃ y, y ∈ l' ∧ f x = h y) : l.foldl (fun m i => max m (f i)) 0 ≤ l'.foldl (fun m i => max m (h i)) 0 := by
  refine fold_max_le l 0 (Nat.zero_le _) (fun x hx => ?_)
  obtain ⟨y, hy, e⟩ := hh x hx
  rw [e]
  exact (fold_max_ge (f := h) l' 0).2 y hy
theorem fold_tOr {f : Nat → Nat} : (List.range' 0 24).foldl (fun y k => max y (f (tOr k))) 0 = (List.range 24).foldl (fun m j => max m (f j)) 0 := by
  apply Nat.le_antisymm
  · exact fold_max_sub (f := fun k => f (tOr k)) (h := f) _ _ (fun k hk => ⟨tOr k, List.mem_range.mpr (tOr_b k (by rw [List.mem_range'_1] at hk; omega)).1, rfl⟩)
  · refine fold_max_sub (f := f) (h := fun k => f (tOr k)) _ _ (fun j hj => ?_)
    obtain ⟨k, hk, e⟩ := tOr_all j (List.mem_range.mp hj)
    exact ⟨k, by rw [List.mem_range'_1]; omega, by rw [e]⟩
/-- SCHEDULE -/
theorem t709 (T0 : ShT G M0 m u g S w) (iS : SI S) (C0 : ConT G M0) (CN : ConN G M0) {a1 a2 : Nat} (h1 : mnx M0 ≤ a1) (h2 : mnx M0 ≤ a2) (h12 : a1 ≠ a2) {M : Mem} (q : QC noX N s M0 M) (A1 : TmT M a1) (A2 : TmT M a2) :
    ∃ M', ex G 2 709 0 [(0, vR (some u)), (1, vR (some a1)), (2, vR (some a2))] [] M = some (.inl none, M') ∧ QC noX N s M0 M' ∧ TmT M' a1 ∧ TmT M' a2 ∧ (∀ j, j < 24 → mai M' a1 j = nI (ea (jLn S.left) j)) ∧ (∀ j, j < 24 → mai M' a2 j = nI (la (jLn S.left) j)) ∧ mnx M' = mnx M := by
  obtain ⟨ot, oe, ok_, -, olt, oln, ov⟩ := C0.order
  obtain ⟨-, hn⟩ := CN.1 ot oe
  obtain ⟨M1, e1, q1, B1, v1, r1, r2, r3, r4, r5⟩ := t709_1 T0 iS C0 (a2 := a2) h1 oe 24 0 0 M rfl q A1 (by decide) (fun k hk => absurd hk (Nat.not_lt_zero k))
  have B2 : TmT M1 a2 := ⟨by rw [r1]; exact A2.k, by rw [r2]; exact A2.co, by rw [r3]; exact A2.ln, by rw [r4]; exact A2.lt⟩
  obtain ⟨M2, e2, q2, B3, v2, s1, s2, s3, s4, s5⟩ := t709_9 T0 iS C0 h2 24 M1 (Nat.le_refl _) q1 B2 (fun k hk hk24 => by omega)
  refine ⟨M2, ?_, q2, ⟨by rw [s1]; exact B1.k, by rw [s2]; exact B1.co, by rw [s3]; exact B1.ln, by rw [s4]; exact B1.lt⟩, B3, fun j hj => by rw [s5 a1 h12]; exact v1 j hj, v2, by rw [s4, r4]⟩
  have hal : alen M 100 (G 57) (fun v1 => ex G 2 709 1 [(0, vR (some u)), (1, vR (some a1)), (2, vR (some a2)), (3, vI 0), (4, vR (G 57)), (5, vI v1), (6, vI 0)] [] M) = ex G 2 709 1 [(0, vR (some u)), (1, vR (some a1)), (2, vR (some a2)), (3, vI (nI 0)), (4, vR (some ot)), (5, vI (nI 24)), (6, vI (nI 0))] [] M := by
    rw [oe, alen_ok ((q.cl _ olt).trans ok_) (q.ln _ olt), hn]
    rfl
  have he : (List.range' 0 24).foldl (fun y k => max y (ea (jLn S.left) (tOr k) + jLn S.left (tOr k))) 0 = endJ (jLn S.left) := fold_tOr (f := fun j => ea (jLn S.left) j + jLn S.left j)
  rw [E709_0]
  refine hal.trans (e1.trans ?_)
  rw [he]
  exact e2
end TSE
