set_option maxRecDepth 4000
/-! ===== the class' plan: walk ===== -/
section CPL
variable {G : Nat → Option Nat} {M : Mem} {b : Nat} {g : SG} {S : Sh} {p : Bool}
theorem jA_len : ∀ j, j < 24 → (jAh j).length ≤ 7 := by decide
theorem jA_mem {j t : Nat} (ht : t < (jAh j).length) : (jAh j).getD t 0 ∈ jAh j := by
  rw [List.getD_eq_getElem?_getD, List.getElem?_eq_getElem ht]
  exact List.getElem_mem ht
/-- the job that stands at a place -/
theorem jb_v (C : ShC G M b g S p) {j : Nat} (hj : j < 24) {κ : Option Nat → Res} : ldR M 108 (some (b + 56)) (nI j) κ = κ (some (b + 58 + 2 * j)) := ldR_v C.jak C.jaln hj (by decide) (C.jae j hj)
theorem c633 (C : ShC G M b g S p) (iS : SI S) {j : Nat} (hj : j < 24) : ex G 1 633 0 [(0, vR (some (b + 58 + 2 * j)))] [] M = some (.inl (some (vI (bI (S.left j == 0)))), M) := by
  have hl := iS.lf j
  rw [E633_0, gI_v (C.jk j hj) (C.jlf j hj)]
  by_cases h : S.left j = 0
  · rw [if_pos (nI_eq_L 0 0 rfl h), rZ_1, h]; rfl
  · rw [if_neg (nI_ne_L 0 0 rfl (by omega) (by decide) h), rZ_0, beq_false_of_ne h]; rfl
theorem c634 (C : ShC G M b g S p) (iS : SI S) {j : Nat} (hj : j < 24) : ex G 1 634 0 [(0, vR (some (b + 58 + 2 * j)))] [] M = some (.inl (some (vI (nI (jLn S.left j)))), M) := by
  have hl := iS.lf j
  have e : ex G 1 198 0 [(0, vI (nI (S.left j))), (1, vI 8)] [] M = some (.inl (some (vI (nI (jLn S.left j)))), M) := by
    rw [E198_0, show aAdd (nI (S.left j)) 8 = nI (S.left j + 8) from aAdd_n _ 8, show aSub (nI (S.left j + 8)) 1 = nI (S.left j + 8 - 1) from aSub_n (b := 1) (by omega), show aDiv (nI (S.left j + 8 - 1)) 8 = nI ((S.left j + 8 - 1) / 8) from aDiv_n (b := 8) (by omega) (by decide), dvI_ok (by decide)]
    rfl
  rw [E634_0, gI_v (C.jk j hj) (C.jlf j hj), cbI_of e]
  rfl
/-- a field of all jobs -/
def JbM (M : Mem) (b f : Nat) (h : Nat → Nat) : Prop := ∀ j, j < 24 → mfi M f (b + 58 + 2 * j) = nI (h j)
theorem jb_at {f j i : Nat} {v : Int32} (hi : i ≠ j) : mfi (sfi M f (b + 58 + 2 * j) v) f (b + 58 + 2 * i) = mfi M f (b + 58 + 2 * i) := by
  rw [sfi_ix, if_neg (by omega)]
theorem c614_3 (C0 : ShC G M b g S p) (iS : SI S) {j : Nat} {i1 : Int32} (hj : j < 24) : ∀ (n t x : Nat) (M' : Mem), t + n = (jAh j).length → QC noX 0 0 M M' → mfi M' 136 (b + 58 + 2 * j) = nI x → x ≤ 30000 → (∀ i, i ∈ jAh j → mfi M' 136 (b + 58 + 2 * i) = nI (ea (jLn S.left) i)) →
    ∃ M2, ex G 1 614 3 [(0, vR (some (b + 55))), (1, vI i1), (2, vR (some (b + 58 + 2 * j))), (3, vR (some (b + 59 + 2 * j))), (4, vI (nI (jAh j).length)), (5, vI (nI t))] [] M' = ex G 1 614 1 [(0, vR (some (b + 55))), (1, vI (aAdd i1 1))] [] M2 ∧ QC noX 0 0 M M2 ∧ mfi M2 136 (b + 58 + 2 * j) = nI (eaC (jLn S.left) (ea (jLn S.left)) (jAh j) n t x) ∧ (∀ i, i ≠ j → mfi M2 136 (b + 58 + 2 * i) = mfi M' 136 (b + 58 + 2 * i))
  | 0, t, x, M', ht, q, hx, hb, hB => by
    have hl := jA_len j hj
    refine ⟨M', ?_, q, hx, fun _ _ => rfl⟩
    rw [E614_3, if_neg (nI_nlt (by omega) (by omega))]
  | n + 1, t, x, M', ht, q, hx, hb, hB => by
    have hl := jA_len j hj
    have htl : t < (jAh j).length := by omega
    have hm := jA_mem htl
    obtain ⟨hi24, hrk⟩ := jRk_lt j hj _ hm
    have C := C0.fr0 q
    have hea := hB _ hm
    have hah := C.ahe j hj t htl
    obtain ⟨i, hi⟩ : ∃ i, i = (jAh j).getD t 0 := ⟨_, rfl⟩
    rw [← hi] at hm hi24 hrk hea hah
    have b1 := ea_b iS i
    have b2 := jLn_b iS i
    obtain ⟨M1, hM1⟩ : ∃ M1, M1 = sfi M' 136 (b + 58 + 2 * j) (nI (max x (ea (jLn S.left) i + jLn S.left i))) := ⟨_, rfl⟩
    have q1 : QC noX 0 0 M M1 := by rw [hM1]; exact q.tr (QC.sfi rfl)
    have hne : ∀ k, k ≠ j → mfi M1 136 (b + 58 + 2 * k) = mfi M' 136 (b + 58 + 2 * k) := fun k hk => by rw [hM1]; exact jb_at hk
    have hjn : ∀ k, k ∈ jAh j → k ≠ j := fun k hk h => by
      have := (jRk_lt j hj k hk).2
      rw [h] at this
      omega
    obtain ⟨M2, e2, q2, v2, o2⟩ := c614_3 C0 iS (i1 := i1) hj n (t + 1) (max x (ea (jLn S.left) i + jLn S.left i)) M1 (by omega) q1 (by rw [hM1, sfi_at]) (Nat.max_le.mpr ⟨hb, by omega⟩) (fun k hk => by rw [hne k (hjn k hk)]; exact hB k hk)
    refine ⟨M2, Eq.trans ?_ e2, q2, by rw [hi] at v2; exact v2, fun k hk => (o2 k hk).trans (hne k hk)⟩
    rw [E614_3, if_pos (nI_lt htl (by omega)), ldI_v (C.ahk j hj) (C.ahln j hj) htl (by omega) hah, gI_v (C.jk j hj) hx, gR_v C.jsk C.jsa, jb_v C hi24, gI_v (C.jk i hi24) hea, gR_v C.jsk C.jsa, jb_v C hi24, vc1_ok (C.jk i hi24), cbI_of (c634 C iS hi24), aAdd_n, cbI_of (x74 (by omega) (by omega)), pI_ok (C.jk j hj) (C.jco j hj), ← hM1, show aAdd (nI t) 1 = nI (t + 1) from aAdd_n t 1]
theorem c614_1 (C0 : ShC G M b g S p) (iS : SI S) : ∀ (n i : Nat) (M' : Mem), i + n = 24 → QC noX 0 0 M M' → (∀ k, k < i → mfi M' 136 (b + 58 + 2 * jOr k) = nI (ea (jLn S.left) (jOr k))) →
    ∃ M2, ex G 1 614 1 [(0, vR (some (b + 55))), (1, vI (nI i))] [] M' = ex G 1 614 1 [(0, vR (some (b + 55))), (1, vI (nI 24))] [] M2 ∧ QC noX 0 0 M M2 ∧ JbM M2 b 136 (ea (jLn S.left))
  | 0, i, M', hi, q, hB => by
    have e : i = 24 := by omega
    subst e
    refine ⟨M', rfl, q, fun j hj => ?_⟩
    obtain ⟨k, hk, e⟩ := jOr_all j hj
    rw [← e]
    exact hB k hk
  | n + 1, i, M', hi, q, hB => by
    have hi24 : i < 24 := by omega
    have hj := jOr_b i hi24
    have C := C0.fr0 q
    have hl := jA_len _ hj
    obtain ⟨M1, hM1⟩ : ∃ M1, M1 = sfi M' 136 (b + 58 + 2 * jOr i) (nI 0) := ⟨_, rfl⟩
    have q1 : QC noX 0 0 M M1 := by rw [hM1]; exact q.tr (QC.sfi rfl)
    have C1 := C0.fr0 q1
    have hne : ∀ k, k ≠ jOr i → mfi M1 136 (b + 58 + 2 * k) = mfi M' 136 (b + 58 + 2 * k) := fun k hk => by rw [hM1]; exact jb_at hk
    obtain ⟨M2, e2, q2, v2, o2⟩ := c614_3 C0 iS (i1 := nI i) hj (jAh (jOr i)).length 0 0 M1 (Nat.zero_add _) q1 (by rw [hM1, sfi_at]) (by decide) (fun j hjm => by
      obtain ⟨k, hk, e⟩ := jOr_top i hi24 j hjm
      rw [hne j (fun h => by
        have := (jRk_lt _ hj j hjm).2
        rw [h] at this
        omega), ← e]
      exact hB k hk)
    rw [eaC_e hj] at v2
    rw [show aAdd (nI i) 1 = nI (i + 1) from aAdd_n i 1] at e2
    obtain ⟨M3, e3, q3, v3⟩ := c614_1 C0 iS n (i + 1) M2 (by omega) q2 (fun k hk => by
      by_cases e : k = i
      · rw [e]; exact v2
      · have hki : jOr k ≠ jOr i := fun h => e (jOr_inj k (by omega) i hi24 h)
        rw [o2 _ hki, hne _ hki]
        exact hB k (by omega))
    refine ⟨M3, Eq.trans ?_ e3, q3, v3⟩
    rw [E614_1, if_pos (nI_lt_L 24 24 rfl hi24 (by decide)), gR_v C.jsk C.jsa, gR_v C.jsk C.jso, ldI_v C.jok C.joln hi24 (by decide) (C.joe i hi24), jb_v C hj, show (0 : Int32) = nI 0 from rfl, pI_ok (C.jk _ hj) (C.jco _ hj), ← hM1, gR_v (C1.jk _ hj) (C1.jah _ hj), alen_ok (C1.ahk _ hj) (C1.ahln _ hj)]
    exact e2
theorem c615_1 {M' : Mem} (C : ShC G M' b g S p) (iS : SI S) (J : JbM M' b 136 (ea (jLn S.left))) : ∀ (n k x : Nat), k + n = 24 → x ≤ 17500 → ex G 1 615 1 [(1, vI (nI x)), (2, vR (some (b + 56))), (3, vI (nI 24)), (4, vI (nI k))] [] M' = some (.inl (some (vI (nI ((List.range' k n).foldl (fun m j => max m (ea (jLn S.left) j + jLn S.left j)) x)))), M')
  | 0, k, x, hk, hx => by
    have e : k = 24 := by omega
    subst e
    rw [E615_1, if_neg (nI_nlt (Nat.le_refl _) (by decide))]
    rfl
  | n + 1, k, x, hk, hx => by
    have hk24 : k < 24 := by omega
    have b1 := ea_b iS k
    have b2 := jLn_b iS k
    rw [E615_1, if_pos (nI_lt hk24 (by decide)), jb_v C hk24, gI_v (C.jk k hk24) (J k hk24), vc1_ok (C.jk k hk24), cbI_of (c634 C iS hk24), aAdd_n, cbI_of (x74 (by omega) (by omega)), show aAdd (nI k) 1 = nI (k + 1) from aAdd_n k 1, List.range'_succ]
    exact c615_1 C iS J n (k + 1) _ (by omega) (Nat.max_le.mpr ⟨hx, by omega⟩)
/-- JOBS.END -/
theorem c615 {M' : Mem} (C : ShC G M' b g S p) (iS : SI S) (J : JbM M' b 136 (ea (jLn S.left))) : ex G 1 615 0 [(0, vR (some (b + 55)))] [] M' = some (.inl (some (vI (nI (endJ (jLn S.left))))), M') := by
  rw [E615_0, gR_v C.jsk C.jsa, alen_ok C.jak C.jaln]
  refine (c615_1 C iS J 24 0 0 rfl (by decide)).trans ?_
  rw [show endJ (jLn S.left) = (List.range 24).foldl (fun m j => max m (ea (jLn S.left) j + jLn S.left j)) 0 from rfl, List.range_eq_range']
theorem c614_7 (C0 : ShC G M b g S p) (iS : SI S) : ∀ (n k : Nat) (M' : Mem), k + n = 24 → QC noX 0 0 M M' → JbM M' b 136 (ea (jLn S.left)) → (∀ j, j < k → mfi M' 137 (b + 58 + 2 * j) = nI (lq (jLn S.left) 24 j)) →
    ∃ M2, ex G 1 614 7 [(0, vR (some (b + 55))), (1, vI (nI (endJ (jLn S.left)))), (2, vR (some (b + 56))), (3, vI (nI 24)), (4, vI (nI k))] [] M' = ex G 1 614 10 [(0, vR (some (b + 55))), (2, vI (dI 24))] [] M2 ∧ QC noX 0 0 M M2 ∧ JbM M2 b 136 (ea (jLn S.left)) ∧ JbM M2 b 137 (lq (jLn S.left) 24)
  | 0, k, M', hk, q, J, hB => by
    have e : k = 24 := by omega
    subst e
    refine ⟨M', ?_, q, J, fun j hj => hB j hj⟩
    rw [E614_7, if_neg (nI_nlt (Nat.le_refl _) (by decide))]
    rfl
  | n + 1, k, M', hk, q, J, hB => by
    have hk24 : k < 24 := by omega
    have C := C0.fr0 q
    have b1 := end_ge (ln := jLn S.left) hk24
    have b2 := end_bS iS
    obtain ⟨M1, hM1⟩ : ∃ M1, M1 = sfi M' 137 (b + 58 + 2 * k) (nI (endJ (jLn S.left) - jLn S.left k)) := ⟨_, rfl⟩
    have q1 : QC noX 0 0 M M1 := by rw [hM1]; exact q.tr (QC.sfi rfl)
    obtain ⟨M2, e2, q2, v2⟩ := c614_7 C0 iS n (k + 1) M1 (by omega) q1 (fun j hj => by rw [hM1, sfi_ne (f' := 136) (by decide)]; exact J j hj) (fun j hj => by
      by_cases e : j = k
      · rw [e, hM1, sfi_at, lq_24]
      · rw [hM1, jb_at e]; exact hB j (by omega))
    refine ⟨M2, Eq.trans ?_ e2, q2, v2⟩
    rw [E614_7, if_pos (nI_lt hk24 (by decide)), jb_v C hk24, vc1_ok (C.jk k hk24), cbI_of (c634 C iS hk24), aSub_n (by omega), pI_ok (C.jk k hk24) (C.jco k hk24), ← hM1, show aAdd (nI k) 1 = nI (k + 1) from aAdd_n k 1]
end CPL
