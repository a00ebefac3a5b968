set_option maxRecDepth 4000
/-! ===== lists: remove, clear, add at a place ===== -/
def rmX (xs : Nat → Nat) (i : Nat) : Nat → Nat := fun j => if j < i then xs j else xs (j + 1)
def inX (xs : Nat → Nat) (i x : Nat) : Nat → Nat := fun j => if j < i then xs j else if j = i then x else xs (j - 1)
theorem mar_cpR_s {M : Mem} {a p k n j : Nat} : mar (cpR M a p a k n) a j = if k ≤ j ∧ j < k + n then mar M a (p + (j - k)) else mar M a j := mar_cpR
section ALR
variable {G : Nat → Option Nat} {c l e n : Nat} {xs : Nat → Nat} {M M' : Mem}
/-- a list's memory by its parts -/
theorem AL.mk3 {m : Nat} {ys : Nat → Nat} (L : AL G M c l e n xs) (hk : mcl M' = mcl M) (hc : mco M' = mco M) (hl : mln M' = mln M) (hs : mfi M' 23 l = nI m) (hr : mfr M' 22 l = mfr M 22 l) (hm : m ≤ mln M e) (he : ∀ i, i < m → mar M' e i = some (ys i)) (hn : mnx M' = mnx M) : AL G M' c l e m ys :=
  ⟨by rw [hk]; exact L.k, by rw [hc]; exact L.co, hs, hr.trans L.ed, by rw [hk]; exact L.ke, by rw [hl, hc]; exact L.ce, by rw [hl]; exact L.e0, by rw [hl]; exact hm, by rw [hl]; exact L.ls, he, by rw [hn]; exact L.ll, by rw [hn]; exact L.lt⟩
/-- LIST.FASTREMOVE -/
theorem x13 (hc : c ≠ 0) (L : AL G M c l e n xs) {i : Nat} (hi : i < n) {k : Nat} (ho : ElK M c k n xs) (hk : ksO.contains k = true) :
    ∃ M', ex G c 13 0 [(0, vR (some l)), (1, vR (some e)), (2, vI (nI i))] [] M = some (.inl none, M') ∧ AL G M' c l e (n - 1) (rmX xs i) ∧ QW (fun a => a = l ∨ a = e ∧ mln M e ≠ 0) 0 0 M M' ∧ mnx M' = mnx M := by
  have h1 := L.ll
  have h2 := L.lt
  have hle := L.ls
  have h3 := L.le
  have h0 : mln M e ≠ 0 := by omega
  have ce : mco M e = c := L.ce.elim (fun h => absurd h h0) (fun h => h)
  obtain ⟨v, hv⟩ : ∃ v, v = aAdd (mfi M 21 l) 1 := ⟨_, rfl⟩
  obtain ⟨M1, hM1⟩ : ∃ M1, M1 = sfi M 21 l v := ⟨_, rfl⟩
  have L1 : AL G M1 c l e n xs := by rw [hM1]; exact L.sfi_ (by decide)
  have q1 : QW (fun a => a = l ∨ a = e ∧ mln M e ≠ 0) 0 0 M M1 := by rw [hM1]; exact QW.sfi (Or.inl rfl)
  have ce1 : mco M1 e = c := (q1.co e h2).trans ce
  have ln1 : mln M1 e = mln M e := q1.ln e h2
  have n1 : mnx M1 = mnx M := by rw [hM1]; rfl
  have o1 := ho.fw q1
  have hs : aSub (nI n) 1 = nI (n - 1) := aSub_n (b := 1) (by omega)
  by_cases hl : n - 1 ≤ i
  · have hin : i = n - 1 := by omega
    obtain ⟨M2, hM2⟩ : ∃ M2, M2 = sfi M1 23 l (nI (n - 1)) := ⟨_, rfl⟩
    have q2 : QW (fun a => a = l ∨ a = e ∧ mln M e ≠ 0) 0 0 M1 M2 := by rw [hM2]; exact QW.sfi (Or.inl rfl)
    have q3 : QW (fun a => a = l ∨ a = e ∧ mln M e ≠ 0) 0 0 M2 (sar M2 e (n - 1) none) := QW.sar (Or.inr ⟨rfl, h0⟩)
    refine ⟨sar M2 e (n - 1) none, ?_, ?_, (q1.tr q2).tr q3, ?_⟩
    · rw [E13_0, gI_ok L.k, ← hv, pI_ok L.k L.co, ← hM1, gI_v L1.k L1.sz, hs, if_pos ((nI_leN (by omega) (by omega)).mpr hl), pI_ok L1.k L1.co, ← hM2, stR_ok (show mcl M2 e = 111 by rw [hM2]; exact L1.ke) (show mco M2 e = c by rw [hM2]; exact ce1) (show mln M2 e = mln M e by rw [hM2]; exact ln1) (by omega) (by omega) rfl]
      rfl
    · refine L1.mk3 (by rw [hM2]; rfl) (by rw [hM2]; rfl) (by rw [hM2]; rfl) ?_ (by rw [hM2]; rfl) (by omega) ?_ (by rw [hM2]; rfl)
      · show mfi M2 23 l = _
        rw [hM2]; exact sfi_at
      · intro j hj
        rw [mar_sar, up2_if, if_neg (fun x => absurd x.2 (by omega)), hM2]
        unfold rmX
        rw [if_pos (by omega)]
        exact L1.el j (by omega)
    · show mnx M2 = _
      rw [hM2]; exact n1
  · obtain ⟨M2, hM2⟩ : ∃ M2, M2 = cpR M1 e (i + 1) e i (n - 1 - i) := ⟨_, rfl⟩
    have q2 : QW (fun a => a = l ∨ a = e ∧ mln M e ≠ 0) 0 0 M1 M2 := by rw [hM2]; exact QW.cpR (Or.inr ⟨rfl, h0⟩)
    obtain ⟨M3, hM3⟩ : ∃ M3, M3 = sfi M2 23 l (nI (n - 1)) := ⟨_, rfl⟩
    have q3 : QW (fun a => a = l ∨ a = e ∧ mln M e ≠ 0) 0 0 M2 M3 := by rw [hM3]; exact QW.sfi (Or.inl rfl)
    have q4 : QW (fun a => a = l ∨ a = e ∧ mln M e ≠ 0) 0 0 M3 (sar M3 e (n - 1) none) := QW.sar (Or.inr ⟨rfl, h0⟩)
    refine ⟨sar M3 e (n - 1) none, ?_, ?_, ((q1.tr q2).tr q3).tr q4, ?_⟩
    · have ea : (acR M1 c 111 (some e) (nI (i + 1)) (some e) (nI i) (nI (n - 1 - i)) fun M6 => pI M6 c 5 23 (some l) (nI (n - 1)) fun M7 => stR M7 c 111 ksO (some e) (nI (n - 1)) none fun M8 => rV M8) = some (.inl none, sar M3 e (n - 1) none) := by
        unfold acR
        simp only []
        rw [if_pos ⟨L1.ke, L1.ke, ce1, nI_pos (by omega), nI_pos (by omega), nI_pos (by omega), by rw [nI_clamp (by omega), nI_clamp (by omega), ln1]; omega, by rw [nI_clamp (by omega), nI_clamp (by omega), ln1]; omega, by
          intro j hj
          rw [nI_clamp (by omega)] at hj ⊢
          rw [L1.el _ (by omega)]
          exact o1.ok hk hc (by omega)⟩, nI_clamp (by omega), nI_clamp (by omega), nI_clamp (by omega), ← hM2, pI_ok (show mcl M2 l = 5 by rw [hM2]; exact L1.k) (show mco M2 l = c by rw [hM2]; exact L1.co), ← hM3, stR_ok (show mcl M3 e = 111 by rw [hM3, hM2]; exact L1.ke) (show mco M3 e = c by rw [hM3, hM2]; exact ce1) (show mln M3 e = mln M e by rw [hM3, hM2]; exact ln1) (by omega) (by omega) rfl]
        rfl
      rw [E13_0, gI_ok L.k, ← hv, pI_ok L.k L.co, ← hM1, gI_v L1.k L1.sz, hs, if_neg (fun h => hl ((nI_leN (by omega) (by omega)).mp h)), show aAdd (nI i) 1 = nI (i + 1) from aAdd_n i 1, aSub_n (by omega)]
      exact ea
    · refine L1.mk3 (by rw [hM3, hM2]; rfl) (by rw [hM3, hM2]; rfl) (by rw [hM3, hM2]; rfl) ?_ (by rw [hM3, hM2]; rfl) (by omega) ?_ (by rw [hM3, hM2]; rfl)
      · show mfi M3 23 l = _
        rw [hM3]; exact sfi_at
      · intro j hj
        rw [mar_sar, up2_if, if_neg (fun x => absurd x.2 (by omega))]
        show mar M3 e j = _
        rw [hM3]
        show mar M2 e j = _
        rw [hM2, mar_cpR_s]
        unfold rmX
        by_cases h : j < i
        · rw [if_neg (by omega), if_pos h]
          exact L1.el j (by omega)
        · rw [if_pos (by omega), if_neg h, show i + 1 + (j - i) = j + 1 by omega]
          exact L1.el _ (by omega)
    · show mnx M3 = _
      rw [hM3, hM2]; exact n1
/-- LIST.REMOVE -/
theorem x12 (hc : c ≠ 0) (L : AL G M c l e n xs) {i : Nat} (hi : i < n) {k : Nat} (ho : ElK M c k n xs) (hk : ksO.contains k = true) :
    ∃ M', ex G c 12 0 [(0, vR (some l)), (1, vI (nI i))] [] M = some (.inl (some (vR (some (xs i)))), M') ∧ AL G M' c l e (n - 1) (rmX xs i) ∧ QW (fun a => a = l ∨ a = e ∧ mln M e ≠ 0) 0 0 M M' ∧ mnx M' = mnx M := by
  have hle := L.ls
  have h3 := L.le
  obtain ⟨M', e1, L', q', n'⟩ := x13 hc L hi ho hk
  refine ⟨M', ?_, L', q', n'⟩
  rw [E12_0, gI_v L.k L.sz, cbI_of (c84 hi (by omega)), gR_v L.k L.ed, ldR_v L.ke rfl (by omega) (by omega) (L.el i hi), vc1_ok L.k, cbV_of e1]
  rfl
theorem x15_1 (hc : c ≠ 0) : ∀ (m t : Nat) (M : Mem), t + m = n → mcl M e = 111 → mco M e = c → n ≤ mln M e → mln M e < 1000 → ∃ M', ex G c 15 1 [(1, vR (some e)), (2, vI (nI n)), (3, vI (nI t))] [] M = some (.inl none, M') ∧ QW (fun a => a = e) 0 0 M M' ∧ mnx M' = mnx M
  | 0, t, M, ht, hk, hco, hl, hl2 => by
    refine ⟨M, ?_, QW.rf, rfl⟩
    rw [E15_1, if_neg (nI_nlt (by omega) (by omega))]
    rfl
  | m + 1, t, M, ht, hk, hco, hl, hl2 => by
    obtain ⟨M1, hM1⟩ : ∃ M1, M1 = sar M e t none := ⟨_, rfl⟩
    obtain ⟨M', e1, q1, n1⟩ := x15_1 hc m (t + 1) M1 (by omega) (by rw [hM1]; exact hk) (by rw [hM1]; exact hco) (by rw [hM1]; exact hl) (by rw [hM1]; exact hl2)
    refine ⟨M', ?_, ?_, by rw [n1, hM1]; rfl⟩
    · rw [E15_1, if_pos (nI_lt (by omega) (by omega)), stR_ok hk hco rfl (by omega) (by omega) rfl, ← hM1, show aAdd (nI t) 1 = nI (t + 1) from aAdd_n t 1]
      exact e1
    · exact (show QW (fun a => a = e) 0 0 M M1 by rw [hM1]; exact QW.sar rfl).tr q1
/-- LIST.CLEAR -/
theorem x15 (hc : c ≠ 0) (L : AL G M c l e n xs) : ∃ M', ex G c 15 0 [(0, vR (some l))] [] M = some (.inl none, M') ∧ (∀ ys, AL G M' c l e 0 ys) ∧ QW (fun a => a = l ∨ a = e ∧ mln M e ≠ 0) 0 0 M M' ∧ mnx M' = mnx M := by
  have h1 := L.ll
  have h2 := L.lt
  have hle := L.ls
  have h3 := L.le
  obtain ⟨v, hv⟩ : ∃ v, v = aAdd (mfi M 21 l) 1 := ⟨_, rfl⟩
  obtain ⟨M1, hM1⟩ : ∃ M1, M1 = sfi M 21 l v := ⟨_, rfl⟩
  have L1 : AL G M1 c l e n xs := by rw [hM1]; exact L.sfi_ (by decide)
  have q1 : QW (fun a => a = l ∨ a = e ∧ mln M e ≠ 0) 0 0 M M1 := by rw [hM1]; exact QW.sfi (Or.inl rfl)
  obtain ⟨M2, hM2⟩ : ∃ M2, M2 = sfi M1 23 l (nI 0) := ⟨_, rfl⟩
  have q2 : QW (fun a => a = l ∨ a = e ∧ mln M e ≠ 0) 0 0 M1 M2 := by rw [hM2]; exact QW.sfi (Or.inl rfl)
  have L2 : ∀ ys, AL G M2 c l e 0 ys := fun ys => L1.mk3 (by rw [hM2]; rfl) (by rw [hM2]; rfl) (by rw [hM2]; rfl) (by rw [hM2]; exact sfi_at) (by rw [hM2]; rfl) (Nat.zero_le _) (fun i hi => absurd hi (by omega)) (by rw [hM2]; rfl)
  have L2' := L2 xs
  have n2 : mnx M2 = mnx M := by rw [hM2, hM1]; rfl
  have l2 : mln M2 e = mln M e := by rw [hM2, hM1]; rfl
  by_cases h0 : mln M e = 0
  · have hn : n = 0 := by omega
    refine ⟨M2, ?_, L2, q1.tr q2, n2⟩
    rw [E15_0, gI_ok L.k, ← hv, pI_ok L.k L.co, ← hM1, gR_v L1.k L1.ed, gI_v L1.k L1.sz, show (0 : Int32) = nI 0 from rfl, pI_ok L1.k L1.co, ← hM2, E15_1, hn, if_neg (by decide)]
    rfl
  · have ce : mco M2 e = c := L2'.ce.elim (fun h => absurd h (by omega)) (fun h => h)
    obtain ⟨M3, e3, q3, n3⟩ := x15_1 (G := G) (n := n) hc n 0 M2 (by omega) L2'.ke ce (by omega) (by omega)
    have q3' := q3.mono (P' := fun a => a = l ∨ a = e ∧ mln M e ≠ 0) (fun _ h => Or.inr ⟨h, h0⟩) (Nat.le_refl _) (Nat.le_refl _)
    refine ⟨M3, ?_, ?_, (q1.tr q2).tr q3', n3.trans n2⟩
    · rw [E15_0, gI_ok L.k, ← hv, pI_ok L.k L.co, ← hM1, gR_v L1.k L1.ed, gI_v L1.k L1.sz, show (0 : Int32) = nI 0 from rfl, pI_ok L1.k L1.co, ← hM2]
      exact e3
    · intro ys
      have L3 : ∀ h : l ≠ e, AL G M3 c l e 0 ys := fun h => by
        have a1 := L2'.ll
        have a2 := L2'.lt
        exact ⟨(q3.cl l a1).trans L2'.k, (q3.co l a1).trans L2'.co, (q3.fi 23 l a1 h rfl).trans L2'.sz, (q3.fr 22 l a1 h rfl).trans L2'.ed, (q3.cl e a2).trans L2'.ke, by rw [q3.ln e a2, q3.co e a2]; exact L2'.ce, by rw [q3.ln e a2]; exact L2'.e0, Nat.zero_le _, by rw [q3.ln e a2]; exact L2'.ls, fun i hi => absurd hi (by omega), by rw [n3]; exact a1, by rw [n3]; exact a2⟩
      exact L3 (fun h => by
        have a := L.k
        rw [h, L.ke] at a
        exact absurd a (by decide))
theorem x16_2 (hc : c ≠ 0) (L : AL G M c l e n xs) (hn : n < mln M e) {i : Nat} (hi : i ≤ n) {k x : Nat} (ho : ElK M c k n xs) (hk : ksO.contains k = true) (kx : mcl M x = k) (cx : mco M x = c) :
    ∃ M', ex G c 16 2 [(0, vR (some l)), (1, vI (nI i)), (2, vR (some x)), (3, vI (nI n)), (4, vR (some e))] [] M = some (.inl none, M') ∧ AL G M' c l e (n + 1) (inX xs i x) ∧ QW (fun a => a = l ∨ a = e ∧ mln M e ≠ 0) 0 0 M M' ∧ mnx M' = mnx M := by
  have hle := L.ls
  have h0 : mln M e ≠ 0 := by omega
  have ce : mco M e = c := L.ce.elim (fun h => absurd h h0) (fun h => h)
  obtain ⟨M2, hM2⟩ : ∃ M2, M2 = cpR M e i e (i + 1) (n - i) := ⟨_, rfl⟩
  have q2 : QW (fun a => a = l ∨ a = e ∧ mln M e ≠ 0) 0 0 M M2 := by rw [hM2]; exact QW.cpR (Or.inr ⟨rfl, h0⟩)
  obtain ⟨M3, hM3⟩ : ∃ M3, M3 = sar M2 e i (some x) := ⟨_, rfl⟩
  have q3 : QW (fun a => a = l ∨ a = e ∧ mln M e ≠ 0) 0 0 M2 M3 := by rw [hM3]; exact QW.sar (Or.inr ⟨rfl, h0⟩)
  have q4 : QW (fun a => a = l ∨ a = e ∧ mln M e ≠ 0) 0 0 M3 (sfi M3 23 l (nI (n + 1))) := QW.sfi (Or.inl rfl)
  have okx : okK M2 ksO (some x) = true := okK_of (show mcl M2 x = k by rw [hM2]; exact kx) (show mco M2 x = c by rw [hM2]; exact cx) hk hc
  refine ⟨sfi M3 23 l (nI (n + 1)), ?_, ?_, (q2.tr q3).tr q4, ?_⟩
  · rw [E16_2, show aAdd (nI i) 1 = nI (i + 1) from aAdd_n i 1, aSub_n hi, show aAdd (nI n) 1 = nI (n + 1) from aAdd_n n 1]
    unfold acR
    simp only []
    rw [if_pos ⟨L.ke, L.ke, ce, nI_pos (by omega), nI_pos (by omega), nI_pos (by omega), by rw [nI_clamp (by omega), nI_clamp (by omega)]; omega, by rw [nI_clamp (by omega), nI_clamp (by omega)]; omega, by
      intro j hj
      rw [nI_clamp (by omega)] at hj ⊢
      rw [L.el _ (by omega)]
      exact ho.ok hk hc (by omega)⟩, nI_clamp (by omega), nI_clamp (by omega), nI_clamp (by omega), ← hM2, show ([22, 27, 28, 31, 33, 34, 35, 26, 32, 100, 38, 40] : List Nat) = ksO from rfl, stR_ok (show mcl M2 e = 111 by rw [hM2]; exact L.ke) (show mco M2 e = c by rw [hM2]; exact ce) (show mln M2 e = mln M e by rw [hM2]; rfl) (by omega) (by omega) okx, ← hM3, pI_ok (show mcl M3 l = 5 by rw [hM3, hM2]; exact L.k) (show mco M3 l = c by rw [hM3, hM2]; exact L.co)]
    rfl
  · refine L.mk3 (by show mcl M3 = _; rw [hM3, hM2]; rfl) (by show mco M3 = _; rw [hM3, hM2]; rfl) (by show mln M3 = _; rw [hM3, hM2]; rfl) sfi_at (by show mfr M3 22 l = _; rw [hM3, hM2]; rfl) (by omega) ?_ (by show mnx M3 = _; rw [hM3, hM2]; rfl)
    intro j hj
    show mar M3 e j = _
    rw [hM3, mar_sar, up2_if]
    unfold inX
    by_cases h : j = i
    · rw [if_pos ⟨rfl, h⟩, if_neg (by omega), if_pos h]
    · rw [if_neg (fun x => h x.2), hM2, mar_cpR_s]
      by_cases h4 : j < i
      · rw [if_neg (by omega), if_pos h4]
        exact L.el j (by omega)
      · rw [if_pos (by omega), if_neg h4, if_neg h, show i + (j - (i + 1)) = j - 1 by omega]
        exact L.el _ (by omega)
  · show mnx M3 = _
    rw [hM3, hM2]; rfl
/-- LIST.ADD at a place -/
theorem x16 (hc : c ≠ 0) (L : AL G M c l e n xs) (h12 : n ≤ 12) {i : Nat} (hi : i ≤ n) {k x : Nat} (ho : ElK M c k n xs) (hk : ksO.contains k = true) (kx : mcl M x = k) (cx : mco M x = c) (lx : x < mnx M) :
    ∃ M' e', ex G c 16 0 [(0, vR (some l)), (1, vI (nI i)), (2, vR (some x))] [] M = some (.inl none, M') ∧ AL G M' c l e' (n + 1) (inX xs i x) ∧ QW (fun a => a = l ∨ a = e ∧ mln M e ≠ 0) 1 20 M M' ∧ (e' = e ∧ mln M e ≠ 0 ∨ mnx M ≤ e') := by
  have h1 := L.ll
  have h2 := L.lt
  have hle := L.ls
  have h3 := L.le
  obtain ⟨v, hv⟩ : ∃ v, v = aAdd (mfi M 21 l) 1 := ⟨_, rfl⟩
  obtain ⟨M1, hM1⟩ : ∃ M1, M1 = sfi M 21 l v := ⟨_, rfl⟩
  have L1 : AL G M1 c l e n xs := by rw [hM1]; exact L.sfi_ (by decide)
  have q1 : QW (fun a => a = l) 0 0 M M1 := by rw [hM1]; exact QW.sfi rfl
  have o1 := ho.fw q1
  have kx1 : mcl M1 x = k := (q1.cl x lx).trans kx
  have cx1 : mco M1 x = c := (q1.co x lx).trans cx
  have n1 : mnx M1 = mnx M := by rw [hM1]; rfl
  have ln1 : mln M1 e = mln M e := q1.ln e h2
  have e17 : ex G c 17 0 [(0, vR (some l)), (1, vI (nI i))] [] M = some (.inl none, M) := by
    rw [E17_0, gI_v L.k L.sz, if_pos ((nI_leN (by omega) (by omega)).mpr hi), if_neg (nI_pos (by omega))]
    rfl
  by_cases hf : n = mln M e
  · obtain ⟨M2, e2, L2, b2, q2, x2⟩ := x11 hc L1 (by rw [ln1]; exact hf) h12 o1 hk
    have e10 : ex G c 10 0 [(0, vR (some l))] [] M1 = some (.inl (some (vR (some (mnx M1)))), M2) := by
      rw [E10_0, gI_v L1.k L1.sz, vc1_ok L1.k, show aAdd (nI n) 1 = nI (n + 1) from aAdd_n n 1, cbR_of e2]
      rfl
    obtain ⟨M3, e3, L3, q3, x3⟩ := x16_2 hc L2 b2 hi (o1.fw q2) hk ((q2.cl x (by omega)).trans kx1) ((q2.co x (by omega)).trans cx1)
    refine ⟨M3, mnx M1, ?_, L3, ?_, Or.inr (by omega)⟩
    · rw [E16_0, vc1_ok L.k, cbV_of e17, gI_ok L.k, ← hv, pI_ok L.k L.co, ← hM1, gI_v L1.k L1.sz, gR_v L1.k L1.ed, alen_ok L1.ke rfl, ln1, if_pos (by rw [hf]), vc1_ok L1.k, cbR_of e10]
      exact e3
    · have q12 := q1.tr q2
      exact ((q12.mono (P' := fun a => (a = l ∨ a = e ∧ mln M e ≠ 0) ∨ mnx M1 ≤ a) (fun _ h => Or.inl (Or.inl h)) (Nat.le_refl _) (Nat.le_refl _)).tr (q3.mono (P' := fun a => (a = l ∨ a = e ∧ mln M e ≠ 0) ∨ mnx M1 ≤ a) (fun _ h => h.elim (fun h => Or.inl (Or.inl h)) (fun h => Or.inr (by omega))) (Nat.le_refl _) (Nat.le_refl _))).mono (fun _ h => h) (by decide) (by decide) |>.drop (by omega)
  · have h0 : mln M e ≠ 0 := by omega
    obtain ⟨M3, e3, L3, q3, x3⟩ := x16_2 hc L1 (by omega) hi o1 hk kx1 cx1
    refine ⟨M3, e, ?_, L3, ?_, Or.inl ⟨rfl, h0⟩⟩
    · rw [E16_0, vc1_ok L.k, cbV_of e17, gI_ok L.k, ← hv, pI_ok L.k L.co, ← hM1, gI_v L1.k L1.sz, gR_v L1.k L1.ed, alen_ok L1.ke rfl, ln1, if_neg (fun h => hf ((nI_eqI (by omega) (by omega)).mp h))]
      exact e3
    · rw [ln1] at q3
      exact ((q1.mono (fun _ h => Or.inl h) (Nat.le_refl _) (Nat.le_refl _)).tr q3).mono (fun _ h => h) (by decide) (by decide)
/-- LIST.REMOVE of an object -/
theorem x14_5 (hc : c ≠ 0) (L : AL G M c l e n xs) {i : Nat} (hi : i < n) (ho : ElK M c 31 n xs) (hx : ∀ j, j < i → xs j ≠ xs i) :
    ∀ (m t : Nat), t + m = i → ∃ M', ex G c 14 5 [(0, vR (some l)), (1, vR (some (xs i))), (2, vR (some e)), (3, vI (nI n)), (4, vI (nI t))] [] M = some (.inl (some (vI 1)), M') ∧ AL G M' c l e (n - 1) (rmX xs i) ∧ QW (fun a => a = l ∨ a = e ∧ mln M e ≠ 0) 0 0 M M' ∧ mnx M' = mnx M
  | 0, t, ht => by
    have hle := L.ls
    have h3 := L.le
    have e : t = i := by omega
    subst e
    obtain ⟨M', e1, L', q', n'⟩ := x13 hc L hi ho (by decide)
    refine ⟨M', ?_, L', q', n'⟩
    rw [E14_5, if_pos (nI_lt hi (by omega)), ldR_v L.ke rfl (by omega) (by omega) (L.el t hi), vc1_ok (ho t hi).2.1, E116_0, if_pos rfl, rZ_1]
    first | refine Eq.trans ((cbI_of rfl)) ?_ | refine Rt.eq ((cbI_of rfl)) ?_ | refine Th.eq ((cbI_of rfl)) ?_
    rw [if_neg (by decide), vc1_ok L.k, cbV_of e1, rZ_1]
    rfl
  | m + 1, t, ht => by
    have hle := L.ls
    have h3 := L.le
    obtain ⟨M', e1, r1⟩ := x14_5 hc L hi ho hx m (t + 1) (by omega)
    refine ⟨M', ?_, r1⟩
    rw [E14_5, if_pos (nI_lt (by omega) (by omega)), ldR_v L.ke rfl (show t < mln M e by omega) (by omega) (L.el t (by omega)), vc1_ok (ho i hi).2.1, E116_0, if_neg (fun h => hx t (by omega) (Option.some.inj h).symm), rZ_0]
    first | refine Eq.trans ((cbI_of rfl)) ?_ | refine Rt.eq ((cbI_of rfl)) ?_ | refine Th.eq ((cbI_of rfl)) ?_
    rw [if_pos rfl, show aAdd (nI t) 1 = nI (t + 1) from aAdd_n t 1]
    exact e1
theorem x14 (hc : c ≠ 0) (L : AL G M c l e n xs) {i : Nat} (hi : i < n) (ho : ElK M c 31 n xs) (hx : ∀ j, j < i → xs j ≠ xs i) :
    ∃ M', ex G c 14 0 [(0, vR (some l)), (1, vR (some (xs i)))] [] M = some (.inl (some (vI 1)), M') ∧ AL G M' c l e (n - 1) (rmX xs i) ∧ QW (fun a => a = l ∨ a = e ∧ mln M e ≠ 0) 0 0 M M' ∧ mnx M' = mnx M := by
  obtain ⟨M', e1, r1⟩ := x14_5 hc L hi ho hx i 0 (by omega)
  refine ⟨M', ?_, r1⟩
  rw [E14_0, gR_v L.k L.ed, gI_v L.k L.sz, if_neg (by simp)]
  exact e1
end ALR
