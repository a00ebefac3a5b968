set_option maxRecDepth 4000
/-! ===== lists: add, grow ===== -/
/-- what was made anew need not be named -/
theorem QW.drop {P : Nat → Prop} {N n s : Nat} {M M' : Mem} (h : mnx M ≤ N) (q : QW (fun a => P a ∨ N ≤ a) n s M M') : QW P n s M M' :=
  ⟨q.nx, q.sl, q.cl, q.co, q.ln, fun f a ha hp hf => q.fi f a ha (fun x => x.elim hp (fun y => by omega)) hf, fun f a ha hp hf => q.fr f a ha (fun x => x.elim hp (fun y => by omega)) hf, fun f a ha hp hf => q.fd f a ha (fun x => x.elim hp (fun y => by omega)) hf, fun a i ha hp => q.ai a i ha (fun x => x.elim hp (fun y => by omega)), fun a i ha hp => q.ar a i ha (fun x => x.elim hp (fun y => by omega))⟩
theorem QW.cpR {P : Nat → Prop} {M : Mem} {a p b k n : Nat} (h : P b) : QW P 0 0 M (cpR M a p b k n) :=
  ⟨⟨Nat.le_refl _, Nat.le_refl _⟩, ⟨Nat.le_refl _, Nat.le_refl _⟩, fun _ _ => rfl, fun _ _ => rfl, fun _ _ => rfl, fun _ _ _ _ _ => rfl, fun _ _ _ _ _ => rfl, fun _ _ _ _ _ => rfl, fun _ _ _ _ => rfl, fun a' i' _ hp => by
    show cpy2 (mar M) a p b k n a' i' = mar M a' i'
    unfold cpy2
    rw [if_neg (fun x => hp (by rw [x.1]; exact h))]⟩
theorem QW.cpI {P : Nat → Prop} {M : Mem} {a p b k n : Nat} (h : P b) : QW P 0 0 M (cpI M a p b k n) :=
  ⟨⟨Nat.le_refl _, Nat.le_refl _⟩, ⟨Nat.le_refl _, Nat.le_refl _⟩, fun _ _ => rfl, fun _ _ => rfl, fun _ _ => rfl, fun _ _ _ _ _ => rfl, fun _ _ _ _ _ => rfl, fun _ _ _ _ _ => rfl, fun a' i' _ hp => by
    show cpy2 (mai M) a p b k n a' i' = mai M a' i'
    unfold cpy2
    rw [if_neg (fun x => hp (by rw [x.1]; exact h))], fun _ _ _ _ => rfl⟩
theorem mar_cpR {M : Mem} {a p b k n j : Nat} : mar (cpR M a p b k n) b j = if k ≤ j ∧ j < k + n then mar M a (p + (j - k)) else mar M b j := by
  show cpy2 (mar M) a p b k n b j = _
  unfold cpy2
  by_cases h : k ≤ j ∧ j < k + n
  · rw [if_pos ⟨rfl, h⟩, if_pos h]
  · rw [if_neg (fun x => h x.2), if_neg h]
theorem mai_cpI {M : Mem} {a p b k n j : Nat} : mai (cpI M a p b k n) b j = if k ≤ j ∧ j < k + n then mai M a (p + (j - k)) else mai M b j := by
  show cpy2 (mai M) a p b k n b j = _
  unfold cpy2
  by_cases h : k ≤ j ∧ j < k + n
  · rw [if_pos ⟨rfl, h⟩, if_pos h]
  · rw [if_neg (fun x => h x.2), if_neg h]
theorem okK_of {M : Mem} {a k cc : Nat} {ks : List Nat} (h : mcl M a = k) (h2 : mco M a = cc) (h1 : ks.contains k = true) (h3 : cc ≠ 0) : okK M ks (some a) = true := by
  unfold okK
  subst h
  subst h2
  have e : Nat.beq (mco M a) 0 = false := by
    cases hb : Nat.beq (mco M a) 0
    · rfl
    · exact absurd (Nat.eq_of_beq_eq_true hb) h3
  simp only [h1, e, Bool.not_false, Bool.or_true, Bool.and_true]
/-- what a list holds: objects of one kind -/
def ElK (M : Mem) (c k n : Nat) (xs : Nat → Nat) : Prop := ∀ i, i < n → xs i < mnx M ∧ mcl M (xs i) = k ∧ mco M (xs i) = c
theorem ElK.fw {P : Nat → Prop} {nn ss c k n : Nat} {xs : Nat → Nat} {M M' : Mem} (h : ElK M c k n xs) (q : QW P nn ss M M') : ElK M' c k n xs := fun i hi => by
  obtain ⟨a, b, d⟩ := h i hi
  exact ⟨Nat.lt_of_lt_of_le a q.nx.1, (q.cl _ a).trans b, (q.co _ a).trans d⟩
theorem ElK.ok {c k n : Nat} {xs : Nat → Nat} {M : Mem} (h : ElK M c k n xs) (hk : ksO.contains k = true) (hc : c ≠ 0) {i : Nat} (hi : i < n) : okK M ksO (some (xs i)) = true := okK_of (h i hi).2.1 (h i hi).2.2 hk hc
section ALW
variable {G : Nat → Option Nat} {c l e n : Nat} {xs : Nat → Nat} {M M' : Mem}
theorem AL.fw {P : Nat → Prop} {nn ss : Nat} (L : AL G M c l e n xs) (q : QW P nn ss M M') (hl : ¬ P l) (he : mln M e ≠ 0 → ¬ P e) : AL G M' c l e n xs := by
  have h1 := L.ll
  have h2 := L.lt
  have h3 := L.le
  refine ⟨?_, ?_, ?_, ?_, ?_, ?_, ?_, ?_, ?_, ?_, ?_, ?_⟩
  · rw [q.cl l h1]; exact L.k
  · rw [q.co l h1]; exact L.co
  · rw [q.fi 23 l h1 hl rfl]; exact L.sz
  · rw [q.fr 22 l h1 hl rfl]; exact L.ed
  · rw [q.cl e h2]; exact L.ke
  · rw [q.ln e h2, q.co e h2]; exact L.ce
  · rw [q.ln e h2]; exact L.e0
  · rw [q.ln e h2]; exact L.le
  · rw [q.ln e h2]; exact L.ls
  · intro i hi; rw [q.ar e i h2 (he (by omega))]; exact L.el i hi
  · exact Nat.lt_of_lt_of_le h1 q.nx.1
  · exact Nat.lt_of_lt_of_le h2 q.nx.1
/-- the first m of a list; another naming of its elements -/
theorem AL.cg {ys : Nat → Nat} (L : AL G M c l e n xs) (h : ∀ i, i < n → ys i = xs i) : AL G M c l e n ys :=
  ⟨L.k, L.co, L.sz, L.ed, L.ke, L.ce, L.e0, L.le, L.ls, fun i hi => by rw [h i hi]; exact L.el i hi, L.ll, L.lt⟩
theorem x65 {len g : Nat} (h : len ≤ 100000) (hg : g ≤ 100000) : ex G c 65 0 [(0, vI (nI len)), (1, vI (nI 1)), (2, vI (nI g))] [] M = some (.inl (some (vI (nI (len + max 1 g)))), M) := by
  rw [E65_0, cbI_of (x74 (by decide) (by omega)), aAdd_n, nmI_ok, if_pos (show (0 : Int32) < nI (len + max 1 g) from nI_lt (a := 0) (by omega) (by omega)), if_pos (show nI (len + max 1 g) ≤ 2147483639 from nI_le (a := len + max 1 g) (b := 2147483639) (by omega) (by decide))]
  rfl
/-- a list's backing array grows -/
theorem x11 (hc : c ≠ 0) (L : AL G M c l e n xs) (hn : n = mln M e) (h12 : n ≤ 12) {k : Nat} (ho : ElK M c k n xs) (hk : ksO.contains k = true) :
    ∃ M', ex G c 11 0 [(0, vR (some l)), (1, vI (nI (n + 1)))] [] M = some (.inl (some (vR (some (mnx M)))), M') ∧ AL G M' c l (mnx M) n xs ∧ n < mln M' (mnx M) ∧ QW (fun a => a = l) 1 20 M M' ∧ mnx M' = mnx M + 1 := by
  have h1 := L.ll
  have h2 := L.lt
  have hle := L.ls
  by_cases h0 : mln M e = 0
  · have n0 : n = 0 := by omega
    obtain ⟨M1, hM1⟩ : ∃ M1, M1 = marr M c 111 10 := ⟨_, rfl⟩
    have q0 : QW (fun a => mnx M ≤ a) 1 10 M M1 := by rw [hM1]; exact (qc_marr (M := M) (c := c) (k := 111) (n := 10)).qw0
    have q1 := q0.mono (P' := fun a => a = l ∨ mnx M ≤ a) (fun _ h => Or.inr h) (Nat.le_refl _) (Nat.le_refl _)
    have kl : mcl M1 l = 5 := (q1.cl l h1).trans L.k
    have cl : mco M1 l = c := (q1.co l h1).trans L.co
    have ka : mcl M1 (mnx M) = 111 := by rw [hM1, mcl_marr, up1_at9]
    have ca : mco M1 (mnx M) = c := by rw [hM1, mco_marr, up1_at9]
    have la : mln M1 (mnx M) = 10 := by rw [hM1, mln_marr, up1_at9]
    have xa : mnx M1 = mnx M + 1 := by rw [hM1, mnx_marr]
    refine ⟨sfr M1 22 l (some (mnx M)), ?_, ⟨kl, cl, ?_, sfr_at, ka, Or.inr ca, ?_, ?_, ?_, ?_, ?_, ?_⟩, ?_, ?_, ?_⟩
    · rw [E11_0, gR_v L.k L.ed, alen_ok L.ke rfl, h0, if_pos (by decide), gR_v L.k L.ed, if_pos (L.e0 h0).symm, n0, show (10 : Int32) = nI 10 from rfl, cbI_of (x74 (by decide) (by decide)), show max 10 (0 + 1) = 10 from rfl, mka_ok (by decide), ← hM1, pR_ok kl cl]
      rfl
    · show mfi M1 23 l = nI n
      rw [q0.fi 23 l h1 (by omega) rfl]; exact L.sz
    · intro h
      exact absurd (show mln M1 (mnx M) = 0 from h) (by omega)
    · show n ≤ mln M1 (mnx M)
      omega
    · show mln M1 (mnx M) < 1000
      omega
    · intro i hi; omega
    · show l < mnx M1
      omega
    · show mnx M < mnx M1
      omega
    · show n < mln M1 (mnx M)
      omega
    · exact ((q1.tr (QW.sfr (Or.inl rfl))).mono (fun _ h => h) (by decide) (by decide)).drop (Nat.le_refl _)
    · show mnx M1 = _
      exact xa
  · have ce : mco M e = c := L.ce.elim (fun h => absurd h h0) (fun h => h)
    obtain ⟨N, hN⟩ : ∃ N, N = n + max 1 (n >>> 1) := ⟨_, rfl⟩
    have hd : n >>> 1 ≤ n := Nat.shiftRight_le n 1
    have hN1 : n < N := by omega
    have hN2 : N ≤ n + n ∨ N ≤ n + 1 := by omega
    obtain ⟨M1, hM1⟩ : ∃ M1, M1 = marr M c 111 N := ⟨_, rfl⟩
    have q0 : QW (fun a => mnx M ≤ a) 1 N M M1 := by rw [hM1]; exact (qc_marr (M := M) (c := c) (k := 111) (n := N)).qw0
    have ka : mcl M1 (mnx M) = 111 := by rw [hM1, mcl_marr, up1_at9]
    have ca : mco M1 (mnx M) = c := by rw [hM1, mco_marr, up1_at9]
    have la : mln M1 (mnx M) = N := by rw [hM1, mln_marr, up1_at9]
    have xa : mnx M1 = mnx M + 1 := by rw [hM1, mnx_marr]
    have ke1 : mcl M1 e = 111 := (q0.cl e h2).trans L.ke
    have le1 : mln M1 e = n := (q0.ln e h2).trans hn.symm
    have el1 : ∀ i, i < n → mar M1 e i = some (xs i) := fun i hi => (q0.ar e i h2 (by omega)).trans (L.el i hi)
    have ok1 : ∀ i, i < n → okK M1 ksO (mar M1 e i) = true := by
      intro i hi
      rw [el1 i hi]
      exact (ho.fw q0).ok hk hc hi
    obtain ⟨M2, hM2⟩ : ∃ M2, M2 = cpR M1 e 0 (mnx M) 0 n := ⟨_, rfl⟩
    have q2 : QW (fun a => mnx M ≤ a) 1 N M M2 := by rw [hM2]; exact (q0.tr (QW.cpR (Nat.le_refl _))).mono (fun _ h => h) (by omega) (by omega)
    have kl : mcl M2 l = 5 := (q2.cl l h1).trans L.k
    have cl : mco M2 l = c := (q2.co l h1).trans L.co
    have kn : mcl M2 (mnx M) = 111 := by rw [hM2]; exact ka
    have cn : mco M2 (mnx M) = c := by rw [hM2]; exact ca
    have ln : mln M2 (mnx M) = N := by rw [hM2]; exact la
    have xn : mnx M2 = mnx M + 1 := by rw [hM2]; exact xa
    have e75 : ex G c 75 0 [(0, vR (some e)), (1, vI (nI N))] [] M = some (.inl (some (vR (some (mnx M)))), M2) := by
      have e76 : ex G c 76 0 [(0, vR (some e)), (1, vI (nI N)), (2, vR (G 7))] [] M = some (.inl (some (vR (some (mnx M)))), M2) := by
        rw [E76_0, if_pos rfl, mka_ok (by omega), ← hM1, alen_ok ke1 le1, cbI_of (x67 (by omega) (by omega)), show min n N = n by omega]
        unfold acR
        simp only []
        rw [if_pos ⟨ke1, ka, ca, by decide, by decide, nI_pos (by omega), by rw [nI_clamp (by omega), le1, show (0 : Int32).toNatClampNeg = 0 from rfl]; omega, by rw [nI_clamp (by omega), la, show (0 : Int32).toNatClampNeg = 0 from rfl]; omega, by
          intro i hi
          rw [nI_clamp (by omega)] at hi
          rw [show (0 : Int32).toNatClampNeg + i = i from Nat.zero_add i]
          exact ok1 i hi⟩, nI_clamp (by omega), show (0 : Int32).toNatClampNeg = 0 from rfl, ← hM2]
        rfl
      rw [E75_0, vc2_ok L.ke ce, cbR_of e76]
      rfl
    refine ⟨sfr M2 22 l (some (mnx M)), ?_, ⟨kl, cl, ?_, sfr_at, kn, Or.inr cn, ?_, ?_, ?_, ?_, ?_, ?_⟩, ?_, ?_, ?_⟩
    · rw [E11_0, gR_v L.k L.ed, alen_ok L.ke rfl, ← hn, if_neg (nI_nle_L 0 0 rfl (by omega) (by omega)), E11_2, aSub_n (by omega), show n + 1 - n = 1 by omega, show aShr (nI n) 1 = nI (n >>> 1) from aShr_n (w := 1) (by omega) (by decide), cbI_of (x65 (by omega) (by omega)), ← hN, gR_v L.k L.ed, cbR_of e75, pR_ok kl cl]
      rfl
    · show mfi M2 23 l = nI n
      rw [q2.fi 23 l h1 (by omega) rfl]; exact L.sz
    · intro h
      exact absurd (show mln M2 (mnx M) = 0 from h) (by omega)
    · show n ≤ mln M2 (mnx M)
      omega
    · show mln M2 (mnx M) < 1000
      omega
    · intro i hi
      show mar M2 (mnx M) i = _
      rw [hM2, mar_cpR, if_pos (by omega), show 0 + (i - 0) = i by omega]
      exact el1 i hi
    · show l < mnx M2
      omega
    · show mnx M < mnx M2
      omega
    · show n < mln M2 (mnx M)
      omega
    · exact (((q2.mono (P' := fun a => a = l ∨ mnx M ≤ a) (fun _ h => Or.inr h) (Nat.le_refl _) (Nat.le_refl _)).tr (QW.sfr (Or.inl rfl))).mono (fun _ h => h) (by decide) (by omega)).drop (Nat.le_refl _)
    · show mnx M2 = _
      exact xn
/-- LIST.ADD -/
theorem x8 (hc : c ≠ 0) (L : AL G M c l e n xs) (h12 : n ≤ 12) {k x : Nat} (ho : ElK M c k n xs) (hk : ksO.contains k = true) (kx : mcl M x = k) (cx : mco M x = c) (lx : x < mnx M) :
    ∃ M' e', ex G c 8 0 [(0, vR (some l)), (1, vR (some x))] [] M = some (.inl (some (vI 1)), M') ∧ AL G M' c l e' (n + 1) (fun i => if i = n then x else xs i) ∧ QW (fun a => a = l ∨ a = e ∧ mln M e ≠ 0) 1 20 M M' ∧ (e' = e ∧ mln M e ≠ 0 ∨ mnx M ≤ e') := by
  have h1 := L.ll
  have h2 := L.lt
  have hle := L.ls
  have h3 := L.le
  obtain ⟨v, hv⟩ : ∃ v, v = aAdd (mfi M 21 l) 1 := ⟨_, rfl⟩
  obtain ⟨M1, hM1⟩ : ∃ M1, M1 = sfi M 21 l v := ⟨_, rfl⟩
  have L1 : AL G M1 c l e n xs := by rw [hM1]; exact L.sfi_ (by decide)
  have q1 : QW (fun a => a = l) 0 0 M M1 := by rw [hM1]; exact QW.sfi rfl
  have o1 := ho.fw q1
  have kx1 : mcl M1 x = k := (q1.cl x lx).trans kx
  have cx1 : mco M1 x = c := (q1.co x lx).trans cx
  have n1 : mnx M1 = mnx M := by rw [hM1]; rfl
  have ln1 : mln M1 e = mln M e := q1.ln e h2
  suffices h : ∃ M' e', ex G c 9 0 [(0, vR (some l)), (1, vR (some x)), (2, vR (some e)), (3, vI (nI n))] [] M1 = some (.inl none, M') ∧ AL G M' c l e' (n + 1) (fun i => if i = n then x else xs i) ∧ QW (fun a => a = l ∨ a = e ∧ mln M e ≠ 0) 1 20 M1 M' ∧ (e' = e ∧ mln M e ≠ 0 ∨ mnx M ≤ e') by
    obtain ⟨M', e', e9, L', q', d⟩ := h
    refine ⟨M', e', ?_, L', ((q1.mono (fun _ h => Or.inl h) (Nat.le_refl _) (Nat.le_refl _)).tr q').mono (fun _ h => h) (by decide) (by decide), d⟩
    rw [E8_0, gI_ok L.k, ← hv, pI_ok L.k L.co, ← hM1, gR_v L1.k L1.ed, gI_v L1.k L1.sz, vc1_ok L1.k, cbV_of e9, rZ_1]
    rfl
  by_cases hf : n = mln M e
  · obtain ⟨M2, e2, L2, b2, q2, x2⟩ := x11 hc L1 (by rw [ln1]; exact hf) h12 o1 hk
    have ok2 : okK M2 ksO (some x) = true := okK_of ((q2.cl x (by omega)).trans kx1) ((q2.co x (by omega)).trans cx1) hk hc
    have ln2 := L2.ls
    have e10 : ex G c 10 0 [(0, vR (some l))] [] M1 = some (.inl (some (vR (some (mnx M1)))), M2) := by
      rw [E10_0, gI_v L1.k L1.sz, vc1_ok L1.k, show aAdd (nI n) 1 = nI (n + 1) from aAdd_n n 1, cbR_of e2]
      rfl
    obtain ⟨M3, hM3⟩ : ∃ M3, M3 = sar M2 (mnx M1) n (some x) := ⟨_, rfl⟩
    have cm2 : mco M2 (mnx M1) = c := L2.ce.elim (fun h => absurd h (by omega)) (fun h => h)
    refine ⟨sfi M3 23 l (nI (n + 1)), mnx M1, ?_, ⟨?_, ?_, sfi_at, ?_, ?_, Or.inr ?_, ?_, ?_, ?_, ?_, ?_, ?_⟩, ?_, Or.inr (by omega)⟩
    · rw [E9_0, alen_ok L1.ke rfl, ln1, if_pos (by rw [hf]), vc1_ok L1.k, cbR_of e10, show ([22, 27, 28, 31, 33, 34, 35, 26, 32, 100, 38, 40] : List Nat) = ksO from rfl, stR_ok L2.ke cm2 rfl b2 (by omega) ok2, ← hM3, pI_ok (show mcl M3 l = 5 by rw [hM3]; exact L2.k) (show mco M3 l = c by rw [hM3]; exact L2.co), show aAdd (nI n) 1 = nI (n + 1) from aAdd_n n 1]
      rfl
    · show mcl M3 l = 5
      rw [hM3]; exact L2.k
    · show mco M3 l = c
      rw [hM3]; exact L2.co
    · show mfr M3 22 l = _
      rw [hM3]; exact L2.ed
    · show mcl M3 _ = 111
      rw [hM3]; exact L2.ke
    · show mco M3 _ = c
      rw [hM3]; exact cm2
    · intro h
      exact absurd (show mln M2 (mnx M1) = 0 by rw [← h, hM3]; rfl) (by omega)
    · show n + 1 ≤ mln M3 _
      rw [hM3]; exact b2
    · show mln M3 _ < 1000
      rw [hM3]; exact ln2
    · intro i hi
      show mar M3 _ i = some (if i = n then x else xs i)
      rw [hM3, mar_sar, up2_if]
      by_cases h : i = n
      · rw [if_pos ⟨rfl, h⟩, if_pos h]
      · rw [if_neg (fun x => h x.2), if_neg h]; exact L2.el i (by omega)
    · show l < mnx M3
      rw [hM3]; exact L2.ll
    · show mnx M1 < mnx M3
      rw [hM3]; exact L2.lt
    · have q3 : QW (fun a => (a = l ∨ a = e ∧ mln M e ≠ 0) ∨ mnx M1 ≤ a) 0 0 M2 M3 := by rw [hM3]; exact QW.sar (Or.inr (Nat.le_refl _))
      have q4 : QW (fun a => (a = l ∨ a = e ∧ mln M e ≠ 0) ∨ mnx M1 ≤ a) 0 0 M3 (sfi M3 23 l (nI (n + 1))) := QW.sfi (Or.inl (Or.inl rfl))
      exact ((((q2.mono (P' := fun a => (a = l ∨ a = e ∧ mln M e ≠ 0) ∨ mnx M1 ≤ a) (fun _ h => Or.inl (Or.inl h)) (Nat.le_refl _) (Nat.le_refl _)).tr q3).tr q4).mono (fun _ h => h) (by decide) (by decide)).drop (Nat.le_refl _)
  · have h0 : mln M e ≠ 0 := by omega
    have ce : mco M1 e = c := L1.ce.elim (fun h => absurd h (by omega)) (fun h => h)
    have ok1 : okK M1 ksO (some x) = true := okK_of kx1 cx1 hk hc
    obtain ⟨M3, hM3⟩ : ∃ M3, M3 = sar M1 e n (some x) := ⟨_, rfl⟩
    refine ⟨sfi M3 23 l (nI (n + 1)), e, ?_, ⟨?_, ?_, sfi_at, ?_, ?_, Or.inr ?_, ?_, ?_, ?_, ?_, ?_, ?_⟩, ?_, Or.inl ⟨rfl, h0⟩⟩
    · rw [E9_0, alen_ok L1.ke rfl, ln1, if_neg (fun h => hf ((nI_eqI (by omega) (by omega)).mp h)), show ([22, 27, 28, 31, 33, 34, 35, 26, 32, 100, 38, 40] : List Nat) = ksO from rfl, stR_ok L1.ke ce ln1 (by omega) (by omega) ok1, ← hM3, pI_ok (show mcl M3 l = 5 by rw [hM3]; exact L1.k) (show mco M3 l = c by rw [hM3]; exact L1.co), show aAdd (nI n) 1 = nI (n + 1) from aAdd_n n 1]
      rfl
    · show mcl M3 l = 5
      rw [hM3]; exact L1.k
    · show mco M3 l = c
      rw [hM3]; exact L1.co
    · show mfr M3 22 l = _
      rw [hM3]; exact L1.ed
    · show mcl M3 _ = 111
      rw [hM3]; exact L1.ke
    · show mco M3 _ = c
      rw [hM3]; exact ce
    · intro h
      exact absurd (show mln M1 e = 0 by rw [← h, hM3]; rfl) (by omega)
    · show n + 1 ≤ mln M3 _
      rw [hM3]; show n + 1 ≤ mln M1 e
      omega
    · show mln M3 _ < 1000
      rw [hM3]; exact L1.ls
    · intro i hi
      show mar M3 _ i = some (if i = n then x else xs i)
      rw [hM3, mar_sar, up2_if]
      by_cases h : i = n
      · rw [if_pos ⟨rfl, h⟩, if_pos h]
      · rw [if_neg (fun x => h x.2), if_neg h]; exact L1.el i (by omega)
    · show l < mnx M3
      rw [hM3]; exact L1.ll
    · show e < mnx M3
      rw [hM3]; exact L1.lt
    · have q3 : QW (fun a => a = l ∨ a = e ∧ mln M e ≠ 0) 0 0 M1 M3 := by rw [hM3]; exact QW.sar (Or.inr ⟨rfl, h0⟩)
      have q4 : QW (fun a => a = l ∨ a = e ∧ mln M e ≠ 0) 0 0 M3 (sfi M3 23 l (nI (n + 1))) := QW.sfi (Or.inl rfl)
      exact (q3.tr q4).mono (fun _ h => h) (by decide) (by decide)
end ALW
