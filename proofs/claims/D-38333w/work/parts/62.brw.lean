set_option maxRecDepth 4000
/-! ===== Strength.bear (walk) ===== -/
theorem bd_bear {H : Hull} {w t : UInt64} {s c : Nat} (iH : HI H) (bt : Bd t 1140) (bw : Bd w 1330) : Bd (sBear H w t s c) 1890 := by
  have h1 := bd_sBk (s := s) (c := c) iH bt
  have h2 := bd_sTms (s := s) iH bt bw
  unfold sBear
  exact Bd.up (bd_mul h1 h2) _ (by decide)
section BRW
variable {G : Nat → Option Nat} {M : Mem} {b : Nat} {g : SG} {S : Sh} {p : Bool}
theorem c571_7 (C : ShC G M b g S p) {T : UInt64} (bT : Bd T 1350) {F : Nat → UInt64} (bF : ∀ c, Bd (F c) 1560) : ∀ (n k : Nat) (f : Nat → UInt64), k + n = 6 → (∀ c, c < 6 → f c = if c < k then dMul (F c) T else F c) →
    ∃ f', ex G 1 571 7 [(0, vR (some (b + 16))), (4, vD T), (6, vI (nI k))] [] (sdA M (b + 18) f) = some (.inl none, sdA M (b + 18) f') ∧ ∀ c, c < 6 → f' c = dMul (F c) T
  | 0, k, f, hk, hf => by
    have e : k = 6 := by omega
    subst e
    refine ⟨f, ?_, fun c hc => by rw [hf c hc, if_pos hc]⟩
    rw [E571_7, if_neg (by decide)]
    rfl
  | n + 1, k, f, hk, hf => by
    have C1 : ShC G (sdA M (b + 18) f) b g S p := C.fr0 QC.sdA
    have hk6 : k < 6 := by omega
    have hv : mad (sdA M (b + 18) f) (b + 18) k = F k := by rw [mad_sdA, hf k hk6, if_neg (Nat.lt_irrefl _)]
    obtain ⟨f', e', h'⟩ := c571_7 C bT bF n (k + 1) (fun j => if j = k then dMul (F k) T else f j) (by omega) (fun c hc => by
      show (if c = k then dMul (F k) T else f c) = _
      by_cases h1 : c = k
      · subst h1; rw [if_pos rfl, if_pos (Nat.lt_succ_self _)]
      · rw [if_neg h1, hf c hc]
        by_cases h2 : c < k
        · rw [if_pos h2, if_pos (by omega)]
        · rw [if_neg h2, if_neg (by omega)])
    refine ⟨f', ?_, h'⟩
    rw [E571_7, if_pos (show nI k < 6 from nI_lt (a := k) (b := 6) (by omega) (by decide)), show aAdd (nI k) 1 = nI (k + 1) from aAdd_n k 1]
    first | refine Eq.trans ((gR_v C1.stk C1.rsbe)) ?_ | refine Rt.eq ((gR_v C1.stk C1.rsbe)) ?_ | refine Th.eq ((gR_v C1.stk C1.rsbe)) ?_
    first | refine Eq.trans ((gR_v C1.stk C1.rsbe)) ?_ | refine Rt.eq ((gR_v C1.stk C1.rsbe)) ?_ | refine Th.eq ((gR_v C1.stk C1.rsbe)) ?_
    first | refine Eq.trans ((ldD_v C1.sbek C1.sbeln hk6 (by decide) hv)) ?_ | refine Rt.eq ((ldD_v C1.sbek C1.sbeln hk6 (by decide) hv)) ?_ | refine Th.eq ((ldD_v C1.sbek C1.sbeln hk6 (by decide) hv)) ?_
    first | refine Eq.trans ((fD_ok (isN_of (bd_mul (bF k) bT) (by decide)))) ?_ | refine Rt.eq ((fD_ok (isN_of (bd_mul (bF k) bT) (by decide)))) ?_ | refine Th.eq ((fD_ok (isN_of (bd_mul (bF k) bT) (by decide)))) ?_
    first | refine Eq.trans ((stD_ok C1.sbek C1.sbeco C1.sbeln hk6 (by decide))) ?_ | refine Rt.eq ((stD_ok C1.sbek C1.sbeco C1.sbeln hk6 (by decide))) ?_ | refine Th.eq ((stD_ok C1.sbek C1.sbeco C1.sbeln hk6 (by decide))) ?_
    rw [sad_sdA]
    exact e'
theorem c571_1 (C : ShC G M b g S p) (hG : SeaG G) {s a : Nat} (hs : s < 3) (ha : G (9 + s) = some a) {t w : UInt64} (bt : Bd t 1140) (bw : Bd w 1330) (ht : mfd M 72 (b + 14) = t) (hw : mfd M 68 (b + 14) = w) (iS : SI S) : ∀ (n k : Nat) (x : UInt64) (f : Nat → UInt64), k + n = 6 → Bd x (1560 + 2 * k) → sSum S.H t s n k x = sSum S.H t s 6 0 FP.dconst0 → (∀ c, c < k → f c = sBk S.H t s c) →
    ∃ f', ex G 1 571 1 [(0, vR (some (b + 16))), (1, vR (some a)), (2, vD x), (4, vI (nI k))] [] (sdA M (b + 18) f) = some (.inl none, sdA M (b + 18) f') ∧ ∀ c, c < 6 → f' c = sBear S.H w t s c
  | 0, k, x, f, hk, bx, hx, hf => by
    have iH := iS.h
    have e : k = 6 := by omega
    subst e
    have C1 : ShC G (sdA M (b + 18) f) b g S p := C.fr0 QC.sdA
    have hx' : x = sSum S.H t s 6 0 FP.dconst0 := hx
    have bT := bd_sTms (s := s) iH bt bw
    obtain ⟨f', e', h'⟩ := c571_7 C bT (F := sBk S.H t s) (fun c => bd_sBk iH bt) 6 0 f rfl (fun c hc => by rw [if_neg (Nat.not_lt_zero c)]; exact hf c hc)
    refine ⟨f', ?_, h'⟩
    rw [E571_1, if_neg (by decide)]
    unfold sTms at e' bT
    rw [← hx'] at e' bT
    by_cases hc : dCmG x (kD 4562254508917369340) < 0
    · rw [if_pos hc]
      rw [if_pos hc] at e'
      exact e'
    · rw [if_neg hc]
      rw [if_neg hc] at e' bT
      first | refine Eq.trans ((gR_v C1.stk C1.stsh)) ?_ | refine Rt.eq ((gR_v C1.stk C1.stsh)) ?_ | refine Th.eq ((gR_v C1.stk C1.stsh)) ?_
      first | refine Eq.trans ((gR_v C1.k C1.rTr)) ?_ | refine Rt.eq ((gR_v C1.k C1.rTr)) ?_ | refine Th.eq ((gR_v C1.k C1.rTr)) ?_
      first | refine Eq.trans ((gD_v C1.trk hw)) ?_ | refine Rt.eq ((gD_v C1.trk hw)) ?_ | refine Th.eq ((gD_v C1.trk hw)) ?_
      first | refine Eq.trans ((fD_ok (isN_of bT (by decide)))) ?_ | refine Rt.eq ((fD_ok (isN_of bT (by decide)))) ?_ | refine Th.eq ((fD_ok (isN_of bT (by decide)))) ?_
      exact e'
  | n + 1, k, x, f, hk, bx, hx, hf => by
    have iH := iS.h
    have C1 : ShC G (sdA M (b + 18) f) b g S p := C.fr0 QC.sdA
    have hk6 : k < 6 := by omega
    have bk := bd_sBk (s := s) (c := k) iH bt
    have ba : Bd (dAdd x (sBk S.H t s k)) (1560 + 2 * (k + 1)) := Bd.up (bd_add bx bk) _ (by omega)
    obtain ⟨f', e', h'⟩ := c571_1 C hG hs ha bt bw ht hw iS n (k + 1) (dAdd x (sBk S.H t s k)) (fun j => if j = k then sBk S.H t s k else f j) (by omega) ba hx (fun c hc => by
      show (if c = k then sBk S.H t s k else f c) = _
      by_cases h1 : c = k
      · subst h1; rw [if_pos rfl]
      · rw [if_neg h1]; exact hf c (by omega))
    refine ⟨f', ?_, h'⟩
    have d1 := sWt_dr (H := S.H) (s := s) (st := k) bt
    have d2 := sWt_dr (H := S.H) (s := s) (st := k + 1) bt
    rw [E571_1, if_pos (show nI k < 6 from nI_lt (a := k) (b := 6) (by omega) (by decide)), show aAdd (nI k) 1 = nI (k + 1) from aAdd_n k 1]
    first | refine Eq.trans ((gR_v C1.stk C1.rsbe)) ?_ | refine Rt.eq ((gR_v C1.stk C1.rsbe)) ?_ | refine Th.eq ((gR_v C1.stk C1.rsbe)) ?_
    first | refine Eq.trans ((gR_v C1.stk C1.stsh)) ?_ | refine Rt.eq ((gR_v C1.stk C1.stsh)) ?_ | refine Th.eq ((gR_v C1.stk C1.stsh)) ?_
    first | refine Eq.trans ((gR_v C1.k C1.rLn)) ?_ | refine Rt.eq ((gR_v C1.k C1.rLn)) ?_ | refine Th.eq ((gR_v C1.k C1.rLn)) ?_
    first | refine Eq.trans ((vc1_ok C1.stk)) ?_ | refine Rt.eq ((vc1_ok C1.stk)) ?_ | refine Th.eq ((vc1_ok C1.stk)) ?_
    first | refine Eq.trans ((cbD_of (c572 C1 hG hs (st := k) (by omega) ha bt ht))) ?_ | refine Rt.eq ((cbD_of (c572 C1 hG hs (st := k) (by omega) ha bt ht))) ?_ | refine Th.eq ((cbD_of (c572 C1 hG hs (st := k) (by omega) ha bt ht))) ?_
    first | refine Eq.trans ((vc1_ok C1.stk)) ?_ | refine Rt.eq ((vc1_ok C1.stk)) ?_ | refine Th.eq ((vc1_ok C1.stk)) ?_
    first | refine Eq.trans ((cbD_of (c572 C1 hG hs (st := k + 1) (by omega) ha bt ht))) ?_ | refine Rt.eq ((cbD_of (c572 C1 hG hs (st := k + 1) (by omega) ha bt ht))) ?_ | refine Th.eq ((cbD_of (c572 C1 hG hs (st := k + 1) (by omega) ha bt ht))) ?_
    first | refine Eq.trans ((vc1_ok C1.lk)) ?_ | refine Rt.eq ((vc1_ok C1.lk)) ?_ | refine Th.eq ((vc1_ok C1.lk)) ?_
    first | refine Eq.trans ((cbD_of (c514 C1.L hk6))) ?_ | refine Rt.eq ((cbD_of (c514 C1.L hk6))) ?_ | refine Th.eq ((cbD_of (c514 C1.L hk6))) ?_
    first | refine Eq.trans ((stD_ok C1.sbek C1.sbeco C1.sbeln hk6 (by decide))) ?_ | refine Rt.eq ((stD_ok C1.sbek C1.sbeco C1.sbeln hk6 (by decide))) ?_ | refine Th.eq ((stD_ok C1.sbek C1.sbeco C1.sbeln hk6 (by decide))) ?_
    rw [sad_sdA]
    have C2 : ShC G (sdA M (b + 18) (fun j => if j = k then sBk S.H t s k else f j)) b g S p := C.fr0 QC.sdA
    first | refine Eq.trans ((gR_v C2.stk C2.rsbe)) ?_ | refine Rt.eq ((gR_v C2.stk C2.rsbe)) ?_ | refine Th.eq ((gR_v C2.stk C2.rsbe)) ?_
    first | refine Eq.trans ((ldD_v (v := sBk S.H t s k) C2.sbek C2.sbeln hk6 (by decide) (by rw [mad_sdA, if_pos rfl]; rfl))) ?_ | refine Rt.eq ((ldD_v (v := sBk S.H t s k) C2.sbek C2.sbeln hk6 (by decide) (by rw [mad_sdA, if_pos rfl]; rfl))) ?_ | refine Th.eq ((ldD_v (v := sBk S.H t s k) C2.sbek C2.sbeln hk6 (by decide) (by rw [mad_sdA, if_pos rfl]; rfl))) ?_
    first | refine Eq.trans ((fD_ok (isN_of ba (by omega)))) ?_ | refine Rt.eq ((fD_ok (isN_of ba (by omega)))) ?_ | refine Th.eq ((fD_ok (isN_of ba (by omega)))) ?_
    exact e'
/-- STRENGTH.BEAR -/
theorem c571 (C : ShC G M b g S p) (hG : SeaG G) {s a : Nat} (hs : s < 3) (ha : G (9 + s) = some a) {t w : UInt64} (bt : Bd t 1140) (bw : Bd w 1330) (ht : mfd M 72 (b + 14) = t) (hw : mfd M 68 (b + 14) = w) (iS : SI S) :
    ∃ f', ex G 1 571 0 [(0, vR (some (b + 16))), (1, vR (some a))] [] M = some (.inl none, sdA M (b + 18) f') ∧ ∀ c, c < 6 → f' c = sBear S.H w t s c := by
  have h := c571_1 C hG hs ha bt bw ht hw iS 6 0 FP.dconst0 (mad M (b + 18)) rfl (Bd.up bd_c0 _ (by decide)) rfl (fun c hc => absurd hc (Nat.not_lt_zero c))
  rw [sdA_self] at h
  rw [E571_0]
  exact h
end BRW
