/-! ===== the law's walks: how a run is told ===== -/
/-- it returns r, and of the memory then P holds -/
def Rt (x : Res) (r : Option AV) (P : Mem → Prop) : Prop := ∃ M', x = some (.inl r, M') ∧ P M'
/-- it throws E -/
def Th (x : Res) (E : Nat) (P : Mem → Prop) : Prop := ∃ M', x = some (.inr E, M') ∧ P M'
theorem Rt.mono {x : Res} {r : Option AV} {P Q : Mem → Prop} (h : Rt x r P) (hq : ∀ M', P M' → Q M') : Rt x r Q := by
  obtain ⟨M', e, p⟩ := h
  exact ⟨M', e, hq _ p⟩
theorem Rt.eq {x y : Res} {r : Option AV} {P : Mem → Prop} (e : x = y) (h : Rt y r P) : Rt x r P := e ▸ h
theorem Th.eq {x y : Res} {E : Nat} {P : Mem → Prop} (e : x = y) (h : Th y E P) : Th x E P := e ▸ h
theorem Th.mono {x : Res} {E : Nat} {P Q : Mem → Prop} (h : Th x E P) (hq : ∀ M', P M' → Q M') : Th x E Q := by
  obtain ⟨M', e, p⟩ := h
  exact ⟨M', e, hq _ p⟩
theorem Rt.cbI {x : Res} {κ : Int32 → Mem → Res} {r : Option AV} {P Q : Mem → Prop} {v : Int32} (h : Rt x (some (vI v)) Q) (k : ∀ M, Q M → Rt (κ v M) r P) : Rt (cbI x κ) r P := by obtain ⟨M, e, q⟩ := h; subst e; exact k M q
theorem Th.cbI {x : Res} {κ : Int32 → Mem → Res} {E : Nat} {P Q : Mem → Prop} {v : Int32} (h : Rt x (some (vI v)) Q) (k : ∀ M, Q M → Th (κ v M) E P) : Th (cbI x κ) E P := by obtain ⟨M, e, q⟩ := h; subst e; exact k M q
theorem Rt.dbI {x : Res} {κ : Int32 → Mem → Res} {r : Option AV} {P Q : Mem → Prop} {v : Int32} (h : Rt x (some (vI v)) Q) (k : ∀ M, Q M → Rt (κ v M) r P) : Rt (dbI x κ) r P := by obtain ⟨M, e, q⟩ := h; subst e; exact k M q
theorem Th.dbI {x : Res} {κ : Int32 → Mem → Res} {E : Nat} {P Q : Mem → Prop} {v : Int32} (h : Rt x (some (vI v)) Q) (k : ∀ M, Q M → Th (κ v M) E P) : Th (dbI x κ) E P := by obtain ⟨M, e, q⟩ := h; subst e; exact k M q
theorem th_cxI {x : Res} {κ : Int32 → Mem → Res} {E : Nat} {P : Mem → Prop} (h : Th x E P) : Th (cbI x κ) E P := by obtain ⟨M, e, q⟩ := h; subst e; exact ⟨M, rfl, q⟩
theorem cbI_some {κ : Int32 → Mem → Res} {v : Int32} {M : Mem} : cbI (some (.inl (some (vI v)), M)) κ = κ v M := rfl
theorem dbI_some {κ : Int32 → Mem → Res} {v : Int32} {M : Mem} : dbI (some (.inl (some (vI v)), M)) κ = κ v M := rfl
theorem cbI_r {κ : Int32 → Mem → Res} {v : Int32} {M : Mem} : cbI (rI v M) κ = κ v M := rfl
theorem dbI_r {κ : Int32 → Mem → Res} {v : Int32} {M : Mem} : dbI (rI v M) κ = κ v M := rfl
theorem rt_rI {v : Int32} {M : Mem} {P : Mem → Prop} (h : P M) : Rt (rI v M) (some (vI v)) P := ⟨M, rfl, h⟩
theorem Rt.cbJ {x : Res} {κ : Int64 → Mem → Res} {r : Option AV} {P Q : Mem → Prop} {v : Int64} (h : Rt x (some (vJ v)) Q) (k : ∀ M, Q M → Rt (κ v M) r P) : Rt (cbJ x κ) r P := by obtain ⟨M, e, q⟩ := h; subst e; exact k M q
theorem Th.cbJ {x : Res} {κ : Int64 → Mem → Res} {E : Nat} {P Q : Mem → Prop} {v : Int64} (h : Rt x (some (vJ v)) Q) (k : ∀ M, Q M → Th (κ v M) E P) : Th (cbJ x κ) E P := by obtain ⟨M, e, q⟩ := h; subst e; exact k M q
theorem Rt.dbJ {x : Res} {κ : Int64 → Mem → Res} {r : Option AV} {P Q : Mem → Prop} {v : Int64} (h : Rt x (some (vJ v)) Q) (k : ∀ M, Q M → Rt (κ v M) r P) : Rt (dbJ x κ) r P := by obtain ⟨M, e, q⟩ := h; subst e; exact k M q
theorem Th.dbJ {x : Res} {κ : Int64 → Mem → Res} {E : Nat} {P Q : Mem → Prop} {v : Int64} (h : Rt x (some (vJ v)) Q) (k : ∀ M, Q M → Th (κ v M) E P) : Th (dbJ x κ) E P := by obtain ⟨M, e, q⟩ := h; subst e; exact k M q
theorem th_cxJ {x : Res} {κ : Int64 → Mem → Res} {E : Nat} {P : Mem → Prop} (h : Th x E P) : Th (cbJ x κ) E P := by obtain ⟨M, e, q⟩ := h; subst e; exact ⟨M, rfl, q⟩
theorem cbJ_some {κ : Int64 → Mem → Res} {v : Int64} {M : Mem} : cbJ (some (.inl (some (vJ v)), M)) κ = κ v M := rfl
theorem dbJ_some {κ : Int64 → Mem → Res} {v : Int64} {M : Mem} : dbJ (some (.inl (some (vJ v)), M)) κ = κ v M := rfl
theorem cbJ_r {κ : Int64 → Mem → Res} {v : Int64} {M : Mem} : cbJ (rJ v M) κ = κ v M := rfl
theorem dbJ_r {κ : Int64 → Mem → Res} {v : Int64} {M : Mem} : dbJ (rJ v M) κ = κ v M := rfl
theorem rt_rJ {v : Int64} {M : Mem} {P : Mem → Prop} (h : P M) : Rt (rJ v M) (some (vJ v)) P := ⟨M, rfl, h⟩
theorem Rt.cbD {x : Res} {κ : UInt64 → Mem → Res} {r : Option AV} {P Q : Mem → Prop} {v : UInt64} (h : Rt x (some (vD v)) Q) (k : ∀ M, Q M → Rt (κ v M) r P) : Rt (cbD x κ) r P := by obtain ⟨M, e, q⟩ := h; subst e; exact k M q
theorem Th.cbD {x : Res} {κ : UInt64 → Mem → Res} {E : Nat} {P Q : Mem → Prop} {v : UInt64} (h : Rt x (some (vD v)) Q) (k : ∀ M, Q M → Th (κ v M) E P) : Th (cbD x κ) E P := by obtain ⟨M, e, q⟩ := h; subst e; exact k M q
theorem Rt.dbD {x : Res} {κ : UInt64 → Mem → Res} {r : Option AV} {P Q : Mem → Prop} {v : UInt64} (h : Rt x (some (vD v)) Q) (k : ∀ M, Q M → Rt (κ v M) r P) : Rt (dbD x κ) r P := by obtain ⟨M, e, q⟩ := h; subst e; exact k M q
theorem Th.dbD {x : Res} {κ : UInt64 → Mem → Res} {E : Nat} {P Q : Mem → Prop} {v : UInt64} (h : Rt x (some (vD v)) Q) (k : ∀ M, Q M → Th (κ v M) E P) : Th (dbD x κ) E P := by obtain ⟨M, e, q⟩ := h; subst e; exact k M q
theorem th_cxD {x : Res} {κ : UInt64 → Mem → Res} {E : Nat} {P : Mem → Prop} (h : Th x E P) : Th (cbD x κ) E P := by obtain ⟨M, e, q⟩ := h; subst e; exact ⟨M, rfl, q⟩
theorem cbD_some {κ : UInt64 → Mem → Res} {v : UInt64} {M : Mem} : cbD (some (.inl (some (vD v)), M)) κ = κ v M := rfl
theorem dbD_some {κ : UInt64 → Mem → Res} {v : UInt64} {M : Mem} : dbD (some (.inl (some (vD v)), M)) κ = κ v M := rfl
theorem Rt.cbR {x : Res} {κ : Option Nat → Mem → Res} {r : Option AV} {P Q : Mem → Prop} {v : Option Nat} (h : Rt x (some (vR v)) Q) (k : ∀ M, Q M → Rt (κ v M) r P) : Rt (cbR x κ) r P := by obtain ⟨M, e, q⟩ := h; subst e; exact k M q
theorem Th.cbR {x : Res} {κ : Option Nat → Mem → Res} {E : Nat} {P Q : Mem → Prop} {v : Option Nat} (h : Rt x (some (vR v)) Q) (k : ∀ M, Q M → Th (κ v M) E P) : Th (cbR x κ) E P := by obtain ⟨M, e, q⟩ := h; subst e; exact k M q
theorem Rt.dbR {x : Res} {κ : Option Nat → Mem → Res} {r : Option AV} {P Q : Mem → Prop} {v : Option Nat} (h : Rt x (some (vR v)) Q) (k : ∀ M, Q M → Rt (κ v M) r P) : Rt (dbR x κ) r P := by obtain ⟨M, e, q⟩ := h; subst e; exact k M q
theorem Th.dbR {x : Res} {κ : Option Nat → Mem → Res} {E : Nat} {P Q : Mem → Prop} {v : Option Nat} (h : Rt x (some (vR v)) Q) (k : ∀ M, Q M → Th (κ v M) E P) : Th (dbR x κ) E P := by obtain ⟨M, e, q⟩ := h; subst e; exact k M q
theorem th_cxR {x : Res} {κ : Option Nat → Mem → Res} {E : Nat} {P : Mem → Prop} (h : Th x E P) : Th (cbR x κ) E P := by obtain ⟨M, e, q⟩ := h; subst e; exact ⟨M, rfl, q⟩
theorem cbR_some {κ : Option Nat → Mem → Res} {v : Option Nat} {M : Mem} : cbR (some (.inl (some (vR v)), M)) κ = κ v M := rfl
theorem dbR_some {κ : Option Nat → Mem → Res} {v : Option Nat} {M : Mem} : dbR (some (.inl (some (vR v)), M)) κ = κ v M := rfl
theorem cbR_r {κ : Option Nat → Mem → Res} {v : Option Nat} {M : Mem} : cbR (rR v M) κ = κ v M := rfl
theorem dbR_r {κ : Option Nat → Mem → Res} {v : Option Nat} {M : Mem} : dbR (rR v M) κ = κ v M := rfl
theorem rt_rR {v : Option Nat} {M : Mem} {P : Mem → Prop} (h : P M) : Rt (rR v M) (some (vR v)) P := ⟨M, rfl, h⟩
theorem Rt.cbV {x : Res} {κ : Mem → Res} {r : Option AV} {P Q : Mem → Prop} (h : Rt x none Q) (k : ∀ M, Q M → Rt (κ M) r P) : Rt (cbV x κ) r P := by obtain ⟨M, e, q⟩ := h; subst e; exact k M q
theorem Th.cbV {x : Res} {κ : Mem → Res} {E : Nat} {P Q : Mem → Prop} (h : Rt x none Q) (k : ∀ M, Q M → Th (κ M) E P) : Th (cbV x κ) E P := by obtain ⟨M, e, q⟩ := h; subst e; exact k M q
theorem cbV_some {κ : Mem → Res} {M : Mem} : cbV (some (.inl none, M)) κ = κ M := rfl
theorem cbV_r {κ : Mem → Res} {M : Mem} : cbV (rV M) κ = κ M := rfl
theorem Rt.dbV {x : Res} {κ : Mem → Res} {r : Option AV} {P Q : Mem → Prop} (h : Rt x none Q) (k : ∀ M, Q M → Rt (κ M) r P) : Rt (dbV x κ) r P := by obtain ⟨M, e, q⟩ := h; subst e; exact k M q
theorem Th.dbV {x : Res} {κ : Mem → Res} {E : Nat} {P Q : Mem → Prop} (h : Rt x none Q) (k : ∀ M, Q M → Th (κ M) E P) : Th (dbV x κ) E P := by obtain ⟨M, e, q⟩ := h; subst e; exact k M q
theorem dbV_some {κ : Mem → Res} {M : Mem} : dbV (some (.inl none, M)) κ = κ M := rfl
theorem dbV_r {κ : Mem → Res} {M : Mem} : dbV (rV M) κ = κ M := rfl
theorem th_cxV {x : Res} {κ : Mem → Res} {E : Nat} {P : Mem → Prop} (h : Th x E P) : Th (cbV x κ) E P := by obtain ⟨M, e, q⟩ := h; subst e; exact ⟨M, rfl, q⟩
theorem rt_rV {M : Mem} {P : Mem → Prop} (h : P M) : Rt (rV M) none P := ⟨M, rfl, h⟩
theorem rt_rD {v : UInt64} {M : Mem} {P : Mem → Prop} (hn : isN v) (h : P M) : Rt (rD v M) (some (vD v)) P := ⟨M, if_pos hn, h⟩
theorem rt_some {r : Option AV} {M : Mem} {P : Mem → Prop} (h : P M) : Rt (some (.inl r, M)) r P := ⟨M, rfl, h⟩
theorem rD_ok {v : UInt64} {M : Mem} (hn : isN v) : rD v M = some (.inl (some (vD v)), M) := if_pos hn
theorem rI_some {v : Int32} {M : Mem} : rI v M = some (.inl (some (vI v)), M) := rfl
theorem rZ_ok {v : Int32} {M : Mem} (h : v &&& 1 = v) : rZ v M = rI v M := if_pos h
theorem rZ_1 {M : Mem} : rZ 1 M = rI 1 M := if_pos (by decide)
theorem rZ_0 {M : Mem} : rZ 0 M = rI 0 M := if_pos (by decide)
theorem rt_fD {x : UInt64} {κ : UInt64 → Res} {r : Option AV} {P : Mem → Prop} (hn : isN x) (h : Rt (κ x) r P) : Rt (fD x κ) r P := by rw [show fD x κ = κ x from if_pos hn]; exact h
theorem fD_ok {x : UInt64} {κ : UInt64 → Res} (hn : isN x) : fD x κ = κ x := if_pos hn
theorem dvI_ok {x y : Int32} {κ : Int32 → Res} (h : y ≠ 0) : dvI y x κ = κ x := if_neg h
theorem nmI_ok {x : Int32} {κ : Int32 → Res} : nmI x κ = κ x := rfl
theorem nn_ok {a : Nat} {κ : Nat → Res} : nn (some a) κ = κ a := rfl
theorem vc1_ok {M : Mem} {k a : Nat} {κ : Nat → Res} (h : mcl M a = k) : vc1 M k (some a) κ = κ a := if_pos h
theorem vc2_ok {M : Mem} {c k a : Nat} {κ : Nat → Res} (h : mcl M a = k) (h2 : mco M a = c) : vc2 M c k (some a) κ = κ a := if_pos ⟨h, h2⟩
theorem gI_ok {M : Mem} {k f a : Nat} {κ : Int32 → Res} (h : mcl M a = k) : gI M k f (some a) κ = κ (mfi M f a) := if_pos h
theorem gJ_ok {M : Mem} {k f a : Nat} {κ : Int64 → Res} (h : mcl M a = k) : gJ M k f (some a) κ = κ (mfj M f a) := if_pos h
theorem gD_ok {M : Mem} {k f a : Nat} {κ : UInt64 → Res} (h : mcl M a = k) : gD M k f (some a) κ = κ (mfd M f a) := if_pos h
theorem gR_ok {M : Mem} {k f a : Nat} {κ : Option Nat → Res} (h : mcl M a = k) : gR M k f (some a) κ = κ (mfr M f a) := if_pos h
theorem pI_ok {M : Mem} {c k f a : Nat} {v : Int32} {κ : Mem → Res} (h : mcl M a = k) (h2 : mco M a = c) : pI M c k f (some a) v κ = κ (sfi M f a v) := if_pos ⟨h, h2⟩
theorem pJ_ok {M : Mem} {c k f a : Nat} {v : Int64} {κ : Mem → Res} (h : mcl M a = k) (h2 : mco M a = c) : pJ M c k f (some a) v κ = κ (sfj M f a v) := if_pos ⟨h, h2⟩
theorem pD_ok {M : Mem} {c k f a : Nat} {v : UInt64} {κ : Mem → Res} (h : mcl M a = k) (h2 : mco M a = c) : pD M c k f (some a) v κ = κ (sfd M f a v) := if_pos ⟨h, h2⟩
theorem pR_ok {M : Mem} {c k f a : Nat} {v : Option Nat} {κ : Mem → Res} (h : mcl M a = k) (h2 : mco M a = c) : pR M c k f (some a) v κ = κ (sfr M f a v) := if_pos ⟨h, h2⟩
theorem pZ_ok {M : Mem} {c k f a : Nat} {v : Int32} {κ : Mem → Res} (h : mcl M a = k) (h2 : mco M a = c) (h3 : v &&& 1 = v) : pZ M c k f (some a) v κ = κ (sfi M f a v) := if_pos ⟨h, h2, h3⟩
theorem inR_n {i n : Nat} (h : i < n) (hn : n < 2147483648) : inR (nI i) n := ⟨nI_pos (by omega), by rw [nI_clamp (by omega)]; exact h⟩
theorem ldI_ok {M : Mem} {k a i n : Nat} {κ : Int32 → Res} (h : mcl M a = k) (hl : mln M a = n) (hi : i < n) (hn : n < 2147483648) : ldI M k (some a) (nI i) κ = κ (mai M a i) := by unfold ldI; simp only [hl]; rw [if_pos ⟨h, inR_n hi hn⟩, nI_clamp (by omega)]
theorem ldD_ok {M : Mem} {k a i n : Nat} {κ : UInt64 → Res} (h : mcl M a = k) (hl : mln M a = n) (hi : i < n) (hn : n < 2147483648) : ldD M k (some a) (nI i) κ = κ (mad M a i) := by unfold ldD; simp only [hl]; rw [if_pos ⟨h, inR_n hi hn⟩, nI_clamp (by omega)]
theorem ldR_ok {M : Mem} {k a i n : Nat} {κ : Option Nat → Res} (h : mcl M a = k) (hl : mln M a = n) (hi : i < n) (hn : n < 2147483648) : ldR M k (some a) (nI i) κ = κ (mar M a i) := by unfold ldR; simp only [hl]; rw [if_pos ⟨h, inR_n hi hn⟩, nI_clamp (by omega)]
theorem stI_ok {M : Mem} {c k a i n : Nat} {v : Int32} {κ : Mem → Res} (h : mcl M a = k) (h2 : mco M a = c) (hl : mln M a = n) (hi : i < n) (hn : n < 2147483648) : stI M c k (some a) (nI i) v κ = κ (sai M a i v) := by unfold stI; simp only [hl]; rw [if_pos ⟨h, h2, inR_n hi hn⟩, nI_clamp (by omega)]
theorem stD_ok {M : Mem} {c k a i n : Nat} {v : UInt64} {κ : Mem → Res} (h : mcl M a = k) (h2 : mco M a = c) (hl : mln M a = n) (hi : i < n) (hn : n < 2147483648) : stD M c k (some a) (nI i) v κ = κ (sad M a i v) := by unfold stD; simp only [hl]; rw [if_pos ⟨h, h2, inR_n hi hn⟩, nI_clamp (by omega)]
theorem stR_ok {M : Mem} {c k a i n : Nat} {ks : List Nat} {v : Option Nat} {κ : Mem → Res} (h : mcl M a = k) (h2 : mco M a = c) (hl : mln M a = n) (hi : i < n) (hn : n < 2147483648) (ho : okK M ks v = true) : stR M c k ks (some a) (nI i) v κ = κ (sar M a i v) := by unfold stR; simp only [hl]; rw [if_pos ⟨h, h2, inR_n hi hn, ho⟩, nI_clamp (by omega)]
theorem alen_ok {M : Mem} {k a n : Nat} {κ : Int32 → Res} (h : mcl M a = k) (hl : mln M a = n) : alen M k (some a) κ = κ (nI n) := by unfold alen; simp only [hl]; rw [if_pos h]
theorem mka_ok {M : Mem} {c k n : Nat} {κ : Nat → Mem → Res} (h : n ≤ 100000) : mka M c k (nI n) κ = κ (mnx M) (marr M c k n) := by
  unfold mka
  rw [if_pos ⟨nI_pos (by omega), nI_le (a := n) (b := 100000) h (by decide)⟩, nI_clamp (by omega)]
theorem mcl_sfi {M : Mem} {f a : Nat} {v : Int32} : mcl (sfi M f a v) = mcl M := rfl
theorem mco_sfi {M : Mem} {f a : Nat} {v : Int32} : mco (sfi M f a v) = mco M := rfl
theorem mln_sfi {M : Mem} {f a : Nat} {v : Int32} : mln (sfi M f a v) = mln M := rfl
theorem mfi_sfi {M : Mem} {f a : Nat} {v : Int32} : mfi (sfi M f a v) = up2 (mfi M) f a v := rfl
theorem mfj_sfi {M : Mem} {f a : Nat} {v : Int32} : mfj (sfi M f a v) = mfj M := rfl
theorem mfd_sfi {M : Mem} {f a : Nat} {v : Int32} : mfd (sfi M f a v) = mfd M := rfl
theorem mfr_sfi {M : Mem} {f a : Nat} {v : Int32} : mfr (sfi M f a v) = mfr M := rfl
theorem mai_sfi {M : Mem} {f a : Nat} {v : Int32} : mai (sfi M f a v) = mai M := rfl
theorem mad_sfi {M : Mem} {f a : Nat} {v : Int32} : mad (sfi M f a v) = mad M := rfl
theorem mar_sfi {M : Mem} {f a : Nat} {v : Int32} : mar (sfi M f a v) = mar M := rfl
theorem mnx_sfi {M : Mem} {f a : Nat} {v : Int32} : mnx (sfi M f a v) = mnx M := rfl
theorem msl_sfi {M : Mem} {f a : Nat} {v : Int32} : msl (sfi M f a v) = msl M := rfl
theorem mcl_sfj {M : Mem} {f a : Nat} {v : Int64} : mcl (sfj M f a v) = mcl M := rfl
theorem mco_sfj {M : Mem} {f a : Nat} {v : Int64} : mco (sfj M f a v) = mco M := rfl
theorem mln_sfj {M : Mem} {f a : Nat} {v : Int64} : mln (sfj M f a v) = mln M := rfl
theorem mfi_sfj {M : Mem} {f a : Nat} {v : Int64} : mfi (sfj M f a v) = mfi M := rfl
theorem mfj_sfj {M : Mem} {f a : Nat} {v : Int64} : mfj (sfj M f a v) = up2 (mfj M) f a v := rfl
theorem mfd_sfj {M : Mem} {f a : Nat} {v : Int64} : mfd (sfj M f a v) = mfd M := rfl
theorem mfr_sfj {M : Mem} {f a : Nat} {v : Int64} : mfr (sfj M f a v) = mfr M := rfl
theorem mai_sfj {M : Mem} {f a : Nat} {v : Int64} : mai (sfj M f a v) = mai M := rfl
theorem mad_sfj {M : Mem} {f a : Nat} {v : Int64} : mad (sfj M f a v) = mad M := rfl
theorem mar_sfj {M : Mem} {f a : Nat} {v : Int64} : mar (sfj M f a v) = mar M := rfl
theorem mnx_sfj {M : Mem} {f a : Nat} {v : Int64} : mnx (sfj M f a v) = mnx M := rfl
theorem msl_sfj {M : Mem} {f a : Nat} {v : Int64} : msl (sfj M f a v) = msl M := rfl
theorem mcl_sfd {M : Mem} {f a : Nat} {v : UInt64} : mcl (sfd M f a v) = mcl M := rfl
theorem mco_sfd {M : Mem} {f a : Nat} {v : UInt64} : mco (sfd M f a v) = mco M := rfl
theorem mln_sfd {M : Mem} {f a : Nat} {v : UInt64} : mln (sfd M f a v) = mln M := rfl
theorem mfi_sfd {M : Mem} {f a : Nat} {v : UInt64} : mfi (sfd M f a v) = mfi M := rfl
theorem mfj_sfd {M : Mem} {f a : Nat} {v : UInt64} : mfj (sfd M f a v) = mfj M := rfl
theorem mfd_sfd {M : Mem} {f a : Nat} {v : UInt64} : mfd (sfd M f a v) = up2 (mfd M) f a v := rfl
theorem mfr_sfd {M : Mem} {f a : Nat} {v : UInt64} : mfr (sfd M f a v) = mfr M := rfl
theorem mai_sfd {M : Mem} {f a : Nat} {v : UInt64} : mai (sfd M f a v) = mai M := rfl
theorem mad_sfd {M : Mem} {f a : Nat} {v : UInt64} : mad (sfd M f a v) = mad M := rfl
theorem mar_sfd {M : Mem} {f a : Nat} {v : UInt64} : mar (sfd M f a v) = mar M := rfl
theorem mnx_sfd {M : Mem} {f a : Nat} {v : UInt64} : mnx (sfd M f a v) = mnx M := rfl
theorem msl_sfd {M : Mem} {f a : Nat} {v : UInt64} : msl (sfd M f a v) = msl M := rfl
theorem mcl_sfr {M : Mem} {f a : Nat} {v : Option Nat} : mcl (sfr M f a v) = mcl M := rfl
theorem mco_sfr {M : Mem} {f a : Nat} {v : Option Nat} : mco (sfr M f a v) = mco M := rfl
theorem mln_sfr {M : Mem} {f a : Nat} {v : Option Nat} : mln (sfr M f a v) = mln M := rfl
theorem mfi_sfr {M : Mem} {f a : Nat} {v : Option Nat} : mfi (sfr M f a v) = mfi M := rfl
theorem mfj_sfr {M : Mem} {f a : Nat} {v : Option Nat} : mfj (sfr M f a v) = mfj M := rfl
theorem mfd_sfr {M : Mem} {f a : Nat} {v : Option Nat} : mfd (sfr M f a v) = mfd M := rfl
theorem mfr_sfr {M : Mem} {f a : Nat} {v : Option Nat} : mfr (sfr M f a v) = up2 (mfr M) f a v := rfl
theorem mai_sfr {M : Mem} {f a : Nat} {v : Option Nat} : mai (sfr M f a v) = mai M := rfl
theorem mad_sfr {M : Mem} {f a : Nat} {v : Option Nat} : mad (sfr M f a v) = mad M := rfl
theorem mar_sfr {M : Mem} {f a : Nat} {v : Option Nat} : mar (sfr M f a v) = mar M := rfl
theorem mnx_sfr {M : Mem} {f a : Nat} {v : Option Nat} : mnx (sfr M f a v) = mnx M := rfl
theorem msl_sfr {M : Mem} {f a : Nat} {v : Option Nat} : msl (sfr M f a v) = msl M := rfl
theorem mcl_sai {M : Mem} {a i : Nat} {v : Int32} : mcl (sai M a i v) = mcl M := rfl
theorem mco_sai {M : Mem} {a i : Nat} {v : Int32} : mco (sai M a i v) = mco M := rfl
theorem mln_sai {M : Mem} {a i : Nat} {v : Int32} : mln (sai M a i v) = mln M := rfl
theorem mfi_sai {M : Mem} {a i : Nat} {v : Int32} : mfi (sai M a i v) = mfi M := rfl
theorem mfj_sai {M : Mem} {a i : Nat} {v : Int32} : mfj (sai M a i v) = mfj M := rfl
theorem mfd_sai {M : Mem} {a i : Nat} {v : Int32} : mfd (sai M a i v) = mfd M := rfl
theorem mfr_sai {M : Mem} {a i : Nat} {v : Int32} : mfr (sai M a i v) = mfr M := rfl
theorem mai_sai {M : Mem} {a i : Nat} {v : Int32} : mai (sai M a i v) = up2 (mai M) a i v := rfl
theorem mad_sai {M : Mem} {a i : Nat} {v : Int32} : mad (sai M a i v) = mad M := rfl
theorem mar_sai {M : Mem} {a i : Nat} {v : Int32} : mar (sai M a i v) = mar M := rfl
theorem mnx_sai {M : Mem} {a i : Nat} {v : Int32} : mnx (sai M a i v) = mnx M := rfl
theorem msl_sai {M : Mem} {a i : Nat} {v : Int32} : msl (sai M a i v) = msl M := rfl
theorem mcl_sad {M : Mem} {a i : Nat} {v : UInt64} : mcl (sad M a i v) = mcl M := rfl
theorem mco_sad {M : Mem} {a i : Nat} {v : UInt64} : mco (sad M a i v) = mco M := rfl
theorem mln_sad {M : Mem} {a i : Nat} {v : UInt64} : mln (sad M a i v) = mln M := rfl
theorem mfi_sad {M : Mem} {a i : Nat} {v : UInt64} : mfi (sad M a i v) = mfi M := rfl
theorem mfj_sad {M : Mem} {a i : Nat} {v : UInt64} : mfj (sad M a i v) = mfj M := rfl
theorem mfd_sad {M : Mem} {a i : Nat} {v : UInt64} : mfd (sad M a i v) = mfd M := rfl
theorem mfr_sad {M : Mem} {a i : Nat} {v : UInt64} : mfr (sad M a i v) = mfr M := rfl
theorem mai_sad {M : Mem} {a i : Nat} {v : UInt64} : mai (sad M a i v) = mai M := rfl
theorem mad_sad {M : Mem} {a i : Nat} {v : UInt64} : mad (sad M a i v) = up2 (mad M) a i v := rfl
theorem mar_sad {M : Mem} {a i : Nat} {v : UInt64} : mar (sad M a i v) = mar M := rfl
theorem mnx_sad {M : Mem} {a i : Nat} {v : UInt64} : mnx (sad M a i v) = mnx M := rfl
theorem msl_sad {M : Mem} {a i : Nat} {v : UInt64} : msl (sad M a i v) = msl M := rfl
theorem mcl_sar {M : Mem} {a i : Nat} {v : Option Nat} : mcl (sar M a i v) = mcl M := rfl
theorem mco_sar {M : Mem} {a i : Nat} {v : Option Nat} : mco (sar M a i v) = mco M := rfl
theorem mln_sar {M : Mem} {a i : Nat} {v : Option Nat} : mln (sar M a i v) = mln M := rfl
theorem mfi_sar {M : Mem} {a i : Nat} {v : Option Nat} : mfi (sar M a i v) = mfi M := rfl
theorem mfj_sar {M : Mem} {a i : Nat} {v : Option Nat} : mfj (sar M a i v) = mfj M := rfl
theorem mfd_sar {M : Mem} {a i : Nat} {v : Option Nat} : mfd (sar M a i v) = mfd M := rfl
theorem mfr_sar {M : Mem} {a i : Nat} {v : Option Nat} : mfr (sar M a i v) = mfr M := rfl
theorem mai_sar {M : Mem} {a i : Nat} {v : Option Nat} : mai (sar M a i v) = mai M := rfl
theorem mad_sar {M : Mem} {a i : Nat} {v : Option Nat} : mad (sar M a i v) = mad M := rfl
theorem mar_sar {M : Mem} {a i : Nat} {v : Option Nat} : mar (sar M a i v) = up2 (mar M) a i v := rfl
theorem mnx_sar {M : Mem} {a i : Nat} {v : Option Nat} : mnx (sar M a i v) = mnx M := rfl
theorem msl_sar {M : Mem} {a i : Nat} {v : Option Nat} : msl (sar M a i v) = msl M := rfl
theorem mcl_mnew {M : Mem} {c k n : Nat} : mcl (mnew M c k n) = up1 (mcl M) (mnx M) k := rfl
theorem mco_mnew {M : Mem} {c k n : Nat} : mco (mnew M c k n) = up1 (mco M) (mnx M) c := rfl
theorem mln_mnew {M : Mem} {c k n : Nat} : mln (mnew M c k n) = mln M := rfl
theorem mfi_mnew {M : Mem} {c k n : Nat} : mfi (mnew M c k n) = mfi M := rfl
theorem mfj_mnew {M : Mem} {c k n : Nat} : mfj (mnew M c k n) = mfj M := rfl
theorem mfd_mnew {M : Mem} {c k n : Nat} : mfd (mnew M c k n) = mfd M := rfl
theorem mfr_mnew {M : Mem} {c k n : Nat} : mfr (mnew M c k n) = mfr M := rfl
theorem mai_mnew {M : Mem} {c k n : Nat} : mai (mnew M c k n) = mai M := rfl
theorem mad_mnew {M : Mem} {c k n : Nat} : mad (mnew M c k n) = mad M := rfl
theorem mar_mnew {M : Mem} {c k n : Nat} : mar (mnew M c k n) = mar M := rfl
theorem mnx_mnew {M : Mem} {c k n : Nat} : mnx (mnew M c k n) = mnx M + 1 := rfl
theorem msl_mnew {M : Mem} {c k n : Nat} : msl (mnew M c k n) = msl M + n := rfl
theorem mcl_marr {M : Mem} {c k n : Nat} : mcl (marr M c k n) = up1 (mcl M) (mnx M) k := rfl
theorem mco_marr {M : Mem} {c k n : Nat} : mco (marr M c k n) = up1 (mco M) (mnx M) c := rfl
theorem mln_marr {M : Mem} {c k n : Nat} : mln (marr M c k n) = up1 (mln M) (mnx M) n := rfl
theorem mfi_marr {M : Mem} {c k n : Nat} : mfi (marr M c k n) = mfi M := rfl
theorem mfj_marr {M : Mem} {c k n : Nat} : mfj (marr M c k n) = mfj M := rfl
theorem mfd_marr {M : Mem} {c k n : Nat} : mfd (marr M c k n) = mfd M := rfl
theorem mfr_marr {M : Mem} {c k n : Nat} : mfr (marr M c k n) = mfr M := rfl
theorem mai_marr {M : Mem} {c k n : Nat} : mai (marr M c k n) = mai M := rfl
theorem mad_marr {M : Mem} {c k n : Nat} : mad (marr M c k n) = mad M := rfl
theorem mar_marr {M : Mem} {c k n : Nat} : mar (marr M c k n) = mar M := rfl
theorem mnx_marr {M : Mem} {c k n : Nat} : mnx (marr M c k n) = mnx M + 1 := rfl
theorem msl_marr {M : Mem} {c k n : Nat} : msl (marr M c k n) = msl M + n := rfl
theorem mcl_mth {M : Mem} {j n : Nat} : mcl (mth M j n) = mcl M := rfl
theorem mco_mth {M : Mem} {j n : Nat} : mco (mth M j n) = mco M := rfl
theorem mln_mth {M : Mem} {j n : Nat} : mln (mth M j n) = mln M := rfl
theorem mfi_mth {M : Mem} {j n : Nat} : mfi (mth M j n) = mfi M := rfl
theorem mfj_mth {M : Mem} {j n : Nat} : mfj (mth M j n) = mfj M := rfl
theorem mfd_mth {M : Mem} {j n : Nat} : mfd (mth M j n) = mfd M := rfl
theorem mfr_mth {M : Mem} {j n : Nat} : mfr (mth M j n) = mfr M := rfl
theorem mai_mth {M : Mem} {j n : Nat} : mai (mth M j n) = mai M := rfl
theorem mad_mth {M : Mem} {j n : Nat} : mad (mth M j n) = mad M := rfl
theorem mar_mth {M : Mem} {j n : Nat} : mar (mth M j n) = mar M := rfl
theorem mnx_mth {M : Mem} {j n : Nat} : mnx (mth M j n) = mnx M + j := rfl
theorem msl_mth {M : Mem} {j n : Nat} : msl (mth M j n) = msl M + n := rfl
theorem up2_at9 {α : Type} {g : Nat → Nat → α} {x y : Nat} {v : α} : up2 g x y v x y = v := if_pos ⟨rfl, rfl⟩
theorem up2_if {α : Type} {g : Nat → Nat → α} {x y p q : Nat} {v : α} : up2 g x y v p q = if p = x ∧ q = y then v else g p q := rfl
theorem up1_at9 {α : Type} {g : Nat → α} {x : Nat} {v : α} : up1 g x v x = v := if_pos rfl
theorem aAdd_n (a b : Nat) : aAdd (nI a) (nI b) = nI (a + b) := by rw [aAdd_e, nI_add]
theorem nI_mul (a b : Nat) : nI a * nI b = nI (a * b) := by unfold nI; exact (Int32.ofNat_mul a b).symm
theorem aMul_n (a b : Nat) : aMul (nI a) (nI b) = nI (a * b) := by rw [aMul_e, nI_mul]
theorem aSub_n {a b : Nat} (h : b ≤ a) : aSub (nI a) (nI b) = nI (a - b) := by
  rw [aSub_e]
  have : nI a = nI (a - b) + nI b := by rw [nI_add]; congr 1; omega
  rw [this, Int32.add_sub_cancel]
theorem aDiv_n {a b : Nat} (ha : a < 2147483648) (hb : b < 2147483648) : aDiv (nI a) (nI b) = nI (a / b) := by
  rw [aDiv_e]
  apply Int32.toInt_inj.mp
  rw [Int32.toInt_div_of_ne_left _ _ (by intro e; have h9 := congrArg Int32.toInt e; rw [nI_toInt ha] at h9; have h8 : Int32.minValue.toInt = -2147483648 := (by decide); omega), nI_toInt ha, nI_toInt hb, nI_toInt (Nat.lt_of_le_of_lt (Nat.div_le_self _ _) ha)]
  rfl
theorem aRem_n {a b : Nat} (ha : a < 2147483648) (hb : b < 2147483648) : aRem (nI a) (nI b) = nI (a % b) := by
  have h1 := aDiv_n ha hb
  rw [aDiv_e] at h1
  rw [aRem_e, h1, nI_mul]
  have h2 : a = a % b + a / b * b := by have := Nat.mod_add_div a b; rw [Nat.mul_comm b] at this; omega
  have : nI a = nI (a % b) + nI (a / b * b) := by rw [nI_add, ← h2]
  rw [this, Int32.add_sub_cancel]
theorem nI_eqI {a b : Nat} (ha : a < 2147483648) (hb : b < 2147483648) : nI a = nI b ↔ a = b := nI_eq ha hb
theorem nI_ltN {a b : Nat} (ha : a < 2147483648) (hb : b < 2147483648) : nI a < nI b ↔ a < b := nI_ltI ha hb
theorem nI_leN {a b : Nat} (ha : a < 2147483648) (hb : b < 2147483648) : nI a ≤ nI b ↔ a ≤ b := nI_leI ha hb
