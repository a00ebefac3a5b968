set_option maxRecDepth 4000
/-! ===== Strength.look, greatestOf, weakest (walks) ===== -/
/-- the greatest stress that was found, its compartment by the smallest sea, and by the smallest number -/
noncomputable def lkStep (st : Nat → UInt64) (m : UInt64 × Nat × Nat) : UInt64 × Nat × Nat := if dCmL (st (worstOf st)) m.1 ≤ 0 then (if dCmL (st (worstOf st)) m.1 = 0 then (m.1, m.2.1, min m.2.2 (worstOf st)) else m) else (st (worstOf st), worstOf st, worstOf st)
noncomputable def lkL (S : Sh) (p : Bool) : Nat → Nat → UInt64 × Nat × Nat → UInt64 × Nat × Nat
  | 0, _, m => m
  | n + 1, s, m => lkL S p n (s + 1) (lkStep (S.str p s) m)
noncomputable def Sh.look (S : Sh) (p : Bool) (from_ : Nat) : UInt64 × Nat × Nat := lkL S p (2 - from_) (from_ + 1) (S.str p from_ (worstOf (S.str p from_)), worstOf (S.str p from_), worstOf (S.str p from_))
/-- the greatest stress of the seas; -1.0 without a draught -/
noncomputable def Sh.great (S : Sh) (p : Bool) (from_ : Nat) : UInt64 := if dCmL (S.dr p) FP.dconst0 < 0 then kD 13830554455654793216 else (S.look p from_).1
theorem lkStep_lt {st : Nat → UInt64} {m : UInt64 × Nat × Nat} (h1 : m.2.1 < 6) (h2 : m.2.2 < 6) : (lkStep st m).2.1 < 6 ∧ (lkStep st m).2.2 < 6 := by
  unfold lkStep
  split
  · split
    · exact ⟨h1, Nat.lt_of_le_of_lt (Nat.min_le_left _ _) h2⟩
    · exact ⟨h1, h2⟩
  · exact ⟨worst_lt, worst_lt⟩
theorem lkL_lt {S : Sh} {p : Bool} : ∀ (n s : Nat) (m : UInt64 × Nat × Nat), m.2.1 < 6 → m.2.2 < 6 → (lkL S p n s m).2.1 < 6 ∧ (lkL S p n s m).2.2 < 6
  | 0, _, _, h1, h2 => ⟨h1, h2⟩
  | n + 1, s, m, h1, h2 => by
    have h := lkStep_lt (st := S.str p s) h1 h2
    exact lkL_lt n (s + 1) _ h.1 h.2
theorem look_lt {S : Sh} {p : Bool} {k : Nat} : (S.look p k).2.1 < 6 ∧ (S.look p k).2.2 < 6 := lkL_lt _ _ _ worst_lt worst_lt
theorem lkL_N {S : Sh} {p : Bool} (iS : SI S) : ∀ (n s : Nat) (m : UInt64 × Nat × Nat), isN m.1 → isN (lkL S p n s m).1
  | 0, _, _, h => h
  | n + 1, s, m, h => by
    refine lkL_N iS n (s + 1) _ ?_
    unfold lkStep
    split
    · split
      · exact h
      · exact h
    · exact str_N iS worst_lt
theorem look_N {S : Sh} {p : Bool} {k : Nat} (iS : SI S) : isN (S.look p k).1 := lkL_N iS _ _ _ (str_N iS worst_lt)
theorem great_N {S : Sh} {p : Bool} {k : Nat} (iS : SI S) : isN (S.great p k) := by
  unfold Sh.great
  split
  · exact isN_of bd_kD (by decide)
  · exact look_N iS
/-- numbers that aren't negative: their order is that of their bits -/
theorem mg_N {x : UInt64} (h : isN x) : mg x ≤ 9218868437227405312 := by
  have h' : x &&& 0x7fffffffffffffff ≤ 0x7ff0000000000000 := h
  rw [UInt64.le_iff_toNat_le] at h'
  have h1 := (abs_bits x).1
  have h2 := (abs_bits x).2
  unfold mg at h1
  unfold sgn at h2
  rw [decide_eq_false_iff_not] at h2
  have h3 : (x &&& 0x7fffffffffffffff).toNat % 9223372036854775808 = (x &&& 0x7fffffffffffffff).toNat := Nat.mod_eq_of_lt (by omega)
  rw [h3] at h1
  unfold mg
  rw [← h1]
  exact h'
section LOK
variable {G : Nat → Option Nat} {b : Nat} {g : SG} {S : Sh} {p q : Bool}
theorem c196 {M : Mem} {s : Nat} (hs : s < 3) : ex G 1 196 0 [(0, vI (nI s))] [] M = some (.inl (some (vR (G (9 + s)))), M) := by
  rw [E196_0]
  obtain h | h | h : s = 0 ∨ s = 1 ∨ s = 2 := by omega
  · subst h; rfl
  · subst h; rfl
  · subst h; rfl
theorem iMin_n {a b : Nat} (ha : a < 2147483648) (hb : b < 2147483648) : iMin (nI a) (nI b) = nI (min a b) := by
  unfold iMin
  by_cases h : a ≤ b
  · rw [if_pos ((nI_leN ha hb).mpr h), Nat.min_eq_left h]
  · rw [if_neg (fun h9 => h ((nI_leN ha hb).mp h9)), Nat.min_eq_right (by omega)]
theorem x67 {M : Mem} {c a b : Nat} (ha : a < 2147483648) (hb : b < 2147483648) : ex G c 67 0 [(0, vI (nI a)), (1, vI (nI b))] [] M = some (.inl (some (vI (nI (min a b)))), M) := by
  rw [E67_0]
  by_cases h : a ≤ b
  · rw [if_pos ((nI_leN ha hb).mpr h), Nat.min_eq_left h]; rfl
  · rw [if_neg (fun h9 => h ((nI_leN ha hb).mp h9)), Nat.min_eq_right (by omega)]; rfl
/-- what look keeps -/
abbrev LkM (M : Mem) (b : Nat) (m : UInt64 × Nat × Nat) : Prop := (mfd M 83 (b + 16) = m.1) ∧ (mfi M 84 (b + 16) = nI m.2.1) ∧ (mfi M 85 (b + 16) = nI m.2.2)
theorem LkM.v {M : Mem} {b : Nat} {m : UInt64 × Nat × Nat} (self_ : LkM M b m) : mfd M 83 (b + 16) = m.1 := self_.1
theorem LkM.s {M : Mem} {b : Nat} {m : UInt64 × Nat × Nat} (self_ : LkM M b m) : mfi M 84 (b + 16) = nI m.2.1 := self_.2.1
theorem LkM.n {M : Mem} {b : Nat} {m : UInt64 × Nat × Nat} (self_ : LkM M b m) : mfi M 85 (b + 16) = nI m.2.2 := self_.2.2
/-- the head of a sea: the ship has met it -/
theorem c569_h {M : Mem} (C : ShC G M b g S q) (hG : SeaG G) {s : Nat} (hs : s < 3) (B : BgM M b S p) (iS : SI S) :
    ∃ M1, QA (stA b) M M1 ∧ (∀ c, c < 6 → mad M1 (b + 21) c = S.str p s c) ∧ ex G 1 569 1 [(0, vR (some (b + 16))), (2, vI (nI s))] [] M = (if dCmL (S.str p s (worstOf (S.str p s))) (mfd M1 83 (b + 16)) ≤ 0 then (if dCmL (S.str p s (worstOf (S.str p s))) (mfd M1 83 (b + 16)) = 0 then cbI (ex G 1 67 0 [(0, vI (mfi M1 85 (b + 16))), (1, vI (nI (worstOf (S.str p s))))] [] M1) (fun v16 M15 => pI M15 1 19 85 (some (b + 16)) v16 (fun M17 => ex G 1 569 1 [(0, vR (some (b + 16))), (2, vI (nI (s + 1)))] [] M17)) else ex G 1 569 1 [(0, vR (some (b + 16))), (2, vI (nI (s + 1)))] [] M1) else pD M1 1 19 83 (some (b + 16)) (S.str p s (worstOf (S.str p s))) (fun M20 => pI M20 1 19 84 (some (b + 16)) (nI (worstOf (S.str p s))) (fun M21 => pI M21 1 19 85 (some (b + 16)) (nI (worstOf (S.str p s))) (fun M22 => ex G 1 569 1 [(0, vR (some (b + 16))), (2, vI (nI (s + 1)))] [] M22)))) := by
  obtain ⟨a, ha⟩ : ∃ a, G (9 + s) = some a := by
    obtain ⟨x, y, z, h1, h2, h3, -⟩ := hG
    obtain h | h | h : s = 0 ∨ s = 1 ∨ s = 2 := by omega
    · subst h; exact ⟨x, h1⟩
    · subst h; exact ⟨y, h2⟩
    · subst h; exact ⟨z, h3⟩
  obtain ⟨M1, e1, q1, h1⟩ := c570 C hG hs ha B iS
  have C1 := C.fr0 q1.q
  have hst : ∀ c, c < 6 → mad M1 (b + 21) c = S.str p s c := fun c hc => (h1 c hc).2.2
  refine ⟨M1, q1, hst, ?_⟩
  rw [E569_1, if_pos (show nI s < 3 from nI_lt (a := s) (b := 3) hs (by decide)), show aAdd (nI s) 1 = nI (s + 1) from aAdd_n s 1]
  rw [cbR_of (c196 hs), ha]
  first | refine Eq.trans ((vc1_ok C.stk)) ?_ | refine Rt.eq ((vc1_ok C.stk)) ?_ | refine Th.eq ((vc1_ok C.stk)) ?_
  first | refine Eq.trans ((cbV_of e1)) ?_ | refine Rt.eq ((cbV_of e1)) ?_ | refine Th.eq ((cbV_of e1)) ?_
  first | refine Eq.trans ((vc1_ok C1.stk)) ?_ | refine Rt.eq ((vc1_ok C1.stk)) ?_ | refine Th.eq ((vc1_ok C1.stk)) ?_
  first | refine Eq.trans ((cbI_of (c574 C1 hst))) ?_ | refine Rt.eq ((cbI_of (c574 C1 hst))) ?_ | refine Th.eq ((cbI_of (c574 C1 hst))) ?_
  first | refine Eq.trans ((gR_v C1.stk C1.rsss)) ?_ | refine Rt.eq ((gR_v C1.stk C1.rsss)) ?_ | refine Th.eq ((gR_v C1.stk C1.rsss)) ?_
  first | refine Eq.trans ((ldD_v C1.sssk C1.sssln worst_lt (by decide) (hst _ worst_lt))) ?_ | refine Rt.eq ((ldD_v C1.sssk C1.sssln worst_lt (by decide) (hst _ worst_lt))) ?_ | refine Th.eq ((ldD_v C1.sssk C1.sssln worst_lt (by decide) (hst _ worst_lt))) ?_
  first | refine Eq.trans ((gD_ok C1.stk)) ?_ | refine Rt.eq ((gD_ok C1.stk)) ?_ | refine Th.eq ((gD_ok C1.stk)) ?_
  by_cases hc : dCmL (S.str p s (worstOf (S.str p s))) (mfd M1 83 (b + 16)) ≤ 0
  · rw [if_pos hc, if_pos hc]
    first | refine Eq.trans ((gR_v C1.stk C1.rsss)) ?_ | refine Rt.eq ((gR_v C1.stk C1.rsss)) ?_ | refine Th.eq ((gR_v C1.stk C1.rsss)) ?_
    first | refine Eq.trans ((ldD_v C1.sssk C1.sssln worst_lt (by decide) (hst _ worst_lt))) ?_ | refine Rt.eq ((ldD_v C1.sssk C1.sssln worst_lt (by decide) (hst _ worst_lt))) ?_ | refine Th.eq ((ldD_v C1.sssk C1.sssln worst_lt (by decide) (hst _ worst_lt))) ?_
    first | refine Eq.trans ((gD_ok C1.stk)) ?_ | refine Rt.eq ((gD_ok C1.stk)) ?_ | refine Th.eq ((gD_ok C1.stk)) ?_
    by_cases hc2 : dCmL (S.str p s (worstOf (S.str p s))) (mfd M1 83 (b + 16)) = 0
    · rw [if_pos hc2, if_pos hc2]
      first | refine Eq.trans ((gI_ok C1.stk)) ?_ | refine Rt.eq ((gI_ok C1.stk)) ?_ | refine Th.eq ((gI_ok C1.stk)) ?_
      rfl
    · rw [if_neg hc2, if_neg hc2]
  · rw [if_neg hc, if_neg hc]
    first | refine Eq.trans ((gR_v C1.stk C1.rsss)) ?_ | refine Rt.eq ((gR_v C1.stk C1.rsss)) ?_ | refine Th.eq ((gR_v C1.stk C1.rsss)) ?_
    first | refine Eq.trans ((ldD_v C1.sssk C1.sssln worst_lt (by decide) (hst _ worst_lt))) ?_ | refine Rt.eq ((ldD_v C1.sssk C1.sssln worst_lt (by decide) (hst _ worst_lt))) ?_ | refine Th.eq ((ldD_v C1.sssk C1.sssln worst_lt (by decide) (hst _ worst_lt))) ?_
    rfl
/-- a greater one is found -/
theorem c569_g {M1 : Mem} (C1 : ShC G M1 b g S q) (B1 : BgM M1 b S p) {v : UInt64} {w : Nat} : ∃ M', QC noX 0 0 M1 M' ∧ BgM M' b S p ∧ LkM M' b (v, w, w) ∧ ∀ κ : Mem → Res, pD M1 1 19 83 (some (b + 16)) v (fun M20 => pI M20 1 19 84 (some (b + 16)) (nI w) (fun M21 => pI M21 1 19 85 (some (b + 16)) (nI w) κ)) = κ M' := by
  have q2 : QC noX 0 0 M1 (sfd M1 83 (b + 16) v) := QC.sfd rfl
  have B2 : BgM (sfd M1 83 (b + 16) v) b S p := B1.sfd rfl
  have v2 : mfd (sfd M1 83 (b + 16) v) 83 (b + 16) = v := sfd_at
  have p2 : ∀ κ : Mem → Res, pD M1 1 19 83 (some (b + 16)) v κ = κ (sfd M1 83 (b + 16) v) := fun κ => pD_ok C1.stk C1.stco
  generalize sfd M1 83 (b + 16) v = M2 at *
  have C2 := C1.fr0 q2
  have q3 : QC noX 0 0 M2 (sfi M2 84 (b + 16) (nI w)) := QC.sfi rfl
  have B3 : BgM (sfi M2 84 (b + 16) (nI w)) b S p := B2.sfi
  have v3 : mfd (sfi M2 84 (b + 16) (nI w)) 83 (b + 16) = v := by rw [mfd_sfi]; exact v2
  have w3 : mfi (sfi M2 84 (b + 16) (nI w)) 84 (b + 16) = nI w := sfi_at
  have p3 : ∀ κ : Mem → Res, pI M2 1 19 84 (some (b + 16)) (nI w) κ = κ (sfi M2 84 (b + 16) (nI w)) := fun κ => pI_ok C2.stk C2.stco
  generalize sfi M2 84 (b + 16) (nI w) = M3 at *
  have C3 := C2.fr0 q3
  have q4 : QC noX 0 0 M3 (sfi M3 85 (b + 16) (nI w)) := QC.sfi rfl
  refine ⟨_, (q2.tr q3).tr q4, B3.sfi, ⟨by rw [mfd_sfi]; exact v3, by rw [sfi_ne (by decide)]; exact w3, sfi_at⟩, fun κ => ?_⟩
  rw [p2, p3]
  exact pI_ok C3.stk C3.stco
theorem c569_1 (hG : SeaG G) (iS : SI S) : ∀ (n s : Nat) (M : Mem) (m : UInt64 × Nat × Nat), s + n = 3 → m.2.1 < 6 → m.2.2 < 6 → ShC G M b g S q → BgM M b S p → LkM M b m →
    ∃ M', ex G 1 569 1 [(0, vR (some (b + 16))), (2, vI (nI s))] [] M = some (.inl none, M') ∧ QC noX 0 0 M M' ∧ LkM M' b (lkL S p n s m)
  | 0, s, M, m, hs, m1, m2, C, B, K => by
    have e : s = 3 := by omega
    subst e
    refine ⟨M, ?_, QC.rf, K⟩
    rw [E569_1, if_neg (by decide)]
    rfl
  | n + 1, s, M, m, hs, m1, m2, C, B, K => by
    obtain ⟨M1, q1, h1, e1⟩ := c569_h C hG (show s < 3 by omega) B iS
    have C1 := C.fr0 q1.q
    have B1 := B.q q1 (by unfold stA; omega) (by unfold stA; omega)
    have K1 : LkM M1 b m := ⟨by rw [q1.fd]; exact K.v, by rw [q1.fi]; exact K.s, by rw [q1.fi]; exact K.n⟩
    have hl := lkStep_lt (st := S.str p s) m1 m2
    rw [e1, K1.v]
    show ∃ M', _ ∧ _ ∧ LkM M' b (lkL S p n (s + 1) (lkStep (S.str p s) m))
    unfold lkStep at hl ⊢
    by_cases hc : dCmL (S.str p s (worstOf (S.str p s))) m.1 ≤ 0
    · rw [if_pos hc]
      rw [if_pos hc] at hl ⊢
      by_cases hc2 : dCmL (S.str p s (worstOf (S.str p s))) m.1 = 0
      · rw [if_pos hc2]
        rw [if_pos hc2] at hl ⊢
        have q2 : QC noX 0 0 M1 (sfi M1 85 (b + 16) (nI (min m.2.2 (worstOf (S.str p s))))) := QC.sfi rfl
        have B2 : BgM (sfi M1 85 (b + 16) (nI (min m.2.2 (worstOf (S.str p s))))) b S p := B1.sfi
        have K2 : LkM (sfi M1 85 (b + 16) (nI (min m.2.2 (worstOf (S.str p s))))) b (m.1, m.2.1, min m.2.2 (worstOf (S.str p s))) := ⟨by rw [mfd_sfi]; exact K1.v, by rw [sfi_ne (by decide)]; exact K1.s, sfi_at⟩
        obtain ⟨M', e', q', K'⟩ := c569_1 hG iS n (s + 1) _ _ (by omega) hl.1 hl.2 (C1.fr0 q2) B2 K2
        refine ⟨M', ?_, (q1.q.tr q2).tr q', K'⟩
        rw [K1.n]
        first | refine Eq.trans ((cbI_of (x67 (Nat.lt_trans m2 (by decide)) (Nat.lt_trans worst_lt (by decide))))) ?_ | refine Rt.eq ((cbI_of (x67 (Nat.lt_trans m2 (by decide)) (Nat.lt_trans worst_lt (by decide))))) ?_ | refine Th.eq ((cbI_of (x67 (Nat.lt_trans m2 (by decide)) (Nat.lt_trans worst_lt (by decide))))) ?_
        first | refine Eq.trans ((pI_ok C1.stk C1.stco)) ?_ | refine Rt.eq ((pI_ok C1.stk C1.stco)) ?_ | refine Th.eq ((pI_ok C1.stk C1.stco)) ?_
        exact e'
      · rw [if_neg hc2]
        rw [if_neg hc2] at hl ⊢
        obtain ⟨M', e', q', K'⟩ := c569_1 hG iS n (s + 1) M1 m (by omega) m1 m2 C1 B1 K1
        exact ⟨M', e', q1.q.tr q', K'⟩
    · rw [if_neg hc]
      rw [if_neg hc] at hl ⊢
      obtain ⟨M2, q2, B2, K2, p2⟩ := c569_g C1 B1 (v := S.str p s (worstOf (S.str p s))) (w := worstOf (S.str p s))
      obtain ⟨M', e', q', K'⟩ := c569_1 hG iS n (s + 1) M2 _ (by omega) worst_lt worst_lt (C1.fr0 q2) B2 K2
      refine ⟨M', ?_, (q1.q.tr q2).tr q', K'⟩
      rw [p2]
      exact e'
end LOK
