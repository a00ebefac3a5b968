set_option maxRecDepth 4000
/-! ===== Strength.look as a whole, greatestOf, weakest ===== -/
section GRE
variable {G : Nat → Option Nat} {M : Mem} {b : Nat} {g : SG} {S : Sh} {p q : Bool}
theorem c569 (C : ShC G M b g S q) (hG : SeaG G) {k : Nat} (hk : k < 2) (B : BgM M b S p) (iS : SI S) :
    ∃ M', ex G 1 569 0 [(0, vR (some (b + 16))), (1, vI (nI k))] [] M = some (.inl none, M') ∧ QC noX 0 0 M M' ∧ LkM M' b (S.look p k) := by
  have q0 : QC noX 0 0 M (sfd M 83 (b + 16) (kD 13830554455654793216)) := QC.sfd rfl
  have B0 : BgM (sfd M 83 (b + 16) (kD 13830554455654793216)) b S p := B.sfd rfl
  have v0 : mfd (sfd M 83 (b + 16) (kD 13830554455654793216)) 83 (b + 16) = kD 13830554455654793216 := sfd_at
  have p0 : ∀ κ : Mem → Res, pD M 1 19 83 (some (b + 16)) (kD 13830554455654793216) κ = κ (sfd M 83 (b + 16) (kD 13830554455654793216)) := fun κ => pD_ok C.stk C.stco
  generalize sfd M 83 (b + 16) (kD 13830554455654793216) = M0 at *
  have C0 := C.fr0 q0
  obtain ⟨M1, q1, h1, e1⟩ := c569_h C0 hG (show k < 3 by omega) B0 iS
  have C1 := C0.fr0 q1.q
  have B1 := B0.q q1 (by unfold stA; omega) (by unfold stA; omega)
  have v1 : mfd M1 83 (b + 16) = kD 13830554455654793216 := by rw [q1.fd]; exact v0
  rw [v1, if_neg (neg1_lt (str_N iS worst_lt) (ps_str iS worst_lt))] at e1
  obtain ⟨M2, q2, B2, K2, p2⟩ := c569_g C1 B1 (v := S.str p k (worstOf (S.str p k))) (w := worstOf (S.str p k))
  rw [p2] at e1
  obtain ⟨M', e', q', K'⟩ := c569_1 (q := q) hG iS (2 - k) (k + 1) M2 _ (by omega) worst_lt worst_lt (C1.fr0 q2) B2 K2
  refine ⟨M', ?_, ((q0.tr q1.q).tr q2).tr q', K'⟩
  rw [E569_0, p0]
  exact e1.trans e'
/-- STRENGTH.GREATESTOF -/
theorem c565 (C : ShC G M b g S false) (hG : SeaG G) {k : Nat} (hk : k < 2) (iS : SI S) :
    ∃ M', ex G 1 565 0 [(0, vR (some (b + 16))), (1, vI (nI k)), (2, vI (bI p))] [] M = some (.inl (some (vD (S.great p k))), M') ∧ QC noX 0 0 M M' ∧ (¬ dCmL (S.dr p) FP.dconst0 < 0 → LkM M' b (S.look p k)) := by
  obtain ⟨M1, e1, q1, B1⟩ := c566 (p := p) C iS
  have C1 := C.fr0 q1
  have hN := great_N (S := S) (p := p) (k := k) iS
  unfold Sh.great at hN ⊢
  by_cases h : dCmL (S.dr p) FP.dconst0 < 0
  · refine ⟨M1, ?_, q1, fun h9 => absurd h h9⟩
    rw [decide_eq_true h] at e1
    rw [if_pos h] at hN ⊢
    rw [E565_0]
    first | refine Eq.trans ((vc1_ok C.stk)) ?_ | refine Rt.eq ((vc1_ok C.stk)) ?_ | refine Th.eq ((vc1_ok C.stk)) ?_
    first | refine Eq.trans ((cbI_of e1)) ?_ | refine Rt.eq ((cbI_of e1)) ?_ | refine Th.eq ((cbI_of e1)) ?_
    rw [if_pos (show bI (!true) = 0 from rfl)]
    exact rD_ok hN
  · obtain ⟨M2, e2, q2, K2⟩ := c569 C1 hG hk B1 iS
    have C2 := C1.fr0 q2
    refine ⟨M2, ?_, q1.tr q2, fun _ => K2⟩
    rw [decide_eq_false h] at e1
    rw [if_neg h] at hN ⊢
    rw [E565_0]
    first | refine Eq.trans ((vc1_ok C.stk)) ?_ | refine Rt.eq ((vc1_ok C.stk)) ?_ | refine Th.eq ((vc1_ok C.stk)) ?_
    first | refine Eq.trans ((cbI_of e1)) ?_ | refine Rt.eq ((cbI_of e1)) ?_ | refine Th.eq ((cbI_of e1)) ?_
    rw [if_neg (show ¬ bI (!false) = 0 by decide)]
    first | refine Eq.trans ((vc1_ok C1.stk)) ?_ | refine Rt.eq ((vc1_ok C1.stk)) ?_ | refine Th.eq ((vc1_ok C1.stk)) ?_
    first | refine Eq.trans ((cbV_of e2)) ?_ | refine Rt.eq ((cbV_of e2)) ?_ | refine Th.eq ((cbV_of e2)) ?_
    first | refine Eq.trans ((gD_v C2.stk K2.v)) ?_ | refine Rt.eq ((gD_v C2.stk K2.v)) ?_ | refine Th.eq ((gD_v C2.stk K2.v)) ?_
    exact rD_ok hN
theorem ps_look (iS : SI S) {k : Nat} (hk : k < 2) : Ps (S.look p k).1 := by
  have h : ∀ (n s : Nat) (m : UInt64 × Nat × Nat), Ps m.1 → Ps (lkL S p n s m).1 := by
    intro n
    induction n with
    | zero => intro s m h; exact h
    | succ n ih =>
      intro s m h
      refine ih (s + 1) _ ?_
      unfold lkStep
      split
      · split
        · exact h
        · exact h
      · exact ps_str iS worst_lt
  exact h _ _ _ (ps_str iS worst_lt)
/-- the greatest stress is less than nought only without a draught -/
theorem ge0_N {x : UInt64} (nx : isN x) (sx : Ps x) : ¬ dCmG x FP.dconst0 < 0 := by
  have h0 : isN FP.dconst0 := isN_of bd_c0 (by decide)
  rw [cG_L nx sx h0 ps_c0, cL_lt nx sx h0 ps_c0]
  show ¬ mg x < 0
  omega
theorem great_neg (iS : SI S) {k : Nat} (hk : k < 2) : dCmG (S.great p k) FP.dconst0 < 0 ↔ dCmL (S.dr p) FP.dconst0 < 0 := by
  unfold Sh.great
  by_cases h : dCmL (S.dr p) FP.dconst0 < 0
  · rw [if_pos h]; exact ⟨fun _ => h, fun _ => cmp_neg1.2⟩
  · rw [if_neg h]; exact ⟨fun h9 => absurd h9 (ge0_N (look_N iS) (ps_look iS hk)), fun h9 => absurd h9 h⟩
noncomputable def Sh.weak (S : Sh) (p : Bool) : Option Nat := if dCmL (S.dr p) FP.dconst0 < 0 then none else some (S.look p 0).2.2
/-- STRENGTH.WEAKEST -/
theorem c564 (C : ShC G M b g S false) (hG : SeaG G) (iS : SI S) : ∃ M', ex G 1 564 0 [(0, vR (some (b + 16))), (1, vI (bI p))] [] M = some (.inl (some (vI (oI (S.weak p)))), M') ∧ QC noX 0 0 M M' := by
  obtain ⟨M1, e1, q1, K1⟩ := c565 (p := p) (k := 0) C hG (by decide) iS
  have C1 := C.fr0 q1
  refine ⟨M1, ?_, q1⟩
  rw [E564_0]
  first | refine Eq.trans ((vc1_ok C.stk)) ?_ | refine Rt.eq ((vc1_ok C.stk)) ?_ | refine Th.eq ((vc1_ok C.stk)) ?_
  first | refine Eq.trans ((cbD_of e1)) ?_ | refine Rt.eq ((cbD_of e1)) ?_ | refine Th.eq ((cbD_of e1)) ?_
  unfold Sh.weak
  by_cases h : dCmL (S.dr p) FP.dconst0 < 0
  · rw [if_pos ((great_neg iS (by decide)).mpr h), if_pos h]
    rfl
  · rw [if_neg (fun h9 => h ((great_neg iS (by decide)).mp h9)), if_neg h]
    first | refine Eq.trans ((gI_v C1.stk (K1 h).n)) ?_ | refine Rt.eq ((gI_v C1.stk (K1 h).n)) ?_ | refine Th.eq ((gI_v C1.stk (K1 h).n)) ?_
    rfl
end GRE
