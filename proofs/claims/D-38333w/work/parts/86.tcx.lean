set_option maxRecDepth 4000
/-! ===== tables that the start brings; what the reference's queries go out from ===== -/
def TabD0 (G : Nat → Option Nat) (M : Mem) (g n : Nat) (f : Nat → UInt64) : Prop := ∃ a, G g = some a ∧ mcl M a = 103 ∧ mco M a = 0 ∧ a < mnx M ∧ n ≤ mln M a ∧ ∀ j, j < n → mad M a j = f j
def TabI0 (G : Nat → Option Nat) (M : Mem) (g n : Nat) (f : Nat → Int32) : Prop := ∃ a, G g = some a ∧ mcl M a = 100 ∧ mco M a = 0 ∧ a < mnx M ∧ n ≤ mln M a ∧ ∀ j, j < n → mai M a j = f j
def TabM0 (G : Nat → Option Nat) (M : Mem) (g n k : Nat) (f : Nat → Nat → Int32) : Prop := ∃ a, G g = some a ∧ mcl M a = 109 ∧ mco M a = 0 ∧ a < mnx M ∧ n ≤ mln M a ∧ ∀ i, i < n → ∃ r, mar M a i = some r ∧ mcl M r = 100 ∧ mco M r = 0 ∧ r < mnx M ∧ k ≤ mln M r ∧ ∀ j, j < k → mai M r j = f i j
def tbI (l : List Int32) (j : Nat) : Int32 := l.getD j 0
def tbM (l : List (List Int32)) (i j : Nat) : Int32 := (l.getD i []).getD j 0
def tDeep : List Int32 := [10, 0, 25, 5, 15, 25]
def tMoon : List Int32 := [0, 6, 10, 12, 10, 6, 0, -6, -10, -12, -10, -6]
def tSpring : List Int32 := [4, 2, -1, -3, -4, -3, -1, 2]
def tRoom : List Int32 := [60, 90, 70, 50, 70, 90]
def tHome : List Int32 := [3, 4, 5, 2]
def tOrder : List Int32 := [0, 1, 4, 7, 10, 13, 16, 2, 5, 8, 11, 14, 17, 20, 3, 6, 9, 12, 15, 18, 19, 21, 22, 23]
def tAlong : List (List Int32) := [[8, 8, 8, 8, 8, 8, 8], [3, 6, 8, 8, 8, 6, 2], [1, 4, 7, 8, 6, 3, 0]]
def tUp : List (List Int32) := [[8, 8, 8, 8, 8], [4, 7, 8, 8, 8], [1, 4, 6, 8, 8]]
def tSeas : List (List Int32) := [[0, 0, 0, 0, 0, 0, 0], [4, 1, -3, -4, -3, 1, 4], [-4, -1, 3, 4, 3, -1, -4]]
abbrev ConT (G : Nat → Option Nat) (M : Mem) : Prop := (TabD0 G M 53 7 simT) ∧ (TabD0 G M 54 10 angT) ∧ (TabM0 G M 55 3 7 (tbM tSeas)) ∧ (TabM0 G M 51 3 7 (tbM tAlong)) ∧ (TabM0 G M 52 3 5 (tbM tUp)) ∧ (TabI0 G M 36 6 (tbI tDeep)) ∧ (TabI0 G M 37 12 (tbI tMoon)) ∧ (TabI0 G M 38 8 (tbI tSpring)) ∧ (TabI0 G M 39 6 (tbI tRoom)) ∧ (TabI0 G M 56 4 (tbI tHome)) ∧ (TabI0 G M 57 24 (tbI tOrder))
theorem ConT.sim {G : Nat → Option Nat} {M : Mem} (self_ : ConT G M) : TabD0 G M 53 7 simT := self_.1
theorem ConT.ang {G : Nat → Option Nat} {M : Mem} (self_ : ConT G M) : TabD0 G M 54 10 angT := self_.2.1
theorem ConT.seas {G : Nat → Option Nat} {M : Mem} (self_ : ConT G M) : TabM0 G M 55 3 7 (tbM tSeas) := self_.2.2.1
theorem ConT.along {G : Nat → Option Nat} {M : Mem} (self_ : ConT G M) : TabM0 G M 51 3 7 (tbM tAlong) := self_.2.2.2.1
theorem ConT.up {G : Nat → Option Nat} {M : Mem} (self_ : ConT G M) : TabM0 G M 52 3 5 (tbM tUp) := self_.2.2.2.2.1
theorem ConT.deep {G : Nat → Option Nat} {M : Mem} (self_ : ConT G M) : TabI0 G M 36 6 (tbI tDeep) := self_.2.2.2.2.2.1
theorem ConT.moon {G : Nat → Option Nat} {M : Mem} (self_ : ConT G M) : TabI0 G M 37 12 (tbI tMoon) := self_.2.2.2.2.2.2.1
theorem ConT.spring {G : Nat → Option Nat} {M : Mem} (self_ : ConT G M) : TabI0 G M 38 8 (tbI tSpring) := self_.2.2.2.2.2.2.2.1
theorem ConT.room {G : Nat → Option Nat} {M : Mem} (self_ : ConT G M) : TabI0 G M 39 6 (tbI tRoom) := self_.2.2.2.2.2.2.2.2.1
theorem ConT.home {G : Nat → Option Nat} {M : Mem} (self_ : ConT G M) : TabI0 G M 56 4 (tbI tHome) := self_.2.2.2.2.2.2.2.2.2.1
theorem ConT.order {G : Nat → Option Nat} {M : Mem} (self_ : ConT G M) : TabI0 G M 57 24 (tbI tOrder) := self_.2.2.2.2.2.2.2.2.2.2
section CON
variable {G : Nat → Option Nat} {M M' : Mem} {c : Nat}
theorem TabD0.ext {g n : Nat} {f : Nat → UInt64} (h : TabD0 G M g n f) (E : Ext c M M') (h3 : c ≠ 3) (h0 : c ≠ 0) : TabD0 G M' g n f := by
  obtain ⟨a, e, k, co, lt, ln, v⟩ := h
  obtain ⟨x1, x2, x3⟩ := E.2.2.1 a lt
  have S := E.2.2.2.1 h3 a lt (by rw [co]; exact fun h => h0 h.symm)
  exact ⟨a, e, x1.trans k, x2.trans co, Nat.lt_of_lt_of_le lt E.1, by rw [x3]; exact ln, fun j hj => (S.2.2.2.2.2.1 j).trans (v j hj)⟩
theorem TabI0.ext {g n : Nat} {f : Nat → Int32} (h : TabI0 G M g n f) (E : Ext c M M') (h3 : c ≠ 3) (h0 : c ≠ 0) : TabI0 G M' g n f := by
  obtain ⟨a, e, k, co, lt, ln, v⟩ := h
  obtain ⟨x1, x2, x3⟩ := E.2.2.1 a lt
  have S := E.2.2.2.1 h3 a lt (by rw [co]; exact fun h => h0 h.symm)
  exact ⟨a, e, x1.trans k, x2.trans co, Nat.lt_of_lt_of_le lt E.1, by rw [x3]; exact ln, fun j hj => (S.2.2.2.2.1 j).trans (v j hj)⟩
theorem TabM0.ext {g n k : Nat} {f : Nat → Nat → Int32} (h : TabM0 G M g n k f) (E : Ext c M M') (h3 : c ≠ 3) (h0 : c ≠ 0) : TabM0 G M' g n k f := by
  obtain ⟨a, e, kd, co, lt, ln, v⟩ := h
  obtain ⟨x1, x2, x3⟩ := E.2.2.1 a lt
  have S := E.2.2.2.1 h3 a lt (by rw [co]; exact fun h => h0 h.symm)
  refine ⟨a, e, x1.trans kd, x2.trans co, Nat.lt_of_lt_of_le lt E.1, by rw [x3]; exact ln, fun i hi => ?_⟩
  obtain ⟨r, r1, r2, r3, r4, r5, r6⟩ := v i hi
  obtain ⟨y1, y2, y3⟩ := E.2.2.1 r r4
  have S' := E.2.2.2.1 h3 r r4 (by rw [r3]; exact fun h => h0 h.symm)
  exact ⟨r, (S.2.2.2.2.2.2 i).trans r1, y1.trans r2, y2.trans r3, Nat.lt_of_lt_of_le r4 E.1, by rw [y3]; exact r5, fun j hj => (S'.2.2.2.2.1 j).trans (r6 j hj)⟩
theorem ConT.ext (h : ConT G M) (E : Ext c M M') (h3 : c ≠ 3) (h0 : c ≠ 0) : ConT G M' :=
  ⟨h.sim.ext E h3 h0, h.ang.ext E h3 h0, h.seas.ext E h3 h0, h.along.ext E h3 h0, h.up.ext E h3 h0, h.deep.ext E h3 h0, h.moon.ext E h3 h0, h.spring.ext E h3 h0, h.room.ext E h3 h0, h.home.ext E h3 h0, h.order.ext E h3 h0⟩
theorem TabD0.d {g n : Nat} {f : Nat → UInt64} (h : TabD0 G M g n f) : TabD G M g n f := by
  obtain ⟨a, e, k, co, lt, ln, v⟩ := h
  exact ⟨a, e, k, ln, v⟩
theorem TabI0.d {g n : Nat} {f : Nat → Int32} (h : TabI0 G M g n f) : TabI G M g n f := by
  obtain ⟨a, e, k, co, lt, ln, v⟩ := h
  exact ⟨a, e, k, ln, v⟩
/-- a table's entry is read -/
theorem ldM_t {g n k i j : Nat} {f : Nat → Nat → Int32} {κ : Int32 → Res} (h : TabM0 G M g n k f) (hi : i < n) (hj : j < k) (hn : n < 2147483648) (hk : k < 2147483648) : (ldR M 109 (G g) (nI i) fun r => ldI M 100 r (nI j) κ) = κ (f i j) := by
  obtain ⟨a, e, kd, co, lt, ln, v⟩ := h
  obtain ⟨r, r1, r2, r3, r4, r5, r6⟩ := v i hi
  rw [e]
  unfold ldR
  simp only []
  rw [if_pos ⟨kd, nI_pos (by omega), by rw [nI_clamp (by omega)]; omega⟩, nI_clamp (by omega), r1]
  unfold ldI
  simp only []
  rw [if_pos ⟨r2, nI_pos (by omega), by rw [nI_clamp (by omega)]; omega⟩, nI_clamp (by omega), r6 j hj]
end CON
/-- what a query of the reference's ship goes out from -/
abbrev TC (G : Nat → Option Nat) (M : Mem) (m u : Nat) (g : SG) (S : Sh) (w : Nat) (lots : List LotA) (ll le : Nat) (lx : Nat → Nat) : Prop := (ShT G M m u g S w) ∧ (LtT G M m lots ll le lx) ∧ (∀ x ∈ lots, LtI x) ∧ (lots.length ≤ 8) ∧ (S.cargo = lots.filter (abd S.num)) ∧ (SI S) ∧ (Zr M) ∧ (ConT G M)
theorem TC.t {G : Nat → Option Nat} {M : Mem} {m u : Nat} {g : SG} {S : Sh} {w : Nat} {lots : List LotA} {ll le : Nat} {lx : Nat → Nat} (self_ : TC G M m u g S w lots ll le lx) : ShT G M m u g S w := self_.1
theorem TC.l {G : Nat → Option Nat} {M : Mem} {m u : Nat} {g : SG} {S : Sh} {w : Nat} {lots : List LotA} {ll le : Nat} {lx : Nat → Nat} (self_ : TC G M m u g S w lots ll le lx) : LtT G M m lots ll le lx := self_.2.1
theorem TC.hl {G : Nat → Option Nat} {M : Mem} {m u : Nat} {g : SG} {S : Sh} {w : Nat} {lots : List LotA} {ll le : Nat} {lx : Nat → Nat} (self_ : TC G M m u g S w lots ll le lx) : ∀ x ∈ lots, LtI x := self_.2.2.1
theorem TC.h8 {G : Nat → Option Nat} {M : Mem} {m u : Nat} {g : SG} {S : Sh} {w : Nat} {lots : List LotA} {ll le : Nat} {lx : Nat → Nat} (self_ : TC G M m u g S w lots ll le lx) : lots.length ≤ 8 := self_.2.2.2.1
theorem TC.cg {G : Nat → Option Nat} {M : Mem} {m u : Nat} {g : SG} {S : Sh} {w : Nat} {lots : List LotA} {ll le : Nat} {lx : Nat → Nat} (self_ : TC G M m u g S w lots ll le lx) : S.cargo = lots.filter (abd S.num) := self_.2.2.2.2.1
theorem TC.i {G : Nat → Option Nat} {M : Mem} {m u : Nat} {g : SG} {S : Sh} {w : Nat} {lots : List LotA} {ll le : Nat} {lx : Nat → Nat} (self_ : TC G M m u g S w lots ll le lx) : SI S := self_.2.2.2.2.2.1
theorem TC.z {G : Nat → Option Nat} {M : Mem} {m u : Nat} {g : SG} {S : Sh} {w : Nat} {lots : List LotA} {ll le : Nat} {lx : Nat → Nat} (self_ : TC G M m u g S w lots ll le lx) : Zr M := self_.2.2.2.2.2.2.1
theorem TC.ct {G : Nat → Option Nat} {M : Mem} {m u : Nat} {g : SG} {S : Sh} {w : Nat} {lots : List LotA} {ll le : Nat} {lx : Nat → Nat} (self_ : TC G M m u g S w lots ll le lx) : ConT G M := self_.2.2.2.2.2.2.2
section TCX
variable {G : Nat → Option Nat} {M M' : Mem} {m u : Nat} {g : SG} {S : Sh} {w : Nat} {lots : List LotA} {ll le : Nat} {lx : Nat → Nat} {p : Bool}
theorem TC.ex (T : TC G M m u g S w lots ll le lx) {n s mm b : Nat} {L : Loc_} {st : List AV} {o : Out} (q : QC noX n s M M') (e : ex G 2 mm b L st M = some (o, M')) : TC G M' m u g S w lots ll le lx := by
  have E := ev_ext (by decide) e
  exact ⟨T.t.fr0 q, T.l.fr0 q, T.hl, T.h8, T.cg, T.i, E.2.2.2.2 T.z, T.ct.ext E (by decide) (by decide)⟩
theorem ctr_b {x : UInt64} (iS : SI S) (bx : Bd x 1704) : Bd (ctr (S.wt p) x) 1750 := bd_ctr (p := p) iS bx
/-- WEIGHT -/
theorem t663 (T : TC G M m u g S w lots ll le lx) : ∃ M', ex G 2 663 0 [(0, vR (some u)), (1, vI (bI p))] [] M = some (.inl (some (vD (S.wt p))), M') ∧ QC noX 7 28 M M' ∧ LdM M' u (S.sums p) (S.carry p) := by
  obtain ⟨M1, e1, q1, L1⟩ := t664 (p := p) T.t T.l T.hl T.h8 T.cg T.z T.i
  have T1 := T.t.fr0 q1
  refine ⟨M1, ?_, q1, L1⟩
  rw [E663_0]
  first | refine Eq.trans ((vc1_ok T.t.ln.k)) ?_ | refine Rt.eq ((vc1_ok T.t.ln.k)) ?_ | refine Th.eq ((vc1_ok T.t.ln.k)) ?_
  first | refine Eq.trans ((cbV_of e1)) ?_ | refine Rt.eq ((cbV_of e1)) ?_ | refine Th.eq ((cbV_of e1)) ?_
  first | refine Eq.trans ((gR_v T1.ln.k T1.rSu)) ?_ | refine Rt.eq ((gR_v T1.ln.k T1.rSu)) ?_ | refine Th.eq ((gR_v T1.ln.k T1.rSu)) ?_
  first | refine Eq.trans ((ldD_v (i := 0) T1.suk T1.sul (by decide) (by decide) L1.w)) ?_ | refine Rt.eq ((ldD_v (i := 0) T1.suk T1.sul (by decide) (by decide) L1.w)) ?_ | refine Th.eq ((ldD_v (i := 0) T1.suk T1.sul (by decide) (by decide) L1.w)) ?_
  exact rD_ok (isN_of (wt_b (i_0 := T.i)) (by decide))
noncomputable def Sh.cen (S : Sh) (p : Bool) (k : Nat) : UInt64 := if k = 1 then S.lcg p else if k = 2 then S.tcg p else S.kg p
/-- CENTRE -/
theorem t669 (T : TC G M m u g S w lots ll le lx) {k : Nat} (h1 : 1 ≤ k) (h3 : k ≤ 3) : ∃ M', ex G 2 669 0 [(0, vR (some u)), (1, vI (nI k)), (2, vI (bI p))] [] M = some (.inl (some (vD (S.cen p k))), M') ∧ QC noX 7 28 M M' := by
  obtain ⟨M1, e1, q1, L1⟩ := t664 (p := p) T.t T.l T.hl T.h8 T.cg T.z T.i
  have T1 := T.t.fr0 q1
  have sb := sums_b (S := S) (p := p) (i := T.i)
  obtain ⟨x, hx, bx, hc⟩ : ∃ x, mad M1 (u + 20) k = x ∧ Bd x 1704 ∧ S.cen p k = ctr (S.wt p) x := by
    obtain h | h | h : k = 1 ∨ k = 2 ∨ k = 3 := by omega
    · subst h; exact ⟨_, L1.l, sb.l, rfl⟩
    · subst h; exact ⟨_, L1.t, sb.t, rfl⟩
    · subst h; exact ⟨_, L1.k, sb.k, rfl⟩
  have bc := ctr_b (p := p) T.i bx
  refine ⟨M1, ?_, q1⟩
  rw [hc, E669_0]
  first | refine Eq.trans ((vc1_ok T.t.ln.k)) ?_ | refine Rt.eq ((vc1_ok T.t.ln.k)) ?_ | refine Th.eq ((vc1_ok T.t.ln.k)) ?_
  first | refine Eq.trans ((cbV_of e1)) ?_ | refine Rt.eq ((cbV_of e1)) ?_ | refine Th.eq ((cbV_of e1)) ?_
  first | refine Eq.trans ((gR_v T1.ln.k T1.rSu)) ?_ | refine Rt.eq ((gR_v T1.ln.k T1.rSu)) ?_ | refine Th.eq ((gR_v T1.ln.k T1.rSu)) ?_
  first | refine Eq.trans ((ldD_v (i := 0) T1.suk T1.sul (by decide) (by decide) L1.w)) ?_ | refine Rt.eq ((ldD_v (i := 0) T1.suk T1.sul (by decide) (by decide) L1.w)) ?_ | refine Th.eq ((ldD_v (i := 0) T1.suk T1.sul (by decide) (by decide) L1.w)) ?_
  show (if dCmL (S.wt p) FP.dconst0 = 0 then _ else _) = _
  unfold ctr at bc ⊢
  by_cases h0 : dCmL (S.wt p) FP.dconst0 = 0
  · rw [if_pos h0, if_pos h0]
    exact rD_ok (by (first | exact isN_of (by repeat' (with_reducible first | assumption | exact bd_kD | exact bd_i2D | exact bd_c0 | exact bd_c1 | apply bd_add | apply bd_mul | apply bd_div | apply bd_sub | exact dr_b | exact bd_step | exact bd_Q | exact bd_wide | exact bd_slice | exact bd_part | exact bd_section | exact bd_lift | exact bd_at | exact bd_X | exact bd_ord | exact bd_so | exact bd_vol | exact bd_water | exact bd_draught | exact bd_simT | exact bd_bread | exact bd_br | exact bd_far | exact bd_tank | exact LdB.t (by (first | assumption | exact ldB_plate | exact ldB_item | exact ldB_tank | exact ldB_engine | exact ldB_hold)) | exact LdB.s (by (first | assumption | exact ldB_plate | exact ldB_item | exact ldB_tank | exact ldB_engine | exact ldB_hold)) | exact LdB.u (by (first | assumption | exact ldB_plate | exact ldB_item | exact ldB_tank | exact ldB_engine | exact ldB_hold)) | exact SmB.w (by (first | assumption | exact sums_b)) | exact SmB.l (by (first | assumption | exact sums_b)) | exact SmB.t (by (first | assumption | exact sums_b)) | exact SmB.k (by (first | assumption | exact sums_b)) | exact wt_b | exact bd_lcg | exact bd_tcg | exact bd_kg | exact bd_dr | exact bd_loose | exact bd_free | exact bd_bulk | exact bd_fWater | exact lo_4 | exact lo_8 | exact lo_6 | exact lo_2 | exact lo_18 | exact lo_16 | exact lo_64 | exact lo_72 | exact lo_32 | exact lo_12 | exact lo_100 | exact lo_step | fail)) (by decide) | exact isN_of (by repeat' (with_reducible first | assumption | exact bd_kD | exact bd_i2D | exact bd_c0 | exact bd_c1 | apply bd_add | apply bd_mul | apply bd_div | apply bd_sub | exact dr_b | exact bd_step | exact bd_Q | exact bd_wide | exact bd_slice | exact bd_part | exact bd_section | exact bd_lift | exact bd_at | exact bd_X | exact bd_ord | exact bd_so | exact bd_vol | exact bd_water | exact bd_draught | exact bd_simT | exact bd_bread | exact bd_br | exact bd_far | exact bd_tank | exact LdB.t (by (first | assumption | exact ldB_plate | exact ldB_item | exact ldB_tank | exact ldB_engine | exact ldB_hold)) | exact LdB.s (by (first | assumption | exact ldB_plate | exact ldB_item | exact ldB_tank | exact ldB_engine | exact ldB_hold)) | exact LdB.u (by (first | assumption | exact ldB_plate | exact ldB_item | exact ldB_tank | exact ldB_engine | exact ldB_hold)) | exact SmB.w (by (first | assumption | exact sums_b)) | exact SmB.l (by (first | assumption | exact sums_b)) | exact SmB.t (by (first | assumption | exact sums_b)) | exact SmB.k (by (first | assumption | exact sums_b)) | exact wt_b | exact bd_lcg | exact bd_tcg | exact bd_kg | exact bd_dr | exact bd_loose | exact bd_free | exact bd_bulk | exact bd_fWater | exact lo_4 | exact lo_8 | exact lo_6 | exact lo_2 | exact lo_18 | exact lo_16 | exact lo_64 | exact lo_72 | exact lo_32 | exact lo_12 | exact lo_100 | exact lo_step | fail)) (by omega)))
  · rw [if_neg h0, if_neg h0]
    rw [if_neg h0] at bc
    first | refine Eq.trans ((gR_v T1.ln.k T1.rSu)) ?_ | refine Rt.eq ((gR_v T1.ln.k T1.rSu)) ?_ | refine Th.eq ((gR_v T1.ln.k T1.rSu)) ?_
    first | refine Eq.trans ((ldD_v T1.suk T1.sul (show k < 4 by omega) (by decide) hx)) ?_ | refine Rt.eq ((ldD_v T1.suk T1.sul (show k < 4 by omega) (by decide) hx)) ?_ | refine Th.eq ((ldD_v T1.suk T1.sul (show k < 4 by omega) (by decide) hx)) ?_
    first | refine Eq.trans ((gR_v T1.ln.k T1.rSu)) ?_ | refine Rt.eq ((gR_v T1.ln.k T1.rSu)) ?_ | refine Th.eq ((gR_v T1.ln.k T1.rSu)) ?_
    first | refine Eq.trans ((ldD_v (i := 0) T1.suk T1.sul (by decide) (by decide) L1.w)) ?_ | refine Rt.eq ((ldD_v (i := 0) T1.suk T1.sul (by decide) (by decide) L1.w)) ?_ | refine Th.eq ((ldD_v (i := 0) T1.suk T1.sul (by decide) (by decide) L1.w)) ?_
    show fD (dDiv x (S.wt p)) _ = _
    first | refine Eq.trans ((fD_ok (isN_of bc (by decide)))) ?_ | refine Rt.eq ((fD_ok (isN_of bc (by decide)))) ?_ | refine Th.eq ((fD_ok (isN_of bc (by decide)))) ?_
    exact rD_ok (isN_of bc (by decide))
/-- LYING -/
theorem t670 (T : TC G M m u g S w lots ll le lx) : ∃ M', ex G 2 670 0 [(0, vR (some u)), (1, vI (bI p))] [] M = some (.inl (some (vD (S.dr p))), M') ∧ QC noX 7 28 M M' ∧ LdM M' u (S.sums p) (S.carry p) := by
  obtain ⟨M1, e1, q1, L1⟩ := t663 (p := p) T
  have T1 := T.ex q1 e1
  have iH := T.i.h
  refine ⟨M1, ?_, q1, L1⟩
  rw [E670_0]
  first | refine Eq.trans ((vc1_ok T.t.ln.k)) ?_ | refine Rt.eq ((vc1_ok T.t.ln.k)) ?_ | refine Th.eq ((vc1_ok T.t.ln.k)) ?_
  first | refine Eq.trans ((cbD_of e1)) ?_ | refine Rt.eq ((cbD_of e1)) ?_ | refine Th.eq ((cbD_of e1)) ?_
  first | refine Eq.trans ((vc1_ok T1.t.ln.k)) ?_ | refine Rt.eq ((vc1_ok T1.t.ln.k)) ?_ | refine Th.eq ((vc1_ok T1.t.ln.k)) ?_
  first | refine Eq.trans ((cbD_of (t652 T1.t.ln T1.ct.sim.d))) ?_ | refine Rt.eq ((cbD_of (t652 T1.t.ln T1.ct.sim.d))) ?_ | refine Th.eq ((cbD_of (t652 T1.t.ln T1.ct.sim.d))) ?_
  exact rD_ok (isN_of (bd_dr2 (S := S) (p := p)) (by decide))
end TCX
