set_option maxRecDepth 8000
/-! ===== how an operation ends; one ship changes ===== -/
def Oc (E : Nat) (v : Option AV) (M : Mem) : Res := if E = 0 then some (.inl v, M) else some (.inr E, M)
/-- the law's number of an exception, by those that a call may throw -/
def cdN : List Nat → Nat → Nat
  | [], _ => 0
  | x :: l, E => if E = 0 then 0 else if E = x then 1 else cdN l E + 1
theorem oc_0 {v : Option AV} {M : Mem} : Oc 0 v M = some (.inl v, M) := rfl
def Yd.upS (Y : Yd) (i : Nat) (S : Sh) : Yd := Y.s_ships (Y.ships.set i S)
theorem YH.gs_id {h : YH} : h.s_gs h.gs = h := by
  obtain ⟨a1, a2, a3, a4, a5, a6, a7, a8, a9, b1, b2, b3, b4, b5, b6, b7⟩ := h
  rfl
theorem gsU_id {gs : Nat → SG} {i : Nat} : gsU gs i (gs i) = gs := by
  funext j
  unfold gsU
  by_cases e : j = i
  · rw [if_pos e, e]
  · rw [if_neg e]
/-- how much was made -/
def cost (n s : Nat) (M M' : Mem) : Prop := mnx M' ≤ mnx M + n ∧ msl M' ≤ msl M + s
theorem QW.cost {P : Nat → Prop} {n s : Nat} {M M' : Mem} (q : QW P n s M M') : cost n s M M' := ⟨q.nx.2, q.sl.2⟩
theorem cost.tr {n s n' s' : Nat} {M M1 M2 : Mem} (h : cost n s M M1) (h' : cost n' s' M1 M2) : cost (n + n') (s + s') M M2 := ⟨by have := h.1; have := h'.1; omega, by have := h.2; have := h'.2; omega⟩
theorem cost.mono {n s n' s' : Nat} {M M1 : Mem} (h : cost n s M M1) (h1 : n ≤ n') (h2 : s ≤ s') : cost n' s' M M1 := ⟨by have := h.1; omega, by have := h.2; omega⟩
theorem cost.mth {M : Mem} {j n : Nat} : cost j n M (mth M j n) := ⟨Nat.le_refl _, Nat.le_refl _⟩
theorem cost.rf {M : Mem} : cost 0 0 M M := ⟨Nat.le_refl _, Nat.le_refl _⟩
theorem Zr.sfi {M : Mem} (z : Zr M) {f a : Nat} {v : Int32} (ha : mco M a = 1) : Zr (sfi M f a v) := (ext_sfi (c := 1) (by decide) ha).2.2.2.2 z
theorem Zr.sfr {M : Mem} (z : Zr M) {f a : Nat} {v : Option Nat} (ha : mco M a = 1) : Zr (sfr M f a v) := (ext_sfr (c := 1) (by decide) ha).2.2.2.2 z
theorem Zr.sfd {M : Mem} (z : Zr M) {f a : Nat} {v : UInt64} (ha : mco M a = 1) : Zr (sfd M f a v) := (ext_sfd (c := 1) (by decide) ha).2.2.2.2 z
theorem Zr.sai {M : Mem} (z : Zr M) {a i : Nat} {v : Int32} (ha : mco M a = 1) : Zr (sai M a i v) := (ext_sai (c := 1) (by decide) ha).2.2.2.2 z
section UPD
variable {G : Nat → Option Nat} {M M' : Mem} {k m : Nat} {h : YH} {Y : Yd}
theorem YC.up1 (C : YC G M k h Y) {i : Nat} {S S' : Sh} {P : Nat → Prop} {n s : Nat} (hi : Y.ships[i]? = some S) (q : QW P n s M M') (z' : Zr M') (hP : ∀ a, P a → h.bs i ≤ a ∧ a < h.bs i + 106) (N : ShC G M' (h.bs i) (h.gs i) S' false) (hn : S'.num = S.num) (hs : S'.spot = S.spot) (h1 : S'.items = S.items) (h2 : S'.cargo = S.cargo) (h3 : S'.pipes = S.pipes) : YC G M' k h (Y.upS i S') := by
  have R := C.sh i S hi
  have := C.c_sh (g' := h.gs i) q z' hi (fun a p => (R.o.blk a (hP a p).1 (hP a p).2).1) (S' := S') ⟨N, (by
    have O := R.o.fw q R.c.lt R.c.ixl ⟨R.c.its.lt, R.c.abd.lt, R.c.pps.lt⟩
    exact ⟨O.blk, O.xe, by rw [h1]; exact O.xs, O.ye, O.pe, by rw [h3]; exact O.ps⟩), R.pa, by rw [h2]; exact R.ya⟩ hn hs
  rw [gsU_id, YH.gs_id] at this
  exact this
theorem YT.up1 (C : YT G M m h Y) {i : Nat} {S S' : Sh} {P : Nat → Prop} {n s : Nat} (hi : Y.ships[i]? = some S) (q : QW P n s M M') (E : Ext 2 M M') (hP : ∀ a, P a → h.bs i ≤ a ∧ a < h.bs i + 25) (N : ShT G M' m (h.bs i) (h.gs i) S' (whereN S')) (h1 : S'.items = S.items) (h3 : S'.pipes = S.pipes) : YT G M' m h (Y.upS i S') := by
  have R := C.sh i S hi
  have := C.c_sh (g' := h.gs i) q E hi (fun a p => (R.o.blk a (hP a p).1 (hP a p).2).1) (S' := S') ⟨N, (by
    have O := R.o.fw q R.t.lt ⟨R.t.its.lt, R.t.pps.lt⟩
    exact ⟨O.blk, O.xe, by rw [h1]; exact O.xs, O.pe, by rw [h3]; exact O.ps⟩)⟩
  rw [gsU_id, YH.gs_id] at this
  exact this
/-- one ship's new record keeps the yard -/
theorem YI.up1 (I : YI Y) {i : Nat} {S S' : Sh} (hi : Y.ships[i]? = some S) (si : SI S') (hn : S'.num = S.num) (hc : S'.cargo = S.cargo) (hx : ShX S') (hs : S'.spot = S.spot) (hp : S'.port = S.port) : YI (Y.upS i S') := by
  have key : ∀ (j : Nat) (T : Sh), (Y.ships.set i S')[j]? = some T → (j = i ∧ T = S') ∨ (j ≠ i ∧ Y.ships[j]? = some T) := by
    intro j T hj
    by_cases e : i = j
    · subst e
      rw [get_set_at hi] at hj
      cases hj
      exact Or.inl ⟨rfl, rfl⟩
    · rw [get_set_ne e] at hj
      exact Or.inr ⟨fun x => e x.symm, hj⟩
  have spk : ∀ (j : Nat) (T : Sh), (Y.ships.set i S')[j]? = some T → ∃ T0, Y.ships[j]? = some T0 ∧ T.spot = T0.spot ∧ T.port = T0.port := by
    intro j T hj
    obtain ⟨a, b⟩ | ⟨a, b⟩ := key j T hj
    · subst a; subst b; exact ⟨S, hi, hs, hp⟩
    · exact ⟨T, b, rfl, rfl⟩
  refine ⟨?_, ?_, ?_, ?_, ?_, ?_, ?_, I.dy, I.we, I.lk, I.tm, I.k3, I.o6, I.f8, I.b4, I.p6, I.l8, I.ki, I.oi, I.fi, I.bi, ?_, I.bu, I.pi, I.li, I.lp, ?_, I.la⟩
  · show (Y.ships.set i S').length ≤ 3
    rw [List.length_set]; exact I.n3
  · intro j T hj
    obtain ⟨a, b⟩ | ⟨a, b⟩ := key j T hj
    · subst b; exact si
    · exact I.si j T b
  · intro j T hj
    obtain ⟨a, b⟩ | ⟨a, b⟩ := key j T hj
    · subst b; rw [hn, a]; exact I.sn i S hi
    · exact I.sn j T b
  · intro j T hj
    obtain ⟨a, b⟩ | ⟨a, b⟩ := key j T hj
    · subst b; rw [hc, a]; exact I.sc i S hi
    · exact I.sc j T b
  · intro j T hj
    obtain ⟨a, b⟩ | ⟨a, b⟩ := key j T hj
    · subst b; exact hx
    · exact I.sx j T b
  · intro j1 j2 T1 T2 s a1 a2 b1 b2
    obtain ⟨U1, c1, d1, _⟩ := spk j1 T1 a1
    obtain ⟨U2, c2, d2, _⟩ := spk j2 T2 a2
    exact I.sp j1 j2 U1 U2 s c1 c2 (d1 ▸ b1) (d2 ▸ b2)
  · intro j T q0 a b
    obtain ⟨U, c1, _, d1⟩ := spk j T a
    exact I.so j U q0 c1 (d1 ▸ b)
  · intro x hx2 j hj
    show j < (Y.ships.set i S').length
    rw [List.length_set]; exact I.bs x hx2 j hj
  · intro x hx2 j hj
    show j < (Y.ships.set i S').length
    rw [List.length_set]; exact I.ls x hx2 j hj
end UPD
