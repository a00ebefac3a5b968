set_option maxRecDepth 4000
/-! ===== the reference's net: search ===== -/
/-- the reference's net at u -/
abbrev NtT (G : Nat → Option Nat) (M : Mem) (u : Nat) (g : SG) (P : List Pipe) : Prop := (u + 25 ≤ mnx M) ∧ (mcl M u = 38) ∧ (mco M u = 2) ∧ (mfr M 234 u = some (u + 19)) ∧ (AL G M 2 (u + 19) g.pe P.length g.ps) ∧ (∀ i, i < P.length → g.ps i < mnx M) ∧ (∀ i x, P[i]? = some x → mcl M (g.ps i) = 100 ∧ mco M (g.ps i) = 2 ∧ mln M (g.ps i) = 5 ∧ mai M (g.ps i) 0 = nI x.fr ∧ mai M (g.ps i) 1 = nI x.to ∧ mai M (g.ps i) 2 = nI x.wd ∧ mai M (g.ps i) 3 = bI x.shut ∧ mai M (g.ps i) 4 = bI x.burst)
theorem NtT.lt {G : Nat → Option Nat} {M : Mem} {u : Nat} {g : SG} {P : List Pipe} (self_ : NtT G M u g P) : u + 25 ≤ mnx M := self_.1
theorem NtT.k {G : Nat → Option Nat} {M : Mem} {u : Nat} {g : SG} {P : List Pipe} (self_ : NtT G M u g P) : mcl M u = 38 := self_.2.1
theorem NtT.co {G : Nat → Option Nat} {M : Mem} {u : Nat} {g : SG} {P : List Pipe} (self_ : NtT G M u g P) : mco M u = 2 := self_.2.2.1
theorem NtT.rp {G : Nat → Option Nat} {M : Mem} {u : Nat} {g : SG} {P : List Pipe} (self_ : NtT G M u g P) : mfr M 234 u = some (u + 19) := self_.2.2.2.1
theorem NtT.pps {G : Nat → Option Nat} {M : Mem} {u : Nat} {g : SG} {P : List Pipe} (self_ : NtT G M u g P) : AL G M 2 (u + 19) g.pe P.length g.ps := self_.2.2.2.2.1
theorem NtT.pxl {G : Nat → Option Nat} {M : Mem} {u : Nat} {g : SG} {P : List Pipe} (self_ : NtT G M u g P) : ∀ i, i < P.length → g.ps i < mnx M := self_.2.2.2.2.2.1
theorem NtT.px {G : Nat → Option Nat} {M : Mem} {u : Nat} {g : SG} {P : List Pipe} (self_ : NtT G M u g P) : ∀ i x, P[i]? = some x → mcl M (g.ps i) = 100 ∧ mco M (g.ps i) = 2 ∧ mln M (g.ps i) = 5 ∧ mai M (g.ps i) 0 = nI x.fr ∧ mai M (g.ps i) 1 = nI x.to ∧ mai M (g.ps i) 2 = nI x.wd ∧ mai M (g.ps i) 3 = bI x.shut ∧ mai M (g.ps i) 4 = bI x.burst := self_.2.2.2.2.2.2
theorem NtT.fr {G : Nat → Option Nat} {M M' : Mem} {u : Nat} {g : SG} {P : List Pipe} {X : Nat → Prop} {n s : Nat} (N : NtT G M u g P) (q : QC X n s M M') (hX : ∀ i, i < P.length → ¬ X (g.ps i)) : NtT G M' u g P :=
  ⟨Nat.le_trans N.lt q.nx.1, (q.cl _ (by have := N.lt; omega)).trans N.k, (q.co _ (by have := N.lt; omega)).trans N.co, (q.fr 234 _ (by have := N.lt; omega) rfl).trans N.rp, N.pps.fr q, fun i hi => Nat.lt_of_lt_of_le (N.pxl i hi) q.nx.1, (by
    intro i x hx
    have hi := (List.getElem?_eq_some_iff.mp hx).1
    have h := N.pxl i hi
    have h9 := hX i hi
    rw [q.cl _ h, q.co _ h, q.ln _ h, q.ai _ 0 h h9, q.ai _ 1 h h9, q.ai _ 2 h h9, q.ai _ 3 h h9, q.ai _ 4 h h9]
    exact N.px i x hx)⟩
theorem NtT.fr0 {G : Nat → Option Nat} {M M' : Mem} {u : Nat} {g : SG} {P : List Pipe} {n s : Nat} (N : NtT G M u g P) (q : QC noX n s M M') : NtT G M' u g P := N.fr q (fun _ _ h => h)
theorem ShT.N {G : Nat → Option Nat} {M : Mem} {m u : Nat} {g : SG} {S : Sh} {w : Nat} (C : ShT G M m u g S w) : NtT G M u g S.pipes :=
  ⟨C.lt, C.ln.k, C.ln.co, C.rPp, C.pps, C.pxl, C.px⟩
/-- writes to what was new at M0 -/
theorem QC.fresh {X : Nat → Prop} {n s n' s' : Nat} {M0 M1 M2 : Mem} (q : QC noX n s M0 M1) (q' : QC X n' s' M1 M2) (h : ∀ a, X a → mnx M0 ≤ a) : QC noX (n + n') (s + s') M0 M2 := by
  have w := q.nx
  have w' := q'.nx
  have v := q.sl
  have v' := q'.sl
  exact ⟨⟨by omega, by omega⟩, ⟨by omega, by omega⟩, fun a ha => (q'.cl a (by omega)).trans (q.cl a ha), fun a ha => (q'.co a (by omega)).trans (q.co a ha), fun a ha => (q'.ln a (by omega)).trans (q.ln a ha), fun f a ha hf => (q'.fi f a (by omega) hf).trans (q.fi f a ha hf), fun f a ha hf => (q'.fr f a (by omega) hf).trans (q.fr f a ha hf), fun f a ha hf => (q'.fd f a (by omega) hf).trans (q.fd f a ha hf), fun a i ha hx => (q'.ai a i (by omega) (fun h9 => by have := h a h9; omega)).trans (q.ai a i ha hx), fun a i ha => (q'.ar a i (by omega)).trans (q.ar a i ha)⟩
/-- flows, labels -/
abbrev FlT (M : Mem) (a : Nat) (P : List Pipe) (f : Nat → Nat) : Prop := (mcl M a = 100) ∧ (mco M a = 2) ∧ (mln M a = 12) ∧ (a < mnx M) ∧ (∀ k, k < P.length → mai M a k = nI (f k))
theorem FlT.k {M : Mem} {a : Nat} {P : List Pipe} {f : Nat → Nat} (self_ : FlT M a P f) : mcl M a = 100 := self_.1
theorem FlT.co {M : Mem} {a : Nat} {P : List Pipe} {f : Nat → Nat} (self_ : FlT M a P f) : mco M a = 2 := self_.2.1
theorem FlT.ln {M : Mem} {a : Nat} {P : List Pipe} {f : Nat → Nat} (self_ : FlT M a P f) : mln M a = 12 := self_.2.2.1
theorem FlT.lt {M : Mem} {a : Nat} {P : List Pipe} {f : Nat → Nat} (self_ : FlT M a P f) : a < mnx M := self_.2.2.2.1
theorem FlT.v {M : Mem} {a : Nat} {P : List Pipe} {f : Nat → Nat} (self_ : FlT M a P f) : ∀ k, k < P.length → mai M a k = nI (f k) := self_.2.2.2.2
def cdV (T : Nat → Bool) (pk : Nat → Nat) (al : Nat → Bool) (v : Nat) : Int32 := if T v then (if v = 0 then -1 else nI (2 * pk v + if al v then 0 else 1)) else -2
abbrev RcT (M : Mem) (a : Nat) (T : Nat → Bool) (pk : Nat → Nat) (al : Nat → Bool) : Prop := (mcl M a = 100) ∧ (mco M a = 2) ∧ (mln M a = 8) ∧ (a < mnx M) ∧ (∀ v, v < 8 → mai M a v = cdV T pk al v)
theorem RcT.k {M : Mem} {a : Nat} {T : Nat → Bool} {pk : Nat → Nat} {al : Nat → Bool} (self_ : RcT M a T pk al) : mcl M a = 100 := self_.1
theorem RcT.co {M : Mem} {a : Nat} {T : Nat → Bool} {pk : Nat → Nat} {al : Nat → Bool} (self_ : RcT M a T pk al) : mco M a = 2 := self_.2.1
theorem RcT.ln {M : Mem} {a : Nat} {T : Nat → Bool} {pk : Nat → Nat} {al : Nat → Bool} (self_ : RcT M a T pk al) : mln M a = 8 := self_.2.2.1
theorem RcT.lt {M : Mem} {a : Nat} {T : Nat → Bool} {pk : Nat → Nat} {al : Nat → Bool} (self_ : RcT M a T pk al) : a < mnx M := self_.2.2.2.1
theorem RcT.v {M : Mem} {a : Nat} {T : Nat → Bool} {pk : Nat → Nat} {al : Nat → Bool} (self_ : RcT M a T pk al) : ∀ v, v < 8 → mai M a v = cdV T pk al v := self_.2.2.2.2
theorem FlT.fr {M M' : Mem} {a : Nat} {P : List Pipe} {f : Nat → Nat} {X : Nat → Prop} {n s : Nat} (N : FlT M a P f) (q : QC X n s M M') (hX : ¬ X a) : FlT M' a P f :=
  ⟨(q.cl _ N.lt).trans N.k, (q.co _ N.lt).trans N.co, (q.ln _ N.lt).trans N.ln, Nat.lt_of_lt_of_le N.lt q.nx.1, fun k hk => (q.ai _ _ N.lt hX).trans (N.v k hk)⟩
theorem cd_t {T : Nat → Bool} {pk : Nat → Nat} {al : Nat → Bool} {v : Nat} (h : T v = true) (hp : v ≠ 0 → pk v < 12) : ¬ cdV T pk al v = -2 := by
  unfold cdV
  rw [if_pos h]
  by_cases e : v = 0
  · rw [if_pos e]; decide
  · rw [if_neg e]
    intro h9
    have := nI_pos (n := 2 * pk v + if al v then 0 else 1) (by have := hp e; split <;> omega)
    rw [h9] at this
    exact this (by decide)
theorem cd_f {T : Nat → Bool} {pk : Nat → Nat} {al : Nat → Bool} {v : Nat} (h : T v = false) : cdV T pk al v = -2 := by
  unfold cdV
  rw [if_neg (by rw [h]; decide)]
theorem cd_set {T : Nat → Bool} {pk : Nat → Nat} {al : Nat → Bool} {x k : Nat} {a : Bool} (x0 : x ≠ 0) (v : Nat) : cdV (setT T x) (updN pk x k) (updB al x a) v = if v = x then nI (2 * k + if a then 0 else 1) else cdV T pk al v := by
  unfold cdV setT updN updB
  by_cases e : v = x
  · subst e
    simp only [if_true]
    rw [if_neg x0]
  · rw [if_neg e, if_neg e, if_neg e, if_neg e]
def okS (P : List Pipe) (sh : Int32) (k : Nat) : Bool := decide (nI k ≠ sh) && pO P k
section TNS
variable {G : Nat → Option Nat} {u : Nat} {g : SG} {P : List Pipe} {c : Nat} {f : Nat → Nat}
theorem cst_q {M : Mem} (N : NtT G M u g P) {k : Nat} (hk : k < P.length) {κ : Res} : cst M [100] (some (g.ps k)) κ = κ := cst_a (N.px k _ (pA_e hk)).1 rfl (N.px k _ (pA_e hk)).2.1 (by decide)
/-- OPEN -/
theorem t703 {M : Mem} (N : NtT G M u g P) {k : Nat} (hk : k < P.length) {sh : Int32} : ex G c 703 0 [(0, vR (some u)), (1, vI (nI k)), (2, vI sh)] [] M = some (.inl (some (vI (bI (okS P sh k)))), M) := by
  obtain ⟨h1, h2, h3, h4, h5, h6, h7, h8⟩ := N.px k _ (pA_e hk)
  rw [E703_0]
  unfold okS
  by_cases e : nI k = sh
  · rw [if_pos e, rZ_0, decide_eq_false (fun h => h e)]; rfl
  · rw [if_neg e, decide_eq_true e, gR_v N.k N.rp, vc1_ok N.pps.k, cbR_of (c6 N.pps hk), cst_q N hk, show (3 : Int32) = nI 3 from rfl, ldI_v h1 h3 (by decide) (by decide) h7]
    unfold pO
    cases (pA P k).shut
    · rw [bI_f, gR_v N.k N.rp, vc1_ok N.pps.k, cbR_of (c6 N.pps hk), cst_q N hk, show (4 : Int32) = nI 4 from rfl, ldI_v h1 h3 (by decide) (by decide) h8]
      cases (pA P k).burst
      · rw [bI_f, rZ_1]; rfl
      · rw [bI_t, rZ_0]; rfl
    · rw [bI_t, rZ_0]; rfl
/-- LEFT -/
theorem t704 {M : Mem} (N : NtT G M u g P) (hP : PI P) {fa : Nat} (F : FlT M fa P f) {k : Nat} (hk : k < P.length) (hf : f k ≤ pW P k) (a : Bool) : ex G c 704 0 [(0, vR (some u)), (1, vI (nI k)), (2, vI (bI a)), (3, vR (some fa))] [] M = some (.inl (some (vI (nI (rsP (pW P) f a k)))), M) := by
  obtain ⟨h1, h2, h3, h4, h5, h6, h7, h8⟩ := N.px k _ (pA_e hk)
  have hl := hP.1
  have h6' : mai M (g.ps k) 2 = nI (pW P k) := h6
  rw [E704_0]
  unfold rsP
  cases a
  · rw [bI_f, ldI_v F.k F.ln (show k < 12 by omega) (by decide) (F.v k hk)]; rfl
  · rw [bI_t, gR_v N.k N.rp, vc1_ok N.pps.k, cbR_of (c6 N.pps hk), cst_q N hk, show (2 : Int32) = nI 2 from rfl, ldI_v h1 h3 (by decide) (by decide) h6', ldI_v F.k F.ln (show k < 12 by omega) (by decide) (F.v k hk), aSub_n hf]
    rfl
variable {T : Nat → Bool} {pk : Nat → Nat} {al : Nat → Bool}
theorem t702_13 {M : Mem} (N : NtT G M u g P) (hP : PI P) {fa ra r j : Nat} {sh : Int32} (F : FlT M fa P f) (hf : ∀ k, k < P.length → f k ≤ pW P k) (R : RcT M ra T pk al) (hp : ∀ v, v < 8 → v ≠ 0 → T v = true → pk v < 12) (hj : j < P.length) :
    ex G 2 702 13 [(0, vR (some u)), (1, vI sh), (2, vR (some fa)), (3, vR (some ra)), (4, vI (nI r)), (5, vI (nI j)), (6, vR (some (g.ps j)))] [] M =
    ex G 2 702 6 [(0, vR (some u)), (1, vI sh), (2, vR (some fa)), (3, vR (some ra)), (4, vI (nI r)), (5, vI (nI (j + 1)))] [] (if T (pT P j) && (!T (pF P j) && decide (0 < f j)) then sai M ra (pF P j) (nI (2 * j + 1)) else M) := by
  obtain ⟨h1, h2, h3, h4, h5, h6, h7, h8⟩ := N.px j _ (pA_e hj)
  have h4' : mai M (g.ps j) 0 = nI (pF P j) := h4
  have h5' : mai M (g.ps j) 1 = nI (pT P j) := h5
  obtain ⟨p1, p2, p3, p4, p5⟩ := hP.k hj
  have hl := hP.1
  have hfj := hf j hj
  rw [E702_13, show (1 : Int32) = nI 1 from rfl, ldI_v h1 h3 (by decide) (by decide) h5', ldI_v R.k R.ln p2 (by decide) (R.v _ p2), aAdd_n]
  cases hD : T (pT P j)
  · rw [if_pos (cd_f hD)]
    rfl
  · rw [if_neg (cd_t hD (fun h => hp _ p2 h hD)), show (0 : Int32) = nI 0 from rfl, ldI_v h1 h3 (by decide) (by decide) h4', ldI_v R.k R.ln p1 (by decide) (R.v _ p1)]
    cases hF : T (pF P j)
    · have e4 : ex G 2 704 0 [(0, vR (some u)), (1, vI (nI j)), (2, vI (nI 0)), (3, vR (some fa))] [] M = some (.inl (some (vI (nI (f j)))), M) := t704 N hP F hj hfj false
      rw [if_pos (cd_f hF), vc1_ok N.k, cbI_of e4]
      by_cases z : 0 < f j
      · rw [if_neg (nI_nle_L 0 (nI 0) rfl z (by omega)), ldI_v h1 h3 (by decide) (by decide) h4', show aMul 2 (nI j) = nI (2 * j) from aMul_n 2 j, aAdd_n, stI_ok R.k R.co R.ln p1 (by decide), decide_eq_true z]
        rfl
      · rw [if_pos (nI_le_L 0 (nI 0) rfl (by omega) (by decide)), decide_eq_false z]
        rfl
    · rw [if_neg (cd_t hF (fun h => hp _ p1 h hF))]
      rfl
theorem t702_6s {M : Mem} (N : NtT G M u g P) (hP : PI P) {fa ra r j : Nat} {sh : Int32} (F : FlT M fa P f) (hf : ∀ k, k < P.length → f k ≤ pW P k) (R : RcT M ra T pk al) (hp : ∀ v, v < 8 → v ≠ 0 → T v = true → pk v < 12) (hj : j < P.length) (ho : okS P sh j = true) :
    ex G 2 702 6 [(0, vR (some u)), (1, vI sh), (2, vR (some fa)), (3, vR (some ra)), (4, vI (nI r)), (5, vI (nI j))] [] M =
    ex G 2 702 13 [(0, vR (some u)), (1, vI sh), (2, vR (some fa)), (3, vR (some ra)), (4, vI (nI r)), (5, vI (nI j)), (6, vR (some (g.ps j)))] [] (if T (pF P j) && (!T (pT P j) && decide (f j < pW P j)) then sai M ra (pT P j) (nI (2 * j)) else M) := by
  obtain ⟨h1, h2, h3, h4, h5, h6, h7, h8⟩ := N.px j _ (pA_e hj)
  have h4' : mai M (g.ps j) 0 = nI (pF P j) := h4
  have h5' : mai M (g.ps j) 1 = nI (pT P j) := h5
  obtain ⟨p1, p2, p3, p4, p5⟩ := hP.k hj
  have hl := hP.1
  have hfj := hf j hj
  have e3 := t703 (c := 2) N hj (sh := sh)
  rw [ho] at e3
  rw [E702_6, gR_v N.k N.rp, vc1_ok N.pps.k, cbI_of (c5 N.pps), if_pos (nI_lt hj (by omega)), vc1_ok N.k, cbI_of e3, bI_t, gR_v N.k N.rp, vc1_ok N.pps.k, cbR_of (c6 N.pps hj), cst_q N hj, show (0 : Int32) = nI 0 from rfl, ldI_v h1 h3 (by decide) (by decide) h4', ldI_v R.k R.ln p1 (by decide) (R.v _ p1)]
  cases hF : T (pF P j)
  · rw [if_pos (cd_f hF)]
    rfl
  · rw [if_neg (cd_t hF (fun h => hp _ p1 h hF)), show (1 : Int32) = nI 1 from rfl, ldI_v h1 h3 (by decide) (by decide) h5', ldI_v R.k R.ln p2 (by decide) (R.v _ p2)]
    cases hD : T (pT P j)
    · have e4 : ex G 2 704 0 [(0, vR (some u)), (1, vI (nI j)), (2, vI (nI 1)), (3, vR (some fa))] [] M = some (.inl (some (vI (nI (pW P j - f j)))), M) := t704 N hP F hj hfj true
      rw [if_pos (cd_f hD), vc1_ok N.k, cbI_of e4]
      by_cases z : f j < pW P j
      · rw [if_neg (nI_nle_L 0 (nI 0) rfl (by omega) (by omega)), ldI_v h1 h3 (by decide) (by decide) h5', show aMul 2 (nI j) = nI (2 * j) from aMul_n 2 j, stI_ok R.k R.co R.ln p2 (by decide), decide_eq_true z]
        rfl
      · rw [if_pos (nI_le_L 0 (nI 0) rfl (by omega) (by decide)), decide_eq_false z]
        rfl
    · rw [if_neg (cd_t hD (fun h => hp _ p2 h hD))]
      rfl
end TNS
