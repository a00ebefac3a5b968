set_option maxRecDepth 4000
/-! ===== the class' net: reach (walk) ===== -/
def pz : Pipe := Pipe.mk_ 0 0 0 false false
def pA (P : List Pipe) (k : Nat) : Pipe := P.getD k pz
def pF (P : List Pipe) (k : Nat) : Nat := (pA P k).fr
def pT (P : List Pipe) (k : Nat) : Nat := (pA P k).to
def pW (P : List Pipe) (k : Nat) : Nat := (pA P k).wd
def pO (P : List Pipe) (k : Nat) : Bool := !(pA P k).shut && !(pA P k).burst
theorem pA_e {P : List Pipe} {k : Nat} (h : k < P.length) : P[k]? = some (pA P k) := by
  unfold pA
  rw [List.getD_eq_getElem?_getD, List.getElem?_eq_getElem h]
  rfl
/-- what pipes keep to -/
def PI (P : List Pipe) : Prop := P.length ≤ 12 ∧ ∀ x ∈ P, x.fr < 8 ∧ x.to < 8 ∧ x.fr ≠ x.to ∧ 1 ≤ x.wd ∧ x.wd ≤ 99
theorem PI.k {P : List Pipe} (h : PI P) {k : Nat} (hk : k < P.length) : pF P k < 8 ∧ pT P k < 8 ∧ pF P k ≠ pT P k ∧ 1 ≤ pW P k ∧ pW P k ≤ 99 := h.2 _ (List.mem_of_getElem? (pA_e hk))
/-- the net of the ship at b -/
abbrev NtC (G : Nat → Option Nat) (M : Mem) (b : Nat) (g : SG) (P : List Pipe) : Prop := (b + 106 ≤ mnx M) ∧ (mcl M (b + 8) = 13) ∧ (mco M (b + 8) = 1) ∧ (mfr M 51 (b + 8) = some (b + 9)) ∧ (mfr M 52 (b + 8) = some (b + 10)) ∧ (mfr M 53 (b + 8) = some (b + 11)) ∧ (mfr M 54 (b + 8) = some (b + 12)) ∧ (mcl M (b + 10) = 101) ∧ (mco M (b + 10) = 1) ∧ (mln M (b + 10) = 8) ∧ (mcl M (b + 11) = 100) ∧ (mco M (b + 11) = 1) ∧ (mln M (b + 11) = 8) ∧ (mcl M (b + 12) = 100) ∧ (mco M (b + 12) = 1) ∧ (mln M (b + 12) = 8) ∧ (AL G M 1 (b + 9) g.pe P.length g.ps) ∧ (∀ i, i < P.length → g.ps i < mnx M) ∧ (∀ i j, i < P.length → j < P.length → g.ps i = g.ps j → i = j) ∧ (∀ i x, P[i]? = some x → mcl M (g.ps i) = 32 ∧ mco M (g.ps i) = 1 ∧ mfi M 160 (g.ps i) = nI x.fr ∧ mfi M 161 (g.ps i) = nI x.to ∧ mfi M 162 (g.ps i) = nI x.wd ∧ mfi M 163 (g.ps i) = bI x.shut ∧ mfi M 164 (g.ps i) = bI x.burst)
theorem NtC.lt {G : Nat → Option Nat} {M : Mem} {b : Nat} {g : SG} {P : List Pipe} (self_ : NtC G M b g P) : b + 106 ≤ mnx M := self_.1
theorem NtC.nk {G : Nat → Option Nat} {M : Mem} {b : Nat} {g : SG} {P : List Pipe} (self_ : NtC G M b g P) : mcl M (b + 8) = 13 := self_.2.1
theorem NtC.nco {G : Nat → Option Nat} {M : Mem} {b : Nat} {g : SG} {P : List Pipe} (self_ : NtC G M b g P) : mco M (b + 8) = 1 := self_.2.2.1
theorem NtC.npi {G : Nat → Option Nat} {M : Mem} {b : Nat} {g : SG} {P : List Pipe} (self_ : NtC G M b g P) : mfr M 51 (b + 8) = some (b + 9) := self_.2.2.2.1
theorem NtC.nre {G : Nat → Option Nat} {M : Mem} {b : Nat} {g : SG} {P : List Pipe} (self_ : NtC G M b g P) : mfr M 52 (b + 8) = some (b + 10) := self_.2.2.2.2.1
theorem NtC.nby {G : Nat → Option Nat} {M : Mem} {b : Nat} {g : SG} {P : List Pipe} (self_ : NtC G M b g P) : mfr M 53 (b + 8) = some (b + 11) := self_.2.2.2.2.2.1
theorem NtC.nqu {G : Nat → Option Nat} {M : Mem} {b : Nat} {g : SG} {P : List Pipe} (self_ : NtC G M b g P) : mfr M 54 (b + 8) = some (b + 12) := self_.2.2.2.2.2.2.1
theorem NtC.rek {G : Nat → Option Nat} {M : Mem} {b : Nat} {g : SG} {P : List Pipe} (self_ : NtC G M b g P) : mcl M (b + 10) = 101 := self_.2.2.2.2.2.2.2.1
theorem NtC.reco {G : Nat → Option Nat} {M : Mem} {b : Nat} {g : SG} {P : List Pipe} (self_ : NtC G M b g P) : mco M (b + 10) = 1 := self_.2.2.2.2.2.2.2.2.1
theorem NtC.reln {G : Nat → Option Nat} {M : Mem} {b : Nat} {g : SG} {P : List Pipe} (self_ : NtC G M b g P) : mln M (b + 10) = 8 := self_.2.2.2.2.2.2.2.2.2.1
theorem NtC.byk {G : Nat → Option Nat} {M : Mem} {b : Nat} {g : SG} {P : List Pipe} (self_ : NtC G M b g P) : mcl M (b + 11) = 100 := self_.2.2.2.2.2.2.2.2.2.2.1
theorem NtC.byco {G : Nat → Option Nat} {M : Mem} {b : Nat} {g : SG} {P : List Pipe} (self_ : NtC G M b g P) : mco M (b + 11) = 1 := self_.2.2.2.2.2.2.2.2.2.2.2.1
theorem NtC.byln {G : Nat → Option Nat} {M : Mem} {b : Nat} {g : SG} {P : List Pipe} (self_ : NtC G M b g P) : mln M (b + 11) = 8 := self_.2.2.2.2.2.2.2.2.2.2.2.2.1
theorem NtC.quk {G : Nat → Option Nat} {M : Mem} {b : Nat} {g : SG} {P : List Pipe} (self_ : NtC G M b g P) : mcl M (b + 12) = 100 := self_.2.2.2.2.2.2.2.2.2.2.2.2.2.1
theorem NtC.quco {G : Nat → Option Nat} {M : Mem} {b : Nat} {g : SG} {P : List Pipe} (self_ : NtC G M b g P) : mco M (b + 12) = 1 := self_.2.2.2.2.2.2.2.2.2.2.2.2.2.2.1
theorem NtC.quln {G : Nat → Option Nat} {M : Mem} {b : Nat} {g : SG} {P : List Pipe} (self_ : NtC G M b g P) : mln M (b + 12) = 8 := self_.2.2.2.2.2.2.2.2.2.2.2.2.2.2.2.1
theorem NtC.pps {G : Nat → Option Nat} {M : Mem} {b : Nat} {g : SG} {P : List Pipe} (self_ : NtC G M b g P) : AL G M 1 (b + 9) g.pe P.length g.ps := self_.2.2.2.2.2.2.2.2.2.2.2.2.2.2.2.2.1
theorem NtC.pxl {G : Nat → Option Nat} {M : Mem} {b : Nat} {g : SG} {P : List Pipe} (self_ : NtC G M b g P) : ∀ i, i < P.length → g.ps i < mnx M := self_.2.2.2.2.2.2.2.2.2.2.2.2.2.2.2.2.2.1
theorem NtC.pxi {G : Nat → Option Nat} {M : Mem} {b : Nat} {g : SG} {P : List Pipe} (self_ : NtC G M b g P) : ∀ i j, i < P.length → j < P.length → g.ps i = g.ps j → i = j := self_.2.2.2.2.2.2.2.2.2.2.2.2.2.2.2.2.2.2.1
theorem NtC.px {G : Nat → Option Nat} {M : Mem} {b : Nat} {g : SG} {P : List Pipe} (self_ : NtC G M b g P) : ∀ i x, P[i]? = some x → mcl M (g.ps i) = 32 ∧ mco M (g.ps i) = 1 ∧ mfi M 160 (g.ps i) = nI x.fr ∧ mfi M 161 (g.ps i) = nI x.to ∧ mfi M 162 (g.ps i) = nI x.wd ∧ mfi M 163 (g.ps i) = bI x.shut ∧ mfi M 164 (g.ps i) = bI x.burst := self_.2.2.2.2.2.2.2.2.2.2.2.2.2.2.2.2.2.2.2
def ntX (b : Nat) : Nat → Prop := fun a => b + 10 ≤ a ∧ a ≤ b + 12
theorem NtC.fr {G : Nat → Option Nat} {M M' : Mem} {b : Nat} {g : SG} {P : List Pipe} {X : Nat → Prop} {n s : Nat} (N : NtC G M b g P) (q : QC X n s M M') : NtC G M' b g P :=
  ⟨Nat.le_trans N.lt q.nx.1, (q.cl _ (by have := N.lt; omega)).trans N.nk, (q.co _ (by have := N.lt; omega)).trans N.nco, (q.fr 51 _ (by have := N.lt; omega) rfl).trans N.npi, (q.fr 52 _ (by have := N.lt; omega) rfl).trans N.nre, (q.fr 53 _ (by have := N.lt; omega) rfl).trans N.nby, (q.fr 54 _ (by have := N.lt; omega) rfl).trans N.nqu,
   (q.cl _ (by have := N.lt; omega)).trans N.rek, (q.co _ (by have := N.lt; omega)).trans N.reco, (q.ln _ (by have := N.lt; omega)).trans N.reln, (q.cl _ (by have := N.lt; omega)).trans N.byk, (q.co _ (by have := N.lt; omega)).trans N.byco, (q.ln _ (by have := N.lt; omega)).trans N.byln, (q.cl _ (by have := N.lt; omega)).trans N.quk, (q.co _ (by have := N.lt; omega)).trans N.quco, (q.ln _ (by have := N.lt; omega)).trans N.quln,
   N.pps.fr q, fun i hi => Nat.lt_of_lt_of_le (N.pxl i hi) q.nx.1, N.pxi, (by
    intro i x hx
    have h := N.pxl i (List.getElem?_eq_some_iff.mp hx).1
    rw [q.cl _ h, q.co _ h, q.fi 160 _ h rfl, q.fi 161 _ h rfl, q.fi 162 _ h rfl, q.fi 163 _ h rfl, q.fi 164 _ h rfl]
    exact N.px i x hx)⟩
theorem ShC.N {G : Nat → Option Nat} {M : Mem} {b : Nat} {g : SG} {S : Sh} {p : Bool} (C : ShC G M b g S p) : NtC G M b g S.pipes :=
  ⟨C.lt, C.nk, C.nco, C.npi, C.nre, C.nby, C.nqu, C.rek, C.reco, C.reln, C.byk, C.byco, C.byln, C.quk, C.quco, C.quln, C.pps, C.pxl, C.pxi, C.px⟩
theorem qc_sai {X : Nat → Prop} {M : Mem} {a i : Nat} {v : Int32} (h : X a) : QC X 0 0 M (sai M a i v) :=
  ⟨⟨Nat.le_refl _, Nat.le_refl _⟩, ⟨Nat.le_refl _, Nat.le_refl _⟩, fun _ _ => rfl, fun _ _ => rfl, fun _ _ => rfl, fun _ _ _ _ => rfl, fun _ _ _ _ => rfl, fun _ _ _ _ => rfl, fun a' i' _ hx => by rw [mai_sai, up2_ne1 (fun e => hx (by rw [e]; exact h))], fun _ _ _ => rfl⟩
/-- flows, what is reached, by which pipe -/
def FwM (M : Mem) (g : SG) (P : List Pipe) (f : Nat → Nat) : Prop := ∀ k, k < P.length → mfi M 165 (g.ps k) = nI (f k)
def RcM (M : Mem) (b : Nat) (T : Nat → Bool) : Prop := ∀ v, v < 8 → mai M (b + 10) v = bI (T v)
def ByM (M : Mem) (b : Nat) (T : Nat → Bool) (pk : Nat → Nat) (al : Nat → Bool) : Prop := ∀ v, v < 8 → v ≠ 0 → T v = true → mai M (b + 11) v = nI (pk v + if al v then 0 else 20)
def cntT (T : Nat → Bool) : Nat := (if T 0 then 1 else 0) + (if T 1 then 1 else 0) + (if T 2 then 1 else 0) + (if T 3 then 1 else 0) + (if T 4 then 1 else 0) + (if T 5 then 1 else 0) + (if T 6 then 1 else 0) + (if T 7 then 1 else 0)
def setT (T : Nat → Bool) (v : Nat) : Nat → Bool := fun x => if x = v then true else T x
theorem cnt_set {T : Nat → Bool} {v : Nat} (hv : v < 8) (h : T v = false) : cntT (setT T v) = cntT T + 1 ∧ cntT T ≤ 7 := by
  unfold cntT setT
  obtain e | e | e | e | e | e | e | e : v = 0 ∨ v = 1 ∨ v = 2 ∨ v = 3 ∨ v = 4 ∨ v = 5 ∨ v = 6 ∨ v = 7 := by omega
  all_goals subst e; simp [h]; (repeat' split) <;> omega
def updN (f : Nat → Nat) (v x : Nat) : Nat → Nat := fun y => if y = v then x else f y
def updB (f : Nat → Bool) (v : Nat) (x : Bool) : Nat → Bool := fun y => if y = v then x else f y
theorem Tr.add {n : Nat} {fr to_ wd : Nat → Nat} {ok : Nat → Bool} {f : Nat → Nat} {T : Nat → Bool} {pk : Nat → Nat} {al : Nat → Bool} {dep : Nat → Nat} (R : Tr n fr to_ wd ok f T pk al dep) {v k : Nat} {a : Bool} (hv : T v = false) (hk : k < n) (hok : ok k = true) (h1 : v = (if a then to_ k else fr k)) (h2 : T (if a then fr k else to_ k) = true) (h3 : if a then f k < wd k else 0 < f k) : Tr n fr to_ wd ok f (setT T v) (updN pk v k) (updB al v a) (updN dep v (dep (if a then fr k else to_ k) + 1)) := by
  have v0 : v ≠ 0 := fun e => by rw [e, R.z] at hv; cases hv
  refine ⟨?_, ?_, ?_⟩
  · unfold setT; rw [if_neg (Ne.symm v0)]; exact R.z
  · unfold updN; rw [if_neg (Ne.symm v0)]; exact R.d0
  · intro x hx hx0 ht
    unfold setT at ht ⊢
    unfold updN updB
    by_cases e : x = v
    · subst e
      rw [if_pos rfl, if_pos rfl, if_pos rfl]
      have hne : (if a then fr k else to_ k) ≠ x := fun e => by rw [e, hv] at h2; cases h2
      exact ⟨hk, hok, h1, by rw [if_neg hne]; exact h2, h3, by rw [if_neg hne]⟩
    · rw [if_neg e] at ht
      rw [if_neg e, if_neg e, if_neg e]
      obtain ⟨r1, r2, r3, r4, r5, r6⟩ := R.t x hx hx0 ht
      have hne : (if al x then fr (pk x) else to_ (pk x)) ≠ v := fun e => by rw [e, hv] at r4; cases r4
      exact ⟨r1, r2, r3, by rw [if_neg hne]; exact r4, r5, by rw [if_neg hne]; exact r6⟩
/-- from v all ways over the first j pipes lead to T -/
def PCl (P : List Pipe) (f : Nat → Nat) (T : Nat → Bool) (v j : Nat) : Prop := ∀ k, k < j → pO P k = true → (pF P k = v → f k < pW P k → T (pT P k) = true) ∧ (pT P k = v → 0 < f k → T (pF P k) = true)
theorem PCl.mono {P : List Pipe} {f : Nat → Nat} {T : Nat → Bool} {v j x : Nat} (h : PCl P f T v j) : PCl P f (setT T x) v j := by
  intro k hk ho
  unfold setT
  refine ⟨fun a b => ?_, fun a b => ?_⟩
  · split
    · rfl
    · exact (h k hk ho).1 a b
  · split
    · rfl
    · exact (h k hk ho).2 a b
section NCL
variable {G : Nat → Option Nat} {b : Nat} {g : SG} {P : List Pipe}
theorem c749 {M : Mem} (N : NtC G M b g P) {k c : Nat} (hk : k < P.length) : ex G c 749 0 [(0, vR (some (g.ps k)))] [] M = some (.inl (some (vI (bI (pO P k)))), M) := by
  obtain ⟨h1, -, -, -, -, h6, h7⟩ := N.px k _ (pA_e hk)
  rw [E749_0, gI_v h1 h6]
  unfold pO
  cases (pA P k).shut
  · rw [if_pos (show bI false = 0 from rfl), gI_v h1 h7]
    cases (pA P k).burst
    · rw [if_pos (show bI false = 0 from rfl), rZ_1]; rfl
    · rw [if_neg (show ¬ bI true = 0 by decide), rZ_0]; rfl
  · rw [if_neg (show ¬ bI true = 0 by decide), rZ_0]; rfl
theorem cst_p {M : Mem} (N : NtC G M b g P) {k : Nat} (hk : k < P.length) {κ : Res} : cst M [32] (some (g.ps k)) κ = κ := cst_k (N.px k _ (pA_e hk)).1 rfl rfl
/-- OVER: nothing, or a node that is new -/
theorem c532 {M : Mem} (N : NtC G M b g P) (hP : PI P) {f : Nat → Nat} {T : Nat → Bool} (hF : FwM M g P f) (hR : RcM M b T) (hf : ∀ k, k < P.length → f k ≤ pW P k) {k v : Nat} (hk : k < P.length) (hv : v < 8) (hT : T v = true) :
    (ex G 1 532 0 [(0, vR (some (b + 8))), (1, vR (some (g.ps k))), (2, vI (nI k)), (3, vI (nI v))] [] M = some (.inl (some (vI (-1))), M) ∧ (pO P k = true → (pF P k = v → f k < pW P k → T (pT P k) = true) ∧ (pT P k = v → 0 < f k → T (pF P k) = true))) ∨
    (∃ (a : Bool) (x : Nat), x < 8 ∧ T x = false ∧ pO P k = true ∧ x = (if a then pT P k else pF P k) ∧ v = (if a then pF P k else pT P k) ∧ (if a then f k < pW P k else 0 < f k) ∧ ex G 1 532 0 [(0, vR (some (b + 8))), (1, vR (some (g.ps k))), (2, vI (nI k)), (3, vI (nI v))] [] M = some (.inl (some (vI (nI x))), sai M (b + 11) x (nI (k + if a then 0 else 20)))) := by
  obtain ⟨h1, h2, h3, h4, h5, -, -⟩ := N.px k _ (pA_e hk)
  obtain ⟨p1, p2, p3, p4, p5⟩ := hP.k hk
  have h3' : mfi M 160 (g.ps k) = nI (pF P k) := h3
  have h4' : mfi M 161 (g.ps k) = nI (pT P k) := h4
  have h5' : mfi M 162 (g.ps k) = nI (pW P k) := h5
  have hfk := hF k hk
  have hfw := hf k hk
  have hl := hP.1
  cases hok : pO P k
  · left
    refine ⟨?_, fun h => by cases h⟩
    have e := c749 (c := 1) N hk
    rw [hok] at e
    rw [E532_0, vc1_ok h1, cbI_of e, if_pos (show bI false = 0 from rfl)]
    rfl
  · have e := c749 (c := 1) N hk
    rw [hok] at e
    rw [E532_0, vc1_ok h1, cbI_of e, if_neg (show ¬ bI true = 0 by decide), gI_v h1 h3']
    -- the second way
    have back : ((pF P k = v → f k < pW P k → T (pT P k) = true) → ((ex G 1 532 6 [(0, vR (some (b + 8))), (1, vR (some (g.ps k))), (2, vI (nI k)), (3, vI (nI v))] [] M = some (.inl (some (vI (-1))), M) ∧ (true = true → (pF P k = v → f k < pW P k → T (pT P k) = true) ∧ (pT P k = v → 0 < f k → T (pF P k) = true))) ∨
      (∃ (a : Bool) (x : Nat), x < 8 ∧ T x = false ∧ true = true ∧ x = (if a then pT P k else pF P k) ∧ v = (if a then pF P k else pT P k) ∧ (if a then f k < pW P k else 0 < f k) ∧ ex G 1 532 6 [(0, vR (some (b + 8))), (1, vR (some (g.ps k))), (2, vI (nI k)), (3, vI (nI v))] [] M = some (.inl (some (vI (nI x))), sai M (b + 11) x (nI (k + if a then 0 else 20)))))) := by
      intro hfirst
      rw [E532_6, gI_v h1 h4']
      by_cases c1 : pT P k = v
      · rw [if_pos (by rw [c1]), gI_v h1 hfk]
        by_cases c2 : 0 < f k
        · rw [if_neg (nI_nle_L 0 0 rfl c2 (by omega)), gR_v N.nk N.nre, gI_v h1 h3', ldI_v N.rek N.reln p1 (by decide) (hR _ p1)]
          cases hx : T (pF P k)
          · rw [if_pos (show bI false = 0 from rfl), gR_v N.nk N.nby, gI_v h1 h3', show aAdd (nI k) 20 = nI (k + 20) from aAdd_n k 20, stI_ok N.byk N.byco N.byln p1 (by decide)]
            right
            refine ⟨false, pF P k, p1, hx, rfl, rfl, c1.symm, c2, ?_⟩
            exact gI_v (Eq.trans (congrFun mcl_sai _) h1) (Eq.trans (congrFun (congrFun mfi_sai _) _) h3')
          · rw [if_neg (show ¬ bI true = 0 by decide)]
            left
            exact ⟨rfl, fun _ => ⟨hfirst, fun _ _ => rfl⟩⟩
        · rw [if_pos (nI_le_L 0 0 rfl (by omega) (by decide))]
          left
          exact ⟨rfl, fun _ => ⟨hfirst, fun _ h => absurd h c2⟩⟩
      · rw [if_neg (fun h => c1 ((nI_eqI (by omega) (by omega)).mp h))]
        left
        exact ⟨rfl, fun _ => ⟨hfirst, fun h => absurd h c1⟩⟩
    by_cases c1 : pF P k = v
    · rw [if_pos (by rw [c1]), gI_v h1 hfk, gI_v h1 h5']
      by_cases c2 : f k < pW P k
      · rw [if_pos (nI_lt c2 (by omega)), gR_v N.nk N.nre, gI_v h1 h4', ldI_v N.rek N.reln p2 (by decide) (hR _ p2)]
        cases hx : T (pT P k)
        · rw [if_pos (show bI false = 0 from rfl), gR_v N.nk N.nby, gI_v h1 h4', stI_ok N.byk N.byco N.byln p2 (by decide)]
          right
          refine ⟨true, pT P k, p2, hx, rfl, rfl, c1.symm, c2, ?_⟩
          exact gI_v (Eq.trans (congrFun mcl_sai _) h1) (Eq.trans (congrFun (congrFun mfi_sai _) _) h4')
        · rw [if_neg (show ¬ bI true = 0 by decide)]
          have := back (fun _ _ => hx)
          rw [hx] at this
          exact this
      · rw [if_neg (nI_nlt (by omega) (by omega))]
        exact back (fun _ h => absurd h c2)
    · rw [if_neg (fun h => c1 ((nI_eqI (by omega) (by omega)).mp h))]
      exact back (fun h => absurd h c1)
end NCL
