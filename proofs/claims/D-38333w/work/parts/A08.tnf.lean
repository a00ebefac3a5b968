set_option maxRecDepth 4000
/-! ===== the reference's net: flow ===== -/
/-- how often it may push -/
def okc (P : List Pipe) (sh : Int32) : Nat := wsum (fun k => if okS P sh k then 1 else 0) P.length
def puK (P : List Pipe) (sh : Int32) : Nat := 6 * max 2 (okc P sh) - 10
section TNF
variable {G : Nat → Option Nat} {u : Nat} {g : SG} {P : List Pipe} {sh : Int32}
/-- k pushes have led to f -/
def PreF (P : List Pipe) (sh : Int32) (f : Nat → Nat) (k : Nat) : Prop := ∀ T pk al dep τ, Lab P.length (pF P) (pT P) (pW P) (okS P sh) f T pk al dep τ (8 * P.length) → ∃ e, EvI P.length (pF P) (pT P) (pW P) (okS P sh) f T τ e ∧ wsum e P.length = k
theorem wsum_0 : ∀ n, wsum (fun _ => 0) n = 0
  | 0 => rfl
  | n + 1 => wsum_0 n
theorem preF_0 {f : Nat → Nat} : PreF P sh f 0 := fun _ _ _ _ _ _ => ⟨fun _ => 0, EvI.o, wsum_0 _⟩
/-- the end: greatest flow -/
abbrev MxF (P : List Pipe) (sh : Int32) (f : Nat → Nat) (x : Nat) : Prop := (Fl P.length (pF P) (pT P) (pW P) (okS P sh) f) ∧ (exc P.length (pF P) (pT P) f 0 = (x : Int)) ∧ (∃ T pk al dep, Tr P.length (pF P) (pT P) (pW P) (okS P sh) f T pk al dep ∧ Cl P.length (pF P) (pT P) (pW P) (okS P sh) f T ∧ T 7 = false)
theorem MxF.fl {P : List Pipe} {sh : Int32} {f : Nat → Nat} {x : Nat} (self_ : MxF P sh f x) : Fl P.length (pF P) (pT P) (pW P) (okS P sh) f := self_.1
theorem MxF.ex {P : List Pipe} {sh : Int32} {f : Nat → Nat} {x : Nat} (self_ : MxF P sh f x) : exc P.length (pF P) (pT P) f 0 = (x : Int) := self_.2.1
theorem MxF.mx {P : List Pipe} {sh : Int32} {f : Nat → Nat} {x : Nat} (self_ : MxF P sh f x) : ∃ T pk al dep, Tr P.length (pF P) (pT P) (pW P) (okS P sh) f T pk al dep ∧ Cl P.length (pF P) (pT P) (pW P) (okS P sh) f T ∧ T 7 = false := self_.2.2
theorem t700_4 (hP : PI P) {fa : Nat} (hpf : ∀ i, i < P.length → g.ps i ≠ fa) : ∀ (n x k : Nat) (f : Nat → Nat) (M : Mem), wsum (pW P) P.length ≤ x + n → NtT G M u g P → FlT M fa P f → Fl P.length (pF P) (pT P) (pW P) (okS P sh) f → exc P.length (pF P) (pT P) f 0 = (x : Int) → PreF P sh f k →
    ∃ M' y f' z, (cbI (ex G 2 701 0 [(0, vR (some u)), (1, vI sh), (2, vR (some fa))] [] M) (fun v M1 => ex G 2 700 4 [(0, vR (some u)), (1, vI sh), (2, vR (some fa)), (3, vI (nI x)), (4, vI v)] [] M1)) = some (.inl (some (vI (nI y))), M') ∧ k + z ≤ puK P sh + 1 ∧ QC (atX fa) z (8 * z) M M' ∧ FlT M' fa P f' ∧ MxF P sh f' y
  | n, x, k, f, M, hn, N, F, Ff, hx, hpre => by
    obtain ⟨M1, T, pk, al, dep, τ, L, q1, h⟩ := t701 hP N F Ff.le hpf (sh := sh)
    obtain ⟨e, E, hek⟩ := hpre T pk al dep τ L
    have hk := E.le
    rw [hek] at hk
    have hkK : k ≤ puK P sh := by
      unfold puK okc
      omega
    have hxle : x ≤ 1188 := by
      have h1 := val_le Ff
      have h2 := wsum_le P.length (fun k hk => (hP.k hk).2.2.2.2)
      have := hP.1
      omega
    have hl := hP.1
    rcases h with ⟨h7, e1, F1⟩ | ⟨h7, e1, F1⟩
    · refine ⟨M1, x, f, 1, ?_, by omega, q1, F1, ⟨Ff, hx, T, pk, al, dep, L.tr, L.cl hP.h8, h7⟩⟩
      rw [cbI_of e1, E700_4, if_pos (nI_le_L 0 0 rfl (Nat.le_refl _) (by decide))]
      rfl
    · have hpos := lpL_pos L.tr hP.h8 (dep 7) 7 2147483647 rfl (by decide) h7 (by decide)
      have hfit := lpL_fit (fr := pF P) (to_ := pT P) (wd := pW P) (f := f) (pk := pk) (al := al) (dep 7) 7 2147483647 (Nat.le_refl _)
      have hle := lpL_le (fr := pF P) (to_ := pT P) (wd := pW P) (f := f) (pk := pk) (al := al) (dep 7) 7 2147483647
      obtain ⟨Fl2, ex2⟩ := push_fl Ff L.tr hP.h8 h7 hfit
      have hv := val_le Fl2
      have hpre' : PreF P sh (psL (pF P) (pT P) pk al (lpL (pF P) (pT P) (pW P) f pk al (dep 7) 7 2147483647) (dep 7) 7 f) (k + 1) := by
        intro T' pk' al' dep' τ' L'
        obtain ⟨e', E', h'⟩ := E.step L L' hP.h8 (fun k hk => (hP.k hk).2.2.1) Ff.le h7 (m := 2147483647) (fun k hk => by have := (hP.k hk).2.2.2.2; omega) rfl
        exact ⟨e', E', by rw [h', hek]⟩
      generalize lpL (pF P) (pT P) (pW P) f pk al (dep 7) 7 2147483647 = δ at *
      have hxd : exc P.length (pF P) (pT P) (psL (pF P) (pT P) pk al δ (dep 7) 7 f) 0 = ((x + δ : Nat) : Int) := by rw [ex2, hx]; rfl
      match n, hn with
      | 0, hn => exact absurd hv (by rw [hxd]; omega)
      | n + 1, hn =>
        have N1 := N.fr q1 (fun i hi h => hpf i hi h)
        obtain ⟨M', y, f', z, e', hz, q', F', m'⟩ := t700_4 hP hpf n (x + δ) (k + 1) _ M1 (by omega) N1 F1 Fl2 hxd hpre'
        refine ⟨M', y, f', z + 1, ?_, by omega, ?_, F', m'⟩
        · have : ¬ nI δ ≤ 0 := nI_nle_L 0 0 rfl hpos (by omega)
          rw [cbI_of e1, E700_4, if_neg this, aAdd_n, nmI_ok, vc1_ok N1.k]
          exact e'
        · exact (q1.tr q').mono (fun _ h => h) (by omega) (by omega)
theorem t700_1 (hP : PI P) {fa : Nat} : ∀ (n i : Nat) (M : Mem), i + n = 12 → NtT G M u g P → mcl M fa = 100 → mco M fa = 2 → mln M fa = 12 → (∀ k, k < i → mai M fa k = nI 0) → (hpf : ∀ i, i < P.length → g.ps i ≠ fa) →
    ∃ M', ex G 2 700 1 [(0, vR (some u)), (1, vI sh), (2, vR (some fa)), (3, vI (nI i))] [] M = (cbI (ex G 2 701 0 [(0, vR (some u)), (1, vI sh), (2, vR (some fa))] [] M') (fun v M1 => ex G 2 700 4 [(0, vR (some u)), (1, vI sh), (2, vR (some fa)), (3, vI (nI 0)), (4, vI v)] [] M1)) ∧ QC (atX fa) 0 0 M M' ∧ (∀ k, k < 12 → mai M' fa k = nI 0)
  | 0, i, M, hi, N, k, co, ln, hv, hpf => by
    have e : i = 12 := by omega
    subst e
    refine ⟨M, ?_, QC.rf, hv⟩
    rw [E700_1, alen_ok k ln, if_neg (nI_nlt (Nat.le_refl _) (by decide)), vc1_ok N.k]
    rfl
  | n + 1, i, M, hi, N, k, co, ln, hv, hpf => by
    obtain ⟨M1, hM1⟩ : ∃ M1, M1 = sai M fa i (nI 0) := ⟨_, rfl⟩
    have q1 : QC (atX fa) 0 0 M M1 := by rw [hM1]; exact qc_sai rfl
    obtain ⟨M', e', q', v'⟩ := t700_1 hP (fa := fa) n (i + 1) M1 (by omega) (N.fr q1 (fun i hi h => hpf i hi h)) (by rw [hM1, mcl_sai]; exact k) (by rw [hM1, mco_sai]; exact co) (by rw [hM1, mln_sai]; exact ln) (fun v b => by
      rw [hM1, mai_sai, up2_if]
      by_cases e : v = i
      · rw [if_pos ⟨rfl, e⟩]
      · rw [if_neg (fun h => e h.2)]
        exact hv v (by omega)) hpf
    refine ⟨M', Eq.trans ?_ e', q1.tr q', v'⟩
    rw [E700_1, alen_ok k ln, if_pos (nI_lt (by omega) (by decide)), show (0 : Int32) = nI 0 from rfl, stI_ok k co ln (by omega) (by decide), ← hM1, show aAdd (nI i) 1 = nI (i + 1) from aAdd_n i 1]
theorem fl_ok0 : Fl P.length (pF P) (pT P) (pW P) (okS P sh) (fun _ => 0) ∧ exc P.length (pF P) (pT P) (fun _ => 0) 0 = 0 := fl_zero
/-- FLOW in a given array -/
theorem t700 {M : Mem} (hP : PI P) (N : NtT G M u g P) {fa : Nat} (hpf : ∀ i, i < P.length → g.ps i ≠ fa) (k : mcl M fa = 100) (co : mco M fa = 2) (ln : mln M fa = 12) (lt : fa < mnx M) :
    ∃ M' y f', ex G 2 700 0 [(0, vR (some u)), (1, vI sh), (2, vR (some fa))] [] M = some (.inl (some (vI (nI y))), M') ∧ QC (atX fa) (puK P sh + 1) (8 * (puK P sh + 1)) M M' ∧ FlT M' fa P f' ∧ MxF P sh f' y := by
  have hl := hP.1
  obtain ⟨M1, e1, q1, v1⟩ := t700_1 (G := G) (u := u) (g := g) (sh := sh) hP (fa := fa) 12 0 M rfl N k co ln (fun k hk => absurd hk (Nat.not_lt_zero k)) hpf
  have F1 : FlT M1 fa P (fun _ => 0) := ⟨(q1.cl _ lt).trans k, (q1.co _ lt).trans co, (q1.ln _ lt).trans ln, Nat.lt_of_lt_of_le lt q1.nx.1, fun j hj => v1 j (by omega)⟩
  obtain ⟨M', y, f', z, e', hz, q', F', m'⟩ := t700_4 (G := G) (u := u) (g := g) hP hpf (wsum (pW P) P.length) 0 0 (fun _ => 0) M1 (by omega) (N.fr q1 (fun i hi h => hpf i hi h)) F1 (fl_ok0 (sh := sh)).1 (fl_ok0 (sh := sh)).2 preF_0
  refine ⟨M', y, f', ?_, (q1.tr q').mono (fun _ h => h) (by omega) (by omega), F', m'⟩
  rw [E700_0, show (0 : Int32) = nI 0 from rfl]
  exact e1.trans e'
/-- FLOW -/
theorem t699 {M : Mem} (hP : PI P) (N : NtT G M u g P) :
    ∃ M' y f', ex G 2 699 0 [(0, vR (some u)), (1, vI sh)] [] M = some (.inl (some (vI (nI y))), M') ∧ QC noX (puK P sh + 2) (8 * puK P sh + 20) M M' ∧ MxF P sh f' y := by
  obtain ⟨M0, hM0⟩ : ∃ M0, M0 = marr M 2 100 12 := ⟨_, rfl⟩
  have q0 : QC noX 1 12 M M0 := by rw [hM0]; exact qc_marr
  have n0 : mnx M0 = mnx M + 1 := by rw [hM0, mnx_marr]
  have k0 : mcl M0 (mnx M) = 100 := by rw [hM0, mcl_marr]; exact up1_at9
  have o0 : mco M0 (mnx M) = 2 := by rw [hM0, mco_marr]; exact up1_at9
  have l0 : mln M0 (mnx M) = 12 := by rw [hM0, mln_marr]; exact up1_at9
  have hpr : ∀ i, i < P.length → g.ps i ≠ mnx M := fun i hi h => by have := N.pxl i hi; omega
  have N0 := N.fr0 q0
  obtain ⟨M1, y, f', e1, q1, F1, m1⟩ := t700 hP N0 hpr (sh := sh) k0 o0 l0 (by omega)
  refine ⟨M1, y, f', ?_, (q0.fresh q1 (fun a h => by rw [show a = mnx M from h]; exact Nat.le_refl _)).mono (fun _ h => h) (by omega) (by omega), m1⟩
  rw [E699_0, show (12 : Int32) = nI 12 from rfl, mka_ok (by decide), ← hM0, vc1_ok N0.k, cbI_of e1]
  rfl
end TNF
