set_option maxRecDepth 8000
/-! ===== how both sides of an operation answer; the steps that they share ===== -/
abbrev OR : Type := Nat × AV × Yd
/-- the class answers R: an exception R.1 (0: none), the answer, the yard then; n cells and s slots at most -/
def Cls (G : Nat → Option Nat) (M : Mem) (k : Nat) (n s : Nat) (x : Res) (R : OR) : Prop := ∃ M' h', x = Oc R.1 (some R.2.1) M' ∧ YC G M' k h' R.2.2 ∧ cost n s M M'
/-- so does the reference; l: the exceptions of the call by the law's numbers -/
def Ref (G : Nat → Option Nat) (M : Mem) (m : Nat) (l : List Nat) (n s : Nat) (x : Res) (R : OR) : Prop := ∃ M' h' v', x = some (.inl (some v'), M') ∧ YT G M' m h' R.2.2 ∧ mfi M' 194 m = nI (cdN l R.1) ∧ (R.1 = 0 → v' = R.2.1) ∧ cost n s M M'
def oS (Y : Yd) (s : Int32) (f : Sh → OR) : OR := match Y.shO s with
  | none => (3, vI 0, Y)
  | some S => f S
def oR (Y : Yd) (E : Nat) (b : Bool) (r : OR) : OR := if b = true then r else (E, vI 0, Y)
def same0 (M M1 : Mem) : Prop := mnx M1 = mnx M ∧ msl M1 = msl M
theorem ifb {f : Int32 → Res} {b : Bool} : (if bI b = 0 then f 1 else f 0) = f (bI (!b)) := by cases b <;> rfl
theorem ifb' {f : Int32 → Res} {b : Bool} : (if bI b = 0 then f 0 else f 1) = f (bI b) := by cases b <;> rfl
theorem ifd {f : Int32 → Res} {p : Prop} {q0 : Decidable p} (b : Bool) (h : p ↔ b = true) {x y : Res} (hx : x = f 1) (hy : y = f 0) : (if p then x else y) = f (bI b) := by
  subst hx
  subst hy
  cases b
  · rw [if_neg (fun q => absurd (h.mp q) (by decide))]; rfl
  · rw [if_pos (h.mpr rfl)]; rfl
section CMB
variable {G : Nat → Option Nat} {M M1 : Mem} {k m : Nat} {h : YH} {Y : Yd} {n s : Nat} {l : List Nat}
theorem Cls.fr {x : Res} {R : OR} (q : same0 M M1) (H : Cls G M1 k n s x R) : Cls G M k n s x R := by
  obtain ⟨M', h', a, b, c⟩ := H
  exact ⟨M', h', a, b, by rw [← q.1]; exact c.1, by rw [← q.2]; exact c.2⟩
theorem Ref.fr {x : Res} {R : OR} (q : same0 M M1) (H : Ref G M1 m l n s x R) : Ref G M m l n s x R := by
  obtain ⟨M', h', v', a, b, c, d, e⟩ := H
  exact ⟨M', h', v', a, b, c, d, by rw [← q.1]; exact e.1, by rw [← q.2]; exact e.2⟩
theorem Cls.tr {x : Res} {R : OR} {n1 s1 : Nat} (q : cost n1 s1 M M1) (H : Cls G M1 k n s x R) : Cls G M k (n1 + n) (s1 + s) x R := by
  obtain ⟨M', h', a, b, c⟩ := H
  exact ⟨M', h', a, b, q.tr c⟩
theorem Ref.tr {x : Res} {R : OR} {n1 s1 : Nat} (q : cost n1 s1 M M1) (H : Ref G M1 m l n s x R) : Ref G M m l (n1 + n) (s1 + s) x R := by
  obtain ⟨M', h', v', a, b, c, d, e⟩ := H
  exact ⟨M', h', v', a, b, c, d, q.tr e⟩
theorem Cls.mono {x : Res} {R : OR} {n1 s1 : Nat} (H : Cls G M k n1 s1 x R) (h1 : n1 ≤ n) (h2 : s1 ≤ s) : Cls G M k n s x R := by
  obtain ⟨M', h', a, b, c⟩ := H
  exact ⟨M', h', a, b, c.mono h1 h2⟩
theorem Ref.mono {x : Res} {R : OR} {n1 s1 : Nat} (H : Ref G M m l n1 s1 x R) (h1 : n1 ≤ n) (h2 : s1 ≤ s) : Ref G M m l n s x R := by
  obtain ⟨M', h', v', a, b, c, d, e⟩ := H
  exact ⟨M', h', v', a, b, c, d, e.mono h1 h2⟩
theorem Cls.x (C : YC G M k h Y) (I : YI Y) {E : Nat} (he : E ≠ 0) (hn : 1 ≤ n) (hs : 6 ≤ s) : Cls G M k n s (rX E M) (E, vI 0, Y) :=
  ⟨mth M 1 6, h, by unfold Oc; rw [if_neg he]; rfl, C.th I, cost.mth.mono hn hs⟩
/-- the class answers -/
theorem Cls.ok {Y' : Yd} {h' : YH} {M' : Mem} (C' : YC G M' k h' Y') (c : cost n s M M') {v : AV} : Cls G M k n s (some (.inl (some v), M')) (0, v, Y') := ⟨M', h', rfl, C', c⟩
theorem Ref.ok {Y' : Yd} {h' : YH} {M' : Mem} (C' : YT G M' m h' Y') (z : mfi M' 194 m = 0) (c : cost n s M M') {v : AV} (hl : cdN l 0 = 0) : Ref G M m l n s (some (.inl (some v), M')) (0, v, Y') := ⟨M', h', v, rfl, C', by rw [hl]; exact z, fun _ => rfl, c⟩
/-- a ship's number is looked at -/
theorem Cls.ship (C : YC G M k h Y) (I : YI Y) (hn : 1 ≤ n) (hs : 6 ≤ s) {i : Int32} {f : Sh → OR} {κ : Option Nat → Mem → Res} (H : ∀ S, Y.shO i = some S → i = nI S.num → Y.ships[S.num]? = some S → ShP h.own G M S.num (h.bs S.num) (h.gs S.num) h.px h.lx Y.lots S → SI S → Cls G M k n s (κ (some (h.bs S.num)) M) (f S)) : Cls G M k n s (cbR (ex G 1 209 0 [(0, vR (some k)), (1, vI i)] [] M) κ) (oS Y i f) := by
  unfold oS
  cases e : Y.shO i
  · rw [c209x C I e]
    exact Cls.x C I (by decide) hn hs
  · next S =>
    obtain ⟨e1, e2, e3⟩ := shO_some I e
    rw [cbR_of (c209 C I e)]
    exact H S e e1 e3 (C.sh _ S e3) (I.si _ S e3)
theorem Cls.req (C : YC G M k h Y) (I : YI Y) (hn : 1 ≤ n) (hs : 6 ≤ s) {b : Bool} {r : OR} {κ : Mem → Res} (H : b = true → Cls G M k n s (κ M) r) : Cls G M k n s (cbV (ex G 1 204 0 [(0, vI (bI b))] [] M) κ) (oR Y 1 b r) := by
  unfold oR
  cases b
  · rw [c204x rfl, if_neg (by decide)]
    exact Cls.x C I (by decide) hn hs
  · rw [cbV_of (c204 rfl), if_pos rfl]
    exact H rfl
theorem Cls.reqI (C : YC G M k h Y) (I : YI Y) (hn : 1 ≤ n) (hs : 6 ≤ s) {lo hi x : Int32} {r : OR} {κ : Mem → Res} (H : inB lo hi x = true → Cls G M k n s (κ M) r) : Cls G M k n s (cbI (ex G 1 203 0 [(0, vI lo), (1, vI hi), (2, vI x)] [] M) fun v M' => cbV (ex G 1 204 0 [(0, vI v)] [] M') κ) (oR Y 1 (inB lo hi x) r) := by
  rw [cbI_of c203]
  exact Cls.req C I hn hs H
theorem Cls.st (C : YC G M k h Y) (I : YI Y) (hn : 1 ≤ n) (hs : 6 ≤ s) {b : Bool} {r : OR} {κ : Mem → Res} (H : b = true → Cls G M k n s (κ M) r) : Cls G M k n s (cbV (ex G 1 205 0 [(0, vI (bI b))] [] M) κ) (oR Y 2 b r) := by
  unfold oR
  cases b
  · rw [show bI false = 0 from rfl, c205x, if_neg (by decide)]
    exact Cls.x C I (by decide) hn hs
  · rw [show bI true = 1 from rfl, cbV_of c205, if_pos rfl]
    exact H rfl
/-- an index is looked at -/
theorem Cls.idx (C : YC G M k h Y) (I : YI Y) (hn : 1 ≤ n) (hs : 6 ≤ s) {i z : Int32} {w : Nat} {r : OR} {κ : Mem → Res} (hz : nI w = z) (hw : 1 ≤ w) (hw2 : w < 1000) (H : inB 0 (nI (w - 1)) i = true → Cls G M k n s (κ M) r) : Cls G M k n s (cbV (ex G 1 210 0 [(0, vI i), (1, vI z)] [] M) κ) (oR Y 3 (inB 0 (nI (w - 1)) i) r) := by
  subst hz
  unfold oR
  cases e : inB 0 (nI (w - 1)) i
  · rw [c210x, if_neg (by decide)]
    · exact Cls.x C I (by decide) hn hs
    · rintro ⟨h0, h1⟩
      unfold inB at e
      obtain ⟨j, hj, e2⟩ := nI_of h0
      subst e2
      have := (nI_ltN hj (by omega)).mp h1
      rw [decide_eq_false h0, decide_eq_true ((nI_leN hj (by omega)).mpr (by omega))] at e
      exact absurd e (by decide)
  · obtain ⟨j, hj, _, h2⟩ := inB_n (a := 0) (b := w - 1) e (by decide) (by omega)
    rw [hj, cbV_of (c210 (by omega) (by omega)), if_pos rfl]
    exact H e
/-- START: what is wrong at once -/
theorem Ref.st (C : YT G M m h Y) {E : Nat} (hE : E ≠ 0) (hl : cdN l E = 1) {b : Bool} {r : OR} {κ : Int32 → Mem → Res} {v : Mem → AV} (hk : ∀ M', κ 1 M' = some (.inl (some (v M')), M')) (H : b = false → ∀ M1, YT G M1 m h Y → mfi M1 194 m = 0 → same0 M M1 → Ref G M1 m l n s (κ 0 M1) r) : Ref G M m l n s (cbI (ex G 2 363 0 [(0, vR (some m)), (1, vI (bI b)), (2, vI 1)] [] M) κ) (oR Y E (!b) r) := by
  unfold oR
  cases b
  · rw [show bI false = 0 from rfl, cbI_of (t363f C), if_pos (show (!false) = true from rfl)]
    exact Ref.fr ⟨rfl, rfl⟩ (H rfl _ C.w194 sfi_at ⟨rfl, rfl⟩)
  · rw [show bI true = 1 from rfl, cbI_of (show ex G 2 363 0 [(0, vR (some m)), (1, vI 1), (2, vI 1)] [] M = _ from t363t (w := 1) C (by decide) (by decide)), if_neg (by decide), hk]
    exact ⟨_, h, _, rfl, C.w194.w194, by rw [hl]; exact sfi_at, fun x => absurd x hE, cost.rf.mono (Nat.zero_le _) (Nat.zero_le _)⟩
theorem Ref.ship (C : YT G M m h Y) (I : YI Y) (hl : cdN l 3 = 1) {i : Int32} {f : Sh → OR} {κ : Int32 → Mem → Res} {v : Mem → AV} (hk : ∀ M', κ 1 M' = some (.inl (some (v M')), M')) (H : ∀ S, Y.shO i = some S → i = nI S.num → Y.ships[S.num]? = some S → SI S → ∀ M1, YT G M1 m h Y → mfi M1 194 m = 0 → same0 M M1 → Ref G M1 m l n s (κ 0 M1) (f S)) : Ref G M m l n s (cbI (ex G 2 366 0 [(0, vR (some m)), (1, vI i)] [] M) fun v M1 => vc1 M1 37 (some m) fun a => cbI (ex G 2 363 0 [(0, vR (some a)), (1, vI v), (2, vI 1)] [] M1) κ) (oS Y i f) := by
  rw [cbI_of (t366 C I), vc1_ok C.rt.k]
  unfold oS
  cases e : Y.shO i
  · have := Ref.st (r := (3, vI 0, Y)) (n := n) (s := s) C (show (3 : Nat) ≠ 0 by decide) hl (b := true) hk (fun x => absurd x (by decide))
    exact this
  · next S =>
    obtain ⟨e1, e2, e3⟩ := shO_some I e
    have := Ref.st (r := f S) (n := n) (s := s) C (show (3 : Nat) ≠ 0 by decide) hl (b := false) hk (fun _ => H S e e1 e3 (I.si _ S e3))
    exact this
/-- REFUSE -/
theorem Ref.re (C : YT G M m h Y) (z : mfi M 194 m = 0) {E w : Nat} {zw : Int32} (hE : E ≠ 0) (hl : cdN l E = w) (hz : nI w = zw) (h1 : 1 ≤ w) (h2 : w < 10) {b : Bool} {r : OR} {κ : Int32 → Mem → Res} {v : Mem → AV} (hk : ∀ M', κ 1 M' = some (.inl (some (v M')), M')) (H : b = false → Ref G M m l n s (κ 0 M) r) : Ref G M m l n s (cbI (ex G 2 364 0 [(0, vR (some m)), (1, vI (bI b)), (2, vI zw)] [] M) κ) (oR Y E (!b) r) := by
  subst hz
  unfold oR
  cases b
  · rw [show bI false = 0 from rfl, cbI_of (t364f C z), if_pos (show (!false) = true from rfl)]
    exact H rfl
  · rw [show bI true = 1 from rfl, cbI_of (t364t C z h1 h2), if_neg (by decide), hk]
    exact ⟨_, h, _, rfl, C.w194, by rw [hl]; exact sfi_at, fun x => absurd x hE, cost.rf.mono (Nat.zero_le _) (Nat.zero_le _)⟩
theorem Ref.rq (C : YT G M m h Y) (z : mfi M 194 m = 0) {E w : Nat} {zw : Int32} (hE : E ≠ 0) (hl : cdN l E = w) (hz : nI w = zw) (h1 : 1 ≤ w) (h2 : w < 10) {b : Bool} {r : OR} {κ : Int32 → Mem → Res} {v : Mem → AV} (hk : ∀ M', κ 1 M' = some (.inl (some (v M')), M')) (H : b = true → Ref G M m l n s (κ 0 M) r) : Ref G M m l n s (cbI (ex G 2 364 0 [(0, vR (some m)), (1, vI (bI (!b))), (2, vI zw)] [] M) κ) (oR Y E b r) := by
  have := Ref.re C z hE hl hz h1 h2 (b := !b) hk (fun x => H (by rw [Bool.not_eq_false'] at x; exact x))
  rw [Bool.not_not] at this
  exact this
theorem Ref.sq (C : YT G M m h Y) {E : Nat} (hE : E ≠ 0) (hl : cdN l E = 1) {b : Bool} {r : OR} {κ : Int32 → Mem → Res} {v : Mem → AV} (hk : ∀ M', κ 1 M' = some (.inl (some (v M')), M')) (H : b = true → ∀ M1, YT G M1 m h Y → mfi M1 194 m = 0 → same0 M M1 → Ref G M1 m l n s (κ 0 M1) r) : Ref G M m l n s (cbI (ex G 2 363 0 [(0, vR (some m)), (1, vI (bI (!b))), (2, vI 1)] [] M) κ) (oR Y E b r) := by
  have := Ref.st C hE hl (b := !b) hk (fun x => H (by rw [Bool.not_eq_false'] at x; exact x))
  rw [Bool.not_not] at this
  exact this
end CMB
