set_option maxRecDepth 4000
/-! ===== how the class keeps a ship (printed by g39.py) ===== -/
/-- a list of objects -/
abbrev AL (G : Nat → Option Nat) (M : Mem) (c l e n : Nat) (xs : Nat → Nat) : Prop := (mcl M l = 5) ∧ (mco M l = c) ∧ (mfi M 23 l = nI n) ∧ (mfr M 22 l = some e) ∧ (mcl M e = 111) ∧ (mln M e = 0 ∨ mco M e = c) ∧ (mln M e = 0 → G 1 = some e) ∧ (n ≤ mln M e) ∧ (mln M e < 1000) ∧ (∀ i, i < n → mar M e i = some (xs i)) ∧ (l < mnx M) ∧ (e < mnx M)
theorem AL.k {G : Nat → Option Nat} {M : Mem} {c l e n : Nat} {xs : Nat → Nat} (self_ : AL G M c l e n xs) : mcl M l = 5 := self_.1
theorem AL.co {G : Nat → Option Nat} {M : Mem} {c l e n : Nat} {xs : Nat → Nat} (self_ : AL G M c l e n xs) : mco M l = c := self_.2.1
theorem AL.sz {G : Nat → Option Nat} {M : Mem} {c l e n : Nat} {xs : Nat → Nat} (self_ : AL G M c l e n xs) : mfi M 23 l = nI n := self_.2.2.1
theorem AL.ed {G : Nat → Option Nat} {M : Mem} {c l e n : Nat} {xs : Nat → Nat} (self_ : AL G M c l e n xs) : mfr M 22 l = some e := self_.2.2.2.1
theorem AL.ke {G : Nat → Option Nat} {M : Mem} {c l e n : Nat} {xs : Nat → Nat} (self_ : AL G M c l e n xs) : mcl M e = 111 := self_.2.2.2.2.1
theorem AL.ce {G : Nat → Option Nat} {M : Mem} {c l e n : Nat} {xs : Nat → Nat} (self_ : AL G M c l e n xs) : mln M e = 0 ∨ mco M e = c := self_.2.2.2.2.2.1
theorem AL.e0 {G : Nat → Option Nat} {M : Mem} {c l e n : Nat} {xs : Nat → Nat} (self_ : AL G M c l e n xs) : mln M e = 0 → G 1 = some e := self_.2.2.2.2.2.2.1
theorem AL.le {G : Nat → Option Nat} {M : Mem} {c l e n : Nat} {xs : Nat → Nat} (self_ : AL G M c l e n xs) : n ≤ mln M e := self_.2.2.2.2.2.2.2.1
theorem AL.ls {G : Nat → Option Nat} {M : Mem} {c l e n : Nat} {xs : Nat → Nat} (self_ : AL G M c l e n xs) : mln M e < 1000 := self_.2.2.2.2.2.2.2.2.1
theorem AL.el {G : Nat → Option Nat} {M : Mem} {c l e n : Nat} {xs : Nat → Nat} (self_ : AL G M c l e n xs) : ∀ i, i < n → mar M e i = some (xs i) := self_.2.2.2.2.2.2.2.2.2.1
theorem AL.ll {G : Nat → Option Nat} {M : Mem} {c l e n : Nat} {xs : Nat → Nat} (self_ : AL G M c l e n xs) : l < mnx M := self_.2.2.2.2.2.2.2.2.2.2.1
theorem AL.lt {G : Nat → Option Nat} {M : Mem} {c l e n : Nat} {xs : Nat → Nat} (self_ : AL G M c l e n xs) : e < mnx M := self_.2.2.2.2.2.2.2.2.2.2.2
/-- addresses that belong to a ship: items, lots aboard, pipes; ports -/
abbrev SG : Type := (Nat → Nat) × (Nat) × (Nat → Nat) × (Nat) × (Nat → Nat) × (Nat) × (Nat → Nat)
def SG.xs (self_ : SG) : Nat → Nat := self_.1
def SG.xe (self_ : SG) : Nat := self_.2.1
def SG.ys (self_ : SG) : Nat → Nat := self_.2.2.1
def SG.ye (self_ : SG) : Nat := self_.2.2.2.1
def SG.ps (self_ : SG) : Nat → Nat := self_.2.2.2.2.1
def SG.pe (self_ : SG) : Nat := self_.2.2.2.2.2.1
def SG.pa (self_ : SG) : Nat → Nat := self_.2.2.2.2.2.2
def SG.mk_ (xs : Nat → Nat) (xe : Nat) (ys : Nat → Nat) (ye : Nat) (ps : Nat → Nat) (pe : Nat) (pa : Nat → Nat) : SG := (xs, xe, ys, ye, ps, pe, pa)
def SG.s_xs (self_ : SG) (v_ : Nat → Nat) : SG := (v_, self_.xe, self_.ys, self_.ye, self_.ps, self_.pe, self_.pa)
def SG.s_xe (self_ : SG) (v_ : Nat) : SG := (self_.xs, v_, self_.ys, self_.ye, self_.ps, self_.pe, self_.pa)
def SG.s_ys (self_ : SG) (v_ : Nat → Nat) : SG := (self_.xs, self_.xe, v_, self_.ye, self_.ps, self_.pe, self_.pa)
def SG.s_ye (self_ : SG) (v_ : Nat) : SG := (self_.xs, self_.xe, self_.ys, v_, self_.ps, self_.pe, self_.pa)
def SG.s_ps (self_ : SG) (v_ : Nat → Nat) : SG := (self_.xs, self_.xe, self_.ys, self_.ye, v_, self_.pe, self_.pa)
def SG.s_pe (self_ : SG) (v_ : Nat) : SG := (self_.xs, self_.xe, self_.ys, self_.ye, self_.ps, v_, self_.pa)
def SG.s_pa (self_ : SG) (v_ : Nat → Nat) : SG := (self_.xs, self_.xe, self_.ys, self_.ye, self_.ps, self_.pe, v_)
theorem SG.mk_e {xs : Nat → Nat} {xe : Nat} {ys : Nat → Nat} {ye : Nat} {ps : Nat → Nat} {pe : Nat} {pa : Nat → Nat} : (SG.mk_ xs xe ys ye ps pe pa).xs = xs ∧ (SG.mk_ xs xe ys ye ps pe pa).xe = xe ∧ (SG.mk_ xs xe ys ye ps pe pa).ys = ys ∧ (SG.mk_ xs xe ys ye ps pe pa).ye = ye ∧ (SG.mk_ xs xe ys ye ps pe pa).ps = ps ∧ (SG.mk_ xs xe ys ye ps pe pa).pe = pe ∧ (SG.mk_ xs xe ys ye ps pe pa).pa = pa := by exact ⟨rfl, rfl, rfl, rfl, rfl, rfl, rfl⟩
def oI (x : Option Nat) : Int32 := match x with | none => -1 | some n => nI n
def stgN (s : Nat) : Nat := match s with | 0 => 15 | 1 => 16 | 2 => 19 | 3 => 24 | 4 => 18 | _ => 25
/-- jobs: trade, the set of those before, these one by one, their order -/
def jTr (j : Nat) : Nat := if j < 19 then 0 else if j < 22 then 1 else 2
def jAll : List (List Nat) := [[], [0], [1], [2], [0], [4], [5, 20], [0], [7], [8], [0], [10], [11], [0], [13], [14], [0], [16], [17], [1, 4, 7, 10, 13, 16], [1, 4, 7], [2, 5, 8, 11, 14, 17, 20], [3, 6, 9, 12, 15, 18], [21, 22]]
def jAh (j : Nat) : List Nat := jAll.getD j []
def jBs (j : Nat) : Nat := ([0, 1, 2, 4, 1, 16, 1048608, 1, 128, 256, 1, 1024, 2048, 1, 8192, 16384, 1, 65536, 131072, 74898, 146, 1198372, 299592, 6291456] : List Nat).getD j 0
def jOr (i : Nat) : Nat := ([0, 1, 2, 3, 4, 5, 7, 8, 9, 10, 11, 12, 13, 14, 15, 16, 17, 18, 19, 20, 21, 6, 22, 23] : List Nat).getD i 0
/-- fields of the class that queries may write -/
def scI (f : Nat) : Bool := [12, 41, 42, 74, 84, 85, 136, 137, 138, 165].contains f
def scR (f : Nat) : Bool := [31, 32].contains f
def scD (f : Nat) : Bool := [68, 69, 70, 71, 72, 75, 83].contains f
/-- what a query leaves of the memory (X: arrays of ints that it may write; n cells, s slots at most are made) -/
abbrev QC (X : Nat → Prop) (n s : Nat) (M M' : Mem) : Prop := (mnx M ≤ mnx M' ∧ mnx M' ≤ mnx M + n) ∧ (msl M ≤ msl M' ∧ msl M' ≤ msl M + s) ∧ (∀ a, a < mnx M → mcl M' a = mcl M a) ∧ (∀ a, a < mnx M → mco M' a = mco M a) ∧ (∀ a, a < mnx M → mln M' a = mln M a) ∧ (∀ f a, a < mnx M → scI f = false → mfi M' f a = mfi M f a) ∧ (∀ f a, a < mnx M → scR f = false → mfr M' f a = mfr M f a) ∧ (∀ f a, a < mnx M → scD f = false → mfd M' f a = mfd M f a) ∧ (∀ a i, a < mnx M → ¬ X a → mai M' a i = mai M a i) ∧ (∀ a i, a < mnx M → mar M' a i = mar M a i)
theorem QC.nx {X : Nat → Prop} {n s : Nat} {M M' : Mem} (self_ : QC X n s M M') : mnx M ≤ mnx M' ∧ mnx M' ≤ mnx M + n := self_.1
theorem QC.sl {X : Nat → Prop} {n s : Nat} {M M' : Mem} (self_ : QC X n s M M') : msl M ≤ msl M' ∧ msl M' ≤ msl M + s := self_.2.1
theorem QC.cl {X : Nat → Prop} {n s : Nat} {M M' : Mem} (self_ : QC X n s M M') : ∀ a, a < mnx M → mcl M' a = mcl M a := self_.2.2.1
theorem QC.co {X : Nat → Prop} {n s : Nat} {M M' : Mem} (self_ : QC X n s M M') : ∀ a, a < mnx M → mco M' a = mco M a := self_.2.2.2.1
theorem QC.ln {X : Nat → Prop} {n s : Nat} {M M' : Mem} (self_ : QC X n s M M') : ∀ a, a < mnx M → mln M' a = mln M a := self_.2.2.2.2.1
theorem QC.fi {X : Nat → Prop} {n s : Nat} {M M' : Mem} (self_ : QC X n s M M') : ∀ f a, a < mnx M → scI f = false → mfi M' f a = mfi M f a := self_.2.2.2.2.2.1
theorem QC.fr {X : Nat → Prop} {n s : Nat} {M M' : Mem} (self_ : QC X n s M M') : ∀ f a, a < mnx M → scR f = false → mfr M' f a = mfr M f a := self_.2.2.2.2.2.2.1
theorem QC.fd {X : Nat → Prop} {n s : Nat} {M M' : Mem} (self_ : QC X n s M M') : ∀ f a, a < mnx M → scD f = false → mfd M' f a = mfd M f a := self_.2.2.2.2.2.2.2.1
theorem QC.ai {X : Nat → Prop} {n s : Nat} {M M' : Mem} (self_ : QC X n s M M') : ∀ a i, a < mnx M → ¬ X a → mai M' a i = mai M a i := self_.2.2.2.2.2.2.2.2.1
theorem QC.ar {X : Nat → Prop} {n s : Nat} {M M' : Mem} (self_ : QC X n s M M') : ∀ a i, a < mnx M → mar M' a i = mar M a i := self_.2.2.2.2.2.2.2.2.2
theorem QC.rf {X : Nat → Prop} {n s : Nat} {M : Mem} : QC X n s M M := ⟨⟨Nat.le_refl _, Nat.le_add_right _ _⟩, ⟨Nat.le_refl _, Nat.le_add_right _ _⟩, fun _ _ => rfl, fun _ _ => rfl, fun _ _ => rfl, fun _ _ _ _ => rfl, fun _ _ _ _ => rfl, fun _ _ _ _ => rfl, fun _ _ _ _ => rfl, fun _ _ _ => rfl⟩
theorem QC.tr {X : Nat → Prop} {n s n' s' : Nat} {M M1 M2 : Mem} (h : QC X n s M M1) (h' : QC X n' s' M1 M2) : QC X (n + n') (s + s') M M2 := by
  have q : ∀ {a}, a < mnx M → a < mnx M1 := fun ha => Nat.lt_of_lt_of_le ha h.nx.1
  exact ⟨⟨Nat.le_trans h.nx.1 h'.nx.1, by have := h.nx; have := h'.nx; omega⟩, ⟨Nat.le_trans h.sl.1 h'.sl.1, by have := h.sl; have := h'.sl; omega⟩, fun a ha => (h'.cl a (q ha)).trans (h.cl a ha), fun a ha => (h'.co a (q ha)).trans (h.co a ha), fun a ha => (h'.ln a (q ha)).trans (h.ln a ha),
    fun f a ha hf => (h'.fi f a (q ha) hf).trans (h.fi f a ha hf), fun f a ha hf => (h'.fr f a (q ha) hf).trans (h.fr f a ha hf), fun f a ha hf => (h'.fd f a (q ha) hf).trans (h.fd f a ha hf), fun a i ha hx => (h'.ai a i (q ha) hx).trans (h.ai a i ha hx), fun a i ha => (h'.ar a i (q ha)).trans (h.ar a i ha)⟩
theorem QC.mono {X X' : Nat → Prop} {n s n' s' : Nat} {M M1 : Mem} (h : QC X n s M M1) (hX : ∀ a, X a → X' a) (hn : n ≤ n') (hs : s ≤ s') : QC X' n' s' M M1 :=
  ⟨⟨h.nx.1, by have := h.nx; omega⟩, ⟨h.sl.1, by have := h.sl; omega⟩, h.cl, h.co, h.ln, h.fi, h.fr, h.fd, fun a i ha hx => h.ai a i ha (fun x => hx (hX a x)), h.ar⟩
theorem AL.fr {G : Nat → Option Nat} {X : Nat → Prop} {n s : Nat} {M M' : Mem} {c l e m : Nat} {xs : Nat → Nat} (L : AL G M c l e m xs) (q : QC X n s M M') : AL G M' c l e m xs := by
  have h1 := L.ll
  have h2 := L.lt
  refine ⟨?_, ?_, ?_, ?_, ?_, ?_, ?_, ?_, ?_, ?_, ?_, ?_⟩
  · rw [q.cl l h1]; exact L.k
  · rw [q.co l h1]; exact L.co
  · rw [q.fi 23 l h1 rfl]; exact L.sz
  · rw [q.fr 22 l h1 rfl]; exact L.ed
  · rw [q.cl e h2]; exact L.ke
  · rw [q.ln e h2, q.co e h2]; exact L.ce
  · rw [q.ln e h2]; exact L.e0
  · rw [q.ln e h2]; exact L.le
  · rw [q.ln e h2]; exact L.ls
  · intro i hi; rw [q.ar e i h2]; exact L.el i hi
  · exact Nat.lt_of_lt_of_le h1 q.nx.1
  · exact Nat.lt_of_lt_of_le h2 q.nx.1
/-- the class keeps the ship S at b -/
abbrev ShC (G : Nat → Option Nat) (M : Mem) (b : Nat) (g : SG) (S : Sh) (p : Bool) : Prop := (b + 106 ≤ mnx M) ∧ (mcl M b = 22) ∧ (mco M b = 1) ∧ (mfi M 92 b = nI S.num) ∧ (mfr M 93 b = some (b + 1)) ∧ (mfr M 94 b = some (b + 4)) ∧ (mfr M 95 b = some (b + 5)) ∧ (mfr M 96 b = some (b + 6)) ∧ (mfr M 97 b = some (b + 7)) ∧ (mfr M 98 b = some (b + 13)) ∧ (mfr M 99 b = some (b + 14)) ∧ (mfr M 100 b = some (b + 15)) ∧ (mfr M 101 b = some (b + 16)) ∧ (mfr M 102 b = some (b + 55)) ∧ (mfr M 103 b = some (b + 23)) ∧ (mfr M 104 b = some (b + 24)) ∧ (mfr M 105 b = G (stgN S.stage)) ∧ (mfi M 106 b = nI S.bulk) ∧ (mfi M 107 b = nI S.limit) ∧ (mfi M 108 b = bI p) ∧ (mfi M 109 b = oI S.spot) ∧ (mfi M 110 b = nI S.foul) ∧ (mfi M 111 b = bI S.sea) ∧ (mfi M 112 b = bI S.waits) ∧ (mfr M 113 b = S.port.map g.pa) ∧ (mfd M 114 b = S.way) ∧ (mfi M 115 b = nI S.fuel) ∧ (mfi M 116 b = nI S.holed) ∧ (mfi M 117 b = S.earned) ∧ (mfi M 118 b = nI S.days) ∧ (mcl M (b + 1) = 16) ∧ (mco M (b + 1) = 1) ∧ (mfi M 62 (b + 1) = nI S.form) ∧ (mfi M 63 (b + 1) = nI S.H.len) ∧ (mfi M 64 (b + 1) = nI S.H.dep) ∧ (mfr M 65 (b + 1) = some (b + 2)) ∧ (mfr M 66 (b + 1) = some (b + 3)) ∧ (mcl M (b + 2) = 100) ∧ (mco M (b + 2) = 1) ∧ (mln M (b + 2) = 35) ∧ (∀ k, k < 7 → ∀ j, j < 5 → mai M (b + 2) (k * 5 + j) = nI (S.H.hf k j)) ∧ (mcl M (b + 3) = 103) ∧ (mco M (b + 3) = 1) ∧ (mln M (b + 3) = 7) ∧ (mcl M (b + 4) = 105) ∧ (mco M (b + 4) = 1) ∧ (mln M (b + 4) = 18) ∧ (∀ k, k < 18 → mar M (b + 4) k = some (b + 25 + k)) ∧ (mcl M (b + 6) = 106) ∧ (mco M (b + 6) = 1) ∧ (mln M (b + 6) = 6) ∧ (∀ c, c < 6 → mar M (b + 6) c = some (b + 43 + 2 * c)) ∧ (∀ k, k < 18 → mcl M (b + 25 + k) = 23) ∧ (∀ k, k < 18 → mco M (b + 25 + k) = 1) ∧ (∀ k, k < 18 → mfr M 119 (b + 25 + k) = some b) ∧ (∀ k, k < 18 → mfi M 120 (b + 25 + k) = nI (k / 3)) ∧ (∀ k, k < 18 → mfi M 121 (b + 25 + k) = nI (k % 3)) ∧ (∀ k, k < 18 → mfi M 122 (b + 25 + k) = nI (S.plan k)) ∧ (∀ k, k < 18 → mfi M 123 (b + 25 + k) = nI (S.fit k)) ∧ (∀ k, k < 18 → mfi M 124 (b + 25 + k) = nI (S.state k)) ∧ (∀ k, k < 18 → mfi M 125 (b + 25 + k) = nI (S.cut k)) ∧ (∀ c, c < 6 → mcl M (b + 43 + 2 * c) = 15) ∧ (∀ c, c < 6 → mco M (b + 43 + 2 * c) = 1) ∧ (∀ c, c < 6 → mfr M 59 (b + 43 + 2 * c) = some (b + 1)) ∧ (∀ c, c < 6 → mfi M 60 (b + 43 + 2 * c) = nI c) ∧ (∀ c, c < 6 → mfi M 61 (b + 43 + 2 * c) = nI (S.fill c)) ∧ (∀ c, c < 6 → mcl M (b + 44 + 2 * c) = 24) ∧ (∀ c, c < 6 → mco M (b + 44 + 2 * c) = 1) ∧ (∀ c, c < 6 → mfr M 126 (b + 44 + 2 * c) = some b) ∧ (∀ c, c < 6 → mfi M 127 (b + 44 + 2 * c) = nI c) ∧ (mcl M (b + 13) = 107) ∧ (mco M (b + 13) = 1) ∧ (mln M (b + 13) = 6) ∧ (∀ c, c < 6 → mar M (b + 13) c = some (b + 44 + 2 * c)) ∧ (mcl M (b + 7) = 20) ∧ (mco M (b + 7) = 1) ∧ (mfr M 86 (b + 7) = some b) ∧ (mfr M 87 (b + 7) = some (b + 8)) ∧ (mfi M 88 (b + 7) = nI S.power) ∧ (mcl M (b + 8) = 13) ∧ (mco M (b + 8) = 1) ∧ (mfr M 51 (b + 8) = some (b + 9)) ∧ (mfr M 52 (b + 8) = some (b + 10)) ∧ (mfr M 53 (b + 8) = some (b + 11)) ∧ (mfr M 54 (b + 8) = some (b + 12)) ∧ (mcl M (b + 10) = 101) ∧ (mco M (b + 10) = 1) ∧ (mln M (b + 10) = 8) ∧ (mcl M (b + 11) = 100) ∧ (mco M (b + 11) = 1) ∧ (mln M (b + 11) = 8) ∧ (mcl M (b + 12) = 100) ∧ (mco M (b + 12) = 1) ∧ (mln M (b + 12) = 8) ∧ (mcl M (b + 14) = 17) ∧ (mco M (b + 14) = 1) ∧ (mfr M 67 (b + 14) = some b) ∧ (mcl M (b + 15) = 18) ∧ (mco M (b + 15) = 1) ∧ (mfr M 73 (b + 15) = some b) ∧ (mcl M (b + 16) = 19) ∧ (mco M (b + 16) = 1) ∧ (mfr M 76 (b + 16) = some b) ∧ (mfr M 77 (b + 16) = some (b + 17)) ∧ (mcl M (b + 17) = 103) ∧ (mco M (b + 17) = 1) ∧ (mln M (b + 17) = 6) ∧ (mfr M 78 (b + 16) = some (b + 18)) ∧ (mcl M (b + 18) = 103) ∧ (mco M (b + 18) = 1) ∧ (mln M (b + 18) = 6) ∧ (mfr M 79 (b + 16) = some (b + 19)) ∧ (mcl M (b + 19) = 103) ∧ (mco M (b + 19) = 1) ∧ (mln M (b + 19) = 6) ∧ (mfr M 80 (b + 16) = some (b + 20)) ∧ (mcl M (b + 20) = 103) ∧ (mco M (b + 20) = 1) ∧ (mln M (b + 20) = 6) ∧ (mfr M 81 (b + 16) = some (b + 21)) ∧ (mcl M (b + 21) = 103) ∧ (mco M (b + 21) = 1) ∧ (mln M (b + 21) = 6) ∧ (mfr M 82 (b + 16) = some (b + 22)) ∧ (mcl M (b + 22) = 103) ∧ (mco M (b + 22) = 1) ∧ (mln M (b + 22) = 6) ∧ (mcl M (b + 24) = 100) ∧ (mco M (b + 24) = 1) ∧ (mln M (b + 24) = 24) ∧ (mcl M (b + 55) = 12) ∧ (mco M (b + 55) = 1) ∧ (mfr M 47 (b + 55) = some b) ∧ (mfr M 48 (b + 55) = some (b + 56)) ∧ (mfr M 49 (b + 55) = some (b + 57)) ∧ (mfi M 50 (b + 55) = bI S.laid) ∧ (mcl M (b + 56) = 108) ∧ (mco M (b + 56) = 1) ∧ (mln M (b + 56) = 24) ∧ (∀ j, j < 24 → mar M (b + 56) j = some (b + 58 + 2 * j)) ∧ (mcl M (b + 57) = 100) ∧ (mco M (b + 57) = 1) ∧ (mln M (b + 57) = 24) ∧ (∀ i, i < 24 → mai M (b + 57) i = nI (jOr i)) ∧ (∀ j, j < 24 → mcl M (b + 58 + 2 * j) = 25) ∧ (∀ j, j < 24 → mco M (b + 58 + 2 * j) = 1) ∧ (∀ j, j < 24 → mfi M 128 (b + 58 + 2 * j) = nI j) ∧ (∀ j, j < 24 → mfi M 129 (b + 58 + 2 * j) = nI (jTr j)) ∧ (∀ j, j < 24 → mfi M 130 (b + 58 + 2 * j) = nI (jBs j)) ∧ (∀ j, j < 24 → mfr M 131 (b + 58 + 2 * j) = some (b + 59 + 2 * j)) ∧ (∀ j, j < 24 → mfi M 132 (b + 58 + 2 * j) = nI (S.hours j)) ∧ (∀ j, j < 24 → mfi M 133 (b + 58 + 2 * j) = nI (S.left j)) ∧ (∀ j, j < 24 → mfi M 134 (b + 58 + 2 * j) = bI (S.asked j)) ∧ (∀ j, j < 24 → mfi M 135 (b + 58 + 2 * j) = bI (S.faulty j)) ∧ (∀ j, j < 24 → mcl M (b + 59 + 2 * j) = 100) ∧ (∀ j, j < 24 → mln M (b + 59 + 2 * j) = (jAh j).length) ∧ (∀ j, j < 24 → ∀ i, i < (jAh j).length → mai M (b + 59 + 2 * j) i = nI ((jAh j).getD i 0)) ∧ (AL G M 1 (b + 5) g.xe S.items.length g.xs) ∧ (∀ i, i < S.items.length → g.xs i < mnx M) ∧ (∀ i x, S.items[i]? = some x → mcl M (g.xs i) = 26 ∧ mfi M 139 (g.xs i) = x.tn ∧ mfi M 140 (g.xs i) = nI x.cm ∧ mfi M 141 (g.xs i) = x.sd ∧ mfi M 142 (g.xs i) = x.up) ∧ (AL G M 1 (b + 23) g.ye S.cargo.length g.ys) ∧ (∀ i, i < S.cargo.length → g.ys i < mnx M) ∧ (∀ i x, S.cargo[i]? = some x → mcl M (g.ys i) = 35 ∧ mco M (g.ys i) = 1 ∧ mfi M 188 (g.ys i) = oI x.cm ∧ mfi M 183 (g.ys i) = nI x.tn ∧ mfi M 184 (g.ys i) = nI x.sort ∧ mfd M 189 (g.ys i) = x.sd) ∧ (AL G M 1 (b + 9) g.pe S.pipes.length g.ps) ∧ (∀ i, i < S.pipes.length → g.ps i < mnx M) ∧ (∀ i j, i < S.pipes.length → j < S.pipes.length → g.ps i = g.ps j → i = j) ∧ (∀ i x, S.pipes[i]? = some x → mcl M (g.ps i) = 32 ∧ mco M (g.ps i) = 1 ∧ mfi M 160 (g.ps i) = nI x.fr ∧ mfi M 161 (g.ps i) = nI x.to ∧ mfi M 162 (g.ps i) = nI x.wd ∧ mfi M 163 (g.ps i) = bI x.shut ∧ mfi M 164 (g.ps i) = bI x.burst)
theorem ShC.lt {G : Nat → Option Nat} {M : Mem} {b : Nat} {g : SG} {S : Sh} {p : Bool} (self_ : ShC G M b g S p) : b + 106 ≤ mnx M := self_.1
theorem ShC.k {G : Nat → Option Nat} {M : Mem} {b : Nat} {g : SG} {S : Sh} {p : Bool} (self_ : ShC G M b g S p) : mcl M b = 22 := self_.2.1
theorem ShC.co {G : Nat → Option Nat} {M : Mem} {b : Nat} {g : SG} {S : Sh} {p : Bool} (self_ : ShC G M b g S p) : mco M b = 1 := self_.2.2.1
theorem ShC.num {G : Nat → Option Nat} {M : Mem} {b : Nat} {g : SG} {S : Sh} {p : Bool} (self_ : ShC G M b g S p) : mfi M 92 b = nI S.num := self_.2.2.2.1
theorem ShC.rLn {G : Nat → Option Nat} {M : Mem} {b : Nat} {g : SG} {S : Sh} {p : Bool} (self_ : ShC G M b g S p) : mfr M 93 b = some (b + 1) := self_.2.2.2.2.1
theorem ShC.rPl {G : Nat → Option Nat} {M : Mem} {b : Nat} {g : SG} {S : Sh} {p : Bool} (self_ : ShC G M b g S p) : mfr M 94 b = some (b + 4) := self_.2.2.2.2.2.1
theorem ShC.rIt {G : Nat → Option Nat} {M : Mem} {b : Nat} {g : SG} {S : Sh} {p : Bool} (self_ : ShC G M b g S p) : mfr M 95 b = some (b + 5) := self_.2.2.2.2.2.2.1
theorem ShC.rTk {G : Nat → Option Nat} {M : Mem} {b : Nat} {g : SG} {S : Sh} {p : Bool} (self_ : ShC G M b g S p) : mfr M 96 b = some (b + 6) := self_.2.2.2.2.2.2.2.1
theorem ShC.rEn {G : Nat → Option Nat} {M : Mem} {b : Nat} {g : SG} {S : Sh} {p : Bool} (self_ : ShC G M b g S p) : mfr M 97 b = some (b + 7) := self_.2.2.2.2.2.2.2.2.1
theorem ShC.rHd {G : Nat → Option Nat} {M : Mem} {b : Nat} {g : SG} {S : Sh} {p : Bool} (self_ : ShC G M b g S p) : mfr M 98 b = some (b + 13) := self_.2.2.2.2.2.2.2.2.2.1
theorem ShC.rTr {G : Nat → Option Nat} {M : Mem} {b : Nat} {g : SG} {S : Sh} {p : Bool} (self_ : ShC G M b g S p) : mfr M 99 b = some (b + 14) := self_.2.2.2.2.2.2.2.2.2.2.1
theorem ShC.rFd {G : Nat → Option Nat} {M : Mem} {b : Nat} {g : SG} {S : Sh} {p : Bool} (self_ : ShC G M b g S p) : mfr M 100 b = some (b + 15) := self_.2.2.2.2.2.2.2.2.2.2.2.1
theorem ShC.rSt {G : Nat → Option Nat} {M : Mem} {b : Nat} {g : SG} {S : Sh} {p : Bool} (self_ : ShC G M b g S p) : mfr M 101 b = some (b + 16) := self_.2.2.2.2.2.2.2.2.2.2.2.2.1
theorem ShC.rJb {G : Nat → Option Nat} {M : Mem} {b : Nat} {g : SG} {S : Sh} {p : Bool} (self_ : ShC G M b g S p) : mfr M 102 b = some (b + 55) := self_.2.2.2.2.2.2.2.2.2.2.2.2.2.1
theorem ShC.rAb {G : Nat → Option Nat} {M : Mem} {b : Nat} {g : SG} {S : Sh} {p : Bool} (self_ : ShC G M b g S p) : mfr M 103 b = some (b + 23) := self_.2.2.2.2.2.2.2.2.2.2.2.2.2.2.1
theorem ShC.rRm {G : Nat → Option Nat} {M : Mem} {b : Nat} {g : SG} {S : Sh} {p : Bool} (self_ : ShC G M b g S p) : mfr M 104 b = some (b + 24) := self_.2.2.2.2.2.2.2.2.2.2.2.2.2.2.2.1
theorem ShC.stage {G : Nat → Option Nat} {M : Mem} {b : Nat} {g : SG} {S : Sh} {p : Bool} (self_ : ShC G M b g S p) : mfr M 105 b = G (stgN S.stage) := self_.2.2.2.2.2.2.2.2.2.2.2.2.2.2.2.2.1
theorem ShC.bulk {G : Nat → Option Nat} {M : Mem} {b : Nat} {g : SG} {S : Sh} {p : Bool} (self_ : ShC G M b g S p) : mfi M 106 b = nI S.bulk := self_.2.2.2.2.2.2.2.2.2.2.2.2.2.2.2.2.2.1
theorem ShC.limit {G : Nat → Option Nat} {M : Mem} {b : Nat} {g : SG} {S : Sh} {p : Bool} (self_ : ShC G M b g S p) : mfi M 107 b = nI S.limit := self_.2.2.2.2.2.2.2.2.2.2.2.2.2.2.2.2.2.2.1
theorem ShC.byp {G : Nat → Option Nat} {M : Mem} {b : Nat} {g : SG} {S : Sh} {p : Bool} (self_ : ShC G M b g S p) : mfi M 108 b = bI p := self_.2.2.2.2.2.2.2.2.2.2.2.2.2.2.2.2.2.2.2.1
theorem ShC.spot {G : Nat → Option Nat} {M : Mem} {b : Nat} {g : SG} {S : Sh} {p : Bool} (self_ : ShC G M b g S p) : mfi M 109 b = oI S.spot := self_.2.2.2.2.2.2.2.2.2.2.2.2.2.2.2.2.2.2.2.2.1
theorem ShC.foul {G : Nat → Option Nat} {M : Mem} {b : Nat} {g : SG} {S : Sh} {p : Bool} (self_ : ShC G M b g S p) : mfi M 110 b = nI S.foul := self_.2.2.2.2.2.2.2.2.2.2.2.2.2.2.2.2.2.2.2.2.2.1
theorem ShC.sea {G : Nat → Option Nat} {M : Mem} {b : Nat} {g : SG} {S : Sh} {p : Bool} (self_ : ShC G M b g S p) : mfi M 111 b = bI S.sea := self_.2.2.2.2.2.2.2.2.2.2.2.2.2.2.2.2.2.2.2.2.2.2.1
theorem ShC.waits {G : Nat → Option Nat} {M : Mem} {b : Nat} {g : SG} {S : Sh} {p : Bool} (self_ : ShC G M b g S p) : mfi M 112 b = bI S.waits := self_.2.2.2.2.2.2.2.2.2.2.2.2.2.2.2.2.2.2.2.2.2.2.2.1
theorem ShC.port {G : Nat → Option Nat} {M : Mem} {b : Nat} {g : SG} {S : Sh} {p : Bool} (self_ : ShC G M b g S p) : mfr M 113 b = S.port.map g.pa := self_.2.2.2.2.2.2.2.2.2.2.2.2.2.2.2.2.2.2.2.2.2.2.2.2.1
theorem ShC.way {G : Nat → Option Nat} {M : Mem} {b : Nat} {g : SG} {S : Sh} {p : Bool} (self_ : ShC G M b g S p) : mfd M 114 b = S.way := self_.2.2.2.2.2.2.2.2.2.2.2.2.2.2.2.2.2.2.2.2.2.2.2.2.2.1
theorem ShC.fuel {G : Nat → Option Nat} {M : Mem} {b : Nat} {g : SG} {S : Sh} {p : Bool} (self_ : ShC G M b g S p) : mfi M 115 b = nI S.fuel := self_.2.2.2.2.2.2.2.2.2.2.2.2.2.2.2.2.2.2.2.2.2.2.2.2.2.2.1
theorem ShC.holed {G : Nat → Option Nat} {M : Mem} {b : Nat} {g : SG} {S : Sh} {p : Bool} (self_ : ShC G M b g S p) : mfi M 116 b = nI S.holed := self_.2.2.2.2.2.2.2.2.2.2.2.2.2.2.2.2.2.2.2.2.2.2.2.2.2.2.2.1
theorem ShC.earned {G : Nat → Option Nat} {M : Mem} {b : Nat} {g : SG} {S : Sh} {p : Bool} (self_ : ShC G M b g S p) : mfi M 117 b = S.earned := self_.2.2.2.2.2.2.2.2.2.2.2.2.2.2.2.2.2.2.2.2.2.2.2.2.2.2.2.2.1
theorem ShC.days {G : Nat → Option Nat} {M : Mem} {b : Nat} {g : SG} {S : Sh} {p : Bool} (self_ : ShC G M b g S p) : mfi M 118 b = nI S.days := self_.2.2.2.2.2.2.2.2.2.2.2.2.2.2.2.2.2.2.2.2.2.2.2.2.2.2.2.2.2.1
theorem ShC.lk {G : Nat → Option Nat} {M : Mem} {b : Nat} {g : SG} {S : Sh} {p : Bool} (self_ : ShC G M b g S p) : mcl M (b + 1) = 16 := self_.2.2.2.2.2.2.2.2.2.2.2.2.2.2.2.2.2.2.2.2.2.2.2.2.2.2.2.2.2.2.1
theorem ShC.lco {G : Nat → Option Nat} {M : Mem} {b : Nat} {g : SG} {S : Sh} {p : Bool} (self_ : ShC G M b g S p) : mco M (b + 1) = 1 := self_.2.2.2.2.2.2.2.2.2.2.2.2.2.2.2.2.2.2.2.2.2.2.2.2.2.2.2.2.2.2.2.1
theorem ShC.lform {G : Nat → Option Nat} {M : Mem} {b : Nat} {g : SG} {S : Sh} {p : Bool} (self_ : ShC G M b g S p) : mfi M 62 (b + 1) = nI S.form := self_.2.2.2.2.2.2.2.2.2.2.2.2.2.2.2.2.2.2.2.2.2.2.2.2.2.2.2.2.2.2.2.2.1
theorem ShC.llen {G : Nat → Option Nat} {M : Mem} {b : Nat} {g : SG} {S : Sh} {p : Bool} (self_ : ShC G M b g S p) : mfi M 63 (b + 1) = nI S.H.len := self_.2.2.2.2.2.2.2.2.2.2.2.2.2.2.2.2.2.2.2.2.2.2.2.2.2.2.2.2.2.2.2.2.2.1
theorem ShC.ldep {G : Nat → Option Nat} {M : Mem} {b : Nat} {g : SG} {S : Sh} {p : Bool} (self_ : ShC G M b g S p) : mfi M 64 (b + 1) = nI S.H.dep := self_.2.2.2.2.2.2.2.2.2.2.2.2.2.2.2.2.2.2.2.2.2.2.2.2.2.2.2.2.2.2.2.2.2.2.1
theorem ShC.lhv {G : Nat → Option Nat} {M : Mem} {b : Nat} {g : SG} {S : Sh} {p : Bool} (self_ : ShC G M b g S p) : mfr M 65 (b + 1) = some (b + 2) := self_.2.2.2.2.2.2.2.2.2.2.2.2.2.2.2.2.2.2.2.2.2.2.2.2.2.2.2.2.2.2.2.2.2.2.2.1
theorem ShC.lor {G : Nat → Option Nat} {M : Mem} {b : Nat} {g : SG} {S : Sh} {p : Bool} (self_ : ShC G M b g S p) : mfr M 66 (b + 1) = some (b + 3) := self_.2.2.2.2.2.2.2.2.2.2.2.2.2.2.2.2.2.2.2.2.2.2.2.2.2.2.2.2.2.2.2.2.2.2.2.2.1
theorem ShC.hvk {G : Nat → Option Nat} {M : Mem} {b : Nat} {g : SG} {S : Sh} {p : Bool} (self_ : ShC G M b g S p) : mcl M (b + 2) = 100 := self_.2.2.2.2.2.2.2.2.2.2.2.2.2.2.2.2.2.2.2.2.2.2.2.2.2.2.2.2.2.2.2.2.2.2.2.2.2.1
theorem ShC.hvco {G : Nat → Option Nat} {M : Mem} {b : Nat} {g : SG} {S : Sh} {p : Bool} (self_ : ShC G M b g S p) : mco M (b + 2) = 1 := self_.2.2.2.2.2.2.2.2.2.2.2.2.2.2.2.2.2.2.2.2.2.2.2.2.2.2.2.2.2.2.2.2.2.2.2.2.2.2.1
theorem ShC.hvln {G : Nat → Option Nat} {M : Mem} {b : Nat} {g : SG} {S : Sh} {p : Bool} (self_ : ShC G M b g S p) : mln M (b + 2) = 35 := self_.2.2.2.2.2.2.2.2.2.2.2.2.2.2.2.2.2.2.2.2.2.2.2.2.2.2.2.2.2.2.2.2.2.2.2.2.2.2.2.1
theorem ShC.hvv {G : Nat → Option Nat} {M : Mem} {b : Nat} {g : SG} {S : Sh} {p : Bool} (self_ : ShC G M b g S p) : ∀ k, k < 7 → ∀ j, j < 5 → mai M (b + 2) (k * 5 + j) = nI (S.H.hf k j) := self_.2.2.2.2.2.2.2.2.2.2.2.2.2.2.2.2.2.2.2.2.2.2.2.2.2.2.2.2.2.2.2.2.2.2.2.2.2.2.2.2.1
theorem ShC.odk {G : Nat → Option Nat} {M : Mem} {b : Nat} {g : SG} {S : Sh} {p : Bool} (self_ : ShC G M b g S p) : mcl M (b + 3) = 103 := self_.2.2.2.2.2.2.2.2.2.2.2.2.2.2.2.2.2.2.2.2.2.2.2.2.2.2.2.2.2.2.2.2.2.2.2.2.2.2.2.2.2.1
theorem ShC.odco {G : Nat → Option Nat} {M : Mem} {b : Nat} {g : SG} {S : Sh} {p : Bool} (self_ : ShC G M b g S p) : mco M (b + 3) = 1 := self_.2.2.2.2.2.2.2.2.2.2.2.2.2.2.2.2.2.2.2.2.2.2.2.2.2.2.2.2.2.2.2.2.2.2.2.2.2.2.2.2.2.2.1
theorem ShC.odln {G : Nat → Option Nat} {M : Mem} {b : Nat} {g : SG} {S : Sh} {p : Bool} (self_ : ShC G M b g S p) : mln M (b + 3) = 7 := self_.2.2.2.2.2.2.2.2.2.2.2.2.2.2.2.2.2.2.2.2.2.2.2.2.2.2.2.2.2.2.2.2.2.2.2.2.2.2.2.2.2.2.2.1
theorem ShC.pak {G : Nat → Option Nat} {M : Mem} {b : Nat} {g : SG} {S : Sh} {p : Bool} (self_ : ShC G M b g S p) : mcl M (b + 4) = 105 := self_.2.2.2.2.2.2.2.2.2.2.2.2.2.2.2.2.2.2.2.2.2.2.2.2.2.2.2.2.2.2.2.2.2.2.2.2.2.2.2.2.2.2.2.2.1
theorem ShC.paco {G : Nat → Option Nat} {M : Mem} {b : Nat} {g : SG} {S : Sh} {p : Bool} (self_ : ShC G M b g S p) : mco M (b + 4) = 1 := self_.2.2.2.2.2.2.2.2.2.2.2.2.2.2.2.2.2.2.2.2.2.2.2.2.2.2.2.2.2.2.2.2.2.2.2.2.2.2.2.2.2.2.2.2.2.1
theorem ShC.paln {G : Nat → Option Nat} {M : Mem} {b : Nat} {g : SG} {S : Sh} {p : Bool} (self_ : ShC G M b g S p) : mln M (b + 4) = 18 := self_.2.2.2.2.2.2.2.2.2.2.2.2.2.2.2.2.2.2.2.2.2.2.2.2.2.2.2.2.2.2.2.2.2.2.2.2.2.2.2.2.2.2.2.2.2.2.1
theorem ShC.pae {G : Nat → Option Nat} {M : Mem} {b : Nat} {g : SG} {S : Sh} {p : Bool} (self_ : ShC G M b g S p) : ∀ k, k < 18 → mar M (b + 4) k = some (b + 25 + k) := self_.2.2.2.2.2.2.2.2.2.2.2.2.2.2.2.2.2.2.2.2.2.2.2.2.2.2.2.2.2.2.2.2.2.2.2.2.2.2.2.2.2.2.2.2.2.2.2.1
theorem ShC.tak {G : Nat → Option Nat} {M : Mem} {b : Nat} {g : SG} {S : Sh} {p : Bool} (self_ : ShC G M b g S p) : mcl M (b + 6) = 106 := self_.2.2.2.2.2.2.2.2.2.2.2.2.2.2.2.2.2.2.2.2.2.2.2.2.2.2.2.2.2.2.2.2.2.2.2.2.2.2.2.2.2.2.2.2.2.2.2.2.1
theorem ShC.taco {G : Nat → Option Nat} {M : Mem} {b : Nat} {g : SG} {S : Sh} {p : Bool} (self_ : ShC G M b g S p) : mco M (b + 6) = 1 := self_.2.2.2.2.2.2.2.2.2.2.2.2.2.2.2.2.2.2.2.2.2.2.2.2.2.2.2.2.2.2.2.2.2.2.2.2.2.2.2.2.2.2.2.2.2.2.2.2.2.1
theorem ShC.taln {G : Nat → Option Nat} {M : Mem} {b : Nat} {g : SG} {S : Sh} {p : Bool} (self_ : ShC G M b g S p) : mln M (b + 6) = 6 := self_.2.2.2.2.2.2.2.2.2.2.2.2.2.2.2.2.2.2.2.2.2.2.2.2.2.2.2.2.2.2.2.2.2.2.2.2.2.2.2.2.2.2.2.2.2.2.2.2.2.2.1
theorem ShC.tae {G : Nat → Option Nat} {M : Mem} {b : Nat} {g : SG} {S : Sh} {p : Bool} (self_ : ShC G M b g S p) : ∀ c, c < 6 → mar M (b + 6) c = some (b + 43 + 2 * c) := self_.2.2.2.2.2.2.2.2.2.2.2.2.2.2.2.2.2.2.2.2.2.2.2.2.2.2.2.2.2.2.2.2.2.2.2.2.2.2.2.2.2.2.2.2.2.2.2.2.2.2.2.1
theorem ShC.pk {G : Nat → Option Nat} {M : Mem} {b : Nat} {g : SG} {S : Sh} {p : Bool} (self_ : ShC G M b g S p) : ∀ k, k < 18 → mcl M (b + 25 + k) = 23 := self_.2.2.2.2.2.2.2.2.2.2.2.2.2.2.2.2.2.2.2.2.2.2.2.2.2.2.2.2.2.2.2.2.2.2.2.2.2.2.2.2.2.2.2.2.2.2.2.2.2.2.2.2.1
theorem ShC.pco {G : Nat → Option Nat} {M : Mem} {b : Nat} {g : SG} {S : Sh} {p : Bool} (self_ : ShC G M b g S p) : ∀ k, k < 18 → mco M (b + 25 + k) = 1 := self_.2.2.2.2.2.2.2.2.2.2.2.2.2.2.2.2.2.2.2.2.2.2.2.2.2.2.2.2.2.2.2.2.2.2.2.2.2.2.2.2.2.2.2.2.2.2.2.2.2.2.2.2.2.1
theorem ShC.psh {G : Nat → Option Nat} {M : Mem} {b : Nat} {g : SG} {S : Sh} {p : Bool} (self_ : ShC G M b g S p) : ∀ k, k < 18 → mfr M 119 (b + 25 + k) = some b := self_.2.2.2.2.2.2.2.2.2.2.2.2.2.2.2.2.2.2.2.2.2.2.2.2.2.2.2.2.2.2.2.2.2.2.2.2.2.2.2.2.2.2.2.2.2.2.2.2.2.2.2.2.2.2.1
theorem ShC.pcm {G : Nat → Option Nat} {M : Mem} {b : Nat} {g : SG} {S : Sh} {p : Bool} (self_ : ShC G M b g S p) : ∀ k, k < 18 → mfi M 120 (b + 25 + k) = nI (k / 3) := self_.2.2.2.2.2.2.2.2.2.2.2.2.2.2.2.2.2.2.2.2.2.2.2.2.2.2.2.2.2.2.2.2.2.2.2.2.2.2.2.2.2.2.2.2.2.2.2.2.2.2.2.2.2.2.2.1
theorem ShC.pst {G : Nat → Option Nat} {M : Mem} {b : Nat} {g : SG} {S : Sh} {p : Bool} (self_ : ShC G M b g S p) : ∀ k, k < 18 → mfi M 121 (b + 25 + k) = nI (k % 3) := self_.2.2.2.2.2.2.2.2.2.2.2.2.2.2.2.2.2.2.2.2.2.2.2.2.2.2.2.2.2.2.2.2.2.2.2.2.2.2.2.2.2.2.2.2.2.2.2.2.2.2.2.2.2.2.2.2.1
theorem ShC.ppl {G : Nat → Option Nat} {M : Mem} {b : Nat} {g : SG} {S : Sh} {p : Bool} (self_ : ShC G M b g S p) : ∀ k, k < 18 → mfi M 122 (b + 25 + k) = nI (S.plan k) := self_.2.2.2.2.2.2.2.2.2.2.2.2.2.2.2.2.2.2.2.2.2.2.2.2.2.2.2.2.2.2.2.2.2.2.2.2.2.2.2.2.2.2.2.2.2.2.2.2.2.2.2.2.2.2.2.2.2.1
theorem ShC.pft {G : Nat → Option Nat} {M : Mem} {b : Nat} {g : SG} {S : Sh} {p : Bool} (self_ : ShC G M b g S p) : ∀ k, k < 18 → mfi M 123 (b + 25 + k) = nI (S.fit k) := self_.2.2.2.2.2.2.2.2.2.2.2.2.2.2.2.2.2.2.2.2.2.2.2.2.2.2.2.2.2.2.2.2.2.2.2.2.2.2.2.2.2.2.2.2.2.2.2.2.2.2.2.2.2.2.2.2.2.2.1
theorem ShC.pse {G : Nat → Option Nat} {M : Mem} {b : Nat} {g : SG} {S : Sh} {p : Bool} (self_ : ShC G M b g S p) : ∀ k, k < 18 → mfi M 124 (b + 25 + k) = nI (S.state k) := self_.2.2.2.2.2.2.2.2.2.2.2.2.2.2.2.2.2.2.2.2.2.2.2.2.2.2.2.2.2.2.2.2.2.2.2.2.2.2.2.2.2.2.2.2.2.2.2.2.2.2.2.2.2.2.2.2.2.2.2.1
theorem ShC.pct {G : Nat → Option Nat} {M : Mem} {b : Nat} {g : SG} {S : Sh} {p : Bool} (self_ : ShC G M b g S p) : ∀ k, k < 18 → mfi M 125 (b + 25 + k) = nI (S.cut k) := self_.2.2.2.2.2.2.2.2.2.2.2.2.2.2.2.2.2.2.2.2.2.2.2.2.2.2.2.2.2.2.2.2.2.2.2.2.2.2.2.2.2.2.2.2.2.2.2.2.2.2.2.2.2.2.2.2.2.2.2.2.1
theorem ShC.tk {G : Nat → Option Nat} {M : Mem} {b : Nat} {g : SG} {S : Sh} {p : Bool} (self_ : ShC G M b g S p) : ∀ c, c < 6 → mcl M (b + 43 + 2 * c) = 15 := self_.2.2.2.2.2.2.2.2.2.2.2.2.2.2.2.2.2.2.2.2.2.2.2.2.2.2.2.2.2.2.2.2.2.2.2.2.2.2.2.2.2.2.2.2.2.2.2.2.2.2.2.2.2.2.2.2.2.2.2.2.2.1
theorem ShC.tco {G : Nat → Option Nat} {M : Mem} {b : Nat} {g : SG} {S : Sh} {p : Bool} (self_ : ShC G M b g S p) : ∀ c, c < 6 → mco M (b + 43 + 2 * c) = 1 := self_.2.2.2.2.2.2.2.2.2.2.2.2.2.2.2.2.2.2.2.2.2.2.2.2.2.2.2.2.2.2.2.2.2.2.2.2.2.2.2.2.2.2.2.2.2.2.2.2.2.2.2.2.2.2.2.2.2.2.2.2.2.2.1
theorem ShC.tln {G : Nat → Option Nat} {M : Mem} {b : Nat} {g : SG} {S : Sh} {p : Bool} (self_ : ShC G M b g S p) : ∀ c, c < 6 → mfr M 59 (b + 43 + 2 * c) = some (b + 1) := self_.2.2.2.2.2.2.2.2.2.2.2.2.2.2.2.2.2.2.2.2.2.2.2.2.2.2.2.2.2.2.2.2.2.2.2.2.2.2.2.2.2.2.2.2.2.2.2.2.2.2.2.2.2.2.2.2.2.2.2.2.2.2.2.1
theorem ShC.tcm {G : Nat → Option Nat} {M : Mem} {b : Nat} {g : SG} {S : Sh} {p : Bool} (self_ : ShC G M b g S p) : ∀ c, c < 6 → mfi M 60 (b + 43 + 2 * c) = nI c := self_.2.2.2.2.2.2.2.2.2.2.2.2.2.2.2.2.2.2.2.2.2.2.2.2.2.2.2.2.2.2.2.2.2.2.2.2.2.2.2.2.2.2.2.2.2.2.2.2.2.2.2.2.2.2.2.2.2.2.2.2.2.2.2.2.1
theorem ShC.tfl {G : Nat → Option Nat} {M : Mem} {b : Nat} {g : SG} {S : Sh} {p : Bool} (self_ : ShC G M b g S p) : ∀ c, c < 6 → mfi M 61 (b + 43 + 2 * c) = nI (S.fill c) := self_.2.2.2.2.2.2.2.2.2.2.2.2.2.2.2.2.2.2.2.2.2.2.2.2.2.2.2.2.2.2.2.2.2.2.2.2.2.2.2.2.2.2.2.2.2.2.2.2.2.2.2.2.2.2.2.2.2.2.2.2.2.2.2.2.2.1
theorem ShC.hk {G : Nat → Option Nat} {M : Mem} {b : Nat} {g : SG} {S : Sh} {p : Bool} (self_ : ShC G M b g S p) : ∀ c, c < 6 → mcl M (b + 44 + 2 * c) = 24 := self_.2.2.2.2.2.2.2.2.2.2.2.2.2.2.2.2.2.2.2.2.2.2.2.2.2.2.2.2.2.2.2.2.2.2.2.2.2.2.2.2.2.2.2.2.2.2.2.2.2.2.2.2.2.2.2.2.2.2.2.2.2.2.2.2.2.2.1
theorem ShC.hco {G : Nat → Option Nat} {M : Mem} {b : Nat} {g : SG} {S : Sh} {p : Bool} (self_ : ShC G M b g S p) : ∀ c, c < 6 → mco M (b + 44 + 2 * c) = 1 := self_.2.2.2.2.2.2.2.2.2.2.2.2.2.2.2.2.2.2.2.2.2.2.2.2.2.2.2.2.2.2.2.2.2.2.2.2.2.2.2.2.2.2.2.2.2.2.2.2.2.2.2.2.2.2.2.2.2.2.2.2.2.2.2.2.2.2.2.1
theorem ShC.hsh {G : Nat → Option Nat} {M : Mem} {b : Nat} {g : SG} {S : Sh} {p : Bool} (self_ : ShC G M b g S p) : ∀ c, c < 6 → mfr M 126 (b + 44 + 2 * c) = some b := self_.2.2.2.2.2.2.2.2.2.2.2.2.2.2.2.2.2.2.2.2.2.2.2.2.2.2.2.2.2.2.2.2.2.2.2.2.2.2.2.2.2.2.2.2.2.2.2.2.2.2.2.2.2.2.2.2.2.2.2.2.2.2.2.2.2.2.2.2.1
theorem ShC.hcm {G : Nat → Option Nat} {M : Mem} {b : Nat} {g : SG} {S : Sh} {p : Bool} (self_ : ShC G M b g S p) : ∀ c, c < 6 → mfi M 127 (b + 44 + 2 * c) = nI c := self_.2.2.2.2.2.2.2.2.2.2.2.2.2.2.2.2.2.2.2.2.2.2.2.2.2.2.2.2.2.2.2.2.2.2.2.2.2.2.2.2.2.2.2.2.2.2.2.2.2.2.2.2.2.2.2.2.2.2.2.2.2.2.2.2.2.2.2.2.2.1
theorem ShC.hak {G : Nat → Option Nat} {M : Mem} {b : Nat} {g : SG} {S : Sh} {p : Bool} (self_ : ShC G M b g S p) : mcl M (b + 13) = 107 := self_.2.2.2.2.2.2.2.2.2.2.2.2.2.2.2.2.2.2.2.2.2.2.2.2.2.2.2.2.2.2.2.2.2.2.2.2.2.2.2.2.2.2.2.2.2.2.2.2.2.2.2.2.2.2.2.2.2.2.2.2.2.2.2.2.2.2.2.2.2.2.1
theorem ShC.haco {G : Nat → Option Nat} {M : Mem} {b : Nat} {g : SG} {S : Sh} {p : Bool} (self_ : ShC G M b g S p) : mco M (b + 13) = 1 := self_.2.2.2.2.2.2.2.2.2.2.2.2.2.2.2.2.2.2.2.2.2.2.2.2.2.2.2.2.2.2.2.2.2.2.2.2.2.2.2.2.2.2.2.2.2.2.2.2.2.2.2.2.2.2.2.2.2.2.2.2.2.2.2.2.2.2.2.2.2.2.2.1
theorem ShC.haln {G : Nat → Option Nat} {M : Mem} {b : Nat} {g : SG} {S : Sh} {p : Bool} (self_ : ShC G M b g S p) : mln M (b + 13) = 6 := self_.2.2.2.2.2.2.2.2.2.2.2.2.2.2.2.2.2.2.2.2.2.2.2.2.2.2.2.2.2.2.2.2.2.2.2.2.2.2.2.2.2.2.2.2.2.2.2.2.2.2.2.2.2.2.2.2.2.2.2.2.2.2.2.2.2.2.2.2.2.2.2.2.1
theorem ShC.hae {G : Nat → Option Nat} {M : Mem} {b : Nat} {g : SG} {S : Sh} {p : Bool} (self_ : ShC G M b g S p) : ∀ c, c < 6 → mar M (b + 13) c = some (b + 44 + 2 * c) := self_.2.2.2.2.2.2.2.2.2.2.2.2.2.2.2.2.2.2.2.2.2.2.2.2.2.2.2.2.2.2.2.2.2.2.2.2.2.2.2.2.2.2.2.2.2.2.2.2.2.2.2.2.2.2.2.2.2.2.2.2.2.2.2.2.2.2.2.2.2.2.2.2.2.1
theorem ShC.ek {G : Nat → Option Nat} {M : Mem} {b : Nat} {g : SG} {S : Sh} {p : Bool} (self_ : ShC G M b g S p) : mcl M (b + 7) = 20 := self_.2.2.2.2.2.2.2.2.2.2.2.2.2.2.2.2.2.2.2.2.2.2.2.2.2.2.2.2.2.2.2.2.2.2.2.2.2.2.2.2.2.2.2.2.2.2.2.2.2.2.2.2.2.2.2.2.2.2.2.2.2.2.2.2.2.2.2.2.2.2.2.2.2.2.1
theorem ShC.eco {G : Nat → Option Nat} {M : Mem} {b : Nat} {g : SG} {S : Sh} {p : Bool} (self_ : ShC G M b g S p) : mco M (b + 7) = 1 := self_.2.2.2.2.2.2.2.2.2.2.2.2.2.2.2.2.2.2.2.2.2.2.2.2.2.2.2.2.2.2.2.2.2.2.2.2.2.2.2.2.2.2.2.2.2.2.2.2.2.2.2.2.2.2.2.2.2.2.2.2.2.2.2.2.2.2.2.2.2.2.2.2.2.2.2.1
theorem ShC.esh {G : Nat → Option Nat} {M : Mem} {b : Nat} {g : SG} {S : Sh} {p : Bool} (self_ : ShC G M b g S p) : mfr M 86 (b + 7) = some b := self_.2.2.2.2.2.2.2.2.2.2.2.2.2.2.2.2.2.2.2.2.2.2.2.2.2.2.2.2.2.2.2.2.2.2.2.2.2.2.2.2.2.2.2.2.2.2.2.2.2.2.2.2.2.2.2.2.2.2.2.2.2.2.2.2.2.2.2.2.2.2.2.2.2.2.2.2.1
theorem ShC.ent {G : Nat → Option Nat} {M : Mem} {b : Nat} {g : SG} {S : Sh} {p : Bool} (self_ : ShC G M b g S p) : mfr M 87 (b + 7) = some (b + 8) := self_.2.2.2.2.2.2.2.2.2.2.2.2.2.2.2.2.2.2.2.2.2.2.2.2.2.2.2.2.2.2.2.2.2.2.2.2.2.2.2.2.2.2.2.2.2.2.2.2.2.2.2.2.2.2.2.2.2.2.2.2.2.2.2.2.2.2.2.2.2.2.2.2.2.2.2.2.2.1
theorem ShC.epw {G : Nat → Option Nat} {M : Mem} {b : Nat} {g : SG} {S : Sh} {p : Bool} (self_ : ShC G M b g S p) : mfi M 88 (b + 7) = nI S.power := self_.2.2.2.2.2.2.2.2.2.2.2.2.2.2.2.2.2.2.2.2.2.2.2.2.2.2.2.2.2.2.2.2.2.2.2.2.2.2.2.2.2.2.2.2.2.2.2.2.2.2.2.2.2.2.2.2.2.2.2.2.2.2.2.2.2.2.2.2.2.2.2.2.2.2.2.2.2.2.1
theorem ShC.nk {G : Nat → Option Nat} {M : Mem} {b : Nat} {g : SG} {S : Sh} {p : Bool} (self_ : ShC G M b g S p) : mcl M (b + 8) = 13 := self_.2.2.2.2.2.2.2.2.2.2.2.2.2.2.2.2.2.2.2.2.2.2.2.2.2.2.2.2.2.2.2.2.2.2.2.2.2.2.2.2.2.2.2.2.2.2.2.2.2.2.2.2.2.2.2.2.2.2.2.2.2.2.2.2.2.2.2.2.2.2.2.2.2.2.2.2.2.2.2.1
theorem ShC.nco {G : Nat → Option Nat} {M : Mem} {b : Nat} {g : SG} {S : Sh} {p : Bool} (self_ : ShC G M b g S p) : mco M (b + 8) = 1 := self_.2.2.2.2.2.2.2.2.2.2.2.2.2.2.2.2.2.2.2.2.2.2.2.2.2.2.2.2.2.2.2.2.2.2.2.2.2.2.2.2.2.2.2.2.2.2.2.2.2.2.2.2.2.2.2.2.2.2.2.2.2.2.2.2.2.2.2.2.2.2.2.2.2.2.2.2.2.2.2.2.1
theorem ShC.npi {G : Nat → Option Nat} {M : Mem} {b : Nat} {g : SG} {S : Sh} {p : Bool} (self_ : ShC G M b g S p) : mfr M 51 (b + 8) = some (b + 9) := self_.2.2.2.2.2.2.2.2.2.2.2.2.2.2.2.2.2.2.2.2.2.2.2.2.2.2.2.2.2.2.2.2.2.2.2.2.2.2.2.2.2.2.2.2.2.2.2.2.2.2.2.2.2.2.2.2.2.2.2.2.2.2.2.2.2.2.2.2.2.2.2.2.2.2.2.2.2.2.2.2.2.1
theorem ShC.nre {G : Nat → Option Nat} {M : Mem} {b : Nat} {g : SG} {S : Sh} {p : Bool} (self_ : ShC G M b g S p) : mfr M 52 (b + 8) = some (b + 10) := self_.2.2.2.2.2.2.2.2.2.2.2.2.2.2.2.2.2.2.2.2.2.2.2.2.2.2.2.2.2.2.2.2.2.2.2.2.2.2.2.2.2.2.2.2.2.2.2.2.2.2.2.2.2.2.2.2.2.2.2.2.2.2.2.2.2.2.2.2.2.2.2.2.2.2.2.2.2.2.2.2.2.2.1
theorem ShC.nby {G : Nat → Option Nat} {M : Mem} {b : Nat} {g : SG} {S : Sh} {p : Bool} (self_ : ShC G M b g S p) : mfr M 53 (b + 8) = some (b + 11) := self_.2.2.2.2.2.2.2.2.2.2.2.2.2.2.2.2.2.2.2.2.2.2.2.2.2.2.2.2.2.2.2.2.2.2.2.2.2.2.2.2.2.2.2.2.2.2.2.2.2.2.2.2.2.2.2.2.2.2.2.2.2.2.2.2.2.2.2.2.2.2.2.2.2.2.2.2.2.2.2.2.2.2.2.1
theorem ShC.nqu {G : Nat → Option Nat} {M : Mem} {b : Nat} {g : SG} {S : Sh} {p : Bool} (self_ : ShC G M b g S p) : mfr M 54 (b + 8) = some (b + 12) := self_.2.2.2.2.2.2.2.2.2.2.2.2.2.2.2.2.2.2.2.2.2.2.2.2.2.2.2.2.2.2.2.2.2.2.2.2.2.2.2.2.2.2.2.2.2.2.2.2.2.2.2.2.2.2.2.2.2.2.2.2.2.2.2.2.2.2.2.2.2.2.2.2.2.2.2.2.2.2.2.2.2.2.2.2.1
theorem ShC.rek {G : Nat → Option Nat} {M : Mem} {b : Nat} {g : SG} {S : Sh} {p : Bool} (self_ : ShC G M b g S p) : mcl M (b + 10) = 101 := self_.2.2.2.2.2.2.2.2.2.2.2.2.2.2.2.2.2.2.2.2.2.2.2.2.2.2.2.2.2.2.2.2.2.2.2.2.2.2.2.2.2.2.2.2.2.2.2.2.2.2.2.2.2.2.2.2.2.2.2.2.2.2.2.2.2.2.2.2.2.2.2.2.2.2.2.2.2.2.2.2.2.2.2.2.2.1
theorem ShC.reco {G : Nat → Option Nat} {M : Mem} {b : Nat} {g : SG} {S : Sh} {p : Bool} (self_ : ShC G M b g S p) : mco M (b + 10) = 1 := self_.2.2.2.2.2.2.2.2.2.2.2.2.2.2.2.2.2.2.2.2.2.2.2.2.2.2.2.2.2.2.2.2.2.2.2.2.2.2.2.2.2.2.2.2.2.2.2.2.2.2.2.2.2.2.2.2.2.2.2.2.2.2.2.2.2.2.2.2.2.2.2.2.2.2.2.2.2.2.2.2.2.2.2.2.2.2.1
theorem ShC.reln {G : Nat → Option Nat} {M : Mem} {b : Nat} {g : SG} {S : Sh} {p : Bool} (self_ : ShC G M b g S p) : mln M (b + 10) = 8 := self_.2.2.2.2.2.2.2.2.2.2.2.2.2.2.2.2.2.2.2.2.2.2.2.2.2.2.2.2.2.2.2.2.2.2.2.2.2.2.2.2.2.2.2.2.2.2.2.2.2.2.2.2.2.2.2.2.2.2.2.2.2.2.2.2.2.2.2.2.2.2.2.2.2.2.2.2.2.2.2.2.2.2.2.2.2.2.2.1
theorem ShC.byk {G : Nat → Option Nat} {M : Mem} {b : Nat} {g : SG} {S : Sh} {p : Bool} (self_ : ShC G M b g S p) : mcl M (b + 11) = 100 := self_.2.2.2.2.2.2.2.2.2.2.2.2.2.2.2.2.2.2.2.2.2.2.2.2.2.2.2.2.2.2.2.2.2.2.2.2.2.2.2.2.2.2.2.2.2.2.2.2.2.2.2.2.2.2.2.2.2.2.2.2.2.2.2.2.2.2.2.2.2.2.2.2.2.2.2.2.2.2.2.2.2.2.2.2.2.2.2.2.1
theorem ShC.byco {G : Nat → Option Nat} {M : Mem} {b : Nat} {g : SG} {S : Sh} {p : Bool} (self_ : ShC G M b g S p) : mco M (b + 11) = 1 := self_.2.2.2.2.2.2.2.2.2.2.2.2.2.2.2.2.2.2.2.2.2.2.2.2.2.2.2.2.2.2.2.2.2.2.2.2.2.2.2.2.2.2.2.2.2.2.2.2.2.2.2.2.2.2.2.2.2.2.2.2.2.2.2.2.2.2.2.2.2.2.2.2.2.2.2.2.2.2.2.2.2.2.2.2.2.2.2.2.2.1
theorem ShC.byln {G : Nat → Option Nat} {M : Mem} {b : Nat} {g : SG} {S : Sh} {p : Bool} (self_ : ShC G M b g S p) : mln M (b + 11) = 8 := self_.2.2.2.2.2.2.2.2.2.2.2.2.2.2.2.2.2.2.2.2.2.2.2.2.2.2.2.2.2.2.2.2.2.2.2.2.2.2.2.2.2.2.2.2.2.2.2.2.2.2.2.2.2.2.2.2.2.2.2.2.2.2.2.2.2.2.2.2.2.2.2.2.2.2.2.2.2.2.2.2.2.2.2.2.2.2.2.2.2.2.1
theorem ShC.quk {G : Nat → Option Nat} {M : Mem} {b : Nat} {g : SG} {S : Sh} {p : Bool} (self_ : ShC G M b g S p) : mcl M (b + 12) = 100 := self_.2.2.2.2.2.2.2.2.2.2.2.2.2.2.2.2.2.2.2.2.2.2.2.2.2.2.2.2.2.2.2.2.2.2.2.2.2.2.2.2.2.2.2.2.2.2.2.2.2.2.2.2.2.2.2.2.2.2.2.2.2.2.2.2.2.2.2.2.2.2.2.2.2.2.2.2.2.2.2.2.2.2.2.2.2.2.2.2.2.2.2.1
theorem ShC.quco {G : Nat → Option Nat} {M : Mem} {b : Nat} {g : SG} {S : Sh} {p : Bool} (self_ : ShC G M b g S p) : mco M (b + 12) = 1 := self_.2.2.2.2.2.2.2.2.2.2.2.2.2.2.2.2.2.2.2.2.2.2.2.2.2.2.2.2.2.2.2.2.2.2.2.2.2.2.2.2.2.2.2.2.2.2.2.2.2.2.2.2.2.2.2.2.2.2.2.2.2.2.2.2.2.2.2.2.2.2.2.2.2.2.2.2.2.2.2.2.2.2.2.2.2.2.2.2.2.2.2.2.1
theorem ShC.quln {G : Nat → Option Nat} {M : Mem} {b : Nat} {g : SG} {S : Sh} {p : Bool} (self_ : ShC G M b g S p) : mln M (b + 12) = 8 := self_.2.2.2.2.2.2.2.2.2.2.2.2.2.2.2.2.2.2.2.2.2.2.2.2.2.2.2.2.2.2.2.2.2.2.2.2.2.2.2.2.2.2.2.2.2.2.2.2.2.2.2.2.2.2.2.2.2.2.2.2.2.2.2.2.2.2.2.2.2.2.2.2.2.2.2.2.2.2.2.2.2.2.2.2.2.2.2.2.2.2.2.2.2.1
theorem ShC.trk {G : Nat → Option Nat} {M : Mem} {b : Nat} {g : SG} {S : Sh} {p : Bool} (self_ : ShC G M b g S p) : mcl M (b + 14) = 17 := self_.2.2.2.2.2.2.2.2.2.2.2.2.2.2.2.2.2.2.2.2.2.2.2.2.2.2.2.2.2.2.2.2.2.2.2.2.2.2.2.2.2.2.2.2.2.2.2.2.2.2.2.2.2.2.2.2.2.2.2.2.2.2.2.2.2.2.2.2.2.2.2.2.2.2.2.2.2.2.2.2.2.2.2.2.2.2.2.2.2.2.2.2.2.2.1
theorem ShC.trco {G : Nat → Option Nat} {M : Mem} {b : Nat} {g : SG} {S : Sh} {p : Bool} (self_ : ShC G M b g S p) : mco M (b + 14) = 1 := self_.2.2.2.2.2.2.2.2.2.2.2.2.2.2.2.2.2.2.2.2.2.2.2.2.2.2.2.2.2.2.2.2.2.2.2.2.2.2.2.2.2.2.2.2.2.2.2.2.2.2.2.2.2.2.2.2.2.2.2.2.2.2.2.2.2.2.2.2.2.2.2.2.2.2.2.2.2.2.2.2.2.2.2.2.2.2.2.2.2.2.2.2.2.2.2.1
theorem ShC.trsh {G : Nat → Option Nat} {M : Mem} {b : Nat} {g : SG} {S : Sh} {p : Bool} (self_ : ShC G M b g S p) : mfr M 67 (b + 14) = some b := self_.2.2.2.2.2.2.2.2.2.2.2.2.2.2.2.2.2.2.2.2.2.2.2.2.2.2.2.2.2.2.2.2.2.2.2.2.2.2.2.2.2.2.2.2.2.2.2.2.2.2.2.2.2.2.2.2.2.2.2.2.2.2.2.2.2.2.2.2.2.2.2.2.2.2.2.2.2.2.2.2.2.2.2.2.2.2.2.2.2.2.2.2.2.2.2.2.1
theorem ShC.fdk {G : Nat → Option Nat} {M : Mem} {b : Nat} {g : SG} {S : Sh} {p : Bool} (self_ : ShC G M b g S p) : mcl M (b + 15) = 18 := self_.2.2.2.2.2.2.2.2.2.2.2.2.2.2.2.2.2.2.2.2.2.2.2.2.2.2.2.2.2.2.2.2.2.2.2.2.2.2.2.2.2.2.2.2.2.2.2.2.2.2.2.2.2.2.2.2.2.2.2.2.2.2.2.2.2.2.2.2.2.2.2.2.2.2.2.2.2.2.2.2.2.2.2.2.2.2.2.2.2.2.2.2.2.2.2.2.2.1
theorem ShC.fdco {G : Nat → Option Nat} {M : Mem} {b : Nat} {g : SG} {S : Sh} {p : Bool} (self_ : ShC G M b g S p) : mco M (b + 15) = 1 := self_.2.2.2.2.2.2.2.2.2.2.2.2.2.2.2.2.2.2.2.2.2.2.2.2.2.2.2.2.2.2.2.2.2.2.2.2.2.2.2.2.2.2.2.2.2.2.2.2.2.2.2.2.2.2.2.2.2.2.2.2.2.2.2.2.2.2.2.2.2.2.2.2.2.2.2.2.2.2.2.2.2.2.2.2.2.2.2.2.2.2.2.2.2.2.2.2.2.2.1
theorem ShC.fdsh {G : Nat → Option Nat} {M : Mem} {b : Nat} {g : SG} {S : Sh} {p : Bool} (self_ : ShC G M b g S p) : mfr M 73 (b + 15) = some b := self_.2.2.2.2.2.2.2.2.2.2.2.2.2.2.2.2.2.2.2.2.2.2.2.2.2.2.2.2.2.2.2.2.2.2.2.2.2.2.2.2.2.2.2.2.2.2.2.2.2.2.2.2.2.2.2.2.2.2.2.2.2.2.2.2.2.2.2.2.2.2.2.2.2.2.2.2.2.2.2.2.2.2.2.2.2.2.2.2.2.2.2.2.2.2.2.2.2.2.2.1
theorem ShC.stk {G : Nat → Option Nat} {M : Mem} {b : Nat} {g : SG} {S : Sh} {p : Bool} (self_ : ShC G M b g S p) : mcl M (b + 16) = 19 := self_.2.2.2.2.2.2.2.2.2.2.2.2.2.2.2.2.2.2.2.2.2.2.2.2.2.2.2.2.2.2.2.2.2.2.2.2.2.2.2.2.2.2.2.2.2.2.2.2.2.2.2.2.2.2.2.2.2.2.2.2.2.2.2.2.2.2.2.2.2.2.2.2.2.2.2.2.2.2.2.2.2.2.2.2.2.2.2.2.2.2.2.2.2.2.2.2.2.2.2.2.1
theorem ShC.stco {G : Nat → Option Nat} {M : Mem} {b : Nat} {g : SG} {S : Sh} {p : Bool} (self_ : ShC G M b g S p) : mco M (b + 16) = 1 := self_.2.2.2.2.2.2.2.2.2.2.2.2.2.2.2.2.2.2.2.2.2.2.2.2.2.2.2.2.2.2.2.2.2.2.2.2.2.2.2.2.2.2.2.2.2.2.2.2.2.2.2.2.2.2.2.2.2.2.2.2.2.2.2.2.2.2.2.2.2.2.2.2.2.2.2.2.2.2.2.2.2.2.2.2.2.2.2.2.2.2.2.2.2.2.2.2.2.2.2.2.2.1
theorem ShC.stsh {G : Nat → Option Nat} {M : Mem} {b : Nat} {g : SG} {S : Sh} {p : Bool} (self_ : ShC G M b g S p) : mfr M 76 (b + 16) = some b := self_.2.2.2.2.2.2.2.2.2.2.2.2.2.2.2.2.2.2.2.2.2.2.2.2.2.2.2.2.2.2.2.2.2.2.2.2.2.2.2.2.2.2.2.2.2.2.2.2.2.2.2.2.2.2.2.2.2.2.2.2.2.2.2.2.2.2.2.2.2.2.2.2.2.2.2.2.2.2.2.2.2.2.2.2.2.2.2.2.2.2.2.2.2.2.2.2.2.2.2.2.2.2.1
theorem ShC.rsca {G : Nat → Option Nat} {M : Mem} {b : Nat} {g : SG} {S : Sh} {p : Bool} (self_ : ShC G M b g S p) : mfr M 77 (b + 16) = some (b + 17) := self_.2.2.2.2.2.2.2.2.2.2.2.2.2.2.2.2.2.2.2.2.2.2.2.2.2.2.2.2.2.2.2.2.2.2.2.2.2.2.2.2.2.2.2.2.2.2.2.2.2.2.2.2.2.2.2.2.2.2.2.2.2.2.2.2.2.2.2.2.2.2.2.2.2.2.2.2.2.2.2.2.2.2.2.2.2.2.2.2.2.2.2.2.2.2.2.2.2.2.2.2.2.2.2.1
theorem ShC.scak {G : Nat → Option Nat} {M : Mem} {b : Nat} {g : SG} {S : Sh} {p : Bool} (self_ : ShC G M b g S p) : mcl M (b + 17) = 103 := self_.2.2.2.2.2.2.2.2.2.2.2.2.2.2.2.2.2.2.2.2.2.2.2.2.2.2.2.2.2.2.2.2.2.2.2.2.2.2.2.2.2.2.2.2.2.2.2.2.2.2.2.2.2.2.2.2.2.2.2.2.2.2.2.2.2.2.2.2.2.2.2.2.2.2.2.2.2.2.2.2.2.2.2.2.2.2.2.2.2.2.2.2.2.2.2.2.2.2.2.2.2.2.2.2.1
theorem ShC.scaco {G : Nat → Option Nat} {M : Mem} {b : Nat} {g : SG} {S : Sh} {p : Bool} (self_ : ShC G M b g S p) : mco M (b + 17) = 1 := self_.2.2.2.2.2.2.2.2.2.2.2.2.2.2.2.2.2.2.2.2.2.2.2.2.2.2.2.2.2.2.2.2.2.2.2.2.2.2.2.2.2.2.2.2.2.2.2.2.2.2.2.2.2.2.2.2.2.2.2.2.2.2.2.2.2.2.2.2.2.2.2.2.2.2.2.2.2.2.2.2.2.2.2.2.2.2.2.2.2.2.2.2.2.2.2.2.2.2.2.2.2.2.2.2.2.1
theorem ShC.scaln {G : Nat → Option Nat} {M : Mem} {b : Nat} {g : SG} {S : Sh} {p : Bool} (self_ : ShC G M b g S p) : mln M (b + 17) = 6 := self_.2.2.2.2.2.2.2.2.2.2.2.2.2.2.2.2.2.2.2.2.2.2.2.2.2.2.2.2.2.2.2.2.2.2.2.2.2.2.2.2.2.2.2.2.2.2.2.2.2.2.2.2.2.2.2.2.2.2.2.2.2.2.2.2.2.2.2.2.2.2.2.2.2.2.2.2.2.2.2.2.2.2.2.2.2.2.2.2.2.2.2.2.2.2.2.2.2.2.2.2.2.2.2.2.2.2.1
theorem ShC.rsbe {G : Nat → Option Nat} {M : Mem} {b : Nat} {g : SG} {S : Sh} {p : Bool} (self_ : ShC G M b g S p) : mfr M 78 (b + 16) = some (b + 18) := self_.2.2.2.2.2.2.2.2.2.2.2.2.2.2.2.2.2.2.2.2.2.2.2.2.2.2.2.2.2.2.2.2.2.2.2.2.2.2.2.2.2.2.2.2.2.2.2.2.2.2.2.2.2.2.2.2.2.2.2.2.2.2.2.2.2.2.2.2.2.2.2.2.2.2.2.2.2.2.2.2.2.2.2.2.2.2.2.2.2.2.2.2.2.2.2.2.2.2.2.2.2.2.2.2.2.2.2.1
theorem ShC.sbek {G : Nat → Option Nat} {M : Mem} {b : Nat} {g : SG} {S : Sh} {p : Bool} (self_ : ShC G M b g S p) : mcl M (b + 18) = 103 := self_.2.2.2.2.2.2.2.2.2.2.2.2.2.2.2.2.2.2.2.2.2.2.2.2.2.2.2.2.2.2.2.2.2.2.2.2.2.2.2.2.2.2.2.2.2.2.2.2.2.2.2.2.2.2.2.2.2.2.2.2.2.2.2.2.2.2.2.2.2.2.2.2.2.2.2.2.2.2.2.2.2.2.2.2.2.2.2.2.2.2.2.2.2.2.2.2.2.2.2.2.2.2.2.2.2.2.2.2.1
theorem ShC.sbeco {G : Nat → Option Nat} {M : Mem} {b : Nat} {g : SG} {S : Sh} {p : Bool} (self_ : ShC G M b g S p) : mco M (b + 18) = 1 := self_.2.2.2.2.2.2.2.2.2.2.2.2.2.2.2.2.2.2.2.2.2.2.2.2.2.2.2.2.2.2.2.2.2.2.2.2.2.2.2.2.2.2.2.2.2.2.2.2.2.2.2.2.2.2.2.2.2.2.2.2.2.2.2.2.2.2.2.2.2.2.2.2.2.2.2.2.2.2.2.2.2.2.2.2.2.2.2.2.2.2.2.2.2.2.2.2.2.2.2.2.2.2.2.2.2.2.2.2.2.1
theorem ShC.sbeln {G : Nat → Option Nat} {M : Mem} {b : Nat} {g : SG} {S : Sh} {p : Bool} (self_ : ShC G M b g S p) : mln M (b + 18) = 6 := self_.2.2.2.2.2.2.2.2.2.2.2.2.2.2.2.2.2.2.2.2.2.2.2.2.2.2.2.2.2.2.2.2.2.2.2.2.2.2.2.2.2.2.2.2.2.2.2.2.2.2.2.2.2.2.2.2.2.2.2.2.2.2.2.2.2.2.2.2.2.2.2.2.2.2.2.2.2.2.2.2.2.2.2.2.2.2.2.2.2.2.2.2.2.2.2.2.2.2.2.2.2.2.2.2.2.2.2.2.2.2.1
theorem ShC.rssh {G : Nat → Option Nat} {M : Mem} {b : Nat} {g : SG} {S : Sh} {p : Bool} (self_ : ShC G M b g S p) : mfr M 79 (b + 16) = some (b + 19) := self_.2.2.2.2.2.2.2.2.2.2.2.2.2.2.2.2.2.2.2.2.2.2.2.2.2.2.2.2.2.2.2.2.2.2.2.2.2.2.2.2.2.2.2.2.2.2.2.2.2.2.2.2.2.2.2.2.2.2.2.2.2.2.2.2.2.2.2.2.2.2.2.2.2.2.2.2.2.2.2.2.2.2.2.2.2.2.2.2.2.2.2.2.2.2.2.2.2.2.2.2.2.2.2.2.2.2.2.2.2.2.2.1
theorem ShC.sshk {G : Nat → Option Nat} {M : Mem} {b : Nat} {g : SG} {S : Sh} {p : Bool} (self_ : ShC G M b g S p) : mcl M (b + 19) = 103 := self_.2.2.2.2.2.2.2.2.2.2.2.2.2.2.2.2.2.2.2.2.2.2.2.2.2.2.2.2.2.2.2.2.2.2.2.2.2.2.2.2.2.2.2.2.2.2.2.2.2.2.2.2.2.2.2.2.2.2.2.2.2.2.2.2.2.2.2.2.2.2.2.2.2.2.2.2.2.2.2.2.2.2.2.2.2.2.2.2.2.2.2.2.2.2.2.2.2.2.2.2.2.2.2.2.2.2.2.2.2.2.2.2.1
theorem ShC.sshco {G : Nat → Option Nat} {M : Mem} {b : Nat} {g : SG} {S : Sh} {p : Bool} (self_ : ShC G M b g S p) : mco M (b + 19) = 1 := self_.2.2.2.2.2.2.2.2.2.2.2.2.2.2.2.2.2.2.2.2.2.2.2.2.2.2.2.2.2.2.2.2.2.2.2.2.2.2.2.2.2.2.2.2.2.2.2.2.2.2.2.2.2.2.2.2.2.2.2.2.2.2.2.2.2.2.2.2.2.2.2.2.2.2.2.2.2.2.2.2.2.2.2.2.2.2.2.2.2.2.2.2.2.2.2.2.2.2.2.2.2.2.2.2.2.2.2.2.2.2.2.2.2.1
theorem ShC.sshln {G : Nat → Option Nat} {M : Mem} {b : Nat} {g : SG} {S : Sh} {p : Bool} (self_ : ShC G M b g S p) : mln M (b + 19) = 6 := self_.2.2.2.2.2.2.2.2.2.2.2.2.2.2.2.2.2.2.2.2.2.2.2.2.2.2.2.2.2.2.2.2.2.2.2.2.2.2.2.2.2.2.2.2.2.2.2.2.2.2.2.2.2.2.2.2.2.2.2.2.2.2.2.2.2.2.2.2.2.2.2.2.2.2.2.2.2.2.2.2.2.2.2.2.2.2.2.2.2.2.2.2.2.2.2.2.2.2.2.2.2.2.2.2.2.2.2.2.2.2.2.2.2.2.1
theorem ShC.rsmo {G : Nat → Option Nat} {M : Mem} {b : Nat} {g : SG} {S : Sh} {p : Bool} (self_ : ShC G M b g S p) : mfr M 80 (b + 16) = some (b + 20) := self_.2.2.2.2.2.2.2.2.2.2.2.2.2.2.2.2.2.2.2.2.2.2.2.2.2.2.2.2.2.2.2.2.2.2.2.2.2.2.2.2.2.2.2.2.2.2.2.2.2.2.2.2.2.2.2.2.2.2.2.2.2.2.2.2.2.2.2.2.2.2.2.2.2.2.2.2.2.2.2.2.2.2.2.2.2.2.2.2.2.2.2.2.2.2.2.2.2.2.2.2.2.2.2.2.2.2.2.2.2.2.2.2.2.2.2.1
theorem ShC.smok {G : Nat → Option Nat} {M : Mem} {b : Nat} {g : SG} {S : Sh} {p : Bool} (self_ : ShC G M b g S p) : mcl M (b + 20) = 103 := self_.2.2.2.2.2.2.2.2.2.2.2.2.2.2.2.2.2.2.2.2.2.2.2.2.2.2.2.2.2.2.2.2.2.2.2.2.2.2.2.2.2.2.2.2.2.2.2.2.2.2.2.2.2.2.2.2.2.2.2.2.2.2.2.2.2.2.2.2.2.2.2.2.2.2.2.2.2.2.2.2.2.2.2.2.2.2.2.2.2.2.2.2.2.2.2.2.2.2.2.2.2.2.2.2.2.2.2.2.2.2.2.2.2.2.2.2.1
theorem ShC.smoco {G : Nat → Option Nat} {M : Mem} {b : Nat} {g : SG} {S : Sh} {p : Bool} (self_ : ShC G M b g S p) : mco M (b + 20) = 1 := self_.2.2.2.2.2.2.2.2.2.2.2.2.2.2.2.2.2.2.2.2.2.2.2.2.2.2.2.2.2.2.2.2.2.2.2.2.2.2.2.2.2.2.2.2.2.2.2.2.2.2.2.2.2.2.2.2.2.2.2.2.2.2.2.2.2.2.2.2.2.2.2.2.2.2.2.2.2.2.2.2.2.2.2.2.2.2.2.2.2.2.2.2.2.2.2.2.2.2.2.2.2.2.2.2.2.2.2.2.2.2.2.2.2.2.2.2.2.1
theorem ShC.smoln {G : Nat → Option Nat} {M : Mem} {b : Nat} {g : SG} {S : Sh} {p : Bool} (self_ : ShC G M b g S p) : mln M (b + 20) = 6 := self_.2.2.2.2.2.2.2.2.2.2.2.2.2.2.2.2.2.2.2.2.2.2.2.2.2.2.2.2.2.2.2.2.2.2.2.2.2.2.2.2.2.2.2.2.2.2.2.2.2.2.2.2.2.2.2.2.2.2.2.2.2.2.2.2.2.2.2.2.2.2.2.2.2.2.2.2.2.2.2.2.2.2.2.2.2.2.2.2.2.2.2.2.2.2.2.2.2.2.2.2.2.2.2.2.2.2.2.2.2.2.2.2.2.2.2.2.2.2.1
theorem ShC.rsss {G : Nat → Option Nat} {M : Mem} {b : Nat} {g : SG} {S : Sh} {p : Bool} (self_ : ShC G M b g S p) : mfr M 81 (b + 16) = some (b + 21) := self_.2.2.2.2.2.2.2.2.2.2.2.2.2.2.2.2.2.2.2.2.2.2.2.2.2.2.2.2.2.2.2.2.2.2.2.2.2.2.2.2.2.2.2.2.2.2.2.2.2.2.2.2.2.2.2.2.2.2.2.2.2.2.2.2.2.2.2.2.2.2.2.2.2.2.2.2.2.2.2.2.2.2.2.2.2.2.2.2.2.2.2.2.2.2.2.2.2.2.2.2.2.2.2.2.2.2.2.2.2.2.2.2.2.2.2.2.2.2.2.1
theorem ShC.sssk {G : Nat → Option Nat} {M : Mem} {b : Nat} {g : SG} {S : Sh} {p : Bool} (self_ : ShC G M b g S p) : mcl M (b + 21) = 103 := self_.2.2.2.2.2.2.2.2.2.2.2.2.2.2.2.2.2.2.2.2.2.2.2.2.2.2.2.2.2.2.2.2.2.2.2.2.2.2.2.2.2.2.2.2.2.2.2.2.2.2.2.2.2.2.2.2.2.2.2.2.2.2.2.2.2.2.2.2.2.2.2.2.2.2.2.2.2.2.2.2.2.2.2.2.2.2.2.2.2.2.2.2.2.2.2.2.2.2.2.2.2.2.2.2.2.2.2.2.2.2.2.2.2.2.2.2.2.2.2.2.1
theorem ShC.sssco {G : Nat → Option Nat} {M : Mem} {b : Nat} {g : SG} {S : Sh} {p : Bool} (self_ : ShC G M b g S p) : mco M (b + 21) = 1 := self_.2.2.2.2.2.2.2.2.2.2.2.2.2.2.2.2.2.2.2.2.2.2.2.2.2.2.2.2.2.2.2.2.2.2.2.2.2.2.2.2.2.2.2.2.2.2.2.2.2.2.2.2.2.2.2.2.2.2.2.2.2.2.2.2.2.2.2.2.2.2.2.2.2.2.2.2.2.2.2.2.2.2.2.2.2.2.2.2.2.2.2.2.2.2.2.2.2.2.2.2.2.2.2.2.2.2.2.2.2.2.2.2.2.2.2.2.2.2.2.2.2.1
theorem ShC.sssln {G : Nat → Option Nat} {M : Mem} {b : Nat} {g : SG} {S : Sh} {p : Bool} (self_ : ShC G M b g S p) : mln M (b + 21) = 6 := self_.2.2.2.2.2.2.2.2.2.2.2.2.2.2.2.2.2.2.2.2.2.2.2.2.2.2.2.2.2.2.2.2.2.2.2.2.2.2.2.2.2.2.2.2.2.2.2.2.2.2.2.2.2.2.2.2.2.2.2.2.2.2.2.2.2.2.2.2.2.2.2.2.2.2.2.2.2.2.2.2.2.2.2.2.2.2.2.2.2.2.2.2.2.2.2.2.2.2.2.2.2.2.2.2.2.2.2.2.2.2.2.2.2.2.2.2.2.2.2.2.2.2.1
theorem ShC.rsmd {G : Nat → Option Nat} {M : Mem} {b : Nat} {g : SG} {S : Sh} {p : Bool} (self_ : ShC G M b g S p) : mfr M 82 (b + 16) = some (b + 22) := self_.2.2.2.2.2.2.2.2.2.2.2.2.2.2.2.2.2.2.2.2.2.2.2.2.2.2.2.2.2.2.2.2.2.2.2.2.2.2.2.2.2.2.2.2.2.2.2.2.2.2.2.2.2.2.2.2.2.2.2.2.2.2.2.2.2.2.2.2.2.2.2.2.2.2.2.2.2.2.2.2.2.2.2.2.2.2.2.2.2.2.2.2.2.2.2.2.2.2.2.2.2.2.2.2.2.2.2.2.2.2.2.2.2.2.2.2.2.2.2.2.2.2.2.1
theorem ShC.smdk {G : Nat → Option Nat} {M : Mem} {b : Nat} {g : SG} {S : Sh} {p : Bool} (self_ : ShC G M b g S p) : mcl M (b + 22) = 103 := self_.2.2.2.2.2.2.2.2.2.2.2.2.2.2.2.2.2.2.2.2.2.2.2.2.2.2.2.2.2.2.2.2.2.2.2.2.2.2.2.2.2.2.2.2.2.2.2.2.2.2.2.2.2.2.2.2.2.2.2.2.2.2.2.2.2.2.2.2.2.2.2.2.2.2.2.2.2.2.2.2.2.2.2.2.2.2.2.2.2.2.2.2.2.2.2.2.2.2.2.2.2.2.2.2.2.2.2.2.2.2.2.2.2.2.2.2.2.2.2.2.2.2.2.2.1
theorem ShC.smdco {G : Nat → Option Nat} {M : Mem} {b : Nat} {g : SG} {S : Sh} {p : Bool} (self_ : ShC G M b g S p) : mco M (b + 22) = 1 := self_.2.2.2.2.2.2.2.2.2.2.2.2.2.2.2.2.2.2.2.2.2.2.2.2.2.2.2.2.2.2.2.2.2.2.2.2.2.2.2.2.2.2.2.2.2.2.2.2.2.2.2.2.2.2.2.2.2.2.2.2.2.2.2.2.2.2.2.2.2.2.2.2.2.2.2.2.2.2.2.2.2.2.2.2.2.2.2.2.2.2.2.2.2.2.2.2.2.2.2.2.2.2.2.2.2.2.2.2.2.2.2.2.2.2.2.2.2.2.2.2.2.2.2.2.2.1
theorem ShC.smdln {G : Nat → Option Nat} {M : Mem} {b : Nat} {g : SG} {S : Sh} {p : Bool} (self_ : ShC G M b g S p) : mln M (b + 22) = 6 := self_.2.2.2.2.2.2.2.2.2.2.2.2.2.2.2.2.2.2.2.2.2.2.2.2.2.2.2.2.2.2.2.2.2.2.2.2.2.2.2.2.2.2.2.2.2.2.2.2.2.2.2.2.2.2.2.2.2.2.2.2.2.2.2.2.2.2.2.2.2.2.2.2.2.2.2.2.2.2.2.2.2.2.2.2.2.2.2.2.2.2.2.2.2.2.2.2.2.2.2.2.2.2.2.2.2.2.2.2.2.2.2.2.2.2.2.2.2.2.2.2.2.2.2.2.2.2.1
theorem ShC.rmk {G : Nat → Option Nat} {M : Mem} {b : Nat} {g : SG} {S : Sh} {p : Bool} (self_ : ShC G M b g S p) : mcl M (b + 24) = 100 := self_.2.2.2.2.2.2.2.2.2.2.2.2.2.2.2.2.2.2.2.2.2.2.2.2.2.2.2.2.2.2.2.2.2.2.2.2.2.2.2.2.2.2.2.2.2.2.2.2.2.2.2.2.2.2.2.2.2.2.2.2.2.2.2.2.2.2.2.2.2.2.2.2.2.2.2.2.2.2.2.2.2.2.2.2.2.2.2.2.2.2.2.2.2.2.2.2.2.2.2.2.2.2.2.2.2.2.2.2.2.2.2.2.2.2.2.2.2.2.2.2.2.2.2.2.2.2.2.1
theorem ShC.rmco {G : Nat → Option Nat} {M : Mem} {b : Nat} {g : SG} {S : Sh} {p : Bool} (self_ : ShC G M b g S p) : mco M (b + 24) = 1 := self_.2.2.2.2.2.2.2.2.2.2.2.2.2.2.2.2.2.2.2.2.2.2.2.2.2.2.2.2.2.2.2.2.2.2.2.2.2.2.2.2.2.2.2.2.2.2.2.2.2.2.2.2.2.2.2.2.2.2.2.2.2.2.2.2.2.2.2.2.2.2.2.2.2.2.2.2.2.2.2.2.2.2.2.2.2.2.2.2.2.2.2.2.2.2.2.2.2.2.2.2.2.2.2.2.2.2.2.2.2.2.2.2.2.2.2.2.2.2.2.2.2.2.2.2.2.2.2.2.1
theorem ShC.rmln {G : Nat → Option Nat} {M : Mem} {b : Nat} {g : SG} {S : Sh} {p : Bool} (self_ : ShC G M b g S p) : mln M (b + 24) = 24 := self_.2.2.2.2.2.2.2.2.2.2.2.2.2.2.2.2.2.2.2.2.2.2.2.2.2.2.2.2.2.2.2.2.2.2.2.2.2.2.2.2.2.2.2.2.2.2.2.2.2.2.2.2.2.2.2.2.2.2.2.2.2.2.2.2.2.2.2.2.2.2.2.2.2.2.2.2.2.2.2.2.2.2.2.2.2.2.2.2.2.2.2.2.2.2.2.2.2.2.2.2.2.2.2.2.2.2.2.2.2.2.2.2.2.2.2.2.2.2.2.2.2.2.2.2.2.2.2.2.2.1
theorem ShC.jsk {G : Nat → Option Nat} {M : Mem} {b : Nat} {g : SG} {S : Sh} {p : Bool} (self_ : ShC G M b g S p) : mcl M (b + 55) = 12 := self_.2.2.2.2.2.2.2.2.2.2.2.2.2.2.2.2.2.2.2.2.2.2.2.2.2.2.2.2.2.2.2.2.2.2.2.2.2.2.2.2.2.2.2.2.2.2.2.2.2.2.2.2.2.2.2.2.2.2.2.2.2.2.2.2.2.2.2.2.2.2.2.2.2.2.2.2.2.2.2.2.2.2.2.2.2.2.2.2.2.2.2.2.2.2.2.2.2.2.2.2.2.2.2.2.2.2.2.2.2.2.2.2.2.2.2.2.2.2.2.2.2.2.2.2.2.2.2.2.2.2.1
theorem ShC.jsco {G : Nat → Option Nat} {M : Mem} {b : Nat} {g : SG} {S : Sh} {p : Bool} (self_ : ShC G M b g S p) : mco M (b + 55) = 1 := self_.2.2.2.2.2.2.2.2.2.2.2.2.2.2.2.2.2.2.2.2.2.2.2.2.2.2.2.2.2.2.2.2.2.2.2.2.2.2.2.2.2.2.2.2.2.2.2.2.2.2.2.2.2.2.2.2.2.2.2.2.2.2.2.2.2.2.2.2.2.2.2.2.2.2.2.2.2.2.2.2.2.2.2.2.2.2.2.2.2.2.2.2.2.2.2.2.2.2.2.2.2.2.2.2.2.2.2.2.2.2.2.2.2.2.2.2.2.2.2.2.2.2.2.2.2.2.2.2.2.2.2.1
theorem ShC.jsh {G : Nat → Option Nat} {M : Mem} {b : Nat} {g : SG} {S : Sh} {p : Bool} (self_ : ShC G M b g S p) : mfr M 47 (b + 55) = some b := self_.2.2.2.2.2.2.2.2.2.2.2.2.2.2.2.2.2.2.2.2.2.2.2.2.2.2.2.2.2.2.2.2.2.2.2.2.2.2.2.2.2.2.2.2.2.2.2.2.2.2.2.2.2.2.2.2.2.2.2.2.2.2.2.2.2.2.2.2.2.2.2.2.2.2.2.2.2.2.2.2.2.2.2.2.2.2.2.2.2.2.2.2.2.2.2.2.2.2.2.2.2.2.2.2.2.2.2.2.2.2.2.2.2.2.2.2.2.2.2.2.2.2.2.2.2.2.2.2.2.2.2.2.1
theorem ShC.jsa {G : Nat → Option Nat} {M : Mem} {b : Nat} {g : SG} {S : Sh} {p : Bool} (self_ : ShC G M b g S p) : mfr M 48 (b + 55) = some (b + 56) := self_.2.2.2.2.2.2.2.2.2.2.2.2.2.2.2.2.2.2.2.2.2.2.2.2.2.2.2.2.2.2.2.2.2.2.2.2.2.2.2.2.2.2.2.2.2.2.2.2.2.2.2.2.2.2.2.2.2.2.2.2.2.2.2.2.2.2.2.2.2.2.2.2.2.2.2.2.2.2.2.2.2.2.2.2.2.2.2.2.2.2.2.2.2.2.2.2.2.2.2.2.2.2.2.2.2.2.2.2.2.2.2.2.2.2.2.2.2.2.2.2.2.2.2.2.2.2.2.2.2.2.2.2.2.1
theorem ShC.jso {G : Nat → Option Nat} {M : Mem} {b : Nat} {g : SG} {S : Sh} {p : Bool} (self_ : ShC G M b g S p) : mfr M 49 (b + 55) = some (b + 57) := self_.2.2.2.2.2.2.2.2.2.2.2.2.2.2.2.2.2.2.2.2.2.2.2.2.2.2.2.2.2.2.2.2.2.2.2.2.2.2.2.2.2.2.2.2.2.2.2.2.2.2.2.2.2.2.2.2.2.2.2.2.2.2.2.2.2.2.2.2.2.2.2.2.2.2.2.2.2.2.2.2.2.2.2.2.2.2.2.2.2.2.2.2.2.2.2.2.2.2.2.2.2.2.2.2.2.2.2.2.2.2.2.2.2.2.2.2.2.2.2.2.2.2.2.2.2.2.2.2.2.2.2.2.2.2.1
theorem ShC.jst {G : Nat → Option Nat} {M : Mem} {b : Nat} {g : SG} {S : Sh} {p : Bool} (self_ : ShC G M b g S p) : mfi M 50 (b + 55) = bI S.laid := self_.2.2.2.2.2.2.2.2.2.2.2.2.2.2.2.2.2.2.2.2.2.2.2.2.2.2.2.2.2.2.2.2.2.2.2.2.2.2.2.2.2.2.2.2.2.2.2.2.2.2.2.2.2.2.2.2.2.2.2.2.2.2.2.2.2.2.2.2.2.2.2.2.2.2.2.2.2.2.2.2.2.2.2.2.2.2.2.2.2.2.2.2.2.2.2.2.2.2.2.2.2.2.2.2.2.2.2.2.2.2.2.2.2.2.2.2.2.2.2.2.2.2.2.2.2.2.2.2.2.2.2.2.2.2.2.1
theorem ShC.jak {G : Nat → Option Nat} {M : Mem} {b : Nat} {g : SG} {S : Sh} {p : Bool} (self_ : ShC G M b g S p) : mcl M (b + 56) = 108 := self_.2.2.2.2.2.2.2.2.2.2.2.2.2.2.2.2.2.2.2.2.2.2.2.2.2.2.2.2.2.2.2.2.2.2.2.2.2.2.2.2.2.2.2.2.2.2.2.2.2.2.2.2.2.2.2.2.2.2.2.2.2.2.2.2.2.2.2.2.2.2.2.2.2.2.2.2.2.2.2.2.2.2.2.2.2.2.2.2.2.2.2.2.2.2.2.2.2.2.2.2.2.2.2.2.2.2.2.2.2.2.2.2.2.2.2.2.2.2.2.2.2.2.2.2.2.2.2.2.2.2.2.2.2.2.2.2.1
theorem ShC.jaco {G : Nat → Option Nat} {M : Mem} {b : Nat} {g : SG} {S : Sh} {p : Bool} (self_ : ShC G M b g S p) : mco M (b + 56) = 1 := self_.2.2.2.2.2.2.2.2.2.2.2.2.2.2.2.2.2.2.2.2.2.2.2.2.2.2.2.2.2.2.2.2.2.2.2.2.2.2.2.2.2.2.2.2.2.2.2.2.2.2.2.2.2.2.2.2.2.2.2.2.2.2.2.2.2.2.2.2.2.2.2.2.2.2.2.2.2.2.2.2.2.2.2.2.2.2.2.2.2.2.2.2.2.2.2.2.2.2.2.2.2.2.2.2.2.2.2.2.2.2.2.2.2.2.2.2.2.2.2.2.2.2.2.2.2.2.2.2.2.2.2.2.2.2.2.2.2.1
theorem ShC.jaln {G : Nat → Option Nat} {M : Mem} {b : Nat} {g : SG} {S : Sh} {p : Bool} (self_ : ShC G M b g S p) : mln M (b + 56) = 24 := self_.2.2.2.2.2.2.2.2.2.2.2.2.2.2.2.2.2.2.2.2.2.2.2.2.2.2.2.2.2.2.2.2.2.2.2.2.2.2.2.2.2.2.2.2.2.2.2.2.2.2.2.2.2.2.2.2.2.2.2.2.2.2.2.2.2.2.2.2.2.2.2.2.2.2.2.2.2.2.2.2.2.2.2.2.2.2.2.2.2.2.2.2.2.2.2.2.2.2.2.2.2.2.2.2.2.2.2.2.2.2.2.2.2.2.2.2.2.2.2.2.2.2.2.2.2.2.2.2.2.2.2.2.2.2.2.2.2.2.1
theorem ShC.jae {G : Nat → Option Nat} {M : Mem} {b : Nat} {g : SG} {S : Sh} {p : Bool} (self_ : ShC G M b g S p) : ∀ j, j < 24 → mar M (b + 56) j = some (b + 58 + 2 * j) := self_.2.2.2.2.2.2.2.2.2.2.2.2.2.2.2.2.2.2.2.2.2.2.2.2.2.2.2.2.2.2.2.2.2.2.2.2.2.2.2.2.2.2.2.2.2.2.2.2.2.2.2.2.2.2.2.2.2.2.2.2.2.2.2.2.2.2.2.2.2.2.2.2.2.2.2.2.2.2.2.2.2.2.2.2.2.2.2.2.2.2.2.2.2.2.2.2.2.2.2.2.2.2.2.2.2.2.2.2.2.2.2.2.2.2.2.2.2.2.2.2.2.2.2.2.2.2.2.2.2.2.2.2.2.2.2.2.2.2.2.1
theorem ShC.jok {G : Nat → Option Nat} {M : Mem} {b : Nat} {g : SG} {S : Sh} {p : Bool} (self_ : ShC G M b g S p) : mcl M (b + 57) = 100 := self_.2.2.2.2.2.2.2.2.2.2.2.2.2.2.2.2.2.2.2.2.2.2.2.2.2.2.2.2.2.2.2.2.2.2.2.2.2.2.2.2.2.2.2.2.2.2.2.2.2.2.2.2.2.2.2.2.2.2.2.2.2.2.2.2.2.2.2.2.2.2.2.2.2.2.2.2.2.2.2.2.2.2.2.2.2.2.2.2.2.2.2.2.2.2.2.2.2.2.2.2.2.2.2.2.2.2.2.2.2.2.2.2.2.2.2.2.2.2.2.2.2.2.2.2.2.2.2.2.2.2.2.2.2.2.2.2.2.2.2.2.1
theorem ShC.joco {G : Nat → Option Nat} {M : Mem} {b : Nat} {g : SG} {S : Sh} {p : Bool} (self_ : ShC G M b g S p) : mco M (b + 57) = 1 := self_.2.2.2.2.2.2.2.2.2.2.2.2.2.2.2.2.2.2.2.2.2.2.2.2.2.2.2.2.2.2.2.2.2.2.2.2.2.2.2.2.2.2.2.2.2.2.2.2.2.2.2.2.2.2.2.2.2.2.2.2.2.2.2.2.2.2.2.2.2.2.2.2.2.2.2.2.2.2.2.2.2.2.2.2.2.2.2.2.2.2.2.2.2.2.2.2.2.2.2.2.2.2.2.2.2.2.2.2.2.2.2.2.2.2.2.2.2.2.2.2.2.2.2.2.2.2.2.2.2.2.2.2.2.2.2.2.2.2.2.2.2.1
theorem ShC.joln {G : Nat → Option Nat} {M : Mem} {b : Nat} {g : SG} {S : Sh} {p : Bool} (self_ : ShC G M b g S p) : mln M (b + 57) = 24 := self_.2.2.2.2.2.2.2.2.2.2.2.2.2.2.2.2.2.2.2.2.2.2.2.2.2.2.2.2.2.2.2.2.2.2.2.2.2.2.2.2.2.2.2.2.2.2.2.2.2.2.2.2.2.2.2.2.2.2.2.2.2.2.2.2.2.2.2.2.2.2.2.2.2.2.2.2.2.2.2.2.2.2.2.2.2.2.2.2.2.2.2.2.2.2.2.2.2.2.2.2.2.2.2.2.2.2.2.2.2.2.2.2.2.2.2.2.2.2.2.2.2.2.2.2.2.2.2.2.2.2.2.2.2.2.2.2.2.2.2.2.2.2.1
theorem ShC.joe {G : Nat → Option Nat} {M : Mem} {b : Nat} {g : SG} {S : Sh} {p : Bool} (self_ : ShC G M b g S p) : ∀ i, i < 24 → mai M (b + 57) i = nI (jOr i) := self_.2.2.2.2.2.2.2.2.2.2.2.2.2.2.2.2.2.2.2.2.2.2.2.2.2.2.2.2.2.2.2.2.2.2.2.2.2.2.2.2.2.2.2.2.2.2.2.2.2.2.2.2.2.2.2.2.2.2.2.2.2.2.2.2.2.2.2.2.2.2.2.2.2.2.2.2.2.2.2.2.2.2.2.2.2.2.2.2.2.2.2.2.2.2.2.2.2.2.2.2.2.2.2.2.2.2.2.2.2.2.2.2.2.2.2.2.2.2.2.2.2.2.2.2.2.2.2.2.2.2.2.2.2.2.2.2.2.2.2.2.2.2.2.1
theorem ShC.jk {G : Nat → Option Nat} {M : Mem} {b : Nat} {g : SG} {S : Sh} {p : Bool} (self_ : ShC G M b g S p) : ∀ j, j < 24 → mcl M (b + 58 + 2 * j) = 25 := self_.2.2.2.2.2.2.2.2.2.2.2.2.2.2.2.2.2.2.2.2.2.2.2.2.2.2.2.2.2.2.2.2.2.2.2.2.2.2.2.2.2.2.2.2.2.2.2.2.2.2.2.2.2.2.2.2.2.2.2.2.2.2.2.2.2.2.2.2.2.2.2.2.2.2.2.2.2.2.2.2.2.2.2.2.2.2.2.2.2.2.2.2.2.2.2.2.2.2.2.2.2.2.2.2.2.2.2.2.2.2.2.2.2.2.2.2.2.2.2.2.2.2.2.2.2.2.2.2.2.2.2.2.2.2.2.2.2.2.2.2.2.2.2.2.1
theorem ShC.jco {G : Nat → Option Nat} {M : Mem} {b : Nat} {g : SG} {S : Sh} {p : Bool} (self_ : ShC G M b g S p) : ∀ j, j < 24 → mco M (b + 58 + 2 * j) = 1 := self_.2.2.2.2.2.2.2.2.2.2.2.2.2.2.2.2.2.2.2.2.2.2.2.2.2.2.2.2.2.2.2.2.2.2.2.2.2.2.2.2.2.2.2.2.2.2.2.2.2.2.2.2.2.2.2.2.2.2.2.2.2.2.2.2.2.2.2.2.2.2.2.2.2.2.2.2.2.2.2.2.2.2.2.2.2.2.2.2.2.2.2.2.2.2.2.2.2.2.2.2.2.2.2.2.2.2.2.2.2.2.2.2.2.2.2.2.2.2.2.2.2.2.2.2.2.2.2.2.2.2.2.2.2.2.2.2.2.2.2.2.2.2.2.2.2.1
theorem ShC.jnu {G : Nat → Option Nat} {M : Mem} {b : Nat} {g : SG} {S : Sh} {p : Bool} (self_ : ShC G M b g S p) : ∀ j, j < 24 → mfi M 128 (b + 58 + 2 * j) = nI j := self_.2.2.2.2.2.2.2.2.2.2.2.2.2.2.2.2.2.2.2.2.2.2.2.2.2.2.2.2.2.2.2.2.2.2.2.2.2.2.2.2.2.2.2.2.2.2.2.2.2.2.2.2.2.2.2.2.2.2.2.2.2.2.2.2.2.2.2.2.2.2.2.2.2.2.2.2.2.2.2.2.2.2.2.2.2.2.2.2.2.2.2.2.2.2.2.2.2.2.2.2.2.2.2.2.2.2.2.2.2.2.2.2.2.2.2.2.2.2.2.2.2.2.2.2.2.2.2.2.2.2.2.2.2.2.2.2.2.2.2.2.2.2.2.2.2.2.1
theorem ShC.jtr {G : Nat → Option Nat} {M : Mem} {b : Nat} {g : SG} {S : Sh} {p : Bool} (self_ : ShC G M b g S p) : ∀ j, j < 24 → mfi M 129 (b + 58 + 2 * j) = nI (jTr j) := self_.2.2.2.2.2.2.2.2.2.2.2.2.2.2.2.2.2.2.2.2.2.2.2.2.2.2.2.2.2.2.2.2.2.2.2.2.2.2.2.2.2.2.2.2.2.2.2.2.2.2.2.2.2.2.2.2.2.2.2.2.2.2.2.2.2.2.2.2.2.2.2.2.2.2.2.2.2.2.2.2.2.2.2.2.2.2.2.2.2.2.2.2.2.2.2.2.2.2.2.2.2.2.2.2.2.2.2.2.2.2.2.2.2.2.2.2.2.2.2.2.2.2.2.2.2.2.2.2.2.2.2.2.2.2.2.2.2.2.2.2.2.2.2.2.2.2.2.1
theorem ShC.jbe {G : Nat → Option Nat} {M : Mem} {b : Nat} {g : SG} {S : Sh} {p : Bool} (self_ : ShC G M b g S p) : ∀ j, j < 24 → mfi M 130 (b + 58 + 2 * j) = nI (jBs j) := self_.2.2.2.2.2.2.2.2.2.2.2.2.2.2.2.2.2.2.2.2.2.2.2.2.2.2.2.2.2.2.2.2.2.2.2.2.2.2.2.2.2.2.2.2.2.2.2.2.2.2.2.2.2.2.2.2.2.2.2.2.2.2.2.2.2.2.2.2.2.2.2.2.2.2.2.2.2.2.2.2.2.2.2.2.2.2.2.2.2.2.2.2.2.2.2.2.2.2.2.2.2.2.2.2.2.2.2.2.2.2.2.2.2.2.2.2.2.2.2.2.2.2.2.2.2.2.2.2.2.2.2.2.2.2.2.2.2.2.2.2.2.2.2.2.2.2.2.2.1
theorem ShC.jah {G : Nat → Option Nat} {M : Mem} {b : Nat} {g : SG} {S : Sh} {p : Bool} (self_ : ShC G M b g S p) : ∀ j, j < 24 → mfr M 131 (b + 58 + 2 * j) = some (b + 59 + 2 * j) := self_.2.2.2.2.2.2.2.2.2.2.2.2.2.2.2.2.2.2.2.2.2.2.2.2.2.2.2.2.2.2.2.2.2.2.2.2.2.2.2.2.2.2.2.2.2.2.2.2.2.2.2.2.2.2.2.2.2.2.2.2.2.2.2.2.2.2.2.2.2.2.2.2.2.2.2.2.2.2.2.2.2.2.2.2.2.2.2.2.2.2.2.2.2.2.2.2.2.2.2.2.2.2.2.2.2.2.2.2.2.2.2.2.2.2.2.2.2.2.2.2.2.2.2.2.2.2.2.2.2.2.2.2.2.2.2.2.2.2.2.2.2.2.2.2.2.2.2.2.2.1
theorem ShC.jhr {G : Nat → Option Nat} {M : Mem} {b : Nat} {g : SG} {S : Sh} {p : Bool} (self_ : ShC G M b g S p) : ∀ j, j < 24 → mfi M 132 (b + 58 + 2 * j) = nI (S.hours j) := self_.2.2.2.2.2.2.2.2.2.2.2.2.2.2.2.2.2.2.2.2.2.2.2.2.2.2.2.2.2.2.2.2.2.2.2.2.2.2.2.2.2.2.2.2.2.2.2.2.2.2.2.2.2.2.2.2.2.2.2.2.2.2.2.2.2.2.2.2.2.2.2.2.2.2.2.2.2.2.2.2.2.2.2.2.2.2.2.2.2.2.2.2.2.2.2.2.2.2.2.2.2.2.2.2.2.2.2.2.2.2.2.2.2.2.2.2.2.2.2.2.2.2.2.2.2.2.2.2.2.2.2.2.2.2.2.2.2.2.2.2.2.2.2.2.2.2.2.2.2.2.1
theorem ShC.jlf {G : Nat → Option Nat} {M : Mem} {b : Nat} {g : SG} {S : Sh} {p : Bool} (self_ : ShC G M b g S p) : ∀ j, j < 24 → mfi M 133 (b + 58 + 2 * j) = nI (S.left j) := self_.2.2.2.2.2.2.2.2.2.2.2.2.2.2.2.2.2.2.2.2.2.2.2.2.2.2.2.2.2.2.2.2.2.2.2.2.2.2.2.2.2.2.2.2.2.2.2.2.2.2.2.2.2.2.2.2.2.2.2.2.2.2.2.2.2.2.2.2.2.2.2.2.2.2.2.2.2.2.2.2.2.2.2.2.2.2.2.2.2.2.2.2.2.2.2.2.2.2.2.2.2.2.2.2.2.2.2.2.2.2.2.2.2.2.2.2.2.2.2.2.2.2.2.2.2.2.2.2.2.2.2.2.2.2.2.2.2.2.2.2.2.2.2.2.2.2.2.2.2.2.2.1
theorem ShC.jas {G : Nat → Option Nat} {M : Mem} {b : Nat} {g : SG} {S : Sh} {p : Bool} (self_ : ShC G M b g S p) : ∀ j, j < 24 → mfi M 134 (b + 58 + 2 * j) = bI (S.asked j) := self_.2.2.2.2.2.2.2.2.2.2.2.2.2.2.2.2.2.2.2.2.2.2.2.2.2.2.2.2.2.2.2.2.2.2.2.2.2.2.2.2.2.2.2.2.2.2.2.2.2.2.2.2.2.2.2.2.2.2.2.2.2.2.2.2.2.2.2.2.2.2.2.2.2.2.2.2.2.2.2.2.2.2.2.2.2.2.2.2.2.2.2.2.2.2.2.2.2.2.2.2.2.2.2.2.2.2.2.2.2.2.2.2.2.2.2.2.2.2.2.2.2.2.2.2.2.2.2.2.2.2.2.2.2.2.2.2.2.2.2.2.2.2.2.2.2.2.2.2.2.2.2.2.1
theorem ShC.jfa {G : Nat → Option Nat} {M : Mem} {b : Nat} {g : SG} {S : Sh} {p : Bool} (self_ : ShC G M b g S p) : ∀ j, j < 24 → mfi M 135 (b + 58 + 2 * j) = bI (S.faulty j) := self_.2.2.2.2.2.2.2.2.2.2.2.2.2.2.2.2.2.2.2.2.2.2.2.2.2.2.2.2.2.2.2.2.2.2.2.2.2.2.2.2.2.2.2.2.2.2.2.2.2.2.2.2.2.2.2.2.2.2.2.2.2.2.2.2.2.2.2.2.2.2.2.2.2.2.2.2.2.2.2.2.2.2.2.2.2.2.2.2.2.2.2.2.2.2.2.2.2.2.2.2.2.2.2.2.2.2.2.2.2.2.2.2.2.2.2.2.2.2.2.2.2.2.2.2.2.2.2.2.2.2.2.2.2.2.2.2.2.2.2.2.2.2.2.2.2.2.2.2.2.2.2.2.2.1
theorem ShC.ahk {G : Nat → Option Nat} {M : Mem} {b : Nat} {g : SG} {S : Sh} {p : Bool} (self_ : ShC G M b g S p) : ∀ j, j < 24 → mcl M (b + 59 + 2 * j) = 100 := self_.2.2.2.2.2.2.2.2.2.2.2.2.2.2.2.2.2.2.2.2.2.2.2.2.2.2.2.2.2.2.2.2.2.2.2.2.2.2.2.2.2.2.2.2.2.2.2.2.2.2.2.2.2.2.2.2.2.2.2.2.2.2.2.2.2.2.2.2.2.2.2.2.2.2.2.2.2.2.2.2.2.2.2.2.2.2.2.2.2.2.2.2.2.2.2.2.2.2.2.2.2.2.2.2.2.2.2.2.2.2.2.2.2.2.2.2.2.2.2.2.2.2.2.2.2.2.2.2.2.2.2.2.2.2.2.2.2.2.2.2.2.2.2.2.2.2.2.2.2.2.2.2.2.2.1
theorem ShC.ahln {G : Nat → Option Nat} {M : Mem} {b : Nat} {g : SG} {S : Sh} {p : Bool} (self_ : ShC G M b g S p) : ∀ j, j < 24 → mln M (b + 59 + 2 * j) = (jAh j).length := self_.2.2.2.2.2.2.2.2.2.2.2.2.2.2.2.2.2.2.2.2.2.2.2.2.2.2.2.2.2.2.2.2.2.2.2.2.2.2.2.2.2.2.2.2.2.2.2.2.2.2.2.2.2.2.2.2.2.2.2.2.2.2.2.2.2.2.2.2.2.2.2.2.2.2.2.2.2.2.2.2.2.2.2.2.2.2.2.2.2.2.2.2.2.2.2.2.2.2.2.2.2.2.2.2.2.2.2.2.2.2.2.2.2.2.2.2.2.2.2.2.2.2.2.2.2.2.2.2.2.2.2.2.2.2.2.2.2.2.2.2.2.2.2.2.2.2.2.2.2.2.2.2.2.2.2.1
theorem ShC.ahe {G : Nat → Option Nat} {M : Mem} {b : Nat} {g : SG} {S : Sh} {p : Bool} (self_ : ShC G M b g S p) : ∀ j, j < 24 → ∀ i, i < (jAh j).length → mai M (b + 59 + 2 * j) i = nI ((jAh j).getD i 0) := self_.2.2.2.2.2.2.2.2.2.2.2.2.2.2.2.2.2.2.2.2.2.2.2.2.2.2.2.2.2.2.2.2.2.2.2.2.2.2.2.2.2.2.2.2.2.2.2.2.2.2.2.2.2.2.2.2.2.2.2.2.2.2.2.2.2.2.2.2.2.2.2.2.2.2.2.2.2.2.2.2.2.2.2.2.2.2.2.2.2.2.2.2.2.2.2.2.2.2.2.2.2.2.2.2.2.2.2.2.2.2.2.2.2.2.2.2.2.2.2.2.2.2.2.2.2.2.2.2.2.2.2.2.2.2.2.2.2.2.2.2.2.2.2.2.2.2.2.2.2.2.2.2.2.2.2.2.1
theorem ShC.its {G : Nat → Option Nat} {M : Mem} {b : Nat} {g : SG} {S : Sh} {p : Bool} (self_ : ShC G M b g S p) : AL G M 1 (b + 5) g.xe S.items.length g.xs := self_.2.2.2.2.2.2.2.2.2.2.2.2.2.2.2.2.2.2.2.2.2.2.2.2.2.2.2.2.2.2.2.2.2.2.2.2.2.2.2.2.2.2.2.2.2.2.2.2.2.2.2.2.2.2.2.2.2.2.2.2.2.2.2.2.2.2.2.2.2.2.2.2.2.2.2.2.2.2.2.2.2.2.2.2.2.2.2.2.2.2.2.2.2.2.2.2.2.2.2.2.2.2.2.2.2.2.2.2.2.2.2.2.2.2.2.2.2.2.2.2.2.2.2.2.2.2.2.2.2.2.2.2.2.2.2.2.2.2.2.2.2.2.2.2.2.2.2.2.2.2.2.2.2.2.2.2.2.1
theorem ShC.ixl {G : Nat → Option Nat} {M : Mem} {b : Nat} {g : SG} {S : Sh} {p : Bool} (self_ : ShC G M b g S p) : ∀ i, i < S.items.length → g.xs i < mnx M := self_.2.2.2.2.2.2.2.2.2.2.2.2.2.2.2.2.2.2.2.2.2.2.2.2.2.2.2.2.2.2.2.2.2.2.2.2.2.2.2.2.2.2.2.2.2.2.2.2.2.2.2.2.2.2.2.2.2.2.2.2.2.2.2.2.2.2.2.2.2.2.2.2.2.2.2.2.2.2.2.2.2.2.2.2.2.2.2.2.2.2.2.2.2.2.2.2.2.2.2.2.2.2.2.2.2.2.2.2.2.2.2.2.2.2.2.2.2.2.2.2.2.2.2.2.2.2.2.2.2.2.2.2.2.2.2.2.2.2.2.2.2.2.2.2.2.2.2.2.2.2.2.2.2.2.2.2.2.2.1
theorem ShC.ix {G : Nat → Option Nat} {M : Mem} {b : Nat} {g : SG} {S : Sh} {p : Bool} (self_ : ShC G M b g S p) : ∀ i x, S.items[i]? = some x → mcl M (g.xs i) = 26 ∧ mfi M 139 (g.xs i) = x.tn ∧ mfi M 140 (g.xs i) = nI x.cm ∧ mfi M 141 (g.xs i) = x.sd ∧ mfi M 142 (g.xs i) = x.up := self_.2.2.2.2.2.2.2.2.2.2.2.2.2.2.2.2.2.2.2.2.2.2.2.2.2.2.2.2.2.2.2.2.2.2.2.2.2.2.2.2.2.2.2.2.2.2.2.2.2.2.2.2.2.2.2.2.2.2.2.2.2.2.2.2.2.2.2.2.2.2.2.2.2.2.2.2.2.2.2.2.2.2.2.2.2.2.2.2.2.2.2.2.2.2.2.2.2.2.2.2.2.2.2.2.2.2.2.2.2.2.2.2.2.2.2.2.2.2.2.2.2.2.2.2.2.2.2.2.2.2.2.2.2.2.2.2.2.2.2.2.2.2.2.2.2.2.2.2.2.2.2.2.2.2.2.2.2.2.2.1
theorem ShC.abd {G : Nat → Option Nat} {M : Mem} {b : Nat} {g : SG} {S : Sh} {p : Bool} (self_ : ShC G M b g S p) : AL G M 1 (b + 23) g.ye S.cargo.length g.ys := self_.2.2.2.2.2.2.2.2.2.2.2.2.2.2.2.2.2.2.2.2.2.2.2.2.2.2.2.2.2.2.2.2.2.2.2.2.2.2.2.2.2.2.2.2.2.2.2.2.2.2.2.2.2.2.2.2.2.2.2.2.2.2.2.2.2.2.2.2.2.2.2.2.2.2.2.2.2.2.2.2.2.2.2.2.2.2.2.2.2.2.2.2.2.2.2.2.2.2.2.2.2.2.2.2.2.2.2.2.2.2.2.2.2.2.2.2.2.2.2.2.2.2.2.2.2.2.2.2.2.2.2.2.2.2.2.2.2.2.2.2.2.2.2.2.2.2.2.2.2.2.2.2.2.2.2.2.2.2.2.2.1
theorem ShC.yxl {G : Nat → Option Nat} {M : Mem} {b : Nat} {g : SG} {S : Sh} {p : Bool} (self_ : ShC G M b g S p) : ∀ i, i < S.cargo.length → g.ys i < mnx M := self_.2.2.2.2.2.2.2.2.2.2.2.2.2.2.2.2.2.2.2.2.2.2.2.2.2.2.2.2.2.2.2.2.2.2.2.2.2.2.2.2.2.2.2.2.2.2.2.2.2.2.2.2.2.2.2.2.2.2.2.2.2.2.2.2.2.2.2.2.2.2.2.2.2.2.2.2.2.2.2.2.2.2.2.2.2.2.2.2.2.2.2.2.2.2.2.2.2.2.2.2.2.2.2.2.2.2.2.2.2.2.2.2.2.2.2.2.2.2.2.2.2.2.2.2.2.2.2.2.2.2.2.2.2.2.2.2.2.2.2.2.2.2.2.2.2.2.2.2.2.2.2.2.2.2.2.2.2.2.2.2.2.1
theorem ShC.yx {G : Nat → Option Nat} {M : Mem} {b : Nat} {g : SG} {S : Sh} {p : Bool} (self_ : ShC G M b g S p) : ∀ i x, S.cargo[i]? = some x → mcl M (g.ys i) = 35 ∧ mco M (g.ys i) = 1 ∧ mfi M 188 (g.ys i) = oI x.cm ∧ mfi M 183 (g.ys i) = nI x.tn ∧ mfi M 184 (g.ys i) = nI x.sort ∧ mfd M 189 (g.ys i) = x.sd := self_.2.2.2.2.2.2.2.2.2.2.2.2.2.2.2.2.2.2.2.2.2.2.2.2.2.2.2.2.2.2.2.2.2.2.2.2.2.2.2.2.2.2.2.2.2.2.2.2.2.2.2.2.2.2.2.2.2.2.2.2.2.2.2.2.2.2.2.2.2.2.2.2.2.2.2.2.2.2.2.2.2.2.2.2.2.2.2.2.2.2.2.2.2.2.2.2.2.2.2.2.2.2.2.2.2.2.2.2.2.2.2.2.2.2.2.2.2.2.2.2.2.2.2.2.2.2.2.2.2.2.2.2.2.2.2.2.2.2.2.2.2.2.2.2.2.2.2.2.2.2.2.2.2.2.2.2.2.2.2.2.2.2.1
theorem ShC.pps {G : Nat → Option Nat} {M : Mem} {b : Nat} {g : SG} {S : Sh} {p : Bool} (self_ : ShC G M b g S p) : AL G M 1 (b + 9) g.pe S.pipes.length g.ps := self_.2.2.2.2.2.2.2.2.2.2.2.2.2.2.2.2.2.2.2.2.2.2.2.2.2.2.2.2.2.2.2.2.2.2.2.2.2.2.2.2.2.2.2.2.2.2.2.2.2.2.2.2.2.2.2.2.2.2.2.2.2.2.2.2.2.2.2.2.2.2.2.2.2.2.2.2.2.2.2.2.2.2.2.2.2.2.2.2.2.2.2.2.2.2.2.2.2.2.2.2.2.2.2.2.2.2.2.2.2.2.2.2.2.2.2.2.2.2.2.2.2.2.2.2.2.2.2.2.2.2.2.2.2.2.2.2.2.2.2.2.2.2.2.2.2.2.2.2.2.2.2.2.2.2.2.2.2.2.2.2.2.2.2.1
theorem ShC.pxl {G : Nat → Option Nat} {M : Mem} {b : Nat} {g : SG} {S : Sh} {p : Bool} (self_ : ShC G M b g S p) : ∀ i, i < S.pipes.length → g.ps i < mnx M := self_.2.2.2.2.2.2.2.2.2.2.2.2.2.2.2.2.2.2.2.2.2.2.2.2.2.2.2.2.2.2.2.2.2.2.2.2.2.2.2.2.2.2.2.2.2.2.2.2.2.2.2.2.2.2.2.2.2.2.2.2.2.2.2.2.2.2.2.2.2.2.2.2.2.2.2.2.2.2.2.2.2.2.2.2.2.2.2.2.2.2.2.2.2.2.2.2.2.2.2.2.2.2.2.2.2.2.2.2.2.2.2.2.2.2.2.2.2.2.2.2.2.2.2.2.2.2.2.2.2.2.2.2.2.2.2.2.2.2.2.2.2.2.2.2.2.2.2.2.2.2.2.2.2.2.2.2.2.2.2.2.2.2.2.2.1
theorem ShC.pxi {G : Nat → Option Nat} {M : Mem} {b : Nat} {g : SG} {S : Sh} {p : Bool} (self_ : ShC G M b g S p) : ∀ i j, i < S.pipes.length → j < S.pipes.length → g.ps i = g.ps j → i = j := self_.2.2.2.2.2.2.2.2.2.2.2.2.2.2.2.2.2.2.2.2.2.2.2.2.2.2.2.2.2.2.2.2.2.2.2.2.2.2.2.2.2.2.2.2.2.2.2.2.2.2.2.2.2.2.2.2.2.2.2.2.2.2.2.2.2.2.2.2.2.2.2.2.2.2.2.2.2.2.2.2.2.2.2.2.2.2.2.2.2.2.2.2.2.2.2.2.2.2.2.2.2.2.2.2.2.2.2.2.2.2.2.2.2.2.2.2.2.2.2.2.2.2.2.2.2.2.2.2.2.2.2.2.2.2.2.2.2.2.2.2.2.2.2.2.2.2.2.2.2.2.2.2.2.2.2.2.2.2.2.2.2.2.2.2.2.1
theorem ShC.px {G : Nat → Option Nat} {M : Mem} {b : Nat} {g : SG} {S : Sh} {p : Bool} (self_ : ShC G M b g S p) : ∀ i x, S.pipes[i]? = some x → mcl M (g.ps i) = 32 ∧ mco M (g.ps i) = 1 ∧ mfi M 160 (g.ps i) = nI x.fr ∧ mfi M 161 (g.ps i) = nI x.to ∧ mfi M 162 (g.ps i) = nI x.wd ∧ mfi M 163 (g.ps i) = bI x.shut ∧ mfi M 164 (g.ps i) = bI x.burst := self_.2.2.2.2.2.2.2.2.2.2.2.2.2.2.2.2.2.2.2.2.2.2.2.2.2.2.2.2.2.2.2.2.2.2.2.2.2.2.2.2.2.2.2.2.2.2.2.2.2.2.2.2.2.2.2.2.2.2.2.2.2.2.2.2.2.2.2.2.2.2.2.2.2.2.2.2.2.2.2.2.2.2.2.2.2.2.2.2.2.2.2.2.2.2.2.2.2.2.2.2.2.2.2.2.2.2.2.2.2.2.2.2.2.2.2.2.2.2.2.2.2.2.2.2.2.2.2.2.2.2.2.2.2.2.2.2.2.2.2.2.2.2.2.2.2.2.2.2.2.2.2.2.2.2.2.2.2.2.2.2.2.2.2.2.2.2
theorem ShC.fr {G : Nat → Option Nat} {X : Nat → Prop} {n s : Nat} {M M' : Mem} {b : Nat} {g : SG} {S : Sh} {p : Bool} (C : ShC G M b g S p) (q : QC X n s M M') (x2 : ¬ X (b + 2)) (x57 : ¬ X (b + 57)) (x59 : ∀ j, j < 24 → ¬ X (b + 59 + 2 * j)) : ShC G M' b g S p := ⟨
  Nat.le_trans C.lt q.nx.1,
  (q.cl _ (by have := C.lt; omega)).trans (C.k),
  (q.co _ (by have := C.lt; omega)).trans (C.co),
  (q.fi 92 _ (by have := C.lt; omega) rfl).trans (C.num),
  (q.fr 93 _ (by have := C.lt; omega) rfl).trans (C.rLn),
  (q.fr 94 _ (by have := C.lt; omega) rfl).trans (C.rPl),
  (q.fr 95 _ (by have := C.lt; omega) rfl).trans (C.rIt),
  (q.fr 96 _ (by have := C.lt; omega) rfl).trans (C.rTk),
  (q.fr 97 _ (by have := C.lt; omega) rfl).trans (C.rEn),
  (q.fr 98 _ (by have := C.lt; omega) rfl).trans (C.rHd),
  (q.fr 99 _ (by have := C.lt; omega) rfl).trans (C.rTr),
  (q.fr 100 _ (by have := C.lt; omega) rfl).trans (C.rFd),
  (q.fr 101 _ (by have := C.lt; omega) rfl).trans (C.rSt),
  (q.fr 102 _ (by have := C.lt; omega) rfl).trans (C.rJb),
  (q.fr 103 _ (by have := C.lt; omega) rfl).trans (C.rAb),
  (q.fr 104 _ (by have := C.lt; omega) rfl).trans (C.rRm),
  (q.fr 105 _ (by have := C.lt; omega) rfl).trans (C.stage),
  (q.fi 106 _ (by have := C.lt; omega) rfl).trans (C.bulk),
  (q.fi 107 _ (by have := C.lt; omega) rfl).trans (C.limit),
  (q.fi 108 _ (by have := C.lt; omega) rfl).trans (C.byp),
  (q.fi 109 _ (by have := C.lt; omega) rfl).trans (C.spot),
  (q.fi 110 _ (by have := C.lt; omega) rfl).trans (C.foul),
  (q.fi 111 _ (by have := C.lt; omega) rfl).trans (C.sea),
  (q.fi 112 _ (by have := C.lt; omega) rfl).trans (C.waits),
  (q.fr 113 _ (by have := C.lt; omega) rfl).trans (C.port),
  (q.fd 114 _ (by have := C.lt; omega) rfl).trans (C.way),
  (q.fi 115 _ (by have := C.lt; omega) rfl).trans (C.fuel),
  (q.fi 116 _ (by have := C.lt; omega) rfl).trans (C.holed),
  (q.fi 117 _ (by have := C.lt; omega) rfl).trans (C.earned),
  (q.fi 118 _ (by have := C.lt; omega) rfl).trans (C.days),
  (q.cl _ (by have := C.lt; omega)).trans (C.lk),
  (q.co _ (by have := C.lt; omega)).trans (C.lco),
  (q.fi 62 _ (by have := C.lt; omega) rfl).trans (C.lform),
  (q.fi 63 _ (by have := C.lt; omega) rfl).trans (C.llen),
  (q.fi 64 _ (by have := C.lt; omega) rfl).trans (C.ldep),
  (q.fr 65 _ (by have := C.lt; omega) rfl).trans (C.lhv),
  (q.fr 66 _ (by have := C.lt; omega) rfl).trans (C.lor),
  (q.cl _ (by have := C.lt; omega)).trans (C.hvk),
  (q.co _ (by have := C.lt; omega)).trans (C.hvco),
  (q.ln _ (by have := C.lt; omega)).trans (C.hvln),
  fun k hk j hj => (q.ai _ _ (by have := C.lt; omega) x2).trans (C.hvv k hk j hj),
  (q.cl _ (by have := C.lt; omega)).trans (C.odk),
  (q.co _ (by have := C.lt; omega)).trans (C.odco),
  (q.ln _ (by have := C.lt; omega)).trans (C.odln),
  (q.cl _ (by have := C.lt; omega)).trans (C.pak),
  (q.co _ (by have := C.lt; omega)).trans (C.paco),
  (q.ln _ (by have := C.lt; omega)).trans (C.paln),
  fun k hk => (q.ar _ _ (by have := C.lt; omega)).trans (C.pae k hk),
  (q.cl _ (by have := C.lt; omega)).trans (C.tak),
  (q.co _ (by have := C.lt; omega)).trans (C.taco),
  (q.ln _ (by have := C.lt; omega)).trans (C.taln),
  fun c hc => (q.ar _ _ (by have := C.lt; omega)).trans (C.tae c hc),
  fun k hk => (q.cl _ (by have := C.lt; omega)).trans (C.pk k hk),
  fun k hk => (q.co _ (by have := C.lt; omega)).trans (C.pco k hk),
  fun k hk => (q.fr 119 _ (by have := C.lt; omega) rfl).trans (C.psh k hk),
  fun k hk => (q.fi 120 _ (by have := C.lt; omega) rfl).trans (C.pcm k hk),
  fun k hk => (q.fi 121 _ (by have := C.lt; omega) rfl).trans (C.pst k hk),
  fun k hk => (q.fi 122 _ (by have := C.lt; omega) rfl).trans (C.ppl k hk),
  fun k hk => (q.fi 123 _ (by have := C.lt; omega) rfl).trans (C.pft k hk),
  fun k hk => (q.fi 124 _ (by have := C.lt; omega) rfl).trans (C.pse k hk),
  fun k hk => (q.fi 125 _ (by have := C.lt; omega) rfl).trans (C.pct k hk),
  fun c hc => (q.cl _ (by have := C.lt; omega)).trans (C.tk c hc),
  fun c hc => (q.co _ (by have := C.lt; omega)).trans (C.tco c hc),
  fun c hc => (q.fr 59 _ (by have := C.lt; omega) rfl).trans (C.tln c hc),
  fun c hc => (q.fi 60 _ (by have := C.lt; omega) rfl).trans (C.tcm c hc),
  fun c hc => (q.fi 61 _ (by have := C.lt; omega) rfl).trans (C.tfl c hc),
  fun c hc => (q.cl _ (by have := C.lt; omega)).trans (C.hk c hc),
  fun c hc => (q.co _ (by have := C.lt; omega)).trans (C.hco c hc),
  fun c hc => (q.fr 126 _ (by have := C.lt; omega) rfl).trans (C.hsh c hc),
  fun c hc => (q.fi 127 _ (by have := C.lt; omega) rfl).trans (C.hcm c hc),
  (q.cl _ (by have := C.lt; omega)).trans (C.hak),
  (q.co _ (by have := C.lt; omega)).trans (C.haco),
  (q.ln _ (by have := C.lt; omega)).trans (C.haln),
  fun c hc => (q.ar _ _ (by have := C.lt; omega)).trans (C.hae c hc),
  (q.cl _ (by have := C.lt; omega)).trans (C.ek),
  (q.co _ (by have := C.lt; omega)).trans (C.eco),
  (q.fr 86 _ (by have := C.lt; omega) rfl).trans (C.esh),
  (q.fr 87 _ (by have := C.lt; omega) rfl).trans (C.ent),
  (q.fi 88 _ (by have := C.lt; omega) rfl).trans (C.epw),
  (q.cl _ (by have := C.lt; omega)).trans (C.nk),
  (q.co _ (by have := C.lt; omega)).trans (C.nco),
  (q.fr 51 _ (by have := C.lt; omega) rfl).trans (C.npi),
  (q.fr 52 _ (by have := C.lt; omega) rfl).trans (C.nre),
  (q.fr 53 _ (by have := C.lt; omega) rfl).trans (C.nby),
  (q.fr 54 _ (by have := C.lt; omega) rfl).trans (C.nqu),
  (q.cl _ (by have := C.lt; omega)).trans (C.rek),
  (q.co _ (by have := C.lt; omega)).trans (C.reco),
  (q.ln _ (by have := C.lt; omega)).trans (C.reln),
  (q.cl _ (by have := C.lt; omega)).trans (C.byk),
  (q.co _ (by have := C.lt; omega)).trans (C.byco),
  (q.ln _ (by have := C.lt; omega)).trans (C.byln),
  (q.cl _ (by have := C.lt; omega)).trans (C.quk),
  (q.co _ (by have := C.lt; omega)).trans (C.quco),
  (q.ln _ (by have := C.lt; omega)).trans (C.quln),
  (q.cl _ (by have := C.lt; omega)).trans (C.trk),
  (q.co _ (by have := C.lt; omega)).trans (C.trco),
  (q.fr 67 _ (by have := C.lt; omega) rfl).trans (C.trsh),
  (q.cl _ (by have := C.lt; omega)).trans (C.fdk),
  (q.co _ (by have := C.lt; omega)).trans (C.fdco),
  (q.fr 73 _ (by have := C.lt; omega) rfl).trans (C.fdsh),
  (q.cl _ (by have := C.lt; omega)).trans (C.stk),
  (q.co _ (by have := C.lt; omega)).trans (C.stco),
  (q.fr 76 _ (by have := C.lt; omega) rfl).trans (C.stsh),
  (q.fr 77 _ (by have := C.lt; omega) rfl).trans (C.rsca),
  (q.cl _ (by have := C.lt; omega)).trans (C.scak),
  (q.co _ (by have := C.lt; omega)).trans (C.scaco),
  (q.ln _ (by have := C.lt; omega)).trans (C.scaln),
  (q.fr 78 _ (by have := C.lt; omega) rfl).trans (C.rsbe),
  (q.cl _ (by have := C.lt; omega)).trans (C.sbek),
  (q.co _ (by have := C.lt; omega)).trans (C.sbeco),
  (q.ln _ (by have := C.lt; omega)).trans (C.sbeln),
  (q.fr 79 _ (by have := C.lt; omega) rfl).trans (C.rssh),
  (q.cl _ (by have := C.lt; omega)).trans (C.sshk),
  (q.co _ (by have := C.lt; omega)).trans (C.sshco),
  (q.ln _ (by have := C.lt; omega)).trans (C.sshln),
  (q.fr 80 _ (by have := C.lt; omega) rfl).trans (C.rsmo),
  (q.cl _ (by have := C.lt; omega)).trans (C.smok),
  (q.co _ (by have := C.lt; omega)).trans (C.smoco),
  (q.ln _ (by have := C.lt; omega)).trans (C.smoln),
  (q.fr 81 _ (by have := C.lt; omega) rfl).trans (C.rsss),
  (q.cl _ (by have := C.lt; omega)).trans (C.sssk),
  (q.co _ (by have := C.lt; omega)).trans (C.sssco),
  (q.ln _ (by have := C.lt; omega)).trans (C.sssln),
  (q.fr 82 _ (by have := C.lt; omega) rfl).trans (C.rsmd),
  (q.cl _ (by have := C.lt; omega)).trans (C.smdk),
  (q.co _ (by have := C.lt; omega)).trans (C.smdco),
  (q.ln _ (by have := C.lt; omega)).trans (C.smdln),
  (q.cl _ (by have := C.lt; omega)).trans (C.rmk),
  (q.co _ (by have := C.lt; omega)).trans (C.rmco),
  (q.ln _ (by have := C.lt; omega)).trans (C.rmln),
  (q.cl _ (by have := C.lt; omega)).trans (C.jsk),
  (q.co _ (by have := C.lt; omega)).trans (C.jsco),
  (q.fr 47 _ (by have := C.lt; omega) rfl).trans (C.jsh),
  (q.fr 48 _ (by have := C.lt; omega) rfl).trans (C.jsa),
  (q.fr 49 _ (by have := C.lt; omega) rfl).trans (C.jso),
  (q.fi 50 _ (by have := C.lt; omega) rfl).trans (C.jst),
  (q.cl _ (by have := C.lt; omega)).trans (C.jak),
  (q.co _ (by have := C.lt; omega)).trans (C.jaco),
  (q.ln _ (by have := C.lt; omega)).trans (C.jaln),
  fun j hj => (q.ar _ _ (by have := C.lt; omega)).trans (C.jae j hj),
  (q.cl _ (by have := C.lt; omega)).trans (C.jok),
  (q.co _ (by have := C.lt; omega)).trans (C.joco),
  (q.ln _ (by have := C.lt; omega)).trans (C.joln),
  fun i hi => (q.ai _ _ (by have := C.lt; omega) x57).trans (C.joe i hi),
  fun j hj => (q.cl _ (by have := C.lt; omega)).trans (C.jk j hj),
  fun j hj => (q.co _ (by have := C.lt; omega)).trans (C.jco j hj),
  fun j hj => (q.fi 128 _ (by have := C.lt; omega) rfl).trans (C.jnu j hj),
  fun j hj => (q.fi 129 _ (by have := C.lt; omega) rfl).trans (C.jtr j hj),
  fun j hj => (q.fi 130 _ (by have := C.lt; omega) rfl).trans (C.jbe j hj),
  fun j hj => (q.fr 131 _ (by have := C.lt; omega) rfl).trans (C.jah j hj),
  fun j hj => (q.fi 132 _ (by have := C.lt; omega) rfl).trans (C.jhr j hj),
  fun j hj => (q.fi 133 _ (by have := C.lt; omega) rfl).trans (C.jlf j hj),
  fun j hj => (q.fi 134 _ (by have := C.lt; omega) rfl).trans (C.jas j hj),
  fun j hj => (q.fi 135 _ (by have := C.lt; omega) rfl).trans (C.jfa j hj),
  fun j hj => (q.cl _ (by have := C.lt; omega)).trans (C.ahk j hj),
  fun j hj => (q.ln _ (by have := C.lt; omega)).trans (C.ahln j hj),
  fun j hj i hi => (q.ai _ _ (by have := C.lt; omega) (x59 j hj)).trans (C.ahe j hj i hi),
  AL.fr C.its q,
  fun i hi => Nat.lt_of_lt_of_le (C.ixl i hi) q.nx.1,
  (by
    intro i x hx
    have h := C.ixl i (List.getElem?_eq_some_iff.mp hx).1
    rw [q.cl _ h, q.fi 139 _ h rfl, q.fi 140 _ h rfl, q.fi 141 _ h rfl, q.fi 142 _ h rfl]
    exact C.ix i x hx),
  AL.fr C.abd q,
  fun i hi => Nat.lt_of_lt_of_le (C.yxl i hi) q.nx.1,
  (by
    intro i x hx
    have h := C.yxl i (List.getElem?_eq_some_iff.mp hx).1
    rw [q.cl _ h, q.co _ h, q.fi 188 _ h rfl, q.fi 183 _ h rfl, q.fi 184 _ h rfl, q.fd 189 _ h rfl]
    exact C.yx i x hx),
  AL.fr C.pps q,
  fun i hi => Nat.lt_of_lt_of_le (C.pxl i hi) q.nx.1,
  C.pxi,
  (by
    intro i x hx
    have h := C.pxl i (List.getElem?_eq_some_iff.mp hx).1
    rw [q.cl _ h, q.co _ h, q.fi 160 _ h rfl, q.fi 161 _ h rfl, q.fi 162 _ h rfl, q.fi 163 _ h rfl, q.fi 164 _ h rfl]
    exact C.px i x hx)⟩
theorem ShC.L {G : Nat → Option Nat} {M : Mem} {b : Nat} {g : SG} {S : Sh} {p : Bool} (C : ShC G M b g S p) : LnC M b S.H := ⟨C.lk, C.lco, C.llen, C.ldep, C.lhv, C.lor, C.hvk, C.hvco, C.hvln, C.hvv, C.odk, C.odco, C.odln⟩
def noX : Nat → Prop := fun _ => False
theorem ShC.fr0 {G : Nat → Option Nat} {n s : Nat} {M M' : Mem} {b : Nat} {g : SG} {S : Sh} {p : Bool} (C : ShC G M b g S p) (q : QC noX n s M M') : ShC G M' b g S p := C.fr q (fun h => h) (fun h => h) (fun _ _ h => h)
theorem QC.sdA {M : Mem} {a : Nat} {g : Nat → UInt64} : QC noX 0 0 M (sdA M a g) := ⟨⟨Nat.le_refl _, Nat.le_refl _⟩, ⟨Nat.le_refl _, Nat.le_refl _⟩, fun _ _ => rfl, fun _ _ => rfl, fun _ _ => rfl, fun _ _ _ _ => rfl, fun _ _ _ _ => rfl, fun _ _ _ _ => rfl, fun _ _ _ _ => rfl, fun _ _ _ => rfl⟩
theorem QC.sad {M : Mem} {a i : Nat} {v : UInt64} : QC noX 0 0 M (sad M a i v) := ⟨⟨Nat.le_refl _, Nat.le_refl _⟩, ⟨Nat.le_refl _, Nat.le_refl _⟩, fun _ _ => rfl, fun _ _ => rfl, fun _ _ => rfl, fun _ _ _ _ => rfl, fun _ _ _ _ => rfl, fun _ _ _ _ => rfl, fun _ _ _ _ => rfl, fun _ _ _ => rfl⟩
theorem QC.sfd {M : Mem} {f a : Nat} {v : UInt64} (h : scD f = true) : QC noX 0 0 M (sfd M f a v) := ⟨⟨Nat.le_refl _, Nat.le_refl _⟩, ⟨Nat.le_refl _, Nat.le_refl _⟩, fun _ _ => rfl, fun _ _ => rfl, fun _ _ => rfl, fun _ _ _ _ => rfl, fun _ _ _ _ => rfl, fun f' a' _ hf => by rw [mfd_sfd]; exact up2_ne1 (fun e => by rw [e, h] at hf; cases hf), fun _ _ _ _ => rfl, fun _ _ _ => rfl⟩
theorem QC.sfi {M : Mem} {f a : Nat} {v : Int32} (h : scI f = true) : QC noX 0 0 M (sfi M f a v) := ⟨⟨Nat.le_refl _, Nat.le_refl _⟩, ⟨Nat.le_refl _, Nat.le_refl _⟩, fun _ _ => rfl, fun _ _ => rfl, fun _ _ => rfl, fun f' a' _ hf => by rw [mfi_sfi]; exact up2_ne1 (fun e => by rw [e, h] at hf; cases hf), fun _ _ _ _ => rfl, fun _ _ _ _ => rfl, fun _ _ _ _ => rfl, fun _ _ _ => rfl⟩
theorem QC.sfr {M : Mem} {f a : Nat} {v : Option Nat} (h : scR f = true) : QC noX 0 0 M (sfr M f a v) := ⟨⟨Nat.le_refl _, Nat.le_refl _⟩, ⟨Nat.le_refl _, Nat.le_refl _⟩, fun _ _ => rfl, fun _ _ => rfl, fun _ _ => rfl, fun _ _ _ _ => rfl, fun f' a' _ hf => by rw [mfr_sfr]; exact up2_ne1 (fun e => by rw [e, h] at hf; cases hf), fun _ _ _ _ => rfl, fun _ _ _ _ => rfl, fun _ _ _ => rfl⟩
