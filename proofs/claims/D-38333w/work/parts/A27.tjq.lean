set_option maxRecDepth 4000
/-! ===== one job, by the reference ===== -/
section TJQ
variable {G : Nat → Option Nat} {m u : Nat} {g : SG} {S : Sh} {w : Nat}
/-- an array of nine that is being filled -/
abbrev NnT (M : Mem) (a n : Nat) (h : Nat → Nat) : Prop := (mcl M a = 100) ∧ (mco M a = 2) ∧ (mln M a = 9) ∧ (∀ i, i < n → mai M a i = nI (h i))
theorem NnT.k {M : Mem} {a n : Nat} {h : Nat → Nat} (self_ : NnT M a n h) : mcl M a = 100 := self_.1
theorem NnT.co {M : Mem} {a n : Nat} {h : Nat → Nat} (self_ : NnT M a n h) : mco M a = 2 := self_.2.1
theorem NnT.ln {M : Mem} {a n : Nat} {h : Nat → Nat} (self_ : NnT M a n h) : mln M a = 9 := self_.2.2.1
theorem NnT.v {M : Mem} {a n : Nat} {h : Nat → Nat} (self_ : NnT M a n h) : ∀ i, i < n → mai M a i = nI (h i) := self_.2.2.2
theorem NnT.add {M : Mem} {a n : Nat} {h : Nat → Nat} (A : NnT M a n h) {x : Nat} (hx : x = h n) : NnT (sai M a n (nI x)) a (n + 1) h :=
  ⟨by rw [mcl_sai]; exact A.k, by rw [mco_sai]; exact A.co, by rw [mln_sai]; exact A.ln, fun i hi => by
    rw [mai_sai, up2_if]
    by_cases e : i = n
    · rw [if_pos ⟨rfl, e⟩, e, hx]
    · rw [if_neg (fun h => e h.2)]; exact A.v i (by omega)⟩
theorem t429_t {M : Mem} (T : ShT G M m u g S w) (iS : SI S) (C : ConT G M) (CN : ConN G M) {j v : Nat} (hj : j < 24) (hv : v < 9) : ∃ M', (mka M 2 100 24 (fun a8 M9 => mka M9 2 100 24 (fun a10 M11 => vc1 M11 38 (some u) (fun a13 => cbV (ex G 2 709 0 [(0, vR (some a13)), (1, vR (some a8)), (2, vR (some a10))] [] M11) (fun M12 => mka M12 2 100 9 (fun a14 M15 => gR M15 38 230 (some u) (fun r_16 => ldI M15 100 r_16 (nI j) (fun v17 => stI M15 2 100 (some a14) 0 v17 (fun M18 => cbI (ex G 2 427 0 [(0, vI (nI j))] [] M18) (fun v20 M19 => stI M19 2 100 (some a14) 1 v20 (fun M21 => vc1 M21 38 (some u) (fun a23 => cbI (ex G 2 668 0 [(0, vR (some a23)), (1, vI (nI j))] [] M21) (fun v24 M22 => cbI (ex G 2 381 0 [(0, vI v24)] [] M22) (fun v26 M25 => stI M25 2 100 (some a14) 2 v26 (fun M27 => vc1 M27 38 (some u) (fun a29 => cbI (ex G 2 710 0 [(0, vR (some a29)), (1, vI (nI j))] [] M27) (fun v30 M28 => stI M28 2 100 (some a14) 3 v30 (fun M31 => ldI M31 100 (some a8) (nI j) (fun v32 => stI M31 2 100 (some a14) 4 v32 (fun M33 => ldI M33 100 (some a10) (nI j) (fun v34 => stI M33 2 100 (some a14) 5 v34 (fun M35 => ldI M35 100 (some a10) (nI j) (fun v36 => ldI M35 100 (some a8) (nI j) (fun v37 => stI M35 2 100 (some a14) 6 (aSub v36 v37) (fun M38 => gR M38 38 232 (some u) (fun r_39 => ldI M38 101 r_39 (nI j) (fun v40 => cbI (ex G 2 381 0 [(0, vI v40)] [] M38) (fun v42 M41 => stI M41 2 100 (some a14) 7 v42 (fun M43 => cbI (ex G 2 425 0 [(0, vI (nI j))] [] M43) (fun v45 M44 => stI M44 2 100 (some a14) 8 v45 (fun M46 => ldI M46 100 (some a14) (nI v) (fun v47 => rI v47 M46)))))))))))))))))))))))))))))))) = some (.inl (some (vI (nI (S.job j v)))), M') ∧ QC noX 3 57 M M' := by
  obtain ⟨M2, M3, hk, q2, e, q3, B1, B2, v1, v2⟩ := t_two T iS C CN
  have T2 := T.fr0 q2
  have T3 := T.fr0 q3
  have hl := iS.lf j
  obtain ⟨M4, hM4⟩ : ∃ M4, M4 = marr M3 2 100 9 := ⟨_, rfl⟩
  have q34 : QC noX 1 9 M3 M4 := by rw [hM4]; exact qc_marr
  have n4 : mnx M4 = mnx M3 + 1 := by rw [hM4, mnx_marr]
  obtain ⟨a, ha⟩ : ∃ a, a = mnx M3 := ⟨_, rfl⟩
  have hge : mnx M ≤ a := by have := q3.nx; omega
  have k4 : mcl M4 a = 100 := by rw [ha, hM4, mcl_marr]; exact up1_at9
  have o4 : mco M4 a = 2 := by rw [ha, hM4, mco_marr]; exact up1_at9
  have l4 : mln M4 a = 9 := by rw [ha, hM4, mln_marr]; exact up1_at9
  have q4 : QC noX 3 57 M M4 := q3.tr q34
  have A0 : NnT M4 a 0 (S.job j) := ⟨k4, o4, l4, fun i hi => absurd hi (Nat.not_lt_zero i)⟩
  have hb1 : mnx M < mnx M3 := Nat.lt_of_lt_of_le (Nat.lt_succ_self _) (by have := B2.lt; omega)
  have na1 : mnx M ≠ a := by omega
  have na2 : mnx M + 1 ≠ a := by have := B2.lt; omega
  have C1 := B1.fr q34
  have C2 := B2.fr q34
  have w1 : mai M4 (mnx M) j = nI (ea (jLn S.left) j) := (q34.ai _ _ B1.lt (fun h => h)).trans (v1 j hj)
  have w2 : mai M4 (mnx M + 1) j = nI (la (jLn S.left) j) := (q34.ai _ _ B2.lt (fun h => h)).trans (v2 j hj)
  have keep : ∀ {N : Mem} {i x y : Nat} {z : Int32}, mai N y x = z → y ≠ a → ∀ {t : Int32}, mai (sai N a i t) y x = z := by
    intro N i x y z h hne t
    rw [mai_sai, up2_if, if_neg (fun h9 => hne h9.1)]; exact h
  -- nine writes
  obtain ⟨N0, h0⟩ : ∃ N, N = sai M4 a 0 (nI (S.left j)) := ⟨_, rfl⟩
  have p0 : QC noX 3 57 M N0 := by rw [h0]; exact qc_nai q4 hge
  have A1 : NnT N0 a 1 (S.job j) := by rw [h0]; exact A0.add rfl
  obtain ⟨N1, h1⟩ : ∃ N, N = sai N0 a 1 (nI (jTr j)) := ⟨_, rfl⟩
  have p1 : QC noX 3 57 M N1 := by rw [h1]; exact qc_nai p0 hge
  have A2 : NnT N1 a 2 (S.job j) := by rw [h1]; exact A1.add rfl
  obtain ⟨N2, h2⟩ : ∃ N, N = sai N1 a 2 (nI (bN (S.left j == 0))) := ⟨_, rfl⟩
  have p2 : QC noX 3 57 M N2 := by rw [h2]; exact qc_nai p1 hge
  have A3 : NnT N2 a 3 (S.job j) := by rw [h2]; exact A2.add rfl
  obtain ⟨N3, h3⟩ : ∃ N, N = sai N2 a 3 (nI (jLn S.left j)) := ⟨_, rfl⟩
  have p3 : QC noX 3 57 M N3 := by rw [h3]; exact qc_nai p2 hge
  have A4 : NnT N3 a 4 (S.job j) := by rw [h3]; exact A3.add rfl
  obtain ⟨N4, h4⟩ : ∃ N, N = sai N3 a 4 (nI (ea (jLn S.left) j)) := ⟨_, rfl⟩
  have p4 : QC noX 3 57 M N4 := by rw [h4]; exact qc_nai p3 hge
  have A5 : NnT N4 a 5 (S.job j) := by rw [h4]; exact A4.add rfl
  obtain ⟨N5, h5⟩ : ∃ N, N = sai N4 a 5 (nI (la (jLn S.left) j)) := ⟨_, rfl⟩
  have p5 : QC noX 3 57 M N5 := by rw [h5]; exact qc_nai p4 hge
  have A6 : NnT N5 a 6 (S.job j) := by rw [h5]; exact A5.add rfl
  obtain ⟨N6, h6⟩ : ∃ N, N = sai N5 a 6 (nI (la (jLn S.left) j - ea (jLn S.left) j)) := ⟨_, rfl⟩
  have p6 : QC noX 3 57 M N6 := by rw [h6]; exact qc_nai p5 hge
  have A7 : NnT N6 a 7 (S.job j) := by rw [h6]; exact A6.add rfl
  obtain ⟨N7, h7⟩ : ∃ N, N = sai N6 a 7 (nI (bN (S.faulty j))) := ⟨_, rfl⟩
  have p7 : QC noX 3 57 M N7 := by rw [h7]; exact qc_nai p6 hge
  have A8 : NnT N7 a 8 (S.job j) := by rw [h7]; exact A7.add rfl
  obtain ⟨N8, h8⟩ : ∃ N, N = sai N7 a 8 (nI (jBs j)) := ⟨_, rfl⟩
  have p8 : QC noX 3 57 M N8 := by rw [h8]; exact qc_nai p7 hge
  have A9 : NnT N8 a 9 (S.job j) := by rw [h8]; exact A8.add rfl
  have T4 := T.fr0 q4
  have U1 := T.fr0 p1
  have U2 := T.fr0 p2
  have U6 := T.fr0 p6
  have E3 : TmT N3 (mnx M) := by rw [h3, h2, h1, h0]; exact C1.sai.sai.sai.sai
  have E4 : TmT N4 (mnx M + 1) := by rw [h4, h3, h2, h1, h0]; exact C2.sai.sai.sai.sai.sai
  have E5 : TmT N5 (mnx M + 1) := by rw [h5]; exact E4.sai
  have E5' : TmT N5 (mnx M) := by rw [h5, h4]; exact E3.sai.sai
  have x3 : mai N3 (mnx M) j = nI (ea (jLn S.left) j) := by rw [h3, h2, h1, h0]; exact keep (keep (keep (keep w1 na1) na1) na1) na1
  have y4 : mai N4 (mnx M + 1) j = nI (la (jLn S.left) j) := by rw [h4, h3, h2, h1, h0]; exact keep (keep (keep (keep (keep w2 na2) na2) na2) na2) na2
  have y5 : mai N5 (mnx M + 1) j = nI (la (jLn S.left) j) := by rw [h5]; exact keep y4 na2
  have x5 : mai N5 (mnx M) j = nI (ea (jLn S.left) j) := by rw [h5, h4]; exact keep (keep x3 na1) na1
  refine ⟨N8, ?_, p8⟩
  rw [hk, vc1_ok T2.ln.k, cbV_of e, show (9 : Int32) = nI 9 from rfl, mka_ok (by decide), ← hM4, ← ha, gR_v T4.ln.k T4.rLf, ldI_v T4.lfk T4.lfl hj (by decide) (T4.lfv j hj)]
  have s0 : ∀ {N : Mem} {n : Nat} {z : Int32} {t : Nat} {κ : Mem → Res}, NnT N a n (S.job j) → nI t = z → t < 9 → ∀ y, stI N 2 100 (some a) z y κ = κ (sai N a t y) := fun A hz ht y => by
    subst hz
    exact stI_ok A.k A.co A.ln ht (by decide)
  rw [s0 (t := 0) (z := 0) A0 rfl (by decide), ← h0, cbI_of (t427 hj), s0 (t := 1) (z := 1) A1 rfl (by decide), ← h1, vc1_ok U1.ln.k, cbI_of (t668 U1 hj (by omega)), cbI_of t381, bI_N, s0 (t := 2) (z := 2) A2 rfl (by decide), ← h2, vc1_ok U2.ln.k, cbI_of (t710 U2 iS hj), s0 (t := 3) (z := 3) A3 rfl (by decide), ← h3, ldI_v E3.k E3.ln hj (by decide) x3, s0 (t := 4) (z := 4) A4 rfl (by decide), ← h4, ldI_v E4.k E4.ln hj (by decide) y4, s0 (t := 5) (z := 5) A5 rfl (by decide), ← h5, ldI_v E5.k E5.ln hj (by decide) y5, ldI_v E5'.k E5'.ln hj (by decide) x5, aSub_n (la_ge hj), s0 (t := 6) (z := 6) A6 rfl (by decide), ← h6, gR_v U6.ln.k U6.rFa, ldI_v U6.fak U6.fal hj (by decide) (U6.fav j hj), cbI_of t381, bI_N, s0 (t := 7) (z := 7) A7 rfl (by decide), ← h7, cbI_of (t425 hj), s0 (t := 8) (z := 8) A8 rfl (by decide), ← h8, ldI_v A9.k A9.ln hv (by decide) (A9.v v hv)]
  rfl
end TJQ
