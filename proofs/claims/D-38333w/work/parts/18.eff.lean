/-! ===== what a method may write ===== -/
/-- by codes: 8 f an int field f, 8 f + 1 a long, 8 f + 2 a double, 8 f + 3 a reference; 4 arrays of ints (or booleans, bytes), 5 of doubles, 6 of references; 7: cells are made -/
def EffR (S : List Nat) (M M' : Mem) : Prop :=
  (∀ f, S.contains (8 * f) = false → mfi M' f = mfi M f) ∧ (∀ f, S.contains (8 * f + 1) = false → mfj M' f = mfj M f) ∧ (∀ f, S.contains (8 * f + 2) = false → mfd M' f = mfd M f) ∧ (∀ f, S.contains (8 * f + 3) = false → mfr M' f = mfr M f) ∧
  (S.contains 4 = false → mai M' = mai M) ∧ (S.contains 5 = false → mad M' = mad M) ∧ (S.contains 6 = false → mar M' = mar M) ∧ (S.contains 7 = false → mcl M' = mcl M ∧ mco M' = mco M ∧ mln M' = mln M ∧ mnx M' = mnx M ∧ msl M' = msl M)
theorem EffR.rf {S : List Nat} {M : Mem} : EffR S M M := ⟨fun _ _ => rfl, fun _ _ => rfl, fun _ _ => rfl, fun _ _ => rfl, fun _ => rfl, fun _ => rfl, fun _ => rfl, fun _ => ⟨rfl, rfl, rfl, rfl, rfl⟩⟩
theorem EffR.tr {S : List Nat} {M M1 M2 : Mem} (h : EffR S M M1) (h' : EffR S M1 M2) : EffR S M M2 := by
  obtain ⟨a1, a2, a3, a4, a5, a6, a7, a8⟩ := h
  obtain ⟨b1, b2, b3, b4, b5, b6, b7, b8⟩ := h'
  exact ⟨fun f h => (b1 f h).trans (a1 f h), fun f h => (b2 f h).trans (a2 f h), fun f h => (b3 f h).trans (a3 f h), fun f h => (b4 f h).trans (a4 f h), fun h => (b5 h).trans (a5 h), fun h => (b6 h).trans (a6 h), fun h => (b7 h).trans (a7 h),
    fun h => ⟨(b8 h).1.trans (a8 h).1, (b8 h).2.1.trans (a8 h).2.1, (b8 h).2.2.1.trans (a8 h).2.2.1, (b8 h).2.2.2.1.trans (a8 h).2.2.2.1, (b8 h).2.2.2.2.trans (a8 h).2.2.2.2⟩⟩
theorem EffR.mono {S S' : List Nat} {M M' : Mem} (h : EffR S M M') (hS : ∀ x, S.contains x = true → S'.contains x = true) : EffR S' M M' := by
  have q : ∀ x, S'.contains x = false → S.contains x = false := fun x hx => by
    cases h9 : S.contains x with
    | false => rfl
    | true => rw [hS x h9] at hx; cases hx
  obtain ⟨a1, a2, a3, a4, a5, a6, a7, a8⟩ := h
  exact ⟨fun f h => a1 f (q _ h), fun f h => a2 f (q _ h), fun f h => a3 f (q _ h), fun f h => a4 f (q _ h), fun h => a5 (q _ h), fun h => a6 (q _ h), fun h => a7 (q _ h), fun h => a8 (q _ h)⟩
theorem ctn_ff {a : Bool} (h : a = true) (h' : a = false) : False := by rw [h] at h'; cases h'
theorem up2_row {α : Type} {g : Nat → Nat → α} {x y p : Nat} {v : α} (h : p ≠ x) : up2 g x y v p = g p := funext fun _ => up2_ne1 h
theorem eff_sfi {S : List Nat} {M : Mem} {f a : Nat} {v : Int32} (h : S.contains (8 * f) = true) : EffR S M (sfi M f a v) := ⟨fun f hf => up2_row fun e => ctn_ff h (by rw [← e]; exact hf), fun _ _ => rfl, fun _ _ => rfl, fun _ _ => rfl, fun _ => rfl, fun _ => rfl, fun _ => rfl, fun _ => ⟨rfl, rfl, rfl, rfl, rfl⟩⟩
theorem eff_sfj {S : List Nat} {M : Mem} {f a : Nat} {v : Int64} (h : S.contains (8 * f + 1) = true) : EffR S M (sfj M f a v) := ⟨fun _ _ => rfl, fun f hf => up2_row fun e => ctn_ff h (by rw [← e]; exact hf), fun _ _ => rfl, fun _ _ => rfl, fun _ => rfl, fun _ => rfl, fun _ => rfl, fun _ => ⟨rfl, rfl, rfl, rfl, rfl⟩⟩
theorem eff_sfd {S : List Nat} {M : Mem} {f a : Nat} {v : UInt64} (h : S.contains (8 * f + 2) = true) : EffR S M (sfd M f a v) := ⟨fun _ _ => rfl, fun _ _ => rfl, fun f hf => up2_row fun e => ctn_ff h (by rw [← e]; exact hf), fun _ _ => rfl, fun _ => rfl, fun _ => rfl, fun _ => rfl, fun _ => ⟨rfl, rfl, rfl, rfl, rfl⟩⟩
theorem eff_sfr {S : List Nat} {M : Mem} {f a : Nat} {v : Option Nat} (h : S.contains (8 * f + 3) = true) : EffR S M (sfr M f a v) := ⟨fun _ _ => rfl, fun _ _ => rfl, fun _ _ => rfl, fun f hf => up2_row fun e => ctn_ff h (by rw [← e]; exact hf), fun _ => rfl, fun _ => rfl, fun _ => rfl, fun _ => ⟨rfl, rfl, rfl, rfl, rfl⟩⟩
theorem eff_sai {S : List Nat} {M : Mem} {a j : Nat} {v : Int32} (h : S.contains 4 = true) : EffR S M (sai M a j v) := ⟨fun _ _ => rfl, fun _ _ => rfl, fun _ _ => rfl, fun _ _ => rfl, fun hf => (ctn_ff h hf).elim, fun _ => rfl, fun _ => rfl, fun _ => ⟨rfl, rfl, rfl, rfl, rfl⟩⟩
theorem eff_sad {S : List Nat} {M : Mem} {a j : Nat} {v : UInt64} (h : S.contains 5 = true) : EffR S M (sad M a j v) := ⟨fun _ _ => rfl, fun _ _ => rfl, fun _ _ => rfl, fun _ _ => rfl, fun _ => rfl, fun hf => (ctn_ff h hf).elim, fun _ => rfl, fun _ => ⟨rfl, rfl, rfl, rfl, rfl⟩⟩
theorem eff_sar {S : List Nat} {M : Mem} {a j : Nat} {v : Option Nat} (h : S.contains 6 = true) : EffR S M (sar M a j v) := ⟨fun _ _ => rfl, fun _ _ => rfl, fun _ _ => rfl, fun _ _ => rfl, fun _ => rfl, fun _ => rfl, fun hf => (ctn_ff h hf).elim, fun _ => ⟨rfl, rfl, rfl, rfl, rfl⟩⟩
theorem eff_cpI {S : List Nat} {M : Mem} {a p b q n : Nat} (h : S.contains 4 = true) : EffR S M (cpI M a p b q n) := ⟨fun _ _ => rfl, fun _ _ => rfl, fun _ _ => rfl, fun _ _ => rfl, fun hf => (ctn_ff h hf).elim, fun _ => rfl, fun _ => rfl, fun _ => ⟨rfl, rfl, rfl, rfl, rfl⟩⟩
theorem eff_cpR {S : List Nat} {M : Mem} {a p b q n : Nat} (h : S.contains 6 = true) : EffR S M (cpR M a p b q n) := ⟨fun _ _ => rfl, fun _ _ => rfl, fun _ _ => rfl, fun _ _ => rfl, fun _ => rfl, fun _ => rfl, fun hf => (ctn_ff h hf).elim, fun _ => ⟨rfl, rfl, rfl, rfl, rfl⟩⟩
theorem eff_mnew {S : List Nat} {M : Mem} {c k n : Nat} (h : S.contains 7 = true) : EffR S M (mnew M c k n) := ⟨fun _ _ => rfl, fun _ _ => rfl, fun _ _ => rfl, fun _ _ => rfl, fun _ => rfl, fun _ => rfl, fun _ => rfl, fun hf => (ctn_ff h hf).elim⟩
theorem eff_marr {S : List Nat} {M : Mem} {c k n : Nat} (h : S.contains 7 = true) : EffR S M (marr M c k n) := ⟨fun _ _ => rfl, fun _ _ => rfl, fun _ _ => rfl, fun _ _ => rfl, fun _ => rfl, fun _ => rfl, fun _ => rfl, fun hf => (ctn_ff h hf).elim⟩
theorem eff_mth {S : List Nat} {M : Mem} {j n : Nat} (h : S.contains 7 = true) : EffR S M (mth M j n) := ⟨fun _ _ => rfl, fun _ _ => rfl, fun _ _ => rfl, fun _ _ => rfl, fun _ => rfl, fun _ => rfl, fun _ => rfl, fun hf => (ctn_ff h hf).elim⟩
/-- what an entry writes itself; whom it calls -/
def dirE (e : Ent) : List Nat := match e with
  | (_, _, cat, _, r, _) => match cat with
    | 7 => (match r with | 0 :: _ :: f :: _ => [8 * f] | 1 :: _ :: f :: _ => [8 * f + 1] | 2 :: _ :: f :: _ => [8 * f + 2] | 3 :: _ :: f :: _ => [8 * f + 3] | 4 :: _ :: f :: _ => [8 * f] | 5 :: _ :: f :: _ => [8 * f] | _ => [])
    | 9 => (match r with | 0 :: _ => [4] | 2 :: _ => [5] | 3 :: _ => [6] | 4 :: _ => [4] | 5 :: _ => [4] | _ => [])
    | 11 => [7]
    | 12 => [7]
    | 21 => [7]
    | 24 => [7]
    | 25 => [7]
    | 26 => (match r with | 0 :: _ => [4] | 3 :: _ => [6] | _ => [])
    | 33 => [7, 4]
    | _ => []
def odd_ : List Nat → List Nat
  | _ :: b :: t => b :: odd_ t
  | _ => []
theorem odd_at : ∀ {ts : List Nat} {i m : Nat}, ts[2 * i + 1]? = some m → m ∈ odd_ ts
  | [], _, _, h => absurd h (by simp)
  | [_], _, _, h => absurd h (by simp)
  | _ :: b :: t, 0, m, h => by simp at h; subst h; exact List.mem_cons_self
  | _ :: b :: t, i + 1, m, h => List.mem_cons_of_mem _ (odd_at (ts := t) (i := i) (by rw [show 2 * (i + 1) + 1 = 2 * i + 1 + 1 + 1 by omega] at h; simpa using h))
def calE (e : Ent) : List Nat := match e with
  | (_, _, cat, _, r, _) => match cat with
    | 18 => (match r with | _ :: _ :: _ :: m :: _ => [m] | _ => [])
    | 39 => (match r with | _ :: _ :: _ :: m :: _ => [m] | _ => [])
    | 19 => (match r with | _ :: _ :: _ :: _ :: m :: _ => [m] | _ => [])
    | 34 => (match r with | _ :: _ :: _ :: _ :: m :: _ => [m] | _ => [])
    | 36 => (match r with | _ :: _ :: _ :: _ :: m :: _ => [m] | _ => [])
    | 23 => (match r with | _ :: _ :: _ :: m :: _ => [m] | _ => [])
    | 37 => (match r with | _ :: _ :: _ :: m :: _ => [m] | _ => [])
    | 31 => (match r with | _ :: _ :: _ :: ts => odd_ ts | _ => [])
    | 35 => (match r with | _ :: _ :: _ :: ts => odd_ ts | _ => [])
    | _ => []
theorem stp_eff {S : List Nat} {G : Nat → Option Nat} {c : Nat} {o : Orc} {g : Nat → Go_} {k : Go_} {e : Ent} (hS : ∀ x ∈ dirE e, S.contains x = true) (ho : ∀ m ∈ calE e, ∀ c L1 M1 y, o c m 0 L1 [] M1 = some y → EffR S M1 y.2) (hg : ∀ b L s M r, g b L s M = some r → EffR S M r.2) (hk : ∀ L s M r, k L s M = some r → EffR S M r.2)
    {L : Loc_} {st : List AV} {M : Mem} {r : Out × Mem} (h : stp G o c g k e L st M = some r) : EffR S M r.2 := by
  obtain ⟨pc, len, cat, i, r0, cn⟩ := e
  match cat, h, hS, ho with
  | 0, h, hS, ho =>
    change sp0 k i cn L st M = some r at h
    unfold sp0 at h
    split at h
    · exact hk _ _ _ _ h
    · exact absurd h (by simp)
  | 1, h, hS, ho =>
    change sp1 k i L st M = some r at h
    unfold sp1 at h
    split at h
    · exact hk _ _ _ _ (iv_fD h).2
    · exact absurd h (by simp)
  | 2, h, hS, ho =>
    change sp2 k i L st M = some r at h
    unfold sp2 at h
    split at h
    · exact hk _ _ _ _ (iv_dvI h).2
    · exact absurd h (by simp)
  | 3, h, hS, ho =>
    change sp3 g i r0 L st M = some r at h
    unfold sp3 at h
    split at h
    · rcases ct_bop h with ⟨s, h1, h2⟩ | ⟨s, h1, h2⟩
      · exact hg _ _ _ _ _ h1
      · exact hg _ _ _ _ _ h1
    · exact absurd h (by simp)
  | 4, h, hS, ho =>
    change sp4 g r0 L st M = some r at h
    unfold sp4 at h
    split at h
    · exact hg _ _ _ _ _ h
    · exact absurd h (by simp)
  | 5, h, hS, ho =>
    change sp5 g r0 L st M = some r at h
    unfold sp5 at h
    split at h
    · obtain ⟨a, h1, h2⟩ := ct_swk h
      exact hg _ _ _ _ _ h1
    · exact absurd h (by simp)
  | 6, h, hS, ho =>
    change sp6 k r0 L st M = some r at h
    unfold sp6 at h
    split at h
    · obtain ⟨a, -, q, h1⟩ := iv_gI h
      exact hk _ _ _ _ h1
    · obtain ⟨a, -, q, h1⟩ := iv_gJ h
      exact hk _ _ _ _ h1
    · obtain ⟨a, -, q, h1⟩ := iv_gD h
      exact hk _ _ _ _ h1
    · obtain ⟨a, -, q, h1⟩ := iv_gR h
      exact hk _ _ _ _ h1
    · exact absurd h (by simp)
  | 7, h, hS, ho =>
    change sp7 c k r0 L st M = some r at h
    unfold sp7 at h
    split at h
    · obtain ⟨a, -, q, h1⟩ := iv_pI h
      exact EffR.tr (eff_sfi (hS _ List.mem_cons_self)) (hk _ _ _ _ h1)
    · obtain ⟨a, -, q, h1⟩ := iv_pJ h
      exact EffR.tr (eff_sfj (hS _ List.mem_cons_self)) (hk _ _ _ _ h1)
    · obtain ⟨a, -, q, h1⟩ := iv_pD h
      exact EffR.tr (eff_sfd (hS _ List.mem_cons_self)) (hk _ _ _ _ h1)
    · obtain ⟨a, -, q, h1⟩ := iv_pR h
      exact EffR.tr (eff_sfr (hS _ List.mem_cons_self)) (hk _ _ _ _ h1)
    · obtain ⟨a, -, q, h1⟩ := iv_pZ h
      exact EffR.tr (eff_sfi (hS _ List.mem_cons_self)) (hk _ _ _ _ h1)
    · obtain ⟨a, -, q, h1⟩ := iv_pB h
      exact EffR.tr (eff_sfi (hS _ List.mem_cons_self)) (hk _ _ _ _ h1)
    · exact absurd h (by simp)
  | 8, h, hS, ho =>
    change sp8 k r0 L st M = some r at h
    unfold sp8 at h
    split at h
    · obtain ⟨a, -, q, h1⟩ := iv_ldI h
      exact hk _ _ _ _ h1
    · obtain ⟨a, -, q, h1⟩ := iv_ldD h
      exact hk _ _ _ _ h1
    · obtain ⟨a, -, q, h1⟩ := iv_ldR h
      exact hk _ _ _ _ h1
    · exact absurd h (by simp)
  | 9, h, hS, ho =>
    change sp9 c k r0 L st M = some r at h
    unfold sp9 at h
    split at h
    · obtain ⟨a, -, q, h1⟩ := iv_stI h
      exact EffR.tr (eff_sai (hS _ List.mem_cons_self)) (hk _ _ _ _ h1)
    · obtain ⟨a, -, q, h1⟩ := iv_stD h
      exact EffR.tr (eff_sad (hS _ List.mem_cons_self)) (hk _ _ _ _ h1)
    · obtain ⟨a, -, q, h1⟩ := iv_stR h
      exact EffR.tr (eff_sar (hS _ List.mem_cons_self)) (hk _ _ _ _ h1)
    · obtain ⟨a, -, q, h1⟩ := iv_stI h
      exact EffR.tr (eff_sai (hS _ List.mem_cons_self)) (hk _ _ _ _ h1)
    · obtain ⟨a, -, q, h1⟩ := iv_stI h
      exact EffR.tr (eff_sai (hS _ List.mem_cons_self)) (hk _ _ _ _ h1)
    · exact absurd h (by simp)
  | 10, h, hS, ho =>
    change sp10 k r0 L st M = some r at h
    unfold sp10 at h
    split at h
    · obtain ⟨a, -, q, h1⟩ := iv_alen h
      exact hk _ _ _ _ h1
    · exact absurd h (by simp)
  | 11, h, hS, ho =>
    change sp11 c k r0 L st M = some r at h
    unfold sp11 at h
    split at h
    · exact EffR.tr (eff_mnew (hS _ List.mem_cons_self)) (hk _ _ _ _ h)
    · exact absurd h (by simp)
  | 12, h, hS, ho =>
    change sp12 c k r0 L st M = some r at h
    unfold sp12 at h
    split at h
    · exact EffR.tr (eff_marr (hS _ List.mem_cons_self)) (hk _ _ _ _ (iv_mka h).2)
    · exact absurd h (by simp)
  | 13, h, hS, ho =>
    change sp13 G k r0 L st M = some r at h
    unfold sp13 at h
    split at h
    · exact hk _ _ _ _ h
    · exact absurd h (by simp)
  | 14, h, hS, ho =>
    change sp14 k cn L st M = some r at h
    unfold sp14 at h
    exact hk _ _ _ _ h
  | 15, h, hS, ho =>
    change sp15 k r0 L st M = some r at h
    unfold sp15 at h
    split at h
    · exact hk _ _ _ _ h
    · exact absurd h (by simp)
  | 16, h, hS, ho =>
    change sp16 k r0 L st M = some r at h
    unfold sp16 at h
    split at h
    · exact hk _ _ _ _ h
    · exact absurd h (by simp)
  | 17, h, hS, ho =>
    change sp17 k r0 L st M = some r at h
    unfold sp17 at h
    split at h
    · exact hk _ _ _ _ (iv_cst h).2
    · exact absurd h (by simp)
  | 18, h, hS, ho =>
    change sp18 o c k r0 L st M = some r at h
    unfold sp18 at h
    split at h
    · split at h
      · split at h
        · rcases iv_cbk h with ⟨v, M1, -, h2, h3⟩ | ⟨E, h2, -⟩
          · exact EffR.tr (ho _ List.mem_cons_self _ _ _ _ h2) (hk _ _ _ _ h3)
          · exact ho _ List.mem_cons_self _ _ _ (.inr E, r.2) h2
        · exact absurd h (by simp)
      · exact absurd h (by simp)
    · exact absurd h (by simp)
  | 19, h, hS, ho =>
    change sp19 o c k r0 L st M = some r at h
    unfold sp19 at h
    split at h
    · split at h
      · split at h
        · obtain ⟨a, -, -, h1⟩ := iv_vc1 h
          rcases iv_cbk h1 with ⟨v, M1, -, h2, h3⟩ | ⟨E, h2, -⟩
          · exact EffR.tr (ho _ List.mem_cons_self _ _ _ _ h2) (hk _ _ _ _ h3)
          · exact ho _ List.mem_cons_self _ _ _ (.inr E, r.2) h2
        · exact absurd h (by simp)
      · exact absurd h (by simp)
    · exact absurd h (by simp)
  | 20, h, hS, ho =>
    change sp20 r0 st M = some r at h
    unfold sp20 at h
    split at h
    · unfold rI at h; cases h; exact EffR.rf
    · unfold rJ at h; cases h; exact EffR.rf
    · unfold rD at h; split at h
      · cases h; exact EffR.rf
      · exact absurd h (by simp)
    · unfold rR at h; cases h; exact EffR.rf
    · unfold rZ at h; split at h
      · cases h; exact EffR.rf
      · exact absurd h (by simp)
    · unfold rB at h; split at h
      · cases h; exact EffR.rf
      · exact absurd h (by simp)
    · unfold rC at h; split at h
      · cases h; exact EffR.rf
      · exact absurd h (by simp)
    · unfold rV at h; cases h; exact EffR.rf
    · exact absurd h (by simp)
  | 21, h, hS, ho =>
    change sp21 r0 st M = some r at h
    unfold sp21 at h
    split at h
    · have h := (iv_stk h).2
      unfold rX at h; cases h; exact (eff_mth (hS _ List.mem_cons_self))
    · exact absurd h (by simp)
  | 22, h, hS, ho =>
    change sp22 k L st M = some r at h
    unfold sp22 at h
    split at h
    · obtain ⟨a, -, h1⟩ := iv_nn (iv_stk h).2
      exact hk _ _ _ _ h1
    · exact absurd h (by simp)
  | 23, h, hS, ho =>
    change sp23 o c g k r0 L st M = some r at h
    unfold sp23 at h
    split at h
    · split at h
      · split at h
        · next q =>
          obtain ⟨a, -, -, h1⟩ := iv_vc1 h
          simp only [Bool.and_eq_true] at q
          have hc3 : c = 3 := Nat.eq_of_beq_eq_true q.1
          have hc2 : _ ≠ 0 := Nat.ne_of_gt (Nat.le_of_ble_eq_true q.2.1)
          rcases iv_ctH (by unfold cbk; split <;> rfl) h1 with ⟨E, M1, h2, h3⟩ | ⟨v, M1, h2, h3⟩
          · obtain ⟨i, b, -, -, -, h4⟩ := iv_hsel h3
            exact EffR.tr (ho _ List.mem_cons_self _ _ _ _ h2) (hg _ _ _ _ _ h4)
          · rcases iv_cbk h3 with ⟨w, M2, -, h4, h5⟩ | ⟨E, h4, -⟩
            · cases h4
              exact EffR.tr (ho _ List.mem_cons_self _ _ _ _ h2) (hk _ _ _ _ h5)
            · cases h4
        · exact absurd h (by simp)
      · exact absurd h (by simp)
    · exact absurd h (by simp)
  | 24, h, hS, ho =>
    change sp24 c k r0 L st M = some r at h
    unfold sp24 at h
    split at h
    · split at h
      · exact EffR.tr (eff_mnew (hS _ List.mem_cons_self)) (hk _ _ _ _ h)
      · exact absurd h (by simp)
    · exact absurd h (by simp)
  | 25, h, hS, ho =>
    change sp25 c g r0 L st M = some r at h
    unfold sp25 at h
    split at h
    · obtain ⟨a, -, -, h1⟩ := iv_vc2 (iv_stk h).2
      exact EffR.tr (eff_mth (hS _ List.mem_cons_self)) (hg _ _ _ _ _ h1)
    · exact absurd h (by simp)
  | 26, h, hS, ho =>
    change sp26 c k r0 L st M = some r at h
    unfold sp26 at h
    split at h
    · obtain ⟨a, b, -, -, q, h1⟩ := iv_acI (iv_stk h).2
      exact EffR.tr (eff_cpI (hS _ List.mem_cons_self)) (hk _ _ _ _ h1)
    · obtain ⟨a, b, -, -, q, h1⟩ := iv_acR (iv_stk h).2
      exact EffR.tr (eff_cpR (hS _ List.mem_cons_self)) (hk _ _ _ _ h1)
    · exact absurd h (by simp)
  | 27, h, hS, ho =>
    change sp27 k L st M = some r at h
    unfold sp27 at h
    split at h
    · exact hk _ _ _ _ (iv_fD (iv_stk h).2).2
    · exact absurd h (by simp)
  | 28, h, hS, ho =>
    change sp28 k L st M = some r at h
    unfold sp28 at h
    split at h
    · exact hk _ _ _ _ (iv_fD (iv_stk h).2).2
    · exact absurd h (by simp)
  | 29, h, hS, ho =>
    change sp29 G c k r0 L st M = some r at h
    unfold sp29 at h
    split at h
    · obtain ⟨a, -, -, h1⟩ := iv_vc2 (iv_stk h).2
      exact hk _ _ _ _ h1
    · exact absurd h (by simp)
  | 30, h, hS, ho =>
    change sp30 k i cn L st M = some r at h
    unfold sp30 at h
    split at h
    · unfold nmI at h
      dsimp only at h
      split at h
      · exact hk _ _ _ _ h
      · exact absurd h (by simp)
    · exact absurd h (by simp)
  | 31, h, hS, ho =>
    change sp38 G o c k r0 L st M = some r at h
    unfold sp38 at h
    split at h
    · split at h
      · split at h
        · obtain ⟨a, -, h1⟩ := iv_nn h
          obtain ⟨i, g9, m, -, hm9, -, h2⟩ := iv_dsg h1
          obtain ⟨v, M1, -, h3, h4⟩ := iv_dbk h2
          exact EffR.tr (ho _ (odd_at hm9) _ _ _ _ h3) (hk _ _ _ _ h4)
        · exact absurd h (by simp)
      · exact absurd h (by simp)
    · exact absurd h (by simp)
  | 32, h, hS, ho =>
    change sp32 k r0 L st M = some r at h
    unfold sp32 at h
    split at h
    · obtain ⟨a, -, -, h1⟩ := iv_ino h
      exact hk _ _ _ _ h1
    · exact absurd h (by simp)
  | 33, h, hS, ho =>
    change sp33 c k r0 L st M = some r at h
    unfold sp33 at h
    split at h
    · obtain ⟨a, -, -, h1⟩ := iv_cln (iv_stk h).2
      exact EffR.tr (EffR.tr (eff_marr (hS _ List.mem_cons_self)) (eff_cpI (hS _ (List.mem_cons_of_mem _ List.mem_cons_self)))) (hk _ _ _ _ h1)
    · exact absurd h (by simp)
  | 34, h, hS, ho =>
    change sp34 o c k r0 L st M = some r at h
    unfold sp34 at h
    split at h
    · split at h
      · split at h
        · obtain ⟨a, -, -, h1⟩ := iv_vc1 h
          obtain ⟨v, M1, -, h2, h3⟩ := iv_dbk h1
          exact EffR.tr (ho _ List.mem_cons_self _ _ _ _ h2) (hk _ _ _ _ h3)
        · exact absurd h (by simp)
      · exact absurd h (by simp)
    · exact absurd h (by simp)
  | 35, h, hS, ho =>
    change sp31 o c k r0 L st M = some r at h
    unfold sp31 at h
    split at h
    · split at h
      · split at h
        · obtain ⟨a, -, h1⟩ := iv_nn h
          obtain ⟨i, m, -, hm9, h2⟩ := iv_dsp h1
          obtain ⟨v, M1, -, h3, h4⟩ := iv_dbk h2
          exact EffR.tr (ho _ (odd_at hm9) _ _ _ _ h3) (hk _ _ _ _ h4)
        · exact absurd h (by simp)
      · exact absurd h (by simp)
    · exact absurd h (by simp)
  | 36, h, hS, ho =>
    change sp36 o c k r0 L st M = some r at h
    unfold sp36 at h
    split at h
    · split at h
      · split at h
        · obtain ⟨a, -, -, h1⟩ := iv_vc1 h
          obtain ⟨v, M1, -, h2, h3⟩ := iv_dbk h1
          exact EffR.tr (ho _ List.mem_cons_self _ _ _ _ h2) (hk _ _ _ _ h3)
        · exact absurd h (by simp)
      · exact absurd h (by simp)
    · exact absurd h (by simp)
  | 37, h, hS, ho =>
    change sp37 o c k r0 L st M = some r at h
    unfold sp37 at h
    split at h
    · split at h
      · split at h
        · next q =>
          obtain ⟨a, -, -, h1⟩ := iv_vc1 h
          simp only [Bool.and_eq_true] at q
          have hc3 : c = 3 := Nat.eq_of_beq_eq_true q.1
          have hc2 : _ ≠ 0 := Nat.ne_of_gt (Nat.le_of_ble_eq_true q.2.1)
          obtain ⟨v, M1, -, h2, h3⟩ := iv_dbk h1
          exact EffR.tr (ho _ List.mem_cons_self _ _ _ _ h2) (hk _ _ _ _ h3)
        · exact absurd h (by simp)
      · exact absurd h (by simp)
    · exact absurd h (by simp)
  | 38, h, hS, ho =>
    change sp39 k r0 L st M = some r at h
    unfold sp39 at h
    split at h
    · exact hk _ _ _ _ (iv_fD (iv_stk h).2).2
    · exact hk _ _ _ _ (iv_fD (iv_fD (iv_stk h).2).2).2
    · exact hk _ _ _ _ (iv_fD (iv_fD (iv_stk h).2).2).2
    · exact absurd h (by simp)
  | 39, h, hS, ho =>
    change sp40 o c k r0 L st M = some r at h
    unfold sp40 at h
    split at h
    · split at h
      · split at h
        · obtain ⟨v, M1, -, h2, h3⟩ := iv_dbk h
          exact EffR.tr (ho _ List.mem_cons_self _ _ _ _ h2) (hk _ _ _ _ h3)
        · exact absurd h (by simp)
      · exact absurd h (by simp)
    · exact absurd h (by simp)
  | n + 40, h, _, _ => exact absurd h (by simp [stp])
theorem exE_eff {S : List Nat} {G : Nat → Option Nat} {c : Nat} {o : Orc} {g : Nat → Go_} (hg : ∀ b L s M r, g b L s M = some r → EffR S M r.2) : ∀ (es : List Ent), (∀ e ∈ es, (∀ x ∈ dirE e, S.contains x = true) ∧ ∀ m ∈ calE e, ∀ c L1 M1 y, o c m 0 L1 [] M1 = some y → EffR S M1 y.2) → ∀ (L : Loc_) (st : List AV) (M : Mem) (r : Out × Mem), exE G o c g es L st M = some r → EffR S M r.2
  | [], _, _, _, _, _, h => absurd h (by simp [exE])
  | e :: rest, hs, L, st, M, r, h => stp_eff (hs e List.mem_cons_self).1 (hs e List.mem_cons_self).2 hg (exE_eff hg rest fun x hx => hs x (List.mem_cons_of_mem _ hx)) (show stp G o c g (exE G o c g rest) e L st M = some r from h)
theorem nth_mem {α : Type} : ∀ {l : List α} {n : Nat} {a : α}, nth l n = some a → a ∈ l
  | [], _, _, h => absurd h (by simp [nth])
  | x :: t, 0, a, h => by cases h; exact List.mem_cons_self
  | x :: t, n + 1, a, h => List.mem_cons_of_mem _ (nth_mem (show nth t n = some a from h))
theorem blkAt_mem {code : Code_} {b : Nat} {blk : Blk} (h : blkAt code b = some blk) : ∀ e ∈ blk.2, e ∈ flat code := by
  unfold blkAt at h
  split at h
  · next ch e1 => exact fun e he => List.mem_flatMap.mpr ⟨ch, nth_mem e1, List.mem_flatMap.mpr ⟨blk, nth_mem h, he⟩⟩
  · cases h
theorem exB_eff {S : List Nat} {G : Nat → Option Nat} {c m : Nat} {code : Code_} {o : Orc} (ho : ∀ b L st M r, o c m b L st M = some r → EffR S M r.2) (hs : ∀ e ∈ flat code, (∀ x ∈ dirE e, S.contains x = true) ∧ ∀ m ∈ calE e, ∀ c L1 M1 y, o c m 0 L1 [] M1 = some y → EffR S M1 y.2) : ∀ (K b : Nat) (L : Loc_) (st : List AV) (M : Mem) (r : Out × Mem), exB G o c m code K b L st M = some r → EffR S M r.2
  | 0, _, _, _, _, _, h => absurd h (by simp [exB])
  | K + 1, b, L, st, M, r, h => by
    unfold exB at h
    split at h
    · next ks es e1 =>
      refine exE_eff ?_ es (fun e he => hs e (blkAt_mem e1 e he)) _ _ _ _ h
      intro b L s M r h
      unfold goH at h
      split at h
      · exact exB_eff ho hs K _ _ _ _ _ h
      · split at h
        · exact ho _ _ _ _ _ h
        · exact absurd h (by simp)
      · exact absurd h (by simp)
    · exact absurd h (by simp)
/-- the check of one method against the table -/
def effOK (eff : Nat → List Nat) (code : Code_) (S : List Nat) : Bool := (flat code).all fun e => (dirE e).all (fun x => S.contains x) && (calE e).all (fun m => (eff m).all (fun x => S.contains x))
theorem run_eff {G : Nat → Option Nat} {prg : Nat → Code_} {eff : Nat → List Nat} (hok : ∀ m, effOK eff (prg m) (eff m) = true) : ∀ (n c m b : Nat) (L : Loc_) (st : List AV) (M : Mem) (r : Out × Mem), run G prg n c m b L st M = some r → EffR (eff m) M r.2
  | 0, _, _, _, _, _, _, _, h => absurd h (by simp [run])
  | n + 1, c, m, b, L, st, M, r, h => by
    refine exB_eff (fun b L st M r h => run_eff hok n c m b L st M r h) (fun e he => ?_) 400 b L st M r h
    have h1 := List.all_eq_true.mp (hok m) e he
    simp only [Bool.and_eq_true] at h1
    refine ⟨fun x hx => List.all_eq_true.mp h1.1 x hx, fun m' hm' c' L1 M1 y hy => (run_eff hok n c' m' 0 L1 [] M1 y hy).mono fun x hx => ?_⟩
    exact List.all_eq_true.mp (List.all_eq_true.mp h1.2 m' hm') x (List.contains_iff_mem.mp hx)
theorem ev_eff {G : Nat → Option Nat} {prg : Nat → Code_} {eff : Nat → List Nat} (hok : ∀ m, effOK eff (prg m) (eff m) = true) {c m b : Nat} {L : Loc_} {st : List AV} {M : Mem} {r : Out × Mem} (h : ev G prg c m b L st M = some r) : EffR (eff m) M r.2 := by
  obtain ⟨n, hn⟩ := (ev_some G prg).mp h
  exact run_eff hok n c m b L st M r hn
