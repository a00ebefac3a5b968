/-! what each step says when it succeeds; and that memory only grows, and only cells of the running colour are written -/
section INV
variable {r : Out × Mem} {M : Mem}
theorem iv_gI {k f : Nat} {o : Option Nat} {κ : Int32 → Res} (h : gI M k f o κ = some r) : ∃ a, o = some a ∧ mcl M a = k ∧ κ (mfi M f a) = some r := by
  unfold gI at h
  cases o with
  | none => exact absurd h (by simp)
  | some a =>
    dsimp only at h
    split at h
    · next q => exact ⟨a, rfl, q, h⟩
    · exact absurd h (by simp)
theorem iv_gJ {k f : Nat} {o : Option Nat} {κ : Int64 → Res} (h : gJ M k f o κ = some r) : ∃ a, o = some a ∧ mcl M a = k ∧ κ (mfj M f a) = some r := by
  unfold gJ at h
  cases o with
  | none => exact absurd h (by simp)
  | some a =>
    dsimp only at h
    split at h
    · next q => exact ⟨a, rfl, q, h⟩
    · exact absurd h (by simp)
theorem iv_gD {k f : Nat} {o : Option Nat} {κ : UInt64 → Res} (h : gD M k f o κ = some r) : ∃ a, o = some a ∧ mcl M a = k ∧ κ (mfd M f a) = some r := by
  unfold gD at h
  cases o with
  | none => exact absurd h (by simp)
  | some a =>
    dsimp only at h
    split at h
    · next q => exact ⟨a, rfl, q, h⟩
    · exact absurd h (by simp)
theorem iv_gR {k f : Nat} {o : Option Nat} {κ : Option Nat → Res} (h : gR M k f o κ = some r) : ∃ a, o = some a ∧ mcl M a = k ∧ κ (mfr M f a) = some r := by
  unfold gR at h
  cases o with
  | none => exact absurd h (by simp)
  | some a =>
    dsimp only at h
    split at h
    · next q => exact ⟨a, rfl, q, h⟩
    · exact absurd h (by simp)
theorem iv_pI {c k f : Nat} {o : Option Nat} {w : Int32} {κ : Mem → Res} (h : pI M c k f o w κ = some r) : ∃ a, o = some a ∧ (mcl M a = k ∧ mco M a = c) ∧ κ (sfi M f a w) = some r := by
  unfold pI at h
  cases o with
  | none => exact absurd h (by simp)
  | some a =>
    dsimp only at h
    split at h
    · next q => exact ⟨a, rfl, q, h⟩
    · exact absurd h (by simp)
theorem iv_pJ {c k f : Nat} {o : Option Nat} {w : Int64} {κ : Mem → Res} (h : pJ M c k f o w κ = some r) : ∃ a, o = some a ∧ (mcl M a = k ∧ mco M a = c) ∧ κ (sfj M f a w) = some r := by
  unfold pJ at h
  cases o with
  | none => exact absurd h (by simp)
  | some a =>
    dsimp only at h
    split at h
    · next q => exact ⟨a, rfl, q, h⟩
    · exact absurd h (by simp)
theorem iv_pD {c k f : Nat} {o : Option Nat} {w : UInt64} {κ : Mem → Res} (h : pD M c k f o w κ = some r) : ∃ a, o = some a ∧ (mcl M a = k ∧ mco M a = c) ∧ κ (sfd M f a w) = some r := by
  unfold pD at h
  cases o with
  | none => exact absurd h (by simp)
  | some a =>
    dsimp only at h
    split at h
    · next q => exact ⟨a, rfl, q, h⟩
    · exact absurd h (by simp)
theorem iv_pR {c k f : Nat} {o : Option Nat} {w : Option Nat} {κ : Mem → Res} (h : pR M c k f o w κ = some r) : ∃ a, o = some a ∧ (mcl M a = k ∧ mco M a = c) ∧ κ (sfr M f a w) = some r := by
  unfold pR at h
  cases o with
  | none => exact absurd h (by simp)
  | some a =>
    dsimp only at h
    split at h
    · next q => exact ⟨a, rfl, q, h⟩
    · exact absurd h (by simp)
theorem iv_pZ {c k f : Nat} {o : Option Nat} {w : Int32} {κ : Mem → Res} (h : pZ M c k f o w κ = some r) : ∃ a, o = some a ∧ (mcl M a = k ∧ mco M a = c ∧ w &&& 1 = w) ∧ κ (sfi M f a w) = some r := by
  unfold pZ at h
  cases o with
  | none => exact absurd h (by simp)
  | some a =>
    dsimp only at h
    split at h
    · next q => exact ⟨a, rfl, q, h⟩
    · exact absurd h (by simp)
theorem iv_pB {c k f : Nat} {o : Option Nat} {w : Int32} {κ : Mem → Res} (h : pB M c k f o w κ = some r) : ∃ a, o = some a ∧ (mcl M a = k ∧ mco M a = c ∧ w.toInt8.toInt32 = w) ∧ κ (sfi M f a w) = some r := by
  unfold pB at h
  cases o with
  | none => exact absurd h (by simp)
  | some a =>
    dsimp only at h
    split at h
    · next q => exact ⟨a, rfl, q, h⟩
    · exact absurd h (by simp)
theorem iv_ldI {k : Nat} {o : Option Nat} {j : Int32} {κ : Int32 → Res} (h : ldI M k o j κ = some r) : ∃ a, o = some a ∧ (mcl M a = k ∧ inR j (mln M a)) ∧ κ (mai M a j.toNatClampNeg) = some r := by
  unfold ldI at h
  cases o with
  | none => exact absurd h (by simp)
  | some a =>
    dsimp only at h
    split at h
    · next q => exact ⟨a, rfl, q, h⟩
    · exact absurd h (by simp)
theorem iv_ldD {k : Nat} {o : Option Nat} {j : Int32} {κ : UInt64 → Res} (h : ldD M k o j κ = some r) : ∃ a, o = some a ∧ (mcl M a = k ∧ inR j (mln M a)) ∧ κ (mad M a j.toNatClampNeg) = some r := by
  unfold ldD at h
  cases o with
  | none => exact absurd h (by simp)
  | some a =>
    dsimp only at h
    split at h
    · next q => exact ⟨a, rfl, q, h⟩
    · exact absurd h (by simp)
theorem iv_ldR {k : Nat} {o : Option Nat} {j : Int32} {κ : Option Nat → Res} (h : ldR M k o j κ = some r) : ∃ a, o = some a ∧ (mcl M a = k ∧ inR j (mln M a)) ∧ κ (mar M a j.toNatClampNeg) = some r := by
  unfold ldR at h
  cases o with
  | none => exact absurd h (by simp)
  | some a =>
    dsimp only at h
    split at h
    · next q => exact ⟨a, rfl, q, h⟩
    · exact absurd h (by simp)
theorem iv_stI {c k : Nat} {o : Option Nat} {j : Int32} {w : Int32} {κ : Mem → Res} (h : stI M c k o j w κ = some r) : ∃ a, o = some a ∧ (mcl M a = k ∧ mco M a = c ∧ inR j (mln M a)) ∧ κ (sai M a j.toNatClampNeg w) = some r := by
  unfold stI at h
  cases o with
  | none => exact absurd h (by simp)
  | some a =>
    dsimp only at h
    split at h
    · next q => exact ⟨a, rfl, q, h⟩
    · exact absurd h (by simp)
theorem iv_stD {c k : Nat} {o : Option Nat} {j : Int32} {w : UInt64} {κ : Mem → Res} (h : stD M c k o j w κ = some r) : ∃ a, o = some a ∧ (mcl M a = k ∧ mco M a = c ∧ inR j (mln M a)) ∧ κ (sad M a j.toNatClampNeg w) = some r := by
  unfold stD at h
  cases o with
  | none => exact absurd h (by simp)
  | some a =>
    dsimp only at h
    split at h
    · next q => exact ⟨a, rfl, q, h⟩
    · exact absurd h (by simp)
theorem iv_stR {c k : Nat} {ks : List Nat} {o : Option Nat} {j : Int32} {w : Option Nat} {κ : Mem → Res} (h : stR M c k ks o j w κ = some r) : ∃ a, o = some a ∧ (mcl M a = k ∧ mco M a = c ∧ inR j (mln M a) ∧ okK M ks w = true) ∧ κ (sar M a j.toNatClampNeg w) = some r := by
  unfold stR at h
  cases o with
  | none => exact absurd h (by simp)
  | some a =>
    dsimp only at h
    split at h
    · next q => exact ⟨a, rfl, q, h⟩
    · exact absurd h (by simp)
theorem iv_alen {k : Nat} {o : Option Nat} {κ : Int32 → Res} (h : alen M k o κ = some r) : ∃ a, o = some a ∧ mcl M a = k ∧ κ (nI (mln M a)) = some r := by
  unfold alen at h
  cases o with
  | none => exact absurd h (by simp)
  | some a =>
    dsimp only at h
    split at h
    · next q => exact ⟨a, rfl, q, h⟩
    · exact absurd h (by simp)
theorem iv_vc1 {k : Nat} {o : Option Nat} {κ : Nat → Res} (h : vc1 M k o κ = some r) : ∃ a, o = some a ∧ mcl M a = k ∧ κ (a) = some r := by
  unfold vc1 at h
  cases o with
  | none => exact absurd h (by simp)
  | some a =>
    dsimp only at h
    split at h
    · next q => exact ⟨a, rfl, q, h⟩
    · exact absurd h (by simp)
theorem iv_vc2 {c k : Nat} {o : Option Nat} {κ : Nat → Res} (h : vc2 M c k o κ = some r) : ∃ a, o = some a ∧ (mcl M a = k ∧ mco M a = c) ∧ κ (a) = some r := by
  unfold vc2 at h
  cases o with
  | none => exact absurd h (by simp)
  | some a =>
    dsimp only at h
    split at h
    · next q => exact ⟨a, rfl, q, h⟩
    · exact absurd h (by simp)
theorem iv_cln {c k : Nat} {o : Option Nat} {κ : Nat → Mem → Res} (h : cln M c k o κ = some r) : ∃ a, o = some a ∧ (mcl M a = k ∧ mco M a = c) ∧ κ (mnx M) (cpI (marr M c k (mln M a)) a 0 (mnx M) 0 (mln M a)) = some r := by
  unfold cln at h
  cases o with
  | none => exact absurd h (by simp)
  | some a =>
    dsimp only at h
    split at h
    · next q => exact ⟨a, rfl, q, h⟩
    · exact absurd h (by simp)
theorem iv_ino {ks : List Nat} {o : Option Nat} {κ : Res} (h : ino M ks o κ = some r) : ∃ a, o = some a ∧ ks.contains (mcl M a) = true ∧ κ = some r := by
  unfold ino at h
  cases o with
  | none => exact absurd h (by simp)
  | some a =>
    dsimp only at h
    split at h
    · next q => exact ⟨a, rfl, q, h⟩
    · exact absurd h (by simp)
theorem iv_cst {ks : List Nat} {o : Option Nat} {κ : Res} (h : cst M ks o κ = some r) : okK M ks o = true ∧ κ = some r := by
  unfold cst at h
  split at h
  · next q => exact ⟨q, h⟩
  · exact absurd h (by simp)
theorem iv_mka {c k : Nat} {n : Int32} {κ : Nat → Mem → Res} (h : mka M c k n κ = some r) : (¬ n < 0 ∧ n ≤ 100000) ∧ κ (mnx M) (marr M c k n.toNatClampNeg) = some r := by
  unfold mka at h
  split at h
  · next q => exact ⟨q, h⟩
  · exact absurd h (by simp)
theorem iv_fD {x : UInt64} {κ : UInt64 → Res} (h : fD x κ = some r) : isN x ∧ κ x = some r := by
  unfold fD at h
  split at h
  · next q => exact ⟨q, h⟩
  · exact absurd h (by simp)
theorem iv_dvI {y x : Int32} {κ : Int32 → Res} (h : dvI y x κ = some r) : ¬ y = 0 ∧ κ x = some r := by
  unfold dvI at h
  split at h
  · exact absurd h (by simp)
  · next q => exact ⟨q, h⟩
theorem iv_nn {o : Option Nat} {κ : Nat → Res} (h : nn o κ = some r) : ∃ a, o = some a ∧ κ a = some r := by
  cases o with
  | none => exact absurd h (by simp [nn])
  | some a => exact ⟨a, rfl, h⟩
theorem iv_dsp {c : Nat} {κ : Nat → Res} : ∀ {ts : List Nat}, dsp c κ ts = some r → ∃ (i m : Nat), ts[2 * i]? = some c ∧ ts[2 * i + 1]? = some m ∧ κ m = some r
  | [], h => absurd h (by simp [dsp])
  | [_], h => absurd h (by simp [dsp])
  | k :: a :: t, h => by
    unfold dsp at h
    split at h
    · next q => exact ⟨0, a, by rw [q]; rfl, rfl, h⟩
    · obtain ⟨i, m, h1, h2, h3⟩ := iv_dsp h
      refine ⟨i + 1, m, ?_, ?_, h3⟩
      · rw [show 2 * (i + 1) = 2 * i + 1 + 1 by omega]; exact h1
      · rw [show 2 * (i + 1) + 1 = 2 * i + 1 + 1 + 1 by omega]; exact h2
theorem iv_dsg {G : Nat → Option Nat} {c : Nat} {κ : Nat → Res} : ∀ {ts : List Nat}, dsg G c κ ts = some r → ∃ (i g m : Nat), ts[2 * i]? = some g ∧ ts[2 * i + 1]? = some m ∧ G g = some c ∧ κ m = some r
  | [], h => absurd h (by simp [dsg])
  | [_], h => absurd h (by simp [dsg])
  | k :: a :: t, h => by
    unfold dsg at h
    split at h
    · next q => exact ⟨0, k, a, rfl, rfl, q, h⟩
    · obtain ⟨i, g, m, h1, h2, h3, h4⟩ := iv_dsg h
      refine ⟨i + 1, g, m, ?_, ?_, h3, h4⟩
      · rw [show 2 * (i + 1) = 2 * i + 1 + 1 by omega]; exact h1
      · rw [show 2 * (i + 1) + 1 = 2 * i + 1 + 1 + 1 by omega]; exact h2
theorem iv_hsel {E : Nat} {κ : Nat → Mem → Res} : ∀ {hs : List Nat}, hsel E M (hprs κ hs) = some r → ∃ (i b : Nat), hs[2 * i]? = some E ∧ hs[2 * i + 1]? = some b ∧ (∀ j, j < i → hs[2 * j]? ≠ some E) ∧ κ b M = some r
  | [], h => absurd h (by simp [hprs, hsel])
  | [_], h => absurd h (by simp [hprs, hsel])
  | E1 :: b :: t, h => by
    unfold hprs hsel at h
    split at h
    · next q => exact ⟨0, b, by rw [q]; rfl, rfl, fun j hj => absurd hj (by omega), h⟩
    · next q =>
      obtain ⟨i, m, h1, h2, h4, h3⟩ := iv_hsel h
      refine ⟨i + 1, m, ?_, ?_, ?_, h3⟩
      · rw [show 2 * (i + 1) = 2 * i + 1 + 1 by omega]; exact h1
      · rw [show 2 * (i + 1) + 1 = 2 * i + 1 + 1 + 1 by omega]; exact h2
      · intro j hj
        cases j with
        | zero => intro e; exact q (Option.some.inj e).symm
        | succ j =>
          rw [show 2 * (j + 1) = 2 * j + 1 + 1 by omega]
          exact h4 j (by omega)
theorem iv_swk {x : Int32} {κ : Nat → Res} : ∀ {d : Nat} {ts : List (Int32 × Nat)}, swk x κ d ts = some r → (∃ (i t : Nat), ts[i]? = some (x, t) ∧ (∀ j q, j < i → ts[j]? = some q → q.1 ≠ x) ∧ κ t = some r) ∨ ((∀ q ∈ ts, q.1 ≠ x) ∧ κ d = some r)
  | d, [], h => Or.inr ⟨fun q hq => (by cases hq), h⟩
  | d, (v, t) :: ts, h => by
    unfold swk at h
    split at h
    · next q => exact Or.inl ⟨0, t, by rw [q]; rfl, fun j q hj => absurd hj (by omega), h⟩
    · next q =>
      rcases iv_swk h with ⟨i, m, h1, h2, h3⟩ | ⟨h1, h2⟩
      · refine Or.inl ⟨i + 1, m, h1, ?_, h3⟩
        intro j p hj hp
        cases j with
        | zero => cases Option.some.inj hp; exact fun e => q e.symm
        | succ j => exact h2 j p (by omega) hp
      · exact Or.inr ⟨fun p hp => (List.mem_cons.mp hp).elim (fun e => by rw [e]; exact fun e => q e.symm) (h1 p), h2⟩

theorem iv_cbI {x : Res} {κ : Int32 → Mem → Res} (h : cbI x κ = some r) : (∃ v M, x = some (.inl (some (vI v)), M) ∧ κ v M = some r) ∨ ∃ E, x = some (.inr E, r.2) ∧ r.1 = .inr E := by
  unfold cbI at h
  split at h
  · exact Or.inl ⟨_, _, rfl, h⟩
  · next E M => cases h; exact Or.inr ⟨E, rfl, rfl⟩
  · exact absurd h (by simp)
theorem iv_dbI {x : Res} {κ : Int32 → Mem → Res} (h : dbI x κ = some r) : ∃ v M, x = some (.inl (some (vI v)), M) ∧ κ v M = some r := by
  unfold dbI at h
  split at h
  · exact ⟨_, _, rfl, h⟩
  · exact absurd h (by simp)
theorem iv_cbJ {x : Res} {κ : Int64 → Mem → Res} (h : cbJ x κ = some r) : (∃ v M, x = some (.inl (some (vJ v)), M) ∧ κ v M = some r) ∨ ∃ E, x = some (.inr E, r.2) ∧ r.1 = .inr E := by
  unfold cbJ at h
  split at h
  · exact Or.inl ⟨_, _, rfl, h⟩
  · next E M => cases h; exact Or.inr ⟨E, rfl, rfl⟩
  · exact absurd h (by simp)
theorem iv_dbJ {x : Res} {κ : Int64 → Mem → Res} (h : dbJ x κ = some r) : ∃ v M, x = some (.inl (some (vJ v)), M) ∧ κ v M = some r := by
  unfold dbJ at h
  split at h
  · exact ⟨_, _, rfl, h⟩
  · exact absurd h (by simp)
theorem iv_cbD {x : Res} {κ : UInt64 → Mem → Res} (h : cbD x κ = some r) : (∃ v M, x = some (.inl (some (vD v)), M) ∧ κ v M = some r) ∨ ∃ E, x = some (.inr E, r.2) ∧ r.1 = .inr E := by
  unfold cbD at h
  split at h
  · exact Or.inl ⟨_, _, rfl, h⟩
  · next E M => cases h; exact Or.inr ⟨E, rfl, rfl⟩
  · exact absurd h (by simp)
theorem iv_dbD {x : Res} {κ : UInt64 → Mem → Res} (h : dbD x κ = some r) : ∃ v M, x = some (.inl (some (vD v)), M) ∧ κ v M = some r := by
  unfold dbD at h
  split at h
  · exact ⟨_, _, rfl, h⟩
  · exact absurd h (by simp)
theorem iv_cbR {x : Res} {κ : Option Nat → Mem → Res} (h : cbR x κ = some r) : (∃ v M, x = some (.inl (some (vR v)), M) ∧ κ v M = some r) ∨ ∃ E, x = some (.inr E, r.2) ∧ r.1 = .inr E := by
  unfold cbR at h
  split at h
  · exact Or.inl ⟨_, _, rfl, h⟩
  · next E M => cases h; exact Or.inr ⟨E, rfl, rfl⟩
  · exact absurd h (by simp)
theorem iv_dbR {x : Res} {κ : Option Nat → Mem → Res} (h : dbR x κ = some r) : ∃ v M, x = some (.inl (some (vR v)), M) ∧ κ v M = some r := by
  unfold dbR at h
  split at h
  · exact ⟨_, _, rfl, h⟩
  · exact absurd h (by simp)
theorem iv_cbV {x : Res} {κ : Mem → Res} (h : cbV x κ = some r) : (∃ M, x = some (.inl none, M) ∧ κ M = some r) ∨ ∃ E, x = some (.inr E, r.2) ∧ r.1 = .inr E := by
  unfold cbV at h
  split at h
  · exact Or.inl ⟨_, rfl, h⟩
  · next E M => cases h; exact Or.inr ⟨E, rfl, rfl⟩
  · exact absurd h (by simp)
theorem iv_dbV {x : Res} {κ : Mem → Res} (h : dbV x κ = some r) : ∃ M, x = some (.inl none, M) ∧ κ M = some r := by
  unfold dbV at h
  split at h
  · exact ⟨_, rfl, h⟩
  · exact absurd h (by simp)
/-- the answer of a call fits its sort -/
def rtV : Nat → Option AV → Prop
  | 0, v => ∃ x, v = some (vI x)
  | 1, v => ∃ x, v = some (vJ x)
  | 2, v => ∃ x, v = some (vD x)
  | 3, v => ∃ x, v = some (vR x)
  | 9, v => v = none
  | _, _ => False
theorem iv_cbk {rt : Nat} {x : Res} {st : List AV} {κ : List AV → Mem → Res} (h : cbk rt x st κ = some r) : (∃ v M, rtV rt v ∧ x = some (.inl v, M) ∧ κ (v.toList ++ st) M = some r) ∨ ∃ E, x = some (.inr E, r.2) ∧ r.1 = .inr E := by
  unfold cbk at h
  split at h
  · rcases iv_cbI h with ⟨v, M, h1, h2⟩ | h3
    · exact Or.inl ⟨_, M, ⟨v, rfl⟩, h1, h2⟩
    · exact Or.inr h3
  · rcases iv_cbJ h with ⟨v, M, h1, h2⟩ | h3
    · exact Or.inl ⟨_, M, ⟨v, rfl⟩, h1, h2⟩
    · exact Or.inr h3
  · rcases iv_cbD h with ⟨v, M, h1, h2⟩ | h3
    · exact Or.inl ⟨_, M, ⟨v, rfl⟩, h1, h2⟩
    · exact Or.inr h3
  · rcases iv_cbR h with ⟨v, M, h1, h2⟩ | h3
    · exact Or.inl ⟨_, M, ⟨v, rfl⟩, h1, h2⟩
    · exact Or.inr h3
  · rcases iv_cbV h with ⟨M, h1, h2⟩ | h3
    · exact Or.inl ⟨_, M, rfl, h1, h2⟩
    · exact Or.inr h3
  · exact absurd h (by simp)
theorem iv_dbk {rt : Nat} {x : Res} {st : List AV} {κ : List AV → Mem → Res} (h : dbk rt x st κ = some r) : ∃ v M, rtV rt v ∧ x = some (.inl v, M) ∧ κ (v.toList ++ st) M = some r := by
  unfold dbk at h
  split at h
  · obtain ⟨v, M, h1, h2⟩ := iv_dbI h
    exact ⟨_, M, ⟨v, rfl⟩, h1, h2⟩
  · obtain ⟨v, M, h1, h2⟩ := iv_dbJ h
    exact ⟨_, M, ⟨v, rfl⟩, h1, h2⟩
  · obtain ⟨v, M, h1, h2⟩ := iv_dbD h
    exact ⟨_, M, ⟨v, rfl⟩, h1, h2⟩
  · obtain ⟨v, M, h1, h2⟩ := iv_dbR h
    exact ⟨_, M, ⟨v, rfl⟩, h1, h2⟩
  · obtain ⟨M, h1, h2⟩ := iv_dbV h
    exact ⟨_, M, rfl, h1, h2⟩
  · exact absurd h (by simp)
theorem iv_ctH {x : Res} {hs : List (Nat × (Mem → Res))} {η : Res → Res} (hη : η none = none) (h : ctH x hs η = some r) : (∃ E M, x = some (.inr E, M) ∧ hsel E M hs = some r) ∨ ∃ v M, x = some (.inl v, M) ∧ η (some (.inl v, M)) = some r := by
  cases x with
  | none => unfold ctH at h; dsimp only at h; rw [hη] at h; exact absurd h (by simp)
  | some y =>
    obtain ⟨o, M⟩ := y
    cases o with
    | inr E => exact Or.inl ⟨E, M, rfl, h⟩
    | inl v => exact Or.inr ⟨v, M, rfl, h⟩
end INV
theorem iv_stk {r : Out × Mem} {s : List AV} {x : Res} (h : stk s x = some r) : (s.map ab_ca).sum ≤ 8 ∧ x = some r := by
  unfold stk at h
  split at h
  · next q => exact ⟨Nat.le_of_ble_eq_true q, h⟩
  · exact absurd h (by simp)
theorem iv_acI {r : Out × Mem} {M : Mem} {c k : Nat} {o o2 : Option Nat} {p q n : Int32} {κ : Mem → Res} (h : acI M c k o p o2 q n κ = some r) : ∃ a b, o = some a ∧ o2 = some b ∧ (mcl M a = k ∧ mcl M b = k ∧ mco M b = c ∧ ¬ p < 0 ∧ ¬ q < 0 ∧ ¬ n < 0 ∧ p.toNatClampNeg + n.toNatClampNeg ≤ mln M a ∧ q.toNatClampNeg + n.toNatClampNeg ≤ mln M b) ∧ κ (cpI M a p.toNatClampNeg b q.toNatClampNeg n.toNatClampNeg) = some r := by
  unfold acI at h
  cases o with
  | none => exact absurd h (by simp)
  | some a =>
    cases o2 with
    | none => exact absurd h (by simp)
    | some b =>
      dsimp only at h
      split at h
      · next q => exact ⟨a, b, rfl, rfl, q, h⟩
      · exact absurd h (by simp)
theorem iv_acR {r : Out × Mem} {M : Mem} {c k : Nat} {o o2 : Option Nat} {p q n : Int32} {κ : Mem → Res} (h : acR M c k o p o2 q n κ = some r) : ∃ a b, o = some a ∧ o2 = some b ∧ (mcl M a = k ∧ mcl M b = k ∧ mco M b = c ∧ ¬ p < 0 ∧ ¬ q < 0 ∧ ¬ n < 0 ∧ p.toNatClampNeg + n.toNatClampNeg ≤ mln M a ∧ q.toNatClampNeg + n.toNatClampNeg ≤ mln M b ∧ (∀ i, i < n.toNatClampNeg → okK M ksO (mar M a (p.toNatClampNeg + i)) = true)) ∧ κ (cpR M a p.toNatClampNeg b q.toNatClampNeg n.toNatClampNeg) = some r := by
  unfold acR at h
  cases o with
  | none => exact absurd h (by simp)
  | some a =>
    cases o2 with
    | none => exact absurd h (by simp)
    | some b =>
      dsimp only at h
      split at h
      · next q => exact ⟨a, b, rfl, rfl, q, h⟩
      · exact absurd h (by simp)
