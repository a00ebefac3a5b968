/-! the evaluator without a count: what it comes to with some count; it solves its own equation -/
section CONT
variable {r : Out × Mem}
theorem ct_gI {M : Mem} {k f : Nat} {o : Option Nat} {κ : Int32 → Res} (h : gI M k f o κ = some r) : ∃ v, κ v = some r ∧ ∀ κ' : Int32 → Res, κ' v = some r → gI M k f o κ' = some r := by
  unfold gI at h
  cases o with
  | none => exact absurd h (by simp)
  | some a =>
    dsimp only at h
    split at h
    · next q => exact ⟨_, h, fun κ' h' => by unfold gI; dsimp only; rw [if_pos q]; exact h'⟩
    · exact absurd h (by simp)
theorem ct_gJ {M : Mem} {k f : Nat} {o : Option Nat} {κ : Int64 → Res} (h : gJ M k f o κ = some r) : ∃ v, κ v = some r ∧ ∀ κ' : Int64 → Res, κ' v = some r → gJ M k f o κ' = some r := by
  unfold gJ at h
  cases o with
  | none => exact absurd h (by simp)
  | some a =>
    dsimp only at h
    split at h
    · next q => exact ⟨_, h, fun κ' h' => by unfold gJ; dsimp only; rw [if_pos q]; exact h'⟩
    · exact absurd h (by simp)
theorem ct_gD {M : Mem} {k f : Nat} {o : Option Nat} {κ : UInt64 → Res} (h : gD M k f o κ = some r) : ∃ v, κ v = some r ∧ ∀ κ' : UInt64 → Res, κ' v = some r → gD M k f o κ' = some r := by
  unfold gD at h
  cases o with
  | none => exact absurd h (by simp)
  | some a =>
    dsimp only at h
    split at h
    · next q => exact ⟨_, h, fun κ' h' => by unfold gD; dsimp only; rw [if_pos q]; exact h'⟩
    · exact absurd h (by simp)
theorem ct_gR {M : Mem} {k f : Nat} {o : Option Nat} {κ : Option Nat → Res} (h : gR M k f o κ = some r) : ∃ v, κ v = some r ∧ ∀ κ' : Option Nat → Res, κ' v = some r → gR M k f o κ' = some r := by
  unfold gR at h
  cases o with
  | none => exact absurd h (by simp)
  | some a =>
    dsimp only at h
    split at h
    · next q => exact ⟨_, h, fun κ' h' => by unfold gR; dsimp only; rw [if_pos q]; exact h'⟩
    · exact absurd h (by simp)
theorem ct_pI {M : Mem} {c k f : Nat} {o : Option Nat} {w : Int32} {κ : Mem → Res} (h : pI M c k f o w κ = some r) : ∃ v, κ v = some r ∧ ∀ κ' : Mem → Res, κ' v = some r → pI M c k f o w κ' = some r := by
  unfold pI at h
  cases o with
  | none => exact absurd h (by simp)
  | some a =>
    dsimp only at h
    split at h
    · next q => exact ⟨_, h, fun κ' h' => by unfold pI; dsimp only; rw [if_pos q]; exact h'⟩
    · exact absurd h (by simp)
theorem ct_pJ {M : Mem} {c k f : Nat} {o : Option Nat} {w : Int64} {κ : Mem → Res} (h : pJ M c k f o w κ = some r) : ∃ v, κ v = some r ∧ ∀ κ' : Mem → Res, κ' v = some r → pJ M c k f o w κ' = some r := by
  unfold pJ at h
  cases o with
  | none => exact absurd h (by simp)
  | some a =>
    dsimp only at h
    split at h
    · next q => exact ⟨_, h, fun κ' h' => by unfold pJ; dsimp only; rw [if_pos q]; exact h'⟩
    · exact absurd h (by simp)
theorem ct_pD {M : Mem} {c k f : Nat} {o : Option Nat} {w : UInt64} {κ : Mem → Res} (h : pD M c k f o w κ = some r) : ∃ v, κ v = some r ∧ ∀ κ' : Mem → Res, κ' v = some r → pD M c k f o w κ' = some r := by
  unfold pD at h
  cases o with
  | none => exact absurd h (by simp)
  | some a =>
    dsimp only at h
    split at h
    · next q => exact ⟨_, h, fun κ' h' => by unfold pD; dsimp only; rw [if_pos q]; exact h'⟩
    · exact absurd h (by simp)
theorem ct_pR {M : Mem} {c k f : Nat} {o : Option Nat} {w : Option Nat} {κ : Mem → Res} (h : pR M c k f o w κ = some r) : ∃ v, κ v = some r ∧ ∀ κ' : Mem → Res, κ' v = some r → pR M c k f o w κ' = some r := by
  unfold pR at h
  cases o with
  | none => exact absurd h (by simp)
  | some a =>
    dsimp only at h
    split at h
    · next q => exact ⟨_, h, fun κ' h' => by unfold pR; dsimp only; rw [if_pos q]; exact h'⟩
    · exact absurd h (by simp)
theorem ct_pZ {M : Mem} {c k f : Nat} {o : Option Nat} {w : Int32} {κ : Mem → Res} (h : pZ M c k f o w κ = some r) : ∃ v, κ v = some r ∧ ∀ κ' : Mem → Res, κ' v = some r → pZ M c k f o w κ' = some r := by
  unfold pZ at h
  cases o with
  | none => exact absurd h (by simp)
  | some a =>
    dsimp only at h
    split at h
    · next q => exact ⟨_, h, fun κ' h' => by unfold pZ; dsimp only; rw [if_pos q]; exact h'⟩
    · exact absurd h (by simp)
theorem ct_pB {M : Mem} {c k f : Nat} {o : Option Nat} {w : Int32} {κ : Mem → Res} (h : pB M c k f o w κ = some r) : ∃ v, κ v = some r ∧ ∀ κ' : Mem → Res, κ' v = some r → pB M c k f o w κ' = some r := by
  unfold pB at h
  cases o with
  | none => exact absurd h (by simp)
  | some a =>
    dsimp only at h
    split at h
    · next q => exact ⟨_, h, fun κ' h' => by unfold pB; dsimp only; rw [if_pos q]; exact h'⟩
    · exact absurd h (by simp)
theorem ct_ldI {M : Mem} {k : Nat} {o : Option Nat} {j : Int32} {κ : Int32 → Res} (h : ldI M k o j κ = some r) : ∃ v, κ v = some r ∧ ∀ κ' : Int32 → Res, κ' v = some r → ldI M k o j κ' = some r := by
  unfold ldI at h
  cases o with
  | none => exact absurd h (by simp)
  | some a =>
    dsimp only at h
    split at h
    · next q => exact ⟨_, h, fun κ' h' => by unfold ldI; dsimp only; rw [if_pos q]; exact h'⟩
    · exact absurd h (by simp)
theorem ct_ldD {M : Mem} {k : Nat} {o : Option Nat} {j : Int32} {κ : UInt64 → Res} (h : ldD M k o j κ = some r) : ∃ v, κ v = some r ∧ ∀ κ' : UInt64 → Res, κ' v = some r → ldD M k o j κ' = some r := by
  unfold ldD at h
  cases o with
  | none => exact absurd h (by simp)
  | some a =>
    dsimp only at h
    split at h
    · next q => exact ⟨_, h, fun κ' h' => by unfold ldD; dsimp only; rw [if_pos q]; exact h'⟩
    · exact absurd h (by simp)
theorem ct_ldR {M : Mem} {k : Nat} {o : Option Nat} {j : Int32} {κ : Option Nat → Res} (h : ldR M k o j κ = some r) : ∃ v, κ v = some r ∧ ∀ κ' : Option Nat → Res, κ' v = some r → ldR M k o j κ' = some r := by
  unfold ldR at h
  cases o with
  | none => exact absurd h (by simp)
  | some a =>
    dsimp only at h
    split at h
    · next q => exact ⟨_, h, fun κ' h' => by unfold ldR; dsimp only; rw [if_pos q]; exact h'⟩
    · exact absurd h (by simp)
theorem ct_stI {M : Mem} {c k : Nat} {o : Option Nat} {j : Int32} {w : Int32} {κ : Mem → Res} (h : stI M c k o j w κ = some r) : ∃ v, κ v = some r ∧ ∀ κ' : Mem → Res, κ' v = some r → stI M c k o j w κ' = some r := by
  unfold stI at h
  cases o with
  | none => exact absurd h (by simp)
  | some a =>
    dsimp only at h
    split at h
    · next q => exact ⟨_, h, fun κ' h' => by unfold stI; dsimp only; rw [if_pos q]; exact h'⟩
    · exact absurd h (by simp)
theorem ct_stD {M : Mem} {c k : Nat} {o : Option Nat} {j : Int32} {w : UInt64} {κ : Mem → Res} (h : stD M c k o j w κ = some r) : ∃ v, κ v = some r ∧ ∀ κ' : Mem → Res, κ' v = some r → stD M c k o j w κ' = some r := by
  unfold stD at h
  cases o with
  | none => exact absurd h (by simp)
  | some a =>
    dsimp only at h
    split at h
    · next q => exact ⟨_, h, fun κ' h' => by unfold stD; dsimp only; rw [if_pos q]; exact h'⟩
    · exact absurd h (by simp)
theorem ct_stR {M : Mem} {c k : Nat} {ks : List Nat} {o : Option Nat} {j : Int32} {w : Option Nat} {κ : Mem → Res} (h : stR M c k ks o j w κ = some r) : ∃ v, κ v = some r ∧ ∀ κ' : Mem → Res, κ' v = some r → stR M c k ks o j w κ' = some r := by
  unfold stR at h
  cases o with
  | none => exact absurd h (by simp)
  | some a =>
    dsimp only at h
    split at h
    · next q => exact ⟨_, h, fun κ' h' => by unfold stR; dsimp only; rw [if_pos q]; exact h'⟩
    · exact absurd h (by simp)
theorem ct_alen {M : Mem} {k : Nat} {o : Option Nat} {κ : Int32 → Res} (h : alen M k o κ = some r) : ∃ v, κ v = some r ∧ ∀ κ' : Int32 → Res, κ' v = some r → alen M k o κ' = some r := by
  unfold alen at h
  cases o with
  | none => exact absurd h (by simp)
  | some a =>
    dsimp only at h
    split at h
    · next q => exact ⟨_, h, fun κ' h' => by unfold alen; dsimp only; rw [if_pos q]; exact h'⟩
    · exact absurd h (by simp)
theorem ct_acI {M : Mem} {c k : Nat} {o o2 : Option Nat} {p q n : Int32} {κ : Mem → Res} (h : acI M c k o p o2 q n κ = some r) : ∃ v, κ v = some r ∧ ∀ κ' : Mem → Res, κ' v = some r → acI M c k o p o2 q n κ' = some r := by
  unfold acI at h
  cases o with
  | none => exact absurd h (by simp)
  | some a =>
    cases o2 with
    | none => exact absurd h (by simp)
    | some b =>
      dsimp only at h
      split at h
      · next q => exact ⟨_, h, fun κ' h' => by unfold acI; dsimp only; rw [if_pos q]; exact h'⟩
      · exact absurd h (by simp)
theorem ct_acR {M : Mem} {c k : Nat} {o o2 : Option Nat} {p q n : Int32} {κ : Mem → Res} (h : acR M c k o p o2 q n κ = some r) : ∃ v, κ v = some r ∧ ∀ κ' : Mem → Res, κ' v = some r → acR M c k o p o2 q n κ' = some r := by
  unfold acR at h
  cases o with
  | none => exact absurd h (by simp)
  | some a =>
    cases o2 with
    | none => exact absurd h (by simp)
    | some b =>
      dsimp only at h
      split at h
      · next q => exact ⟨_, h, fun κ' h' => by unfold acR; dsimp only; rw [if_pos q]; exact h'⟩
      · exact absurd h (by simp)
theorem ct_stk {s : List AV} {x : Res} (h : stk s x = some r) : x = some r ∧ ∀ x' : Res, x' = some r → stk s x' = some r := by
  unfold stk at h ⊢
  split at h
  · exact ⟨h, fun x' h' => h'⟩
  · exact absurd h (by simp)
theorem ct_mka {M : Mem} {c k : Nat} {n : Int32} {κ : Nat → Mem → Res} (h : mka M c k n κ = some r) : ∃ o v, κ o v = some r ∧ ∀ κ' : Nat → Mem → Res, κ' o v = some r → mka M c k n κ' = some r := by
  unfold mka at h
  split at h
  · next q => exact ⟨_, _, h, fun κ' h' => by unfold mka; rw [if_pos q]; exact h'⟩
  · exact absurd h (by simp)
theorem ct_fD {x : UInt64} {κ : UInt64 → Res} (h : fD x κ = some r) : κ x = some r ∧ ∀ κ' : UInt64 → Res, κ' x = some r → fD x κ' = some r := by
  unfold fD at h
  split at h
  · next q => exact ⟨h, fun κ' h' => by unfold fD; rw [if_pos q]; exact h'⟩
  · exact absurd h (by simp)
theorem ct_dvI {y x : Int32} {κ : Int32 → Res} (h : dvI y x κ = some r) : κ x = some r ∧ ∀ κ' : Int32 → Res, κ' x = some r → dvI y x κ' = some r := by
  unfold dvI at h
  split at h
  · exact absurd h (by simp)
  · next q => exact ⟨h, fun κ' h' => by unfold dvI; rw [if_neg q]; exact h'⟩
theorem ct_nn {o : Option Nat} {κ : Nat → Res} (h : nn o κ = some r) : ∃ a, κ a = some r ∧ ∀ κ' : Nat → Res, κ' a = some r → nn o κ' = some r := by
  cases o with
  | none => exact absurd h (by simp [nn])
  | some a => exact ⟨a, h, fun κ' h' => h'⟩
theorem ct_vc1 {M : Mem} {k : Nat} {o : Option Nat} {κ : Nat → Res} (h : vc1 M k o κ = some r) : ∃ a, κ a = some r ∧ ∀ κ' : Nat → Res, κ' a = some r → vc1 M k o κ' = some r := by
  cases o with
  | none => exact absurd h (by simp [vc1])
  | some a =>
    unfold vc1 at h
    dsimp only at h
    split at h
    · next q => exact ⟨a, h, fun κ' h' => by unfold vc1; dsimp only; rw [if_pos q]; exact h'⟩
    · exact absurd h (by simp)
theorem ct_vc2 {M : Mem} {c k : Nat} {o : Option Nat} {κ : Nat → Res} (h : vc2 M c k o κ = some r) : ∃ a, κ a = some r ∧ ∀ κ' : Nat → Res, κ' a = some r → vc2 M c k o κ' = some r := by
  cases o with
  | none => exact absurd h (by simp [vc2])
  | some a =>
    unfold vc2 at h
    dsimp only at h
    split at h
    · next q => exact ⟨a, h, fun κ' h' => by unfold vc2; dsimp only; rw [if_pos q]; exact h'⟩
    · exact absurd h (by simp)
theorem ct_cst {M : Mem} {ks : List Nat} {o : Option Nat} {κ : Res} (h : cst M ks o κ = some r) : κ = some r ∧ ∀ κ' : Res, κ' = some r → cst M ks o κ' = some r := by
  unfold cst at h
  split at h
  · next q => exact ⟨h, fun κ' h' => by unfold cst; rw [if_pos q]; exact h'⟩
  · exact absurd h (by simp)
theorem ct_dsp {c : Nat} {κ : Nat → Res} : ∀ {ts : List Nat}, dsp c κ ts = some r → ∃ a, κ a = some r ∧ ∀ κ' : Nat → Res, κ' a = some r → dsp c κ' ts = some r
  | [], h => absurd h (by simp [dsp])
  | [_], h => absurd h (by simp [dsp])
  | k :: a :: t, h => by
    unfold dsp at h
    split at h
    · next q => exact ⟨_, h, fun κ' h' => by unfold dsp; rw [if_pos q]; exact h'⟩
    · next q =>
      obtain ⟨a, h1, h2⟩ := ct_dsp h
      exact ⟨a, h1, fun κ' h' => by unfold dsp; rw [if_neg q]; exact h2 κ' h'⟩
theorem ct_dsg {G : Nat → Option Nat} {c : Nat} {κ : Nat → Res} : ∀ {ts : List Nat}, dsg G c κ ts = some r → ∃ a, κ a = some r ∧ ∀ κ' : Nat → Res, κ' a = some r → dsg G c κ' ts = some r
  | [], h => absurd h (by simp [dsg])
  | [_], h => absurd h (by simp [dsg])
  | k :: a :: t, h => by
    unfold dsg at h
    split at h
    · next q => exact ⟨_, h, fun κ' h' => by unfold dsg; rw [if_pos q]; exact h'⟩
    · next q =>
      obtain ⟨a, h1, h2⟩ := ct_dsg h
      exact ⟨a, h1, fun κ' h' => by unfold dsg; rw [if_neg q]; exact h2 κ' h'⟩
theorem ct_swk {x : Int32} {κ : Nat → Res} : ∀ {d : Nat} {ts : List (Int32 × Nat)}, swk x κ d ts = some r → ∃ a, κ a = some r ∧ ∀ κ' : Nat → Res, κ' a = some r → swk x κ' d ts = some r
  | d, [], h => ⟨d, h, fun κ' h' => h'⟩
  | d, (v, t) :: ts, h => by
    unfold swk at h
    split at h
    · next q => exact ⟨_, h, fun κ' h' => by unfold swk; rw [if_pos q]; exact h'⟩
    · next q =>
      obtain ⟨a, h1, h2⟩ := ct_swk h
      exact ⟨a, h1, fun κ' h' => by unfold swk; rw [if_neg q]; exact h2 κ' h'⟩
theorem ct_bop {i : Instr} {st : List AV} {t f : List AV → Res} (h : bop i st t f = some r) : (∃ s, t s = some r ∧ ∀ t' f' : List AV → Res, t' s = some r → bop i st t' f' = some r) ∨ (∃ s, f s = some r ∧ ∀ t' f' : List AV → Res, f' s = some r → bop i st t' f' = some r) := by
  unfold bop at h
  split at h
  all_goals first
    | exact absurd h (by simp)
    | (split at h
       · next q => first | exact Or.inl ⟨_, h, fun t' f' h' => by unfold bop; simp only [if_pos q]; exact h'⟩ | exact Or.inr ⟨_, h, fun t' f' h' => by unfold bop; simp only [if_pos q]; exact h'⟩
       · next q => first | exact Or.inl ⟨_, h, fun t' f' h' => by unfold bop; simp only [if_neg q]; exact h'⟩ | exact Or.inr ⟨_, h, fun t' f' h' => by unfold bop; simp only [if_neg q]; exact h'⟩)
theorem ct_cbk {rt : Nat} {x : Res} {st : List AV} {κ : List AV → Mem → Res} (h : cbk rt x st κ = some r) : ∃ y, x = some y ∧ ((∃ s M, κ s M = some r ∧ ∀ κ' : List AV → Mem → Res, κ' s M = some r → cbk rt (some y) st κ' = some r) ∨ ∀ κ' : List AV → Mem → Res, cbk rt (some y) st κ' = some r) := by
  cases x with
  | none =>
    unfold cbk at h
    split at h <;> exact absurd h (by simp [cbI, cbJ, cbD, cbR, cbV])
  | some y =>
    refine ⟨y, rfl, ?_⟩
    unfold cbk at h
    split at h
    all_goals first
      | exact absurd h (by simp)
      | (unfold cbI at h; split at h
         · next q => cases q; exact Or.inl ⟨_, _, h, fun κ' h' => h'⟩
         · next q => cases q; exact Or.inr fun κ' => h
         · exact absurd h (by simp))
      | (unfold cbJ at h; split at h
         · next q => cases q; exact Or.inl ⟨_, _, h, fun κ' h' => h'⟩
         · next q => cases q; exact Or.inr fun κ' => h
         · exact absurd h (by simp))
      | (unfold cbD at h; split at h
         · next q => cases q; exact Or.inl ⟨_, _, h, fun κ' h' => h'⟩
         · next q => cases q; exact Or.inr fun κ' => h
         · exact absurd h (by simp))
      | (unfold cbR at h; split at h
         · next q => cases q; exact Or.inl ⟨_, _, h, fun κ' h' => h'⟩
         · next q => cases q; exact Or.inr fun κ' => h
         · exact absurd h (by simp))
      | (unfold cbV at h; split at h
         · next q => cases q; exact Or.inl ⟨_, _, h, fun κ' h' => h'⟩
         · next q => cases q; exact Or.inr fun κ' => h
         · exact absurd h (by simp))
theorem ct_dbk {rt : Nat} {x : Res} {st : List AV} {κ : List AV → Mem → Res} (h : dbk rt x st κ = some r) : ∃ y, x = some y ∧ ∃ s M, κ s M = some r ∧ ∀ κ' : List AV → Mem → Res, κ' s M = some r → dbk rt (some y) st κ' = some r := by
  cases x with
  | none =>
    unfold dbk at h
    split at h <;> exact absurd h (by simp [dbI, dbJ, dbD, dbR, dbV])
  | some y =>
    refine ⟨y, rfl, ?_⟩
    unfold dbk at h
    split at h
    all_goals first
      | exact absurd h (by simp)
      | (unfold dbI at h; split at h
         · next q => cases q; exact ⟨_, _, h, fun κ' h' => h'⟩
         · exact absurd h (by simp))
      | (unfold dbJ at h; split at h
         · next q => cases q; exact ⟨_, _, h, fun κ' h' => h'⟩
         · exact absurd h (by simp))
      | (unfold dbD at h; split at h
         · next q => cases q; exact ⟨_, _, h, fun κ' h' => h'⟩
         · exact absurd h (by simp))
      | (unfold dbR at h; split at h
         · next q => cases q; exact ⟨_, _, h, fun κ' h' => h'⟩
         · exact absurd h (by simp))
      | (unfold dbV at h; split at h
         · next q => cases q; exact ⟨_, _, h, fun κ' h' => h'⟩
         · exact absurd h (by simp))
theorem ct_hsel {E : Nat} {M : Mem} {κ : Nat → Mem → Res} : ∀ {hs : List Nat}, hsel E M (hprs κ hs) = some r → ∃ b, κ b M = some r ∧ ∀ κ' : Nat → Mem → Res, κ' b M = some r → hsel E M (hprs κ' hs) = some r
  | [], h => absurd h (by simp [hprs, hsel])
  | [_], h => absurd h (by simp [hprs, hsel])
  | E1 :: b :: t, h => by
    unfold hprs hsel at h
    split at h
    · next q => exact ⟨_, h, fun κ' h' => by unfold hprs hsel; rw [if_pos q]; exact h'⟩
    · next q =>
      obtain ⟨a, h1, h2⟩ := ct_hsel h
      exact ⟨a, h1, fun κ' h' => by unfold hprs hsel; rw [if_neg q]; exact h2 κ' h'⟩
theorem ct_ctH {x : Res} {κ : Nat → Mem → Res} {hs : List Nat} {η : Res → Res} (hη : η none = none) (h : ctH x (hprs κ hs) η = some r) : ∃ y, x = some y ∧ ((∃ b M, κ b M = some r ∧ ∀ (κ' : Nat → Mem → Res) (η' : Res → Res), κ' b M = some r → ctH (some y) (hprs κ' hs) η' = some r) ∨ (η (some y) = some r ∧ ∀ (κ' : Nat → Mem → Res) (η' : Res → Res), η' (some y) = some r → ctH (some y) (hprs κ' hs) η' = some r)) := by
  cases x with
  | none =>
    unfold ctH at h
    dsimp only at h
    rw [hη] at h
    exact absurd h (by simp)
  | some y =>
    refine ⟨y, rfl, ?_⟩
    obtain ⟨o, M⟩ := y
    cases o with
    | inr E =>
      obtain ⟨b, h1, h2⟩ := ct_hsel (show hsel E M (hprs κ hs) = some r from h)
      exact Or.inl ⟨b, M, h1, fun κ' η' h' => h2 κ' h'⟩
    | inl v => exact Or.inr ⟨h, fun κ' η' h' => h'⟩
theorem ct_ino {M : Mem} {ks : List Nat} {o : Option Nat} {κ : Res} (h : ino M ks o κ = some r) : κ = some r ∧ ∀ κ' : Res, κ' = some r → ino M ks o κ' = some r := by
  cases o with
  | none => exact absurd h (by simp [ino])
  | some a =>
    unfold ino at h
    dsimp only at h
    split at h
    · next q => exact ⟨h, fun κ' h' => by unfold ino; dsimp only; rw [if_pos q]; exact h'⟩
    · exact absurd h (by simp)
theorem ct_cln {M : Mem} {c k : Nat} {o : Option Nat} {κ : Nat → Mem → Res} (h : cln M c k o κ = some r) : ∃ a v, κ a v = some r ∧ ∀ κ' : Nat → Mem → Res, κ' a v = some r → cln M c k o κ' = some r := by
  cases o with
  | none => exact absurd h (by simp [cln])
  | some a =>
    unfold cln at h
    dsimp only at h
    split at h
    · next q => exact ⟨_, _, h, fun κ' h' => by unfold cln; dsimp only; rw [if_pos q]; exact h'⟩
    · exact absurd h (by simp)
end CONT
/-! what an instruction asks of the oracle and of the ways on -/
def StpTr (o : Orc) (g : Nat → Go_) (k : Go_) (F : Orc → (Nat → Go_) → Go_ → Res) (r : Out × Mem) : Prop :=
  (∀ o' g' k', F o' g' k' = some r) ∨
  (∃ b L s M, g b L s M = some r ∧ ∀ (o' : Orc) (g' : Nat → Go_) (k' : Go_), g' b L s M = some r → F o' g' k' = some r) ∨
  (∃ L s M, k L s M = some r ∧ ∀ (o' : Orc) (g' : Nat → Go_) (k' : Go_), k' L s M = some r → F o' g' k' = some r) ∨
  (∃ c m L1 M1 y, o c m 0 L1 [] M1 = some y ∧ ((∀ (o' : Orc) (g' : Nat → Go_) (k' : Go_), o' c m 0 L1 [] M1 = some y → F o' g' k' = some r) ∨
    (∃ b L s M, g b L s M = some r ∧ ∀ (o' : Orc) (g' : Nat → Go_) (k' : Go_), o' c m 0 L1 [] M1 = some y → g' b L s M = some r → F o' g' k' = some r) ∨
    (∃ L s M, k L s M = some r ∧ ∀ (o' : Orc) (g' : Nat → Go_) (k' : Go_), o' c m 0 L1 [] M1 = some y → k' L s M = some r → F o' g' k' = some r)))
section TR
variable {o : Orc} {g : Nat → Go_} {k : Go_} {F : Orc → (Nat → Go_) → Go_ → Res} {r : Out × Mem}
theorem StpTr.go {b : Nat} {L : Loc_} {s : List AV} {M : Mem} (h : g b L s M = some r) (q : ∀ (o' : Orc) (g' : Nat → Go_) (k' : Go_), g' b L s M = some r → F o' g' k' = some r) : StpTr o g k F r := Or.inr (Or.inl ⟨b, L, s, M, h, q⟩)
theorem StpTr.nx {L : Loc_} {s : List AV} {M : Mem} (h : k L s M = some r) (q : ∀ (o' : Orc) (g' : Nat → Go_) (k' : Go_), k' L s M = some r → F o' g' k' = some r) : StpTr o g k F r := Or.inr (Or.inr (Or.inl ⟨L, s, M, h, q⟩))
theorem StpTr.call {c m rt : Nat} {L1 L : Loc_} {M1 : Mem} {st : List AV} (h : cbk rt (o c m 0 L1 [] M1) st (fun s M => k L s M) = some r)
    (q : ∀ (o' : Orc) (g' : Nat → Go_) (k' : Go_), cbk rt (o' c m 0 L1 [] M1) st (fun s M => k' L s M) = some r → F o' g' k' = some r) : StpTr o g k F r := by
  obtain ⟨y, hy, hk⟩ := ct_cbk h
  refine Or.inr (Or.inr (Or.inr ⟨c, m, L1, M1, y, hy, ?_⟩))
  rcases hk with ⟨s, M, h1, h2⟩ | h2
  · exact Or.inr (Or.inr ⟨L, s, M, h1, fun o' g' k' e1 e2 => q o' g' k' (by rw [e1]; exact h2 _ e2)⟩)
  · exact Or.inl fun o' g' k' e1 => q o' g' k' (by rw [e1]; exact h2 _)
theorem StpTr.callD {c m rt : Nat} {L1 L : Loc_} {M1 : Mem} {st : List AV} (h : dbk rt (o c m 0 L1 [] M1) st (fun s M => k L s M) = some r)
    (q : ∀ (o' : Orc) (g' : Nat → Go_) (k' : Go_), dbk rt (o' c m 0 L1 [] M1) st (fun s M => k' L s M) = some r → F o' g' k' = some r) : StpTr o g k F r := by
  obtain ⟨y, hy, s, M, h1, h2⟩ := ct_dbk h
  exact Or.inr (Or.inr (Or.inr ⟨c, m, L1, M1, y, hy, Or.inr (Or.inr ⟨L, s, M, h1, fun o' g' k' e1 e2 => q o' g' k' (by rw [e1]; exact h2 _ e2)⟩)⟩))
theorem StpTr.callX {c m rt : Nat} {L1 L L9 : Loc_} {M1 : Mem} {st : List AV} {hs : List Nat} (h : ctH (o c m 0 L1 [] M1) (hprs (fun b M => g b L9 [] M) hs) (fun x => cbk rt x st (fun s M => k L s M)) = some r)
    (q : ∀ (o' : Orc) (g' : Nat → Go_) (k' : Go_), ctH (o' c m 0 L1 [] M1) (hprs (fun b M => g' b L9 [] M) hs) (fun x => cbk rt x st (fun s M => k' L s M)) = some r → F o' g' k' = some r) : StpTr o g k F r := by
  have hη : (fun x => cbk rt x st (fun s M => k L s M)) none = none := by
    show cbk rt none st (fun s M => k L s M) = none
    unfold cbk
    split <;> rfl
  obtain ⟨y, hy, hk⟩ := ct_ctH hη h
  refine Or.inr (Or.inr (Or.inr ⟨c, m, L1, M1, y, hy, ?_⟩))
  rcases hk with ⟨b, M, h1, h2⟩ | ⟨h1, h2⟩
  · exact Or.inr (Or.inl ⟨b, L9, [], M, h1, fun o' g' k' e1 e2 => q o' g' k' (by rw [e1]; exact h2 _ _ e2)⟩)
  · obtain ⟨y2, hy2, hk2⟩ := ct_cbk (show cbk rt (some y) st (fun s M => k L s M) = some r from h1)
    cases hy2
    rcases hk2 with ⟨s, M, h3, h4⟩ | h4
    · exact Or.inr (Or.inr ⟨L, s, M, h3, fun o' g' k' e1 e2 => q o' g' k' (by rw [e1]; exact h2 _ _ (h4 _ e2))⟩)
    · exact Or.inl fun o' g' k' e1 => q o' g' k' (by rw [e1]; exact h2 _ _ (h4 _))
end TR
theorem stp_tr {G : Nat → Option Nat} {c : Nat} {o : Orc} {g : Nat → Go_} {k : Go_} {e : Ent} {L : Loc_} {st : List AV} {M : Mem} {r : Out × Mem} (h : stp G o c g k e L st M = some r) : StpTr o g k (fun o' g' k' => stp G o' c g' k' e L st M) r := by
  obtain ⟨pc, len, cat, i, r0, cn⟩ := e
  match cat, h with
  | 0, h =>
    change sp0 k i cn L st M = some r at h
    change StpTr o g k (fun o' g' k' => sp0 k' i cn L st M) r
    unfold sp0 at h ⊢
    split at h
    · exact .nx h (fun o' g' k' e => e)
    · exact absurd h (by simp)
  | 1, h =>
    change sp1 k i L st M = some r at h
    change StpTr o g k (fun o' g' k' => sp1 k' i L st M) r
    unfold sp1 at h ⊢
    split at h
    · obtain ⟨h1, h2⟩ := ct_fD h
      exact .nx h1 (fun o' g' k' e => h2 _ e)
    · exact absurd h (by simp)
  | 2, h =>
    change sp2 k i L st M = some r at h
    change StpTr o g k (fun o' g' k' => sp2 k' i L st M) r
    unfold sp2 at h ⊢
    split at h
    · obtain ⟨h1, h2⟩ := ct_dvI h
      exact .nx h1 (fun o' g' k' e => h2 _ e)
    · exact absurd h (by simp)
  | 3, h =>
    change sp3 g i r0 L st M = some r at h
    change StpTr o g k (fun o' g' k' => sp3 g' i r0 L st M) r
    unfold sp3 at h ⊢
    split at h
    · rcases ct_bop h with ⟨s, h1, h2⟩ | ⟨s, h1, h2⟩
      · exact .go h1 (fun o' g' k' e => h2 _ _ e)
      · exact .go h1 (fun o' g' k' e => h2 _ _ e)
    · exact absurd h (by simp)
  | 4, h =>
    change sp4 g r0 L st M = some r at h
    change StpTr o g k (fun o' g' k' => sp4 g' r0 L st M) r
    unfold sp4 at h ⊢
    split at h
    · exact .go h (fun o' g' k' e => e)
    · exact absurd h (by simp)
  | 5, h =>
    change sp5 g r0 L st M = some r at h
    change StpTr o g k (fun o' g' k' => sp5 g' r0 L st M) r
    unfold sp5 at h ⊢
    split at h
    · obtain ⟨a, h1, h2⟩ := ct_swk h
      exact .go h1 (fun o' g' k' e => h2 _ e)
    · exact absurd h (by simp)
  | 6, h =>
    change sp6 k r0 L st M = some r at h
    change StpTr o g k (fun o' g' k' => sp6 k' r0 L st M) r
    unfold sp6 at h ⊢
    split at h
    · obtain ⟨v, h1, h2⟩ := ct_gI h
      exact .nx h1 (fun o' g' k' e => h2 _ e)
    · obtain ⟨v, h1, h2⟩ := ct_gJ h
      exact .nx h1 (fun o' g' k' e => h2 _ e)
    · obtain ⟨v, h1, h2⟩ := ct_gD h
      exact .nx h1 (fun o' g' k' e => h2 _ e)
    · obtain ⟨v, h1, h2⟩ := ct_gR h
      exact .nx h1 (fun o' g' k' e => h2 _ e)
    · exact absurd h (by simp)
  | 7, h =>
    change sp7 c k r0 L st M = some r at h
    change StpTr o g k (fun o' g' k' => sp7 c k' r0 L st M) r
    unfold sp7 at h ⊢
    split at h
    · obtain ⟨v, h1, h2⟩ := ct_pI h
      exact .nx h1 (fun o' g' k' e => h2 _ e)
    · obtain ⟨v, h1, h2⟩ := ct_pJ h
      exact .nx h1 (fun o' g' k' e => h2 _ e)
    · obtain ⟨v, h1, h2⟩ := ct_pD h
      exact .nx h1 (fun o' g' k' e => h2 _ e)
    · obtain ⟨v, h1, h2⟩ := ct_pR h
      exact .nx h1 (fun o' g' k' e => h2 _ e)
    · obtain ⟨v, h1, h2⟩ := ct_pZ h
      exact .nx h1 (fun o' g' k' e => h2 _ e)
    · obtain ⟨v, h1, h2⟩ := ct_pB h
      exact .nx h1 (fun o' g' k' e => h2 _ e)
    · exact absurd h (by simp)
  | 8, h =>
    change sp8 k r0 L st M = some r at h
    change StpTr o g k (fun o' g' k' => sp8 k' r0 L st M) r
    unfold sp8 at h ⊢
    split at h
    · obtain ⟨v, h1, h2⟩ := ct_ldI h
      exact .nx h1 (fun o' g' k' e => h2 _ e)
    · obtain ⟨v, h1, h2⟩ := ct_ldD h
      exact .nx h1 (fun o' g' k' e => h2 _ e)
    · obtain ⟨v, h1, h2⟩ := ct_ldR h
      exact .nx h1 (fun o' g' k' e => h2 _ e)
    · exact absurd h (by simp)
  | 9, h =>
    change sp9 c k r0 L st M = some r at h
    change StpTr o g k (fun o' g' k' => sp9 c k' r0 L st M) r
    unfold sp9 at h ⊢
    split at h
    · obtain ⟨v, h1, h2⟩ := ct_stI h
      exact .nx h1 (fun o' g' k' e => h2 _ e)
    · obtain ⟨v, h1, h2⟩ := ct_stD h
      exact .nx h1 (fun o' g' k' e => h2 _ e)
    · obtain ⟨v, h1, h2⟩ := ct_stR h
      exact .nx h1 (fun o' g' k' e => h2 _ e)
    · obtain ⟨v, h1, h2⟩ := ct_stI h
      exact .nx h1 (fun o' g' k' e => h2 _ e)
    · obtain ⟨v, h1, h2⟩ := ct_stI h
      exact .nx h1 (fun o' g' k' e => h2 _ e)
    · exact absurd h (by simp)
  | 10, h =>
    change sp10 k r0 L st M = some r at h
    change StpTr o g k (fun o' g' k' => sp10 k' r0 L st M) r
    unfold sp10 at h ⊢
    split at h
    · obtain ⟨v, h1, h2⟩ := ct_alen h
      exact .nx h1 (fun o' g' k' e => h2 _ e)
    · exact absurd h (by simp)
  | 11, h =>
    change sp11 c k r0 L st M = some r at h
    change StpTr o g k (fun o' g' k' => sp11 c k' r0 L st M) r
    unfold sp11 at h ⊢
    split at h
    · exact .nx h (fun o' g' k' e => e)
    · exact absurd h (by simp)
  | 12, h =>
    change sp12 c k r0 L st M = some r at h
    change StpTr o g k (fun o' g' k' => sp12 c k' r0 L st M) r
    unfold sp12 at h ⊢
    split at h
    · obtain ⟨a, v, h1, h2⟩ := ct_mka h
      exact .nx h1 (fun o' g' k' e => h2 _ e)
    · exact absurd h (by simp)
  | 13, h =>
    change sp13 G k r0 L st M = some r at h
    change StpTr o g k (fun o' g' k' => sp13 G k' r0 L st M) r
    unfold sp13 at h ⊢
    split at h
    · exact .nx h (fun o' g' k' e => e)
    · exact absurd h (by simp)
  | 14, h =>
    change sp14 k cn L st M = some r at h
    change StpTr o g k (fun o' g' k' => sp14 k' cn L st M) r
    unfold sp14 at h ⊢
    exact .nx h (fun o' g' k' e => e)
  | 15, h =>
    change sp15 k r0 L st M = some r at h
    change StpTr o g k (fun o' g' k' => sp15 k' r0 L st M) r
    unfold sp15 at h ⊢
    split at h
    · exact .nx h (fun o' g' k' e => e)
    · exact absurd h (by simp)
  | 16, h =>
    change sp16 k r0 L st M = some r at h
    change StpTr o g k (fun o' g' k' => sp16 k' r0 L st M) r
    unfold sp16 at h ⊢
    split at h
    · exact .nx h (fun o' g' k' e => e)
    · exact absurd h (by simp)
  | 17, h =>
    change sp17 k r0 L st M = some r at h
    change StpTr o g k (fun o' g' k' => sp17 k' r0 L st M) r
    unfold sp17 at h ⊢
    split at h
    · obtain ⟨h1, h2⟩ := ct_cst h
      exact .nx h1 (fun o' g' k' e => h2 _ e)
    · exact absurd h (by simp)
  | 18, h =>
    change sp18 o c k r0 L st M = some r at h
    change StpTr o g k (fun o' g' k' => sp18 o' c k' r0 L st M) r
    unfold sp18 at h ⊢
    split at h
    · split at h
      · split at h
        · exact .call h (fun o' g' k' e => e)
        · exact absurd h (by simp)
      · exact absurd h (by simp)
    · exact absurd h (by simp)
  | 19, h =>
    change sp19 o c k r0 L st M = some r at h
    change StpTr o g k (fun o' g' k' => sp19 o' c k' r0 L st M) r
    unfold sp19 at h ⊢
    split at h
    · split at h
      · split at h
        · obtain ⟨a, h1, h2⟩ := ct_vc1 h
          exact .call h1 (fun o' g' k' e => h2 _ e)
        · exact absurd h (by simp)
      · exact absurd h (by simp)
    · exact absurd h (by simp)
  | 20, h => exact Or.inl fun o' g' k' => h
  | 21, h => exact Or.inl fun o' g' k' => h
  | 22, h =>
    change sp22 k L st M = some r at h
    change StpTr o g k (fun o' g' k' => sp22 k' L st M) r
    unfold sp22 at h ⊢
    split at h
    · obtain ⟨h9, h8⟩ := ct_stk h
      obtain ⟨a, h1, h2⟩ := ct_nn h9
      exact .nx h1 (fun o' g' k' e => h8 _ (h2 _ e))
    · exact absurd h (by simp)
  | 23, h =>
    change sp23 o c g k r0 L st M = some r at h
    change StpTr o g k (fun o' g' k' => sp23 o' c g' k' r0 L st M) r
    unfold sp23 at h ⊢
    split at h
    · split at h
      · split at h
        · obtain ⟨a, h1, h2⟩ := ct_vc1 h
          exact .callX h1 (fun o' g' k' e => h2 _ e)
        · exact absurd h (by simp)
      · exact absurd h (by simp)
    · exact absurd h (by simp)
  | 24, h =>
    change sp24 c k r0 L st M = some r at h
    change StpTr o g k (fun o' g' k' => sp24 c k' r0 L st M) r
    unfold sp24 at h ⊢
    split at h
    · split at h
      · exact .nx h (fun o' g' k' e => e)
      · exact absurd h (by simp)
    · exact absurd h (by simp)
  | 25, h =>
    change sp25 c g r0 L st M = some r at h
    change StpTr o g k (fun o' g' k' => sp25 c g' r0 L st M) r
    unfold sp25 at h ⊢
    split at h
    · obtain ⟨h9, h8⟩ := ct_stk h
      obtain ⟨a, h1, h2⟩ := ct_vc2 h9
      exact .go h1 (fun o' g' k' e => h8 _ (h2 _ e))
    · exact absurd h (by simp)
  | 26, h =>
    change sp26 c k r0 L st M = some r at h
    change StpTr o g k (fun o' g' k' => sp26 c k' r0 L st M) r
    unfold sp26 at h ⊢
    split at h
    · obtain ⟨h9, h8⟩ := ct_stk h
      obtain ⟨v, h1, h2⟩ := ct_acI h9
      exact .nx h1 (fun o' g' k' e => h8 _ (h2 _ e))
    · obtain ⟨h9, h8⟩ := ct_stk h
      obtain ⟨v, h1, h2⟩ := ct_acR h9
      exact .nx h1 (fun o' g' k' e => h8 _ (h2 _ e))
    · exact absurd h (by simp)
  | 27, h =>
    change sp27 k L st M = some r at h
    change StpTr o g k (fun o' g' k' => sp27 k' L st M) r
    unfold sp27 at h ⊢
    split at h
    · obtain ⟨h9, h8⟩ := ct_stk h
      obtain ⟨h1, h2⟩ := ct_fD h9
      exact .nx h1 (fun o' g' k' e => h8 _ (h2 _ e))
    · exact absurd h (by simp)
  | 28, h =>
    change sp28 k L st M = some r at h
    change StpTr o g k (fun o' g' k' => sp28 k' L st M) r
    unfold sp28 at h ⊢
    split at h
    · obtain ⟨h9, h8⟩ := ct_stk h
      obtain ⟨h1, h2⟩ := ct_fD h9
      exact .nx h1 (fun o' g' k' e => h8 _ (h2 _ e))
    · exact absurd h (by simp)
  | 29, h =>
    change sp29 G c k r0 L st M = some r at h
    change StpTr o g k (fun o' g' k' => sp29 G c k' r0 L st M) r
    unfold sp29 at h ⊢
    split at h
    · obtain ⟨h9, h8⟩ := ct_stk h
      obtain ⟨a, h1, h2⟩ := ct_vc2 h9
      exact .nx h1 (fun o' g' k' e => h8 _ (h2 _ e))
    · exact absurd h (by simp)
  | 30, h =>
    change sp30 k i cn L st M = some r at h
    change StpTr o g k (fun o' g' k' => sp30 k' i cn L st M) r
    unfold sp30 at h ⊢
    split at h
    · unfold nmI at h
      dsimp only at h
      split at h
      · next q => exact .nx h (fun o' g' k' e => by unfold nmI; dsimp only; rw [q]; exact e)
      · exact absurd h (by simp)
    · exact absurd h (by simp)
  | 31, h =>
    change sp38 G o c k r0 L st M = some r at h
    change StpTr o g k (fun o' g' k' => sp38 G o' c k' r0 L st M) r
    unfold sp38 at h ⊢
    split at h
    · split at h
      · split at h
        · obtain ⟨b, h0, h9⟩ := ct_nn h
          obtain ⟨a, h1, h2⟩ := ct_dsg h0
          exact .callD h1 (fun o' g' k' e => h9 _ (h2 _ e))
        · exact absurd h (by simp)
      · exact absurd h (by simp)
    · exact absurd h (by simp)
  | 32, h =>
    change sp32 k r0 L st M = some r at h
    change StpTr o g k (fun o' g' k' => sp32 k' r0 L st M) r
    unfold sp32 at h ⊢
    split at h
    · obtain ⟨h1, h2⟩ := ct_ino h
      exact .nx h1 (fun o' g' k' e => h2 _ e)
    · exact absurd h (by simp)
  | 33, h =>
    change sp33 c k r0 L st M = some r at h
    change StpTr o g k (fun o' g' k' => sp33 c k' r0 L st M) r
    unfold sp33 at h ⊢
    split at h
    · obtain ⟨h9, h8⟩ := ct_stk h
      obtain ⟨a, v, h1, h2⟩ := ct_cln h9
      exact .nx h1 (fun o' g' k' e => h8 _ (h2 _ e))
    · exact absurd h (by simp)
  | 34, h =>
    change sp34 o c k r0 L st M = some r at h
    change StpTr o g k (fun o' g' k' => sp34 o' c k' r0 L st M) r
    unfold sp34 at h ⊢
    split at h
    · split at h
      · split at h
        · obtain ⟨a, h1, h2⟩ := ct_vc1 h
          exact .callD h1 (fun o' g' k' e => h2 _ e)
        · exact absurd h (by simp)
      · exact absurd h (by simp)
    · exact absurd h (by simp)
  | 35, h =>
    change sp31 o c k r0 L st M = some r at h
    change StpTr o g k (fun o' g' k' => sp31 o' c k' r0 L st M) r
    unfold sp31 at h ⊢
    split at h
    · split at h
      · split at h
        · obtain ⟨b, h0, h9⟩ := ct_nn h
          obtain ⟨a, h1, h2⟩ := ct_dsp h0
          exact .callD h1 (fun o' g' k' e => h9 _ (h2 _ e))
        · exact absurd h (by simp)
      · exact absurd h (by simp)
    · exact absurd h (by simp)
  | 36, h =>
    change sp36 o c k r0 L st M = some r at h
    change StpTr o g k (fun o' g' k' => sp36 o' c k' r0 L st M) r
    unfold sp36 at h ⊢
    split at h
    · split at h
      · split at h
        · obtain ⟨a, h1, h2⟩ := ct_vc1 h
          exact .callD h1 (fun o' g' k' e => h2 _ e)
        · exact absurd h (by simp)
      · exact absurd h (by simp)
    · exact absurd h (by simp)
  | 37, h =>
    change sp37 o c k r0 L st M = some r at h
    change StpTr o g k (fun o' g' k' => sp37 o' c k' r0 L st M) r
    unfold sp37 at h ⊢
    split at h
    · split at h
      · split at h
        · obtain ⟨a, h1, h2⟩ := ct_vc1 h
          exact .callD h1 (fun o' g' k' e => h2 _ e)
        · exact absurd h (by simp)
      · exact absurd h (by simp)
    · exact absurd h (by simp)
  | 38, h =>
    change sp39 k r0 L st M = some r at h
    change StpTr o g k (fun o' g' k' => sp39 k' r0 L st M) r
    unfold sp39 at h ⊢
    split at h
    · obtain ⟨h9, h8⟩ := ct_stk h
      obtain ⟨h1, h2⟩ := ct_fD h9
      exact .nx h1 (fun o' g' k' e => h8 _ (h2 _ e))
    · obtain ⟨h9, h8⟩ := ct_stk h
      obtain ⟨h0, h7⟩ := ct_fD h9
      obtain ⟨h1, h2⟩ := ct_fD h0
      exact .nx h1 (fun o' g' k' e => h8 _ (h7 _ (h2 _ e)))
    · obtain ⟨h9, h8⟩ := ct_stk h
      obtain ⟨h0, h7⟩ := ct_fD h9
      obtain ⟨h1, h2⟩ := ct_fD h0
      exact .nx h1 (fun o' g' k' e => h8 _ (h7 _ (h2 _ e)))
    · exact absurd h (by simp)
  | 39, h =>
    change sp40 o c k r0 L st M = some r at h
    change StpTr o g k (fun o' g' k' => sp40 o' c k' r0 L st M) r
    unfold sp40 at h ⊢
    split at h
    · split at h
      · split at h
        · exact .callD h (fun o' g' k' e => e)
        · exact absurd h (by simp)
      · exact absurd h (by simp)
    · exact absurd h (by simp)
  | n + 40, h => exact absurd h (by simp [stp])
def OLe (o1 o2 : Orc) : Prop := ∀ c m b L st M r, o1 c m b L st M = some r → o2 c m b L st M = some r
theorem stp_mono {G : Nat → Option Nat} {c : Nat} {o o' : Orc} {g g' : Nat → Go_} {k k' : Go_} (ho : OLe o o') (hg : ∀ b L st M r, g b L st M = some r → g' b L st M = some r) (hk : ∀ L st M r, k L st M = some r → k' L st M = some r) {e : Ent} {L : Loc_} {st : List AV} {M : Mem} {r : Out × Mem} (h : stp G o c g k e L st M = some r) : stp G o' c g' k' e L st M = some r := by
  rcases stp_tr h with q | ⟨b, L1, s1, M1, h1, q⟩ | ⟨L1, s1, M1, h1, q⟩ | ⟨c1, m, L1, M1, y, hy, q | ⟨b, L2, s2, M2, h1, q⟩ | ⟨L2, s2, M2, h1, q⟩⟩
  · exact q _ _ _
  · exact q o' g' k' (hg _ _ _ _ _ h1)
  · exact q o' g' k' (hk _ _ _ _ h1)
  · exact q o' g' k' (ho _ _ _ _ _ _ _ hy)
  · exact q o' g' k' (ho _ _ _ _ _ _ _ hy) (hg _ _ _ _ _ h1)
  · exact q o' g' k' (ho _ _ _ _ _ _ _ hy) (hk _ _ _ _ h1)
theorem exE_mono {G : Nat → Option Nat} {c : Nat} {o o' : Orc} {g g' : Nat → Go_} (ho : OLe o o') (hg : ∀ b L st M r, g b L st M = some r → g' b L st M = some r) : ∀ (es : List Ent) (L : Loc_) (st : List AV) (M : Mem) (r : Out × Mem), exE G o c g es L st M = some r → exE G o' c g' es L st M = some r
  | [], _, _, _, _, h => absurd h (by simp [exE])
  | e :: rest, L, st, M, r, h => stp_mono ho hg (exE_mono ho hg rest) (show stp G o c g (exE G o c g rest) e L st M = some r from h)
theorem goH_mono {c m : Nat} {code : Code_} {o o' : Orc} {x x' : Nat → Go_} (ho : OLe o o') (hx : ∀ b L st M r, x b L st M = some r → x' b L st M = some r) (b : Nat) (L : Loc_) (st : List AV) (M : Mem) (r : Out × Mem) (h : goH o c m code x b L st M = some r) : goH o' c m code x' b L st M = some r := by
  unfold goH at h ⊢
  split at h
  · exact hx _ _ _ _ _ h
  · split at h
    · exact ho _ _ _ _ _ _ _ h
    · exact absurd h (by simp)
  · exact absurd h (by simp)
theorem exB_mono {G : Nat → Option Nat} {c m : Nat} {code : Code_} {o o' : Orc} (ho : OLe o o') : ∀ (K b : Nat) (L : Loc_) (st : List AV) (M : Mem) (r : Out × Mem), exB G o c m code K b L st M = some r → exB G o' c m code K b L st M = some r
  | 0, _, _, _, _, _, h => absurd h (by simp [exB])
  | K + 1, b, L, st, M, r, h => by
    unfold exB at h ⊢
    split at h
    · exact exE_mono ho (goH_mono ho (exB_mono ho K)) _ _ _ _ _ h
    · exact absurd h (by simp)
section EV
variable (G : Nat → Option Nat) (prg : Nat → Code_)
theorem exT_mono {o o' : Orc} (ho : OLe o o') : OLe (exT G prg o) (exT G prg o') := fun _ _ _ _ _ _ _ h => exB_mono ho _ _ _ _ _ _ h
theorem run_mono1 : ∀ n : Nat, OLe (run G prg n) (run G prg (n + 1))
  | 0 => fun _ _ _ _ _ _ _ h => absurd h (by simp [run])
  | n + 1 => exT_mono G prg (run_mono1 n)
theorem run_mono {n k : Nat} (h : n ≤ k) : OLe (run G prg n) (run G prg k) := by
  induction k with
  | zero => rw [Nat.le_zero.mp h]; exact fun _ _ _ _ _ _ _ h => h
  | succ k ih =>
    rcases Nat.lt_or_ge k n with q | q
    · rw [show n = k + 1 by omega]; exact fun _ _ _ _ _ _ _ h => h
    · exact fun c m pc L st M r e => run_mono1 G prg k _ _ _ _ _ _ _ (ih q c m pc L st M r e)
/-- what the evaluator comes to, with any count -/
noncomputable def ev : Orc := fun c m b L st M => match Classical.propDecidable (∃ r n, run G prg n c m b L st M = some r) with
  | .isTrue h => some (Classical.choose h)
  | .isFalse _ => none
theorem ev_some {c m b : Nat} {L : Loc_} {st : List AV} {M : Mem} {r : Out × Mem} : ev G prg c m b L st M = some r ↔ ∃ n, run G prg n c m b L st M = some r := by
  unfold ev
  constructor
  · intro h
    split at h
    · next q _ =>
      have h1 := Classical.choose_spec q
      rw [Option.some.inj h] at h1
      exact h1
    · exact absurd h (by simp)
  · rintro ⟨n, hn⟩
    split
    · next q _ =>
      obtain ⟨k, hk⟩ := Classical.choose_spec q
      have h1 := run_mono G prg (Nat.le_max_left n k) _ _ _ _ _ _ _ hn
      have h2 := run_mono G prg (Nat.le_max_right n k) _ _ _ _ _ _ _ hk
      rw [h1] at h2
      exact h2.symm
    · next q _ => exact absurd ⟨r, n, hn⟩ q
theorem run_ev (n : Nat) : OLe (run G prg n) (ev G prg) := fun _ _ _ _ _ _ _ h => (ev_some G prg).mpr ⟨n, h⟩
/-- continuity: what comes of the limit comes of some count, and of all greater ones -/
def Ct (x : Orc → Res) : Prop := ∀ r, x (ev G prg) = some r → ∃ n0, ∀ n, n0 ≤ n → x (run G prg n) = some r
theorem exE_ct {c : Nat} {g : Orc → Nat → Go_} (hg : ∀ b L st M, Ct G prg (fun o => g o b L st M)) : ∀ (es : List Ent) (L : Loc_) (st : List AV) (M : Mem), Ct G prg (fun o => exE G o c (g o) es L st M)
  | [], _, _, _ => fun r h => absurd h (by simp [exE])
  | e :: rest, L, st, M => by
    intro r h
    have ih := exE_ct (c := c) hg rest
    change stp G (ev G prg) c (g (ev G prg)) (exE G (ev G prg) c (g (ev G prg)) rest) e L st M = some r at h
    have ho : ∀ c m L1 M1 y, ev G prg c m 0 L1 [] M1 = some y → ∃ n0, ∀ n, n0 ≤ n → run G prg n c m 0 L1 [] M1 = some y := by
      intro c m L1 M1 y hy
      obtain ⟨n, hn⟩ := (ev_some G prg).mp hy
      exact ⟨n, fun k hk => run_mono G prg hk _ _ _ _ _ _ _ hn⟩
    rcases stp_tr h with q | ⟨b, L1, s1, M1, h1, q⟩ | ⟨L1, s1, M1, h1, q⟩ | ⟨c1, m, L1, M1, y, hy, q | ⟨b, L2, s2, M2, h1, q⟩ | ⟨L2, s2, M2, h1, q⟩⟩
    · exact ⟨0, fun n _ => q _ _ _⟩
    · obtain ⟨n0, h0⟩ := hg _ _ _ _ _ h1
      exact ⟨n0, fun n hn => q _ _ _ (h0 n hn)⟩
    · obtain ⟨n0, h0⟩ := ih _ _ _ _ h1
      exact ⟨n0, fun n hn => q _ _ _ (h0 n hn)⟩
    · obtain ⟨n0, h0⟩ := ho _ _ _ _ _ hy
      exact ⟨n0, fun n hn => q _ _ _ (h0 n hn)⟩
    · obtain ⟨n0, h0⟩ := ho _ _ _ _ _ hy
      obtain ⟨n1, h1⟩ := hg _ _ _ _ _ h1
      exact ⟨max n0 n1, fun n hn => q _ _ _ (h0 n (by omega)) (h1 n (by omega))⟩
    · obtain ⟨n0, h0⟩ := ho _ _ _ _ _ hy
      obtain ⟨n1, h1⟩ := ih _ _ _ _ h1
      exact ⟨max n0 n1, fun n hn => q _ _ _ (h0 n (by omega)) (h1 n (by omega))⟩
theorem exB_ct {c m : Nat} {code : Code_} : ∀ (K b : Nat) (L : Loc_) (st : List AV) (M : Mem), Ct G prg (fun o => exB G o c m code K b L st M)
  | 0, _, _, _, _ => fun r h => absurd h (by simp [exB])
  | K + 1, b, L, st, M => by
    have ih := exB_ct (c := c) (m := m) (code := code) K
    have hg : ∀ b L st M, Ct G prg (fun o => goH o c m code (exB G o c m code K) b L st M) := by
      intro b L st M r h
      change goH (ev G prg) c m code (exB G (ev G prg) c m code K) b L st M = some r at h
      unfold goH at h
      split at h
      · next q =>
        obtain ⟨n0, h0⟩ := ih _ _ _ _ _ h
        refine ⟨n0, fun n hn => ?_⟩
        show goH (run G prg n) c m code (exB G (run G prg n) c m code K) b L st M = some r
        unfold goH
        rw [q]
        exact h0 n hn
      · next q =>
        split at h
        · next q2 =>
          obtain ⟨n0, h0⟩ := (ev_some G prg).mp h
          refine ⟨n0, fun n hn => ?_⟩
          show goH (run G prg n) c m code (exB G (run G prg n) c m code K) b L st M = some r
          unfold goH
          rw [q]
          dsimp only
          rw [q2]
          exact run_mono G prg hn _ _ _ _ _ _ _ h0
        · exact absurd h (by simp)
      · exact absurd h (by simp)
    intro r h
    change exB G (ev G prg) c m code (K + 1) b L st M = some r at h
    unfold exB at h
    split at h
    · next q =>
      obtain ⟨n0, h0⟩ := exE_ct G prg (g := fun o => goH o c m code (exB G o c m code K)) hg _ _ _ _ _ h
      refine ⟨n0, fun n hn => ?_⟩
      show exB G (run G prg n) c m code (K + 1) b L st M = some r
      unfold exB
      rw [q]
      exact h0 n hn
    · exact absurd h (by simp)
/-- the evaluator solves its equation -/
theorem ev_fix (c m b : Nat) (L : Loc_) (st : List AV) (M : Mem) : ev G prg c m b L st M = exB G (ev G prg) c m (prg m) 400 b L st M := by
  cases h : exB G (ev G prg) c m (prg m) 400 b L st M with
  | some r =>
    refine (ev_some G prg).mpr ?_
    obtain ⟨n, hn⟩ := exB_ct G prg 400 b L st M r h
    exact ⟨n + 1, hn n (Nat.le_refl _)⟩
  | none =>
    cases h2 : ev G prg c m b L st M with
    | none => rfl
    | some r =>
      obtain ⟨n, hn⟩ := (ev_some G prg).mp h2
      cases n with
      | zero => exact absurd hn (by simp [run])
      | succ n =>
        have h3 := exT_mono G prg (run_ev G prg n) _ _ _ _ _ _ _ hn
        change exB G (ev G prg) c m (prg m) 400 b L st M = some r at h3
        rw [h] at h3
        exact absurd h3 (by simp)
/-- the equation of a method whose code is known -/
theorem ev_eq {c m b : Nat} {code : Code_} {L : Loc_} {st : List AV} {M : Mem} {x : Res} (h : prg m = code) (hx : exB G (ev G prg) c m code 400 b L st M = x) : ev G prg c m b L st M = x := by
  rw [ev_fix, h]
  exact hx
end EV
