/-! memory only grows; kinds, colours and lengths stay; only cells of the running colour are written; beyond the next address all is zero -/
def Same1 (M M' : Mem) (a : Nat) : Prop := (∀ f, mfi M' f a = mfi M f a) ∧ (∀ f, mfj M' f a = mfj M f a) ∧ (∀ f, mfd M' f a = mfd M f a) ∧ (∀ f, mfr M' f a = mfr M f a) ∧ (∀ j, mai M' a j = mai M a j) ∧ (∀ j, mad M' a j = mad M a j) ∧ (∀ j, mar M' a j = mar M a j)
def Zr (M : Mem) : Prop := ∀ a, mnx M ≤ a → (mcl M a = 0 ∧ mco M a = 0 ∧ mln M a = 0) ∧ (∀ f, mfi M f a = 0) ∧ (∀ f, mfj M f a = 0) ∧ (∀ f, mfd M f a = 0) ∧ (∀ f, mfr M f a = none) ∧ (∀ j, mai M a j = 0) ∧ (∀ j, mad M a j = 0) ∧ (∀ j, mar M a j = none)
def Ext (c : Nat) (M M' : Mem) : Prop := mnx M ≤ mnx M' ∧ msl M ≤ msl M' ∧ (∀ a, a < mnx M → mcl M' a = mcl M a ∧ mco M' a = mco M a ∧ mln M' a = mln M a) ∧ (c ≠ 3 → ∀ a, a < mnx M → mco M a ≠ c → Same1 M M' a) ∧ (Zr M → Zr M')
theorem Same1.rf {M : Mem} {a : Nat} : Same1 M M a := ⟨fun _ => rfl, fun _ => rfl, fun _ => rfl, fun _ => rfl, fun _ => rfl, fun _ => rfl, fun _ => rfl⟩
theorem Same1.tr {M M1 M2 : Mem} {a : Nat} (h : Same1 M M1 a) (h' : Same1 M1 M2 a) : Same1 M M2 a := by
  obtain ⟨a1, a2, a3, a4, a5, a6, a7⟩ := h
  obtain ⟨b1, b2, b3, b4, b5, b6, b7⟩ := h'
  exact ⟨fun f => (b1 f).trans (a1 f), fun f => (b2 f).trans (a2 f), fun f => (b3 f).trans (a3 f), fun f => (b4 f).trans (a4 f), fun f => (b5 f).trans (a5 f), fun f => (b6 f).trans (a6 f), fun f => (b7 f).trans (a7 f)⟩
theorem Ext.rf {c : Nat} {M : Mem} : Ext c M M := ⟨Nat.le_refl _, Nat.le_refl _, fun _ _ => ⟨rfl, rfl, rfl⟩, fun _ _ _ _ => Same1.rf, fun h => h⟩
theorem Ext.tr {c : Nat} {M M1 M2 : Mem} (h : Ext c M M1) (h' : Ext c M1 M2) : Ext c M M2 := by
  obtain ⟨a1, a2, a3, a4, a5⟩ := h
  obtain ⟨b1, b2, b3, b4, b5⟩ := h'
  refine ⟨Nat.le_trans a1 b1, Nat.le_trans a2 b2, fun a ha => ?_, fun hc a ha hco => ?_, fun z => b5 (a5 z)⟩
  · obtain ⟨x1, x2, x3⟩ := a3 a ha
    obtain ⟨y1, y2, y3⟩ := b3 a (Nat.lt_of_lt_of_le ha a1)
    exact ⟨y1.trans x1, y2.trans x2, y3.trans x3⟩
  · exact (a4 hc a ha hco).tr (b4 hc a (Nat.lt_of_lt_of_le ha a1) (by rw [(a3 a ha).2.1]; exact hco))
theorem Ext.to3 {c : Nat} {M M1 : Mem} (h : Ext c M M1) : Ext 3 M M1 := ⟨h.1, h.2.1, h.2.2.1, fun hc => absurd rfl hc, h.2.2.2.2⟩
theorem up2_ne {α : Type} {g : Nat → Nat → α} {x y p q : Nat} {v : α} (h : q ≠ y) : up2 g x y v p q = g p q := if_neg fun e => h e.2
theorem up2_ne1 {α : Type} {g : Nat → Nat → α} {x y p q : Nat} {v : α} (h : p ≠ x) : up2 g x y v p q = g p q := if_neg fun e => h e.1
theorem up1_ne {α : Type} {g : Nat → α} {x p : Nat} {v : α} (h : p ≠ x) : up1 g x v p = g p := if_neg h
theorem cpy2_ne {α : Type} {g : Nat → Nat → α} {a p b q n x i : Nat} (h : x ≠ b) : cpy2 g a p b q n x i = g x i := if_neg fun e => h e.1
theorem ext_sfi {c : Nat} {M : Mem} (hc : c ≠ 0) {a : Nat} (ha : mco M a = c) {f : Nat} {v : Int32} : Ext c M (sfi M f a v) := by
  refine ⟨Nat.le_refl _, Nat.le_refl _, fun _ _ => ⟨rfl, rfl, rfl⟩, fun _ q _ hq => ?_, fun z q hq => ?_⟩
  · have h : q ≠ a := fun e => hq (by rw [e]; exact ha)
    exact ⟨fun _ => up2_ne h, fun _ => rfl, fun _ => rfl, fun _ => rfl, fun _ => rfl, fun _ => rfl, fun _ => rfl⟩
  · have h0 := z q hq
    have h : q ≠ a := fun e => hc (by rw [← ha, ← e]; exact h0.1.2.1)
    exact ⟨h0.1, fun f => (up2_ne h).trans (h0.2.1 f), h0.2.2.1, h0.2.2.2.1, h0.2.2.2.2.1, h0.2.2.2.2.2.1, h0.2.2.2.2.2.2.1, h0.2.2.2.2.2.2.2⟩
theorem ext_sfj {c : Nat} {M : Mem} (hc : c ≠ 0) {a : Nat} (ha : mco M a = c) {f : Nat} {v : Int64} : Ext c M (sfj M f a v) := by
  refine ⟨Nat.le_refl _, Nat.le_refl _, fun _ _ => ⟨rfl, rfl, rfl⟩, fun _ q _ hq => ?_, fun z q hq => ?_⟩
  · have h : q ≠ a := fun e => hq (by rw [e]; exact ha)
    exact ⟨fun _ => rfl, fun _ => up2_ne h, fun _ => rfl, fun _ => rfl, fun _ => rfl, fun _ => rfl, fun _ => rfl⟩
  · have h0 := z q hq
    have h : q ≠ a := fun e => hc (by rw [← ha, ← e]; exact h0.1.2.1)
    exact ⟨h0.1, h0.2.1, fun f => (up2_ne h).trans (h0.2.2.1 f), h0.2.2.2.1, h0.2.2.2.2.1, h0.2.2.2.2.2.1, h0.2.2.2.2.2.2.1, h0.2.2.2.2.2.2.2⟩
theorem ext_sfd {c : Nat} {M : Mem} (hc : c ≠ 0) {a : Nat} (ha : mco M a = c) {f : Nat} {v : UInt64} : Ext c M (sfd M f a v) := by
  refine ⟨Nat.le_refl _, Nat.le_refl _, fun _ _ => ⟨rfl, rfl, rfl⟩, fun _ q _ hq => ?_, fun z q hq => ?_⟩
  · have h : q ≠ a := fun e => hq (by rw [e]; exact ha)
    exact ⟨fun _ => rfl, fun _ => rfl, fun _ => up2_ne h, fun _ => rfl, fun _ => rfl, fun _ => rfl, fun _ => rfl⟩
  · have h0 := z q hq
    have h : q ≠ a := fun e => hc (by rw [← ha, ← e]; exact h0.1.2.1)
    exact ⟨h0.1, h0.2.1, h0.2.2.1, fun f => (up2_ne h).trans (h0.2.2.2.1 f), h0.2.2.2.2.1, h0.2.2.2.2.2.1, h0.2.2.2.2.2.2.1, h0.2.2.2.2.2.2.2⟩
theorem ext_sfr {c : Nat} {M : Mem} (hc : c ≠ 0) {a : Nat} (ha : mco M a = c) {f : Nat} {v : Option Nat} : Ext c M (sfr M f a v) := by
  refine ⟨Nat.le_refl _, Nat.le_refl _, fun _ _ => ⟨rfl, rfl, rfl⟩, fun _ q _ hq => ?_, fun z q hq => ?_⟩
  · have h : q ≠ a := fun e => hq (by rw [e]; exact ha)
    exact ⟨fun _ => rfl, fun _ => rfl, fun _ => rfl, fun _ => up2_ne h, fun _ => rfl, fun _ => rfl, fun _ => rfl⟩
  · have h0 := z q hq
    have h : q ≠ a := fun e => hc (by rw [← ha, ← e]; exact h0.1.2.1)
    exact ⟨h0.1, h0.2.1, h0.2.2.1, h0.2.2.2.1, fun f => (up2_ne h).trans (h0.2.2.2.2.1 f), h0.2.2.2.2.2.1, h0.2.2.2.2.2.2.1, h0.2.2.2.2.2.2.2⟩
theorem ext_sai {c : Nat} {M : Mem} (hc : c ≠ 0) {a : Nat} (ha : mco M a = c) {j : Nat} {v : Int32} : Ext c M (sai M a j v) := by
  refine ⟨Nat.le_refl _, Nat.le_refl _, fun _ _ => ⟨rfl, rfl, rfl⟩, fun _ q _ hq => ?_, fun z q hq => ?_⟩
  · have h : q ≠ a := fun e => hq (by rw [e]; exact ha)
    exact ⟨fun _ => rfl, fun _ => rfl, fun _ => rfl, fun _ => rfl, fun _ => up2_ne1 h, fun _ => rfl, fun _ => rfl⟩
  · have h0 := z q hq
    have h : q ≠ a := fun e => hc (by rw [← ha, ← e]; exact h0.1.2.1)
    exact ⟨h0.1, h0.2.1, h0.2.2.1, h0.2.2.2.1, h0.2.2.2.2.1, fun f => (up2_ne1 h).trans (h0.2.2.2.2.2.1 f), h0.2.2.2.2.2.2.1, h0.2.2.2.2.2.2.2⟩
theorem ext_sad {c : Nat} {M : Mem} (hc : c ≠ 0) {a : Nat} (ha : mco M a = c) {j : Nat} {v : UInt64} : Ext c M (sad M a j v) := by
  refine ⟨Nat.le_refl _, Nat.le_refl _, fun _ _ => ⟨rfl, rfl, rfl⟩, fun _ q _ hq => ?_, fun z q hq => ?_⟩
  · have h : q ≠ a := fun e => hq (by rw [e]; exact ha)
    exact ⟨fun _ => rfl, fun _ => rfl, fun _ => rfl, fun _ => rfl, fun _ => rfl, fun _ => up2_ne1 h, fun _ => rfl⟩
  · have h0 := z q hq
    have h : q ≠ a := fun e => hc (by rw [← ha, ← e]; exact h0.1.2.1)
    exact ⟨h0.1, h0.2.1, h0.2.2.1, h0.2.2.2.1, h0.2.2.2.2.1, h0.2.2.2.2.2.1, fun f => (up2_ne1 h).trans (h0.2.2.2.2.2.2.1 f), h0.2.2.2.2.2.2.2⟩
theorem ext_sar {c : Nat} {M : Mem} (hc : c ≠ 0) {a : Nat} (ha : mco M a = c) {j : Nat} {v : Option Nat} : Ext c M (sar M a j v) := by
  refine ⟨Nat.le_refl _, Nat.le_refl _, fun _ _ => ⟨rfl, rfl, rfl⟩, fun _ q _ hq => ?_, fun z q hq => ?_⟩
  · have h : q ≠ a := fun e => hq (by rw [e]; exact ha)
    exact ⟨fun _ => rfl, fun _ => rfl, fun _ => rfl, fun _ => rfl, fun _ => rfl, fun _ => rfl, fun _ => up2_ne1 h⟩
  · have h0 := z q hq
    have h : q ≠ a := fun e => hc (by rw [← ha, ← e]; exact h0.1.2.1)
    exact ⟨h0.1, h0.2.1, h0.2.2.1, h0.2.2.2.1, h0.2.2.2.2.1, h0.2.2.2.2.2.1, h0.2.2.2.2.2.2.1, fun f => (up2_ne1 h).trans (h0.2.2.2.2.2.2.2 f)⟩
theorem ext_cpI {c : Nat} {M : Mem} (hc : c ≠ 0) {a : Nat} (ha : mco M a = c) {d p s n : Nat} : Ext c M (cpI M d p a s n) := by
  refine ⟨Nat.le_refl _, Nat.le_refl _, fun _ _ => ⟨rfl, rfl, rfl⟩, fun _ q _ hq => ?_, fun z q hq => ?_⟩
  · have h : q ≠ a := fun e => hq (by rw [e]; exact ha)
    exact ⟨fun _ => rfl, fun _ => rfl, fun _ => rfl, fun _ => rfl, fun _ => cpy2_ne h, fun _ => rfl, fun _ => rfl⟩
  · have h0 := z q hq
    have h : q ≠ a := fun e => hc (by rw [← ha, ← e]; exact h0.1.2.1)
    exact ⟨h0.1, h0.2.1, h0.2.2.1, h0.2.2.2.1, h0.2.2.2.2.1, fun f => (cpy2_ne h).trans (h0.2.2.2.2.2.1 f), h0.2.2.2.2.2.2.1, h0.2.2.2.2.2.2.2⟩
theorem ext_cpR {c : Nat} {M : Mem} (hc : c ≠ 0) {a : Nat} (ha : mco M a = c) {d p s n : Nat} : Ext c M (cpR M d p a s n) := by
  refine ⟨Nat.le_refl _, Nat.le_refl _, fun _ _ => ⟨rfl, rfl, rfl⟩, fun _ q _ hq => ?_, fun z q hq => ?_⟩
  · have h : q ≠ a := fun e => hq (by rw [e]; exact ha)
    exact ⟨fun _ => rfl, fun _ => rfl, fun _ => rfl, fun _ => rfl, fun _ => rfl, fun _ => rfl, fun _ => cpy2_ne h⟩
  · have h0 := z q hq
    have h : q ≠ a := fun e => hc (by rw [← ha, ← e]; exact h0.1.2.1)
    exact ⟨h0.1, h0.2.1, h0.2.2.1, h0.2.2.2.1, h0.2.2.2.2.1, h0.2.2.2.2.2.1, h0.2.2.2.2.2.2.1, fun f => (cpy2_ne h).trans (h0.2.2.2.2.2.2.2 f)⟩
theorem ext_mnew {c : Nat} {M : Mem} {c2 k n : Nat} : Ext c M (mnew M c2 k n) := by
  refine ⟨Nat.le_succ _, Nat.le_add_right _ _, fun q hq => ?_, fun _ q _ _ => Same1.rf, fun z q hq => ?_⟩
  · have h : q ≠ mnx M := Nat.ne_of_lt hq
    exact ⟨up1_ne h, up1_ne h, rfl⟩
  · have hq' : mnx M + 1 ≤ q := hq
    have h : q ≠ mnx M := by omega
    have h0 := z q (by omega)
    exact ⟨⟨(up1_ne h).trans h0.1.1, (up1_ne h).trans h0.1.2.1, h0.1.2.2⟩, h0.2⟩
theorem ext_marr {c : Nat} {M : Mem} {c2 k n : Nat} : Ext c M (marr M c2 k n) := by
  refine ⟨Nat.le_succ _, Nat.le_add_right _ _, fun q hq => ?_, fun _ q _ _ => Same1.rf, fun z q hq => ?_⟩
  · have h : q ≠ mnx M := Nat.ne_of_lt hq
    exact ⟨up1_ne h, up1_ne h, up1_ne h⟩
  · have hq' : mnx M + 1 ≤ q := hq
    have h : q ≠ mnx M := by omega
    have h0 := z q (by omega)
    exact ⟨⟨(up1_ne h).trans h0.1.1, (up1_ne h).trans h0.1.2.1, (up1_ne h).trans h0.1.2.2⟩, h0.2⟩
theorem ext_mth {c : Nat} {M : Mem} {j n : Nat} : Ext c M (mth M j n) := by
  refine ⟨Nat.le_add_right _ _, Nat.le_add_right _ _, fun q hq => ⟨rfl, rfl, rfl⟩, fun _ q _ _ => Same1.rf, fun z q hq => ?_⟩
  have hq' : mnx M + j ≤ q := hq
  exact z q (by omega)
/-- a copy of an array into a new one -/
theorem ext_cln {c : Nat} {M : Mem} (hc : c ≠ 0) {k n d : Nat} : Ext c M (cpI (marr M c k n) d 0 (mnx M) 0 n) :=
  Ext.tr ext_marr (ext_cpI hc (a := mnx M) (by show up1 (mco M) (mnx M) c (mnx M) = c; exact if_pos rfl))
theorem stp_ext {G : Nat → Option Nat} {c : Nat} (hc : c ≠ 0) {o : Orc} {g : Nat → Go_} {k : Go_} (ho : ∀ c m L1 M1 y, c ≠ 0 → o c m 0 L1 [] M1 = some y → Ext c M1 y.2) (hg : ∀ b L s M r, g b L s M = some r → Ext c M r.2) (hk : ∀ L s M r, k L s M = some r → Ext c M r.2)
    {e : Ent} {L : Loc_} {st : List AV} {M : Mem} {r : Out × Mem} (h : stp G o c g k e L st M = some r) : Ext c M r.2 := by
  obtain ⟨pc, len, cat, i, r0, cn⟩ := e
  match cat, h with
  | 0, h =>
    change sp0 k i cn L st M = some r at h
    unfold sp0 at h
    split at h
    · exact hk _ _ _ _ h
    · exact absurd h (by simp)
  | 1, h =>
    change sp1 k i L st M = some r at h
    unfold sp1 at h
    split at h
    · exact hk _ _ _ _ (iv_fD h).2
    · exact absurd h (by simp)
  | 2, h =>
    change sp2 k i L st M = some r at h
    unfold sp2 at h
    split at h
    · exact hk _ _ _ _ (iv_dvI h).2
    · exact absurd h (by simp)
  | 3, h =>
    change sp3 g i r0 L st M = some r at h
    unfold sp3 at h
    split at h
    · rcases ct_bop h with ⟨s, h1, h2⟩ | ⟨s, h1, h2⟩
      · exact hg _ _ _ _ _ h1
      · exact hg _ _ _ _ _ h1
    · exact absurd h (by simp)
  | 4, h =>
    change sp4 g r0 L st M = some r at h
    unfold sp4 at h
    split at h
    · exact hg _ _ _ _ _ h
    · exact absurd h (by simp)
  | 5, h =>
    change sp5 g r0 L st M = some r at h
    unfold sp5 at h
    split at h
    · obtain ⟨a, h1, h2⟩ := ct_swk h
      exact hg _ _ _ _ _ h1
    · exact absurd h (by simp)
  | 6, h =>
    change sp6 k r0 L st M = some r at h
    unfold sp6 at h
    split at h
    · obtain ⟨a, -, q, h1⟩ := iv_gI h
      exact hk _ _ _ _ h1
    · obtain ⟨a, -, q, h1⟩ := iv_gJ h
      exact hk _ _ _ _ h1
    · obtain ⟨a, -, q, h1⟩ := iv_gD h
      exact hk _ _ _ _ h1
    · obtain ⟨a, -, q, h1⟩ := iv_gR h
      exact hk _ _ _ _ h1
    · exact absurd h (by simp)
  | 7, h =>
    change sp7 c k r0 L st M = some r at h
    unfold sp7 at h
    split at h
    · obtain ⟨a, -, q, h1⟩ := iv_pI h
      exact Ext.tr (ext_sfi hc q.2) (hk _ _ _ _ h1)
    · obtain ⟨a, -, q, h1⟩ := iv_pJ h
      exact Ext.tr (ext_sfj hc q.2) (hk _ _ _ _ h1)
    · obtain ⟨a, -, q, h1⟩ := iv_pD h
      exact Ext.tr (ext_sfd hc q.2) (hk _ _ _ _ h1)
    · obtain ⟨a, -, q, h1⟩ := iv_pR h
      exact Ext.tr (ext_sfr hc q.2) (hk _ _ _ _ h1)
    · obtain ⟨a, -, q, h1⟩ := iv_pZ h
      exact Ext.tr (ext_sfi hc q.2.1) (hk _ _ _ _ h1)
    · obtain ⟨a, -, q, h1⟩ := iv_pB h
      exact Ext.tr (ext_sfi hc q.2.1) (hk _ _ _ _ h1)
    · exact absurd h (by simp)
  | 8, h =>
    change sp8 k r0 L st M = some r at h
    unfold sp8 at h
    split at h
    · obtain ⟨a, -, q, h1⟩ := iv_ldI h
      exact hk _ _ _ _ h1
    · obtain ⟨a, -, q, h1⟩ := iv_ldD h
      exact hk _ _ _ _ h1
    · obtain ⟨a, -, q, h1⟩ := iv_ldR h
      exact hk _ _ _ _ h1
    · exact absurd h (by simp)
  | 9, h =>
    change sp9 c k r0 L st M = some r at h
    unfold sp9 at h
    split at h
    · obtain ⟨a, -, q, h1⟩ := iv_stI h
      exact Ext.tr (ext_sai hc q.2.1) (hk _ _ _ _ h1)
    · obtain ⟨a, -, q, h1⟩ := iv_stD h
      exact Ext.tr (ext_sad hc q.2.1) (hk _ _ _ _ h1)
    · obtain ⟨a, -, q, h1⟩ := iv_stR h
      exact Ext.tr (ext_sar hc q.2.1) (hk _ _ _ _ h1)
    · obtain ⟨a, -, q, h1⟩ := iv_stI h
      exact Ext.tr (ext_sai hc q.2.1) (hk _ _ _ _ h1)
    · obtain ⟨a, -, q, h1⟩ := iv_stI h
      exact Ext.tr (ext_sai hc q.2.1) (hk _ _ _ _ h1)
    · exact absurd h (by simp)
  | 10, h =>
    change sp10 k r0 L st M = some r at h
    unfold sp10 at h
    split at h
    · obtain ⟨a, -, q, h1⟩ := iv_alen h
      exact hk _ _ _ _ h1
    · exact absurd h (by simp)
  | 11, h =>
    change sp11 c k r0 L st M = some r at h
    unfold sp11 at h
    split at h
    · exact Ext.tr ext_mnew (hk _ _ _ _ h)
    · exact absurd h (by simp)
  | 12, h =>
    change sp12 c k r0 L st M = some r at h
    unfold sp12 at h
    split at h
    · exact Ext.tr ext_marr (hk _ _ _ _ (iv_mka h).2)
    · exact absurd h (by simp)
  | 13, h =>
    change sp13 G k r0 L st M = some r at h
    unfold sp13 at h
    split at h
    · exact hk _ _ _ _ h
    · exact absurd h (by simp)
  | 14, h =>
    change sp14 k cn L st M = some r at h
    unfold sp14 at h
    exact hk _ _ _ _ h
  | 15, h =>
    change sp15 k r0 L st M = some r at h
    unfold sp15 at h
    split at h
    · exact hk _ _ _ _ h
    · exact absurd h (by simp)
  | 16, h =>
    change sp16 k r0 L st M = some r at h
    unfold sp16 at h
    split at h
    · exact hk _ _ _ _ h
    · exact absurd h (by simp)
  | 17, h =>
    change sp17 k r0 L st M = some r at h
    unfold sp17 at h
    split at h
    · exact hk _ _ _ _ (iv_cst h).2
    · exact absurd h (by simp)
  | 18, h =>
    change sp18 o c k r0 L st M = some r at h
    unfold sp18 at h
    split at h
    · split at h
      · split at h
        · rcases iv_cbk h with ⟨v, M1, -, h2, h3⟩ | ⟨E, h2, -⟩
          · exact Ext.tr (ho _ _ _ _ _ hc h2) (hk _ _ _ _ h3)
          · exact ho _ _ _ _ (.inr E, r.2) hc h2
        · exact absurd h (by simp)
      · exact absurd h (by simp)
    · exact absurd h (by simp)
  | 19, h =>
    change sp19 o c k r0 L st M = some r at h
    unfold sp19 at h
    split at h
    · split at h
      · split at h
        · obtain ⟨a, -, -, h1⟩ := iv_vc1 h
          rcases iv_cbk h1 with ⟨v, M1, -, h2, h3⟩ | ⟨E, h2, -⟩
          · exact Ext.tr (ho _ _ _ _ _ hc h2) (hk _ _ _ _ h3)
          · exact ho _ _ _ _ (.inr E, r.2) hc h2
        · exact absurd h (by simp)
      · exact absurd h (by simp)
    · exact absurd h (by simp)
  | 20, h =>
    change sp20 r0 st M = some r at h
    unfold sp20 at h
    split at h
    · unfold rI at h; cases h; exact Ext.rf
    · unfold rJ at h; cases h; exact Ext.rf
    · unfold rD at h; split at h
      · cases h; exact Ext.rf
      · exact absurd h (by simp)
    · unfold rR at h; cases h; exact Ext.rf
    · unfold rZ at h; split at h
      · cases h; exact Ext.rf
      · exact absurd h (by simp)
    · unfold rB at h; split at h
      · cases h; exact Ext.rf
      · exact absurd h (by simp)
    · unfold rC at h; split at h
      · cases h; exact Ext.rf
      · exact absurd h (by simp)
    · unfold rV at h; cases h; exact Ext.rf
    · exact absurd h (by simp)
  | 21, h =>
    change sp21 r0 st M = some r at h
    unfold sp21 at h
    split at h
    · have h := (iv_stk h).2
      unfold rX at h; cases h; exact ext_mth
    · exact absurd h (by simp)
  | 22, h =>
    change sp22 k L st M = some r at h
    unfold sp22 at h
    split at h
    · obtain ⟨a, -, h1⟩ := iv_nn (iv_stk h).2
      exact hk _ _ _ _ h1
    · exact absurd h (by simp)
  | 23, h =>
    change sp23 o c g k r0 L st M = some r at h
    unfold sp23 at h
    split at h
    · split at h
      · split at h
        · next q =>
          obtain ⟨a, -, -, h1⟩ := iv_vc1 h
          simp only [Bool.and_eq_true] at q
          have hc3 : c = 3 := Nat.eq_of_beq_eq_true q.1
          have hc2 : _ ≠ 0 := Nat.ne_of_gt (Nat.le_of_ble_eq_true q.2.1)
          rcases iv_ctH (by unfold cbk; split <;> rfl) h1 with ⟨E, M1, h2, h3⟩ | ⟨v, M1, h2, h3⟩
          · obtain ⟨i, b, -, -, -, h4⟩ := iv_hsel h3
            exact Ext.tr (by rw [hc3]; exact (ho _ _ _ _ _ hc2 h2).to3) (hg _ _ _ _ _ h4)
          · rcases iv_cbk h3 with ⟨w, M2, -, h4, h5⟩ | ⟨E, h4, -⟩
            · cases h4
              exact Ext.tr (by rw [hc3]; exact (ho _ _ _ _ _ hc2 h2).to3) (hk _ _ _ _ h5)
            · cases h4
        · exact absurd h (by simp)
      · exact absurd h (by simp)
    · exact absurd h (by simp)
  | 24, h =>
    change sp24 c k r0 L st M = some r at h
    unfold sp24 at h
    split at h
    · split at h
      · exact Ext.tr ext_mnew (hk _ _ _ _ h)
      · exact absurd h (by simp)
    · exact absurd h (by simp)
  | 25, h =>
    change sp25 c g r0 L st M = some r at h
    unfold sp25 at h
    split at h
    · obtain ⟨a, -, -, h1⟩ := iv_vc2 (iv_stk h).2
      exact Ext.tr ext_mth (hg _ _ _ _ _ h1)
    · exact absurd h (by simp)
  | 26, h =>
    change sp26 c k r0 L st M = some r at h
    unfold sp26 at h
    split at h
    · obtain ⟨a, b, -, -, q, h1⟩ := iv_acI (iv_stk h).2
      exact Ext.tr (ext_cpI hc q.2.2.1) (hk _ _ _ _ h1)
    · obtain ⟨a, b, -, -, q, h1⟩ := iv_acR (iv_stk h).2
      exact Ext.tr (ext_cpR hc q.2.2.1) (hk _ _ _ _ h1)
    · exact absurd h (by simp)
  | 27, h =>
    change sp27 k L st M = some r at h
    unfold sp27 at h
    split at h
    · exact hk _ _ _ _ (iv_fD (iv_stk h).2).2
    · exact absurd h (by simp)
  | 28, h =>
    change sp28 k L st M = some r at h
    unfold sp28 at h
    split at h
    · exact hk _ _ _ _ (iv_fD (iv_stk h).2).2
    · exact absurd h (by simp)
  | 29, h =>
    change sp29 G c k r0 L st M = some r at h
    unfold sp29 at h
    split at h
    · obtain ⟨a, -, -, h1⟩ := iv_vc2 (iv_stk h).2
      exact hk _ _ _ _ h1
    · exact absurd h (by simp)
  | 30, h =>
    change sp30 k i cn L st M = some r at h
    unfold sp30 at h
    split at h
    · unfold nmI at h
      dsimp only at h
      split at h
      · exact hk _ _ _ _ h
      · exact absurd h (by simp)
    · exact absurd h (by simp)
  | 31, h =>
    change sp38 G o c k r0 L st M = some r at h
    unfold sp38 at h
    split at h
    · split at h
      · split at h
        · obtain ⟨a, -, h1⟩ := iv_nn h
          obtain ⟨i, g9, m, -, -, -, h2⟩ := iv_dsg h1
          obtain ⟨v, M1, -, h3, h4⟩ := iv_dbk h2
          exact Ext.tr (ho _ _ _ _ _ hc h3) (hk _ _ _ _ h4)
        · exact absurd h (by simp)
      · exact absurd h (by simp)
    · exact absurd h (by simp)
  | 32, h =>
    change sp32 k r0 L st M = some r at h
    unfold sp32 at h
    split at h
    · obtain ⟨a, -, -, h1⟩ := iv_ino h
      exact hk _ _ _ _ h1
    · exact absurd h (by simp)
  | 33, h =>
    change sp33 c k r0 L st M = some r at h
    unfold sp33 at h
    split at h
    · obtain ⟨a, -, -, h1⟩ := iv_cln (iv_stk h).2
      exact Ext.tr (ext_cln hc) (hk _ _ _ _ h1)
    · exact absurd h (by simp)
  | 34, h =>
    change sp34 o c k r0 L st M = some r at h
    unfold sp34 at h
    split at h
    · split at h
      · split at h
        · obtain ⟨a, -, -, h1⟩ := iv_vc1 h
          obtain ⟨v, M1, -, h2, h3⟩ := iv_dbk h1
          exact Ext.tr (ho _ _ _ _ _ hc h2) (hk _ _ _ _ h3)
        · exact absurd h (by simp)
      · exact absurd h (by simp)
    · exact absurd h (by simp)
  | 35, h =>
    change sp31 o c k r0 L st M = some r at h
    unfold sp31 at h
    split at h
    · split at h
      · split at h
        · obtain ⟨a, -, h1⟩ := iv_nn h
          obtain ⟨i, m, -, -, h2⟩ := iv_dsp h1
          obtain ⟨v, M1, -, h3, h4⟩ := iv_dbk h2
          exact Ext.tr (ho _ _ _ _ _ hc h3) (hk _ _ _ _ h4)
        · exact absurd h (by simp)
      · exact absurd h (by simp)
    · exact absurd h (by simp)
  | 36, h =>
    change sp36 o c k r0 L st M = some r at h
    unfold sp36 at h
    split at h
    · split at h
      · split at h
        · obtain ⟨a, -, -, h1⟩ := iv_vc1 h
          obtain ⟨v, M1, -, h2, h3⟩ := iv_dbk h1
          exact Ext.tr (ho _ _ _ _ _ hc h2) (hk _ _ _ _ h3)
        · exact absurd h (by simp)
      · exact absurd h (by simp)
    · exact absurd h (by simp)
  | 37, h =>
    change sp37 o c k r0 L st M = some r at h
    unfold sp37 at h
    split at h
    · split at h
      · split at h
        · next q =>
          obtain ⟨a, -, -, h1⟩ := iv_vc1 h
          simp only [Bool.and_eq_true] at q
          have hc3 : c = 3 := Nat.eq_of_beq_eq_true q.1
          have hc2 : _ ≠ 0 := Nat.ne_of_gt (Nat.le_of_ble_eq_true q.2.1)
          obtain ⟨v, M1, -, h2, h3⟩ := iv_dbk h1
          exact Ext.tr (by rw [hc3]; exact (ho _ _ _ _ _ hc2 h2).to3) (hk _ _ _ _ h3)
        · exact absurd h (by simp)
      · exact absurd h (by simp)
    · exact absurd h (by simp)
  | 38, h =>
    change sp39 k r0 L st M = some r at h
    unfold sp39 at h
    split at h
    · exact hk _ _ _ _ (iv_fD (iv_stk h).2).2
    · exact hk _ _ _ _ (iv_fD (iv_fD (iv_stk h).2).2).2
    · exact hk _ _ _ _ (iv_fD (iv_fD (iv_stk h).2).2).2
    · exact absurd h (by simp)
  | 39, h =>
    change sp40 o c k r0 L st M = some r at h
    unfold sp40 at h
    split at h
    · split at h
      · split at h
        · obtain ⟨v, M1, -, h2, h3⟩ := iv_dbk h
          exact Ext.tr (ho _ _ _ _ _ hc h2) (hk _ _ _ _ h3)
        · exact absurd h (by simp)
      · exact absurd h (by simp)
    · exact absurd h (by simp)
  | n + 40, h => exact absurd h (by simp [stp])
theorem exE_ext {G : Nat → Option Nat} {c : Nat} (hc : c ≠ 0) {o : Orc} {g : Nat → Go_} (ho : ∀ c m L1 M1 y, c ≠ 0 → o c m 0 L1 [] M1 = some y → Ext c M1 y.2) (hg : ∀ b L s M r, g b L s M = some r → Ext c M r.2) : ∀ (es : List Ent) (L : Loc_) (st : List AV) (M : Mem) (r : Out × Mem), exE G o c g es L st M = some r → Ext c M r.2
  | [], _, _, _, _, h => absurd h (by simp [exE])
  | e :: rest, L, st, M, r, h => stp_ext hc ho hg (exE_ext hc ho hg rest) (show stp G o c g (exE G o c g rest) e L st M = some r from h)
theorem exB_ext {G : Nat → Option Nat} {c m : Nat} {code : Code_} (hc : c ≠ 0) {o : Orc} (ho : ∀ c m b L1 s M1 y, c ≠ 0 → o c m b L1 s M1 = some y → Ext c M1 y.2) : ∀ (K b : Nat) (L : Loc_) (st : List AV) (M : Mem) (r : Out × Mem), exB G o c m code K b L st M = some r → Ext c M r.2
  | 0, _, _, _, _, _, h => absurd h (by simp [exB])
  | K + 1, b, L, st, M, r, h => by
    unfold exB at h
    split at h
    · refine exE_ext hc (fun c m L1 M1 y hc h => ho c m 0 L1 [] M1 y hc h) ?_ _ _ _ _ _ h
      intro b L s M r h
      unfold goH at h
      split at h
      · exact exB_ext hc ho K _ _ _ _ _ h
      · split at h
        · exact ho _ _ _ _ _ _ _ hc h
        · exact absurd h (by simp)
      · exact absurd h (by simp)
    · exact absurd h (by simp)
theorem run_ext (G : Nat → Option Nat) (prg : Nat → Code_) : ∀ (n c m b : Nat) (L : Loc_) (st : List AV) (M : Mem) (r : Out × Mem), c ≠ 0 → run G prg n c m b L st M = some r → Ext c M r.2
  | 0, _, _, _, _, _, _, _, _, h => absurd h (by simp [run])
  | n + 1, c, m, b, L, st, M, r, hc, h => exB_ext hc (fun c m b L s M y hc h => run_ext G prg n c m b L s M y hc h) 400 b L st M r h
theorem ev_ext {G : Nat → Option Nat} {prg : Nat → Code_} {c m b : Nat} {L : Loc_} {st : List AV} {M : Mem} {r : Out × Mem} (hc : c ≠ 0) (h : ev G prg c m b L st M = some r) : Ext c M r.2 := by
  obtain ⟨n, hn⟩ := (ev_some G prg).mp h
  exact run_ext G prg n c m b L st M r hc hn
