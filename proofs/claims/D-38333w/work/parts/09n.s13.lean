/-! ===== one step is sound, the rest (printed by gen_s13.py) ===== -/
section S13
variable {p : Program} {l : Launch} {e : Env} {R : Room} {s : State} {m : MethodId} {args : Array Value} {below : List Frame} {meth : Method} {c : Code} {D : Gh} {mc ms : Nat} {L : Loc_} {st : List AV} {M : Mem} {r : Out × Mem} {G : Nat → Option Nat} {iT : XT} {q : MI} {cl pc len : Nat} {k : Go_} {go : Nat → Go_} {orc : Orc} {bp : Nat → Nat} {mi : Nat → MI} {i : Instr} {r0 : List Nat} {cn : Int32}
theorem st10_snd (X : Ctx p l e R s m meth c D G iT q mc ms) (ho : ok10 q pc len r0) (h : sp10 k r0 L st M = some r) (hk : ∀ L st M, k L st M = some r → Sd p l e R s m args below meth c D mc ms q.2.2.1 (pc + len) L st M r) : Sd p l e R s m args below meth c D mc ms q.2.2.1 pc L st M r := by
  unfold sp10 at h
  obtain ⟨kd, ty, hr, rfl, h1, h2, h3⟩ := ho
  subst hr
  split at h
  · next kd' _ o s9 e9 =>
    cases e9
    obtain ⟨a, rfl, ha, h10⟩ := iv_alen h
    exact alen_snd X.ex X.by_ X.k0 h1 h2 h3 ha (hk _ _ _ h10)
  · exact absurd h (by simp)
theorem st11_snd (X : Ctx p l e R s m meth c D G iT q mc ms) (ho : ok11 q pc len r0) (h : sp11 cl k r0 L st M = some r) (hin : kIn) (hty : kTy) (hk : ∀ L st M, k L st M = some r → Sd p l e R s m args below meth c D mc ms q.2.2.1 (pc + len) L st M r) (he : ∀ L st M, k L st M = some r → mnx M ≤ mnx r.2 ∧ msl M ≤ msl r.2) : Sd p l e R s m args below meth c D mc ms q.2.2.1 pc L st M r := by
  unfold sp11 at h
  obtain ⟨kd, n, rfl, rfl, idx, k9, h1, h2, h3, h4, h5, h6, h7, h8, h9⟩ := ho
  exact new_snd X.ex X.by_ X.ow X.k0 hin hty X.cs X.bs h1 h2 h3 h4 h5 h6 h7 h8 h9 (he _ _ _ h) (hk _ _ _ h)
theorem st24_snd (X : Ctx p l e R s m meth c D G iT q mc ms) (ho : ok24 q pc len r0) (h : sp24 cl k r0 L st M = some r) (hin : kIn) (hty : kTy) (hk : ∀ L st M, k L st M = some r → Sd p l e R s m args below meth c D mc ms q.2.2.1 (pc + len) L st M r) (he : ∀ L st M, k L st M = some r → mnx M ≤ mnx r.2 ∧ msl M ≤ msl r.2) : Sd p l e R s m args below meth c D mc ms q.2.2.1 pc L st M r := by
  unfold sp24 at h
  obtain ⟨kd, n, c2, rfl, rfl, idx, k9, h1, h2, h3, h4, h5, h6, h7, h8, h9⟩ := ho
  dsimp only at h
  split at h
  · exact new_snd X.ex X.by_ X.ow X.k0 hin hty X.cs X.bs h1 h2 h3 h4 h5 h6 h7 h8 h9 (he _ _ _ h) (hk _ _ _ h)
  · exact absurd h (by simp)
theorem st12_snd (X : Ctx p l e R s m meth c D G iT q mc ms) (ho : ok12 q pc len r0) (h : sp12 cl k r0 L st M = some r) (hk : ∀ L st M, k L st M = some r → Sd p l e R s m args below meth c D mc ms q.2.2.1 (pc + len) L st M r) (he : ∀ L st M, k L st M = some r → mnx M ≤ mnx r.2 ∧ msl M ≤ msl r.2) : Sd p l e R s m args below meth c D mc ms q.2.2.1 pc L st M r := by
  unfold sp12 at h
  obtain ⟨kd, hr, h1, h2⟩ := ho
  subst hr
  split at h
  · next kd' _ n s9 e9 =>
    cases e9
    obtain ⟨hn, h10⟩ := iv_mka h
    rcases h2 with ⟨at_, rfl, h3, h4, h5⟩ | ⟨idx, ty, rfl, h3, h4, h5⟩
    · exact nar_snd X.ex X.by_ X.k0 X.cs X.bs h1 h3 h4 h5 hn (he _ _ _ h10) (hk _ _ _ h10)
    · exact anw_snd X.ex X.by_ X.ow X.k0 X.ao X.cs X.bs h1 h3 h4 h5 hn (he _ _ _ h10) (hk _ _ _ h10)
  · exact absurd h (by simp)
theorem stL_snd (X : Ctx p l e R s m meth c D G iT q mc ms) {C n d : String} {v : AV} (ho : stL q pc len C n d) (hZ : va_Z C n d (ab_cv v) (hbA D) s s.heap) (k : Sd p l e R s m args below meth c D mc ms q.2.2.1 (pc + len) L (v :: st) M r) : Sd p l e R s m args below meth c D mc ms q.2.2.1 pc L st M r := by
  obtain ⟨idx, ref, rfl, h1, h2, h3⟩ := ho
  exact sta_snd X.ex X.by_ X.ow X.k0 hZ h2 h3 h1 k
theorem st13_snd (X : Ctx p l e R s m meth c D G iT q mc ms) (ho : ok13 q pc len r0) (h : sp13 G k r0 L st M = some r) (hk : ∀ L st M, k L st M = some r → Sd p l e R s m args below meth c D mc ms q.2.2.1 (pc + len) L st M r) : Sd p l e R s m args below meth c D mc ms q.2.2.1 pc L st M r := by
  unfold sp13 at h
  obtain ⟨g, rfl, h1⟩ := ho
  dsimp only at h
  rcases h1 with ⟨C, n, d, h0, h1, h2⟩ | ⟨tx, idx, h1, h2, h3⟩ | ⟨C, idx, h1, h2, rfl, h3⟩
  · exact stL_snd X h2 (v := vR (G g)) (X.gr.1 g C n d h1 h0) (hk _ _ _ h)
  · obtain ⟨a, e1, e2⟩ := X.gr.2.1 g tx h1 _ idx h2
    rw [e1] at h
    exact lds_snd X.ex X.by_ X.ow e2 h3 (hk _ _ _ h)
  · obtain ⟨a, e1, e2⟩ := X.gr.2.2.1 g C h1
    rw [e1] at h
    exact ldm_snd X.ex X.by_ X.ow X.k0 h2 e2 h3 (hk _ _ _ h)
theorem st14_snd (X : Ctx p l e R s m meth c D G iT q mc ms) (ho : ok14 iT q pc len cn) (h : sp14 k cn L st M = some r) (hk : ∀ L st M, k L st M = some r → Sd p l e R s m args below meth c D mc ms q.2.2.1 (pc + len) L st M r) : Sd p l e R s m args below meth c D mc ms q.2.2.1 pc L st M r := by
  unfold sp14 at h
  rcases ho with ⟨idx, h1, h2⟩ | ⟨C, n, d, h1, h2⟩
  · exact ldi_snd X.ex X.by_ X.ow X.k0 h1 h2 (hk _ _ _ h)
  · exact stL_snd X h2 (v := vI cn) (X.nz _ h1) (hk _ _ _ h)
theorem st15_snd (X : Ctx p l e R s m meth c D G iT q mc ms) (ho : ok15 q pc len r0) (h : sp15 k r0 L st M = some r) (hk : ∀ L st M, k L st M = some r → Sd p l e R s m args below meth c D mc ms q.2.2.1 (pc + len) L st M r) : Sd p l e R s m args below meth c D mc ms q.2.2.1 pc L st M r := by
  unfold sp15 at h
  obtain ⟨b, idx, rfl, rfl, h1, h2⟩ := ho
  dsimp only at h
  rw [kD_e] at h
  exact ldd_snd X.ex X.by_ X.ow X.k0 h1 h2 (hk _ _ _ h)
theorem st16_snd (X : Ctx p l e R s m meth c D G iT q mc ms) (ho : ok16 iT q pc len r0) (h : sp16 k r0 L st M = some r) (hk : ∀ L st M, k L st M = some r → Sd p l e R s m args below meth c D mc ms q.2.2.1 (pc + len) L st M r) : Sd p l e R s m args below meth c D mc ms q.2.2.1 pc L st M r := by
  unfold sp16 at h
  obtain ⟨b, rfl, h1⟩ := ho
  dsimp only at h
  rw [kJ_e] at h
  rcases h1 with ⟨idx, rfl, h1, h2⟩ | ⟨C, n, d, h1, h2⟩
  · exact ldj_snd X.ex X.by_ X.ow X.k0 h1 h2 (hk _ _ _ h)
  · exact stL_snd X h2 (v := vJ _) (X.nz _ h1) (hk _ _ _ h)
theorem st17_snd (X : Ctx p l e R s m meth c D G iT q mc ms) (ho : ok17 q pc len r0) (h : sp17 k r0 L st M = some r) (hk : ∀ L st M, k L st M = some r → Sd p l e R s m args below meth c D mc ms q.2.2.1 (pc + len) L st M r) : Sd p l e R s m args below meth c D mc ms q.2.2.1 pc L st M r := by
  unfold sp17 at h
  obtain ⟨kd, idx, nm, rfl, rfl, h1, h2, h3⟩ := ho
  split at h
  · obtain ⟨h4, h5⟩ := iv_cst h
    rcases h1 with h1 | ⟨nm9, h1, h1b⟩
    · exact cst_snd X.ex X.by_ X.ow X.k0 h1 h2 h3 h4 (hk _ _ _ h5)
    · exact csu_snd X.ex X.by_ X.ow X.k0 h1 h1b h2 h3 h4 (hk _ _ _ h5)
  · exact absurd h (by simp)
theorem st32_snd (X : Ctx p l e R s m meth c D G iT q mc ms) (ho : ok32 q pc len r0) (h : sp32 k r0 L st M = some r) (hk : ∀ L st M, k L st M = some r → Sd p l e R s m args below meth c D mc ms q.2.2.1 (pc + len) L st M r) : Sd p l e R s m args below meth c D mc ms q.2.2.1 pc L st M r := by
  unfold sp32 at h
  obtain ⟨kd, idx, nm, rfl, rfl, h1, h2, h3⟩ := ho
  split at h
  · obtain ⟨a, rfl, h4, h5⟩ := iv_ino h
    exact ino_snd X.ex X.by_ X.ow X.k0 h1 h2 h3 (by simpa using h4) (hk _ _ _ h5)
  · exact absurd h (by simp)
theorem rz_int {ty : FieldType} {v : Int32} (h : ty = .int) : narrow ty (.int v) = .int v := by subst h; rfl
theorem st20_snd (X : Ctx p l e R s m meth c D G iT q mc ms) (ho : ok20 q pc i r0) (h : sp20 r0 st M = some r) : Sd p l e R s m args below meth c D mc ms q.2.2.1 pc L st M r := by
  obtain ⟨k9, rfl, hd, h1⟩ := ho
  rcases h1 with ⟨rfl, rfl, h1⟩ | ⟨rfl, rfl, h1⟩ | ⟨rfl, rfl, h1⟩ | ⟨rfl, rfl, rt9, h1, h2⟩ | ⟨rfl, rfl, h1⟩ | ⟨rfl, rfl, h1⟩ | ⟨rfl, rfl, h1⟩ | ⟨rfl, rfl, h1⟩
  · match st, h with
    | [.inl v], h => cases h; exact ret_snd X.ex X.by_ X.lk hd rfl (Or.inl ⟨rfl, v, .int, rfl, rfl, X.rt.trans h1, rfl⟩)
  · match st, h with
    | [.inr (.inl v)], h => cases h; exact ret_snd X.ex X.by_ X.lk hd rfl (Or.inr (Or.inl ⟨rfl, X.rt.trans h1, v, rfl, rfl⟩))
  · match st, h with
    | [.inr (.inr (.inl v))], h =>
      change rD v M = some r at h
      unfold rD at h
      split at h
      · cases h; exact ret_snd X.ex X.by_ X.lk hd rfl (Or.inr (Or.inr (Or.inl ⟨rfl, X.rt.trans h1, v, rfl, rfl⟩)))
      · exact absurd h (by simp)
  · match st, h with
    | [.inr (.inr (.inr v))], h => cases h; exact ret_snd X.ex X.by_ X.lk hd rfl (Or.inr (Or.inr (Or.inr (Or.inl ⟨rfl, ⟨rt9, X.rt.trans h1, h2⟩, v, rfl, rfl⟩))))
  · match st, h with
    | [.inl v], h =>
      change rZ v M = some r at h
      unfold rZ at h
      split at h
      · next hv => cases h; exact ret_snd X.ex X.by_ X.lk hd rfl (Or.inl ⟨rfl, v, .boolean, rfl, rfl, X.rt.trans h1, congrArg Value.int hv⟩)
      · exact absurd h (by simp)
  · match st, h with
    | [.inl v], h =>
      change rB v M = some r at h
      unfold rB at h
      split at h
      · next hv => cases h; exact ret_snd X.ex X.by_ X.lk hd rfl (Or.inl ⟨rfl, v, .byte, rfl, rfl, X.rt.trans h1, congrArg Value.int hv⟩)
      · exact absurd h (by simp)
  · match st, h with
    | [.inl v], h =>
      change rC v M = some r at h
      unfold rC at h
      split at h
      · next hv => cases h; exact ret_snd X.ex X.by_ X.lk hd rfl (Or.inl ⟨rfl, v, .char, rfl, rfl, X.rt.trans h1, congrArg Value.int hv⟩)
      · exact absurd h (by simp)
  · match st, h with
    | [], h => cases h; exact ret_snd X.ex X.by_ X.lk hd rfl (Or.inr (Or.inr (Or.inr (Or.inr ⟨rfl, X.rt.trans h1, rfl, rfl⟩))))
theorem st21_snd (X : Ctx p l e R s m meth c D G iT q mc ms) (ho : ok21 q pc r0) (h : sp21 r0 st M = some r)  : Sd p l e R s m args below meth c D mc ms q.2.2.1 pc L st M r := by
  unfold sp21 at h
  obtain ⟨E, ik, ic, names, rfl, h1, h2, h3, h4, h5, h6, h7, h8, h9, h10, h11, h12, h13⟩ := ho
  obtain ⟨hs, h⟩ := iv_stk h
  unfold rX at h
  cases h
  exact thr_snd X.ex X.by_ X.tr X.ml X.ow X.sk X.cs X.lk rfl h1 h2 h3 h4 h5 h6 h7 h8 h9 h10 (by rw [X.tb]; exact h11) (Nat.lt_of_lt_of_le h12 X.fr) (Nat.le_trans h13 X.lo) hs rfl
theorem st22_snd (X : Ctx p l e R s m meth c D G iT q mc ms) (ho : ok22 q pc len) (h : sp22 k L st M = some r) (hk : ∀ L st M, k L st M = some r → Sd p l e R s m args below meth c D mc ms q.2.2.1 (pc + len) L st M r) : Sd p l e R s m args below meth c D mc ms q.2.2.1 pc L st M r := by
  unfold sp22 at h
  obtain ⟨idx, rfl, h0, h1, h2, h3, h4⟩ := ho
  split at h
  · obtain ⟨hs, h⟩ := iv_stk h
    obtain ⟨a, rfl, h10⟩ := iv_nn h
    exact obi_snd X.ex X.by_ X.ml X.ow X.k0 (X.r1 h0) h1 h2 h3 h4 hs (hk _ _ _ h10)
  · exact absurd h (by simp)
theorem st25_snd (X : Ctx p l e R s m meth c D G iT q mc ms) (ho : ok25 iT q bp pc r0) (h : sp25 cl go r0 L st M = some r) (hc : cl ≠ 0) (hg : ∀ b L st M, go b L st M = some r → Sd p l e R s m args below meth c D mc ms q.2.2.1 (bp b) L st M r) (hge : ∀ b L st M, go b L st M = some r → mnx M ≤ mnx r.2 ∧ msl M ≤ msl r.2) : Sd p l e R s m args below meth c D mc ms q.2.2.1 pc L st M r := by
  unfold sp25 at h
  obtain ⟨kd, nc, ns, b, k9, hr, h1⟩ := ho
  subst hr
  split at h
  · next e9 =>
    cases e9
    obtain ⟨hs, h⟩ := iv_stk h
    obtain ⟨a, rfl, ha, h10⟩ := iv_vc2 h
    exact h1 p l e R s m args below meth c D G mc ms _ _ _ _ _ X ha.1 (by rw [ha.2]; exact hc) hs (hge _ _ _ _ h10) (hg _ _ _ _ h10)
  · exact absurd h (by simp)
theorem st26_snd (X : Ctx p l e R s m meth c D G iT q mc ms) (ho : ok26 q pc len r0) (h : sp26 cl k r0 L st M = some r) (hc : cl ≠ 0) (hk : ∀ L st M, k L st M = some r → Sd p l e R s m args below meth c D mc ms q.2.2.1 (pc + len) L st M r) : Sd p l e R s m args below meth c D mc ms q.2.2.1 pc L st M r := by
  unfold sp26 at h
  obtain ⟨sort, kd, idx, hr, rfl, h0, h1, h2, h3, h4⟩ := ho
  subst hr
  split at h
  · next e9 =>
    cases e9
    obtain ⟨hs, h⟩ := iv_stk h
    obtain ⟨a, b, rfl, rfl, hq, h10⟩ := iv_acI h
    rcases h4 with ⟨-, h4⟩ | ⟨h4, -⟩
    · exact aci_snd X.ex X.by_ X.ml X.ow X.k0 (X.r1 h0) h4 h1 h2 h3 hs ⟨hq.1, hq.2.1, by rw [hq.2.2.1]; exact hc, hq.2.2.2⟩ (hk _ _ _ h10)
    · exact absurd h4 (by decide)
  · next e9 =>
    cases e9
    obtain ⟨hs, h⟩ := iv_stk h
    obtain ⟨a, b, rfl, rfl, ⟨q1, q2, q3, q4, q5, q6, q7, q8, q9⟩, h10⟩ := iv_acR h
    rcases h4 with ⟨h4, -⟩ | ⟨-, h4, ty, h5, h6⟩
    · exact absurd h4 (by decide)
    · exact acr_snd X.ex X.by_ X.ml X.ow X.k0 X.ao (X.r1 h0) h4 h5 h6 h1 h2 h3 hs ⟨q1, q2, by rw [q3]; exact hc, q4, q5, q6, q7, q8⟩ q9 (hk _ _ _ h10)
  · exact absurd h (by simp)
theorem st27_snd (X : Ctx p l e R s m meth c D G iT q mc ms) (ho : ok27 q pc len) (h : sp27 k L st M = some r) (hk : ∀ L st M, k L st M = some r → Sd p l e R s m args below meth c D mc ms q.2.2.1 (pc + len) L st M r) : Sd p l e R s m args below meth c D mc ms q.2.2.1 pc L st M r := by
  unfold sp27 at h
  obtain ⟨idx, rfl, h0, h1, h2, h3⟩ := ho
  split at h
  · obtain ⟨hs, h⟩ := iv_stk h
    obtain ⟨-, h10⟩ := iv_fD h
    exact d2l_snd X.ex X.by_ X.ml X.ow X.k0 (X.r1 h0) h1 h2 h3 hs (hk _ _ _ h10)
  · exact absurd h (by simp)
theorem st28_snd (X : Ctx p l e R s m meth c D G iT q mc ms) (ho : ok28 q pc len) (h : sp28 k L st M = some r) (hk : ∀ L st M, k L st M = some r → Sd p l e R s m args below meth c D mc ms q.2.2.1 (pc + len) L st M r) : Sd p l e R s m args below meth c D mc ms q.2.2.1 pc L st M r := by
  unfold sp28 at h
  obtain ⟨idx, rfl, h0, h1, h2, h3⟩ := ho
  split at h
  · obtain ⟨hs, h⟩ := iv_stk h
    obtain ⟨hn, h10⟩ := iv_fD h
    exact l2d_snd X.ex X.by_ X.ml X.ow X.k0 (X.r1 h0) h1 h2 h3 hs hn (hk _ _ _ h10)
  · exact absurd h (by simp)
theorem st38_snd (X : Ctx p l e R s m meth c D G iT q mc ms) (ho : ok38 q pc len r0) (h : sp39 k r0 L st M = some r) (hk : ∀ L st M, k L st M = some r → Sd p l e R s m args below meth c D mc ms q.2.2.1 (pc + len) L st M r) : Sd p l e R s m args below meth c D mc ms q.2.2.1 pc L st M r := by
  unfold sp39 at h
  obtain ⟨op, idx, bytes, h9, rfl, rfl, h0, h1, h2, h3⟩ := ho
  split at h
  · next e9 =>
    cases e9
    obtain ⟨hs, h⟩ := iv_stk h
    obtain ⟨hn, h10⟩ := iv_fD h
    exact abs_snd X.ex X.by_ X.ml X.ow X.k0 (X.r1 h0) h1 h2 h3 hs hn (hk _ _ _ h10)
  · next e9 =>
    cases e9
    obtain ⟨hs, h⟩ := iv_stk h
    obtain ⟨hn, h⟩ := iv_fD h
    obtain ⟨hn2, h10⟩ := iv_fD h
    exact max_snd X.ex X.by_ X.ml X.ow X.k0 (X.r1 h0) h1 h2 h3 hs hn hn2 (hk _ _ _ h10)
  · next e9 =>
    cases e9
    obtain ⟨hs, h⟩ := iv_stk h
    obtain ⟨hn, h⟩ := iv_fD h
    obtain ⟨hn2, h10⟩ := iv_fD h
    exact min_snd X.ex X.by_ X.ml X.ow X.k0 (X.r1 h0) h1 h2 h3 hs hn hn2 (hk _ _ _ h10)
  · exact absurd h (by simp)
theorem st29_snd (X : Ctx p l e R s m meth c D G iT q mc ms) (ho : ok29 q pc len r0) (hc : cl ≠ 0) (h : sp29 G cl k r0 L st M = some r) (hk : ∀ L st M, k L st M = some r → Sd p l e R s m args below meth c D mc ms q.2.2.1 (pc + len) L st M r) : Sd p l e R s m args below meth c D mc ms q.2.2.1 pc L st M r := by
  unfold sp29 at h
  obtain ⟨kd, g, idx, C, hr, rfl, h0, h1, h2, h3, h4, h5⟩ := ho
  subst hr
  split at h
  · next e9 =>
    cases e9
    obtain ⟨hs, h⟩ := iv_stk h
    obtain ⟨a, rfl, ⟨ha, hao⟩, h10⟩ := iv_vc2 h
    obtain ⟨b, e1, e2⟩ := X.gr.2.2.1 g C h2
    rw [e1] at h10
    exact gcl_snd X.ex X.by_ X.ml X.ow X.k0 (X.r1 h0) h1 h3 h4 e2 h5 hs ha (by rw [hao]; exact hc) (hk _ _ _ h10)
  · exact absurd h (by simp)
theorem st33_snd (X : Ctx p l e R s m meth c D G iT q mc ms) (ho : ok33 q pc len r0) (hc : cl ≠ 0) (h : sp33 cl k r0 L st M = some r) (hk : ∀ L st M, k L st M = some r → Sd p l e R s m args below meth c D mc ms q.2.2.1 (pc + len) L st M r) (he : ∀ L st M, k L st M = some r → mnx M ≤ mnx r.2 ∧ msl M ≤ msl r.2) : Sd p l e R s m args below meth c D mc ms q.2.2.1 pc L st M r := by
  unfold sp33 at h
  obtain ⟨idx, hr, rfl, h0, h1, h2, h3⟩ := ho
  subst hr
  split at h
  · next e9 =>
    cases e9
    obtain ⟨hs, h⟩ := iv_stk h
    obtain ⟨a, rfl, ⟨ha, hao⟩, h10⟩ := iv_cln h
    exact cln_snd X.ex X.by_ X.ml X.ow X.k0 (X.r1 h0) X.cs X.bs h1 h2 h3 hs ha (by rw [hao]; exact hc) (he _ _ _ h10) (hk _ _ _ h10)
  · exact absurd h (by simp)
end S13
