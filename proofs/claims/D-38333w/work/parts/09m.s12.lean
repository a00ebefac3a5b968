/-! ===== one step is sound (printed by gen_s12.py) ===== -/
section S12
variable {p : Program} {l : Launch} {e : Env} {R : Room} {s : State} {m : MethodId} {args : Array Value} {below : List Frame} {meth : Method} {c : Code} {D : Gh} {mc ms : Nat} {L : Loc_} {st : List AV} {M : Mem} {r : Out × Mem} {G : Nat → Option Nat} {iT : XT} {q : MI} {cl pc len : Nat} {k : Go_} {go : Nat → Go_} {orc : Orc} {bp : Nat → Nat} {mi : Nat → MI} {i : Instr} {r0 : List Nat} {cn : Int32}
theorem Ctx.ex (X : Ctx p l e R s m meth c D G iT q mc ms) : p.tables.exec = Jvm.exec := X.1
theorem Ctx.by_ (X : Ctx p l e R s m meth c D G iT q mc ms) : c.code = q.2.1 := X.2.1
theorem Ctx.ml (X : Ctx p l e R s m meth c D G iT q mc ms) : c.maxLocals = q.2.2.1 := X.2.2.1
theorem Ctx.ow (X : Ctx p l e R s m meth c D G iT q mc ms) : s.vm.findClass q.1.cls = some m.cls := X.2.2.2.1
theorem Ctx.sk (X : Ctx p l e R s m meth c D G iT q mc ms) : SK D G iT s := X.2.2.2.2.1
theorem Ctx.k0 (X : Ctx p l e R s m meth c D G iT q mc ms) : K0 D s := X.sk.1
theorem Ctx.ao (X : Ctx p l e R s m meth c D G iT q mc ms) : AOv s := X.sk.2.1
theorem Ctx.gr (X : Ctx p l e R s m meth c D G iT q mc ms) : GR D G s s.heap := X.sk.2.2.1
theorem Ctx.nz (X : Ctx p l e R s m meth c D G iT q mc ms) : NZ D iT s s.heap := X.sk.2.2.2.2.1
theorem Ctx.bs (X : Ctx p l e R s m meth c D G iT q mc ms) : D.2.2.2 ≤ s.heap.size := X.sk.2.2.2.2.2.1
theorem Ctx.lk (X : Ctx p l e R s m meth c D G iT q mc ms) : meth.locks = false := X.2.2.2.2.2.1
theorem Ctx.rt (X : Ctx p l e R s m meth c D G iT q mc ms) : meth.sig.returnType = q.2.2.2.1 := X.2.2.2.2.2.2.1
theorem Ctx.nm (X : Ctx p l e R s m meth c D G iT q mc ms) : meth.name = q.1.name := X.2.2.2.2.2.2.2.1
theorem Ctx.tb (X : Ctx p l e R s m meth c D G iT q mc ms) : c.exceptionTable.toList = tableOf q.2.2.2.2.1 := X.2.2.2.2.2.2.2.2.1
theorem Ctx.fr (X : Ctx p l e R s m meth c D G iT q mc ms) : q.2.2.2.2.2 ≤ R.frames := X.2.2.2.2.2.2.2.2.2.1
theorem Ctx.lo (X : Ctx p l e R s m meth c D G iT q mc ms) : 5000 * q.2.2.2.2.2 ≤ R.locals := X.2.2.2.2.2.2.2.2.2.2.1
theorem Ctx.cs (X : Ctx p l e R s m meth c D G iT q mc ms) : mc ≤ R.cells ∧ ms ≤ R.slots := ⟨X.2.2.2.2.2.2.2.2.2.2.2.1, X.2.2.2.2.2.2.2.2.2.2.2.2.1⟩
theorem Ctx.tr (X : Ctx p l e R s m meth c D G iT q mc ms) : l.stackTraces = false := X.2.2.2.2.2.2.2.2.2.2.2.2.2
theorem Ctx.r1 (X : Ctx p l e R s m meth c D G iT q mc ms) (h : 1 ≤ q.2.2.2.2.2) : 1 ≤ R.frames ∧ 40 ≤ R.locals := by
  have h1 := X.fr
  have h2 := X.lo
  omega
theorem st0_snd (X : Ctx p l e R s m meth c D G iT q mc ms) (ho : ok0 q pc len i cn) (h : sp0 k i cn L st M = some r) (hk : ∀ L st M, k L st M = some r → Sd p l e R s m args below meth c D mc ms q.2.2.1 (pc + len) L st M r) : Sd p l e R s m args below meth c D mc ms q.2.2.1 pc L st M r := by
  unfold sp0 at h
  split at h
  · next L' st' e9 => exact sop_snd X.ex X.by_ ho.1 ho.2 e9 (hk _ _ _ h)
  · exact absurd h (by simp)
theorem st30_snd (X : Ctx p l e R s m meth c D G iT q mc ms) (ho : ok0 q pc len i cn) (h : sp30 k i cn L st M = some r) (hk : ∀ L st M, k L st M = some r → Sd p l e R s m args below meth c D mc ms q.2.2.1 (pc + len) L st M r) : Sd p l e R s m args below meth c D mc ms q.2.2.1 pc L st M r := by
  unfold sp30 at h
  split at h
  · unfold nmI at h
    dsimp only at h
    split at h
    · next L' st' e9 => exact sop_snd X.ex X.by_ ho.1 ho.2 e9 (hk _ _ _ h)
    · exact absurd h (by simp)
  · exact absurd h (by simp)
theorem st1_snd (X : Ctx p l e R s m meth c D G iT q mc ms) (ho : ok1 q pc len i) (h : sp1 k i L st M = some r) (hk : ∀ L st M, k L st M = some r → Sd p l e R s m args below meth c D mc ms q.2.2.1 (pc + len) L st M r) : Sd p l e R s m args below meth c D mc ms q.2.2.1 pc L st M r := by
  unfold sp1 at h
  obtain ⟨ho, rfl⟩ := ho
  split at h
  · next x s e9 =>
    obtain ⟨h1, h2⟩ := iv_fD h
    exact fop_snd X.ex X.by_ ho e9 h1 (hk _ _ _ h2)
  · exact absurd h (by simp)
theorem st2_snd (X : Ctx p l e R s m meth c D G iT q mc ms) (ho : ok1 q pc len i) (h : sp2 k i L st M = some r) (hk : ∀ L st M, k L st M = some r → Sd p l e R s m args below meth c D mc ms q.2.2.1 (pc + len) L st M r) : Sd p l e R s m args below meth c D mc ms q.2.2.1 pc L st M r := by
  unfold sp2 at h
  obtain ⟨ho, rfl⟩ := ho
  split at h
  · next y x s e9 =>
    obtain ⟨h1, h2⟩ := iv_dvI h
    exact dop_snd X.ex X.by_ ho e9 h1 (hk _ _ _ h2)
  · exact absurd h (by simp)
theorem st3_snd (X : Ctx p l e R s m meth c D G iT q mc ms) (ho : ok3 q bp pc i r0) (h : sp3 go i r0 L st M = some r) (hg : ∀ b L st M, go b L st M = some r → Sd p l e R s m args below meth c D mc ms q.2.2.1 (bp b) L st M r) : Sd p l e R s m args below meth c D mc ms q.2.2.1 pc L st M r := by
  unfold sp3 at h
  obtain ⟨t, f, off, rfl, h1, h2, h3, h4⟩ := ho
  exact bop_snd X.ex X.by_ h1 h2 h3 h (fun s' h => hg _ _ _ _ h) (fun s' h => h4 ▸ hg _ _ _ _ h)
theorem st4_snd (X : Ctx p l e R s m meth c D G iT q mc ms) (ho : ok4 q bp pc r0) (h : sp4 go r0 L st M = some r) (hg : ∀ b L st M, go b L st M = some r → Sd p l e R s m args below meth c D mc ms q.2.2.1 (bp b) L st M r) : Sd p l e R s m args below meth c D mc ms q.2.2.1 pc L st M r := by
  unfold sp4 at h
  obtain ⟨t, rfl, h1⟩ := ho
  rcases h1 with h1 | ⟨off, h1, h2⟩
  · exact h1 ▸ hg _ _ _ _ h
  · exact gto_snd X.ex X.by_ h1 h2 (hg _ _ _ _ h)
theorem st5_snd (X : Ctx p l e R s m meth c D G iT q mc ms) (ho : ok5 q bp pc r0) (h : sp5 go r0 L st M = some r) (hg : ∀ b L st M, go b L st M = some r → Sd p l e R s m args below meth c D mc ms q.2.2.1 (bp b) L st M r) : Sd p l e R s m args below meth c D mc ms q.2.2.1 pc L st M r := by
  unfold sp5 at h
  obtain ⟨d, ps, rfl, h1⟩ := ho
  split at h
  · next d' ps' x s9 e9 =>
    cases e9
    rw [swk_T] at h
    rcases h1 with ⟨dflt, lo, hi, offs, n, len', h1, h2, h3⟩ | ⟨dflt, qs, len', h1, h2, h3, h4⟩
    · exact tsw_snd X.ex X.by_ h1 h2 h3 (hg _ _ _ _ h)
    · exact lsw_snd X.ex X.by_ h1 h2 h3 h4 (hg _ _ _ _ h)
  · exact absurd h (by simp)
theorem st6_snd (X : Ctx p l e R s m meth c D G iT q mc ms) (ho : ok6 q pc len r0) (h : sp6 k r0 L st M = some r) (hin : kIn) (hk : ∀ L st M, k L st M = some r → Sd p l e R s m args below meth c D mc ms q.2.2.1 (pc + len) L st M r) : Sd p l e R s m args below meth c D mc ms q.2.2.1 pc L st M r := by
  unfold sp6 at h
  split at h
  · obtain ⟨sort, kd, f, idx, j, s', ref, k9, hr, rfl, h1, h2, h3, h4, h5, h6, h7, h8, h9⟩ := ho
    cases hr
    obtain ⟨a, rfl, ha, h10⟩ := iv_gI h
    refine get_snd X.ex X.by_ X.ow X.k0 hin h2 h3 h4 h5 h6 h8 h9 h1 ha (v := vI _) ?_ (hk _ _ _ h10)
    rcases h7 with ⟨h7, -⟩ | ⟨-, h7 | h7⟩
    · rw [← h7]; rfl
    · rw [h7]; rfl
    · rw [h7]; rfl
  · obtain ⟨sort, kd, f, idx, j, s', ref, k9, hr, rfl, h1, h2, h3, h4, h5, h6, h7, h8, h9⟩ := ho
    cases hr
    obtain ⟨a, rfl, ha, h10⟩ := iv_gJ h
    refine get_snd X.ex X.by_ X.ow X.k0 hin h2 h3 h4 h5 h6 h8 h9 h1 ha (v := vJ _) ?_ (hk _ _ _ h10)
    rcases h7 with ⟨h7, -⟩ | ⟨h7, -⟩
    · rw [← h7]; rfl
    · exact absurd h7 (by decide)
  · obtain ⟨sort, kd, f, idx, j, s', ref, k9, hr, rfl, h1, h2, h3, h4, h5, h6, h7, h8, h9⟩ := ho
    cases hr
    obtain ⟨a, rfl, ha, h10⟩ := iv_gD h
    refine get_snd X.ex X.by_ X.ow X.k0 hin h2 h3 h4 h5 h6 h8 h9 h1 ha (v := vD _) ?_ (hk _ _ _ h10)
    rcases h7 with ⟨h7, -⟩ | ⟨h7, -⟩
    · rw [← h7]; rfl
    · exact absurd h7 (by decide)
  · obtain ⟨sort, kd, f, idx, j, s', ref, k9, hr, rfl, h1, h2, h3, h4, h5, h6, h7, h8, h9⟩ := ho
    cases hr
    obtain ⟨a, rfl, ha, h10⟩ := iv_gR h
    refine get_snd X.ex X.by_ X.ow X.k0 hin h2 h3 h4 h5 h6 h8 h9 h1 ha (v := vR _) ?_ (hk _ _ _ h10)
    rcases h7 with ⟨h7, -⟩ | ⟨h7, -⟩
    · rw [← h7]; rfl
    · exact absurd h7 (by decide)
  · exact absurd h (by simp)
theorem nv0 {ty : FieldType} {v : Int32} (h : srt ty = 0) : narrow ty (.int v) = .int v ∧ fits ty (.int v) = true := by
  cases ty <;> first | exact ⟨rfl, rfl⟩ | exact absurd h (by simp [srt])
theorem nv1 {ty : FieldType} {v : Int64} (h : srt ty = 1) : narrow ty (.long v) = .long v ∧ fits ty (.long v) = true := by
  cases ty <;> first | exact ⟨rfl, rfl⟩ | exact absurd h (by simp [srt])
theorem nv2 {ty : FieldType} {v : UInt64} (h : srt ty = 2) : narrow ty (.double v) = .double v ∧ fits ty (.double v) = true := by
  cases ty <;> first | exact ⟨rfl, rfl⟩ | exact absurd h (by simp [srt])
theorem nv3 {ty : FieldType} {v : Option Nat} (h : srt ty = 3) : narrow ty (va_rf v) = va_rf v ∧ fits ty (va_rf v) = true := by
  cases ty <;> first | (cases v <;> exact ⟨rfl, rfl⟩) | exact absurd h (by simp [srt])
theorem nv4 {ty : FieldType} {v : Int32} (h : srt ty = 4) (hv : v &&& 1 = v) : narrow ty (.int v) = .int v ∧ fits ty (.int v) = true := by
  have h9 : fits .boolean (.int v) = true := by have := fit_z v; rw [hv] at this; exact this
  cases ty <;> first | exact ⟨congrArg Value.int hv, h9⟩ | exact absurd h (by simp [srt])
theorem nv5 {ty : FieldType} {v : Int32} (h : srt ty = 5) (hv : v.toInt8.toInt32 = v) : narrow ty (.int v) = .int v ∧ fits ty (.int v) = true := by
  have h9 : fits .byte (.int v) = true := by have := pk_fb v; rw [hv] at this; exact this
  cases ty <;> first | exact ⟨congrArg Value.int hv, h9⟩ | exact absurd h (by simp [srt])
theorem st7_snd (X : Ctx p l e R s m meth c D G iT q mc ms) (ho : ok7 q pc len r0) (h : sp7 cl k r0 L st M = some r) (hin : kIn) (hty : kTy) (hkk : kOK D) (hc : cl ≠ 0) (hk : ∀ L st M, k L st M = some r → Sd p l e R s m args below meth c D mc ms q.2.2.1 (pc + len) L st M r) : Sd p l e R s m args below meth c D mc ms q.2.2.1 pc L st M r := by
  unfold sp7 at h
  split at h
  · next v o s9 =>
    obtain ⟨sort, kd, f, idx, j, ref, k9, hr, rfl, h1, h2, h3, h4, h5, h6, h8, h9, hfin⟩ := ho
    cases hr
    obtain ⟨a, rfl, ha, h10⟩ := iv_pI h
    refine put_snd (M' := sfi M _ a _) X.ex X.by_ X.ow X.k0 hin hty hkk h2 h3 h4 h5 h6 h8 h9 (by rw [X.nm]; exact hfin) h1 ha.1 (by rw [ha.2]; exact hc) (v := vI _) (fun ty h => nv0 h) rfl rfl rfl rfl rfl (ext_sfi hc ha.2).2.2.2.2 (fun b q hb => fldV_sfi (Or.inl hb)) (fun k b j => elV_sfi k b j) ?_ (fun q hq => fldV_sfi (Or.inr hq)) (hk _ _ _ h10)
    show Value.int (up2 _ _ _ _ _ _) = _
    rw [up2_at]
    rfl
  · next v o s9 =>
    obtain ⟨sort, kd, f, idx, j, ref, k9, hr, rfl, h1, h2, h3, h4, h5, h6, h8, h9, hfin⟩ := ho
    cases hr
    obtain ⟨a, rfl, ha, h10⟩ := iv_pJ h
    refine put_snd (M' := sfj M _ a _) X.ex X.by_ X.ow X.k0 hin hty hkk h2 h3 h4 h5 h6 h8 h9 (by rw [X.nm]; exact hfin) h1 ha.1 (by rw [ha.2]; exact hc) (v := vJ _) (fun ty h => nv1 h) rfl rfl rfl rfl rfl (ext_sfj hc ha.2).2.2.2.2 (fun b q hb => fldV_sfj (Or.inl hb)) (fun k b j => elV_sfj k b j) ?_ (fun q hq => fldV_sfj (Or.inr hq)) (hk _ _ _ h10)
    show Value.long (up2 _ _ _ _ _ _) = _
    rw [up2_at]
    rfl
  · next v o s9 =>
    obtain ⟨sort, kd, f, idx, j, ref, k9, hr, rfl, h1, h2, h3, h4, h5, h6, h8, h9, hfin⟩ := ho
    cases hr
    obtain ⟨a, rfl, ha, h10⟩ := iv_pD h
    refine put_snd (M' := sfd M _ a _) X.ex X.by_ X.ow X.k0 hin hty hkk h2 h3 h4 h5 h6 h8 h9 (by rw [X.nm]; exact hfin) h1 ha.1 (by rw [ha.2]; exact hc) (v := vD _) (fun ty h => nv2 h) rfl rfl rfl rfl rfl (ext_sfd hc ha.2).2.2.2.2 (fun b q hb => fldV_sfd (Or.inl hb)) (fun k b j => elV_sfd k b j) ?_ (fun q hq => fldV_sfd (Or.inr hq)) (hk _ _ _ h10)
    show Value.double (up2 _ _ _ _ _ _) = _
    rw [up2_at]
    rfl
  · next v o s9 =>
    obtain ⟨sort, kd, f, idx, j, ref, k9, hr, rfl, h1, h2, h3, h4, h5, h6, h8, h9, hfin⟩ := ho
    cases hr
    obtain ⟨a, rfl, ha, h10⟩ := iv_pR h
    refine put_snd (M' := sfr M _ a _) X.ex X.by_ X.ow X.k0 hin hty hkk h2 h3 h4 h5 h6 h8 h9 (by rw [X.nm]; exact hfin) h1 ha.1 (by rw [ha.2]; exact hc) (v := vR _) (fun ty h => nv3 h) rfl rfl rfl rfl rfl (ext_sfr hc ha.2).2.2.2.2 (fun b q hb => fldV_sfr (Or.inl hb)) (fun k b j => elV_sfr k b j) ?_ (fun q hq => fldV_sfr (Or.inr hq)) (hk _ _ _ h10)
    show va_rf (up2 _ _ _ _ _ _) = _
    rw [up2_at]
    rfl
  · next v o s9 =>
    obtain ⟨sort, kd, f, idx, j, ref, k9, hr, rfl, h1, h2, h3, h4, h5, h6, h8, h9, hfin⟩ := ho
    cases hr
    obtain ⟨a, rfl, ha, h10⟩ := iv_pZ h
    refine put_snd (M' := sfi M _ a _) X.ex X.by_ X.ow X.k0 hin hty hkk h2 h3 h4 h5 h6 h8 h9 (by rw [X.nm]; exact hfin) h1 ha.1 (by rw [ha.2.1]; exact hc) (v := vI _) (fun ty h => nv4 h ha.2.2) rfl rfl rfl rfl rfl (ext_sfi hc ha.2.1).2.2.2.2 (fun b q hb => fldV_sfi (Or.inl hb)) (fun k b j => elV_sfi k b j) ?_ (fun q hq => fldV_sfi (Or.inr hq)) (hk _ _ _ h10)
    show Value.int (up2 _ _ _ _ _ _) = _
    rw [up2_at]
    rfl
  · next v o s9 =>
    obtain ⟨sort, kd, f, idx, j, ref, k9, hr, rfl, h1, h2, h3, h4, h5, h6, h8, h9, hfin⟩ := ho
    cases hr
    obtain ⟨a, rfl, ha, h10⟩ := iv_pB h
    refine put_snd (M' := sfi M _ a _) X.ex X.by_ X.ow X.k0 hin hty hkk h2 h3 h4 h5 h6 h8 h9 (by rw [X.nm]; exact hfin) h1 ha.1 (by rw [ha.2.1]; exact hc) (v := vI _) (fun ty h => nv5 h ha.2.2) rfl rfl rfl rfl rfl (ext_sfi hc ha.2.1).2.2.2.2 (fun b q hb => fldV_sfi (Or.inl hb)) (fun k b j => elV_sfi k b j) ?_ (fun q hq => fldV_sfi (Or.inr hq)) (hk _ _ _ h10)
    show Value.int (up2 _ _ _ _ _ _) = _
    rw [up2_at]
    rfl
  · exact absurd h (by simp)
theorem st8_snd (X : Ctx p l e R s m meth c D G iT q mc ms) (ho : ok8 q pc len i r0) (h : sp8 k r0 L st M = some r) (hk : ∀ L st M, k L st M = some r → Sd p l e R s m args below meth c D mc ms q.2.2.1 (pc + len) L st M r) : Sd p l e R s m args below meth c D mc ms q.2.2.1 pc L st M r := by
  unfold sp8 at h
  obtain ⟨sort, kd9, hr, rfl, h1, h2⟩ := ho
  subst hr
  split at h
  · next kd _ j o s9 e9 =>
    cases e9
    obtain ⟨a, rfl, ha, h10⟩ := iv_ldI h
    rcases h2 with ⟨-, ⟨rfl, rfl⟩ | ⟨rfl, rfl | rfl⟩⟩ | ⟨h2, -⟩ | ⟨h2, -⟩
    · exact ld_snd (ty := .int) X.ex X.by_ X.k0 (by decide) rfl (Or.inl ⟨rfl, rfl⟩) h1 ha (v := vI _) rfl (hk _ _ _ h10)
    · exact ld_snd (ty := .boolean) X.ex X.by_ X.k0 (by decide) rfl (Or.inr (Or.inr (Or.inl ⟨rfl, rfl⟩))) h1 ha (v := vI _) rfl (hk _ _ _ h10)
    · exact ld_snd (ty := .byte) X.ex X.by_ X.k0 (by decide) rfl (Or.inr (Or.inl ⟨rfl, rfl⟩)) h1 ha (v := vI _) rfl (hk _ _ _ h10)
    · exact absurd h2 (by decide)
    · exact absurd h2 (by decide)
  · next kd _ j o s9 e9 =>
    cases e9
    obtain ⟨a, rfl, ha, h10⟩ := iv_ldD h
    rcases h2 with ⟨h2, -⟩ | ⟨-, rfl, rfl⟩ | ⟨h2, -⟩
    · exact absurd h2 (by decide)
    · exact ld_snd (ty := .double) X.ex X.by_ X.k0 (by decide) rfl (Or.inr (Or.inr (Or.inr (Or.inl ⟨rfl, rfl⟩)))) h1 ha (v := vD _) rfl (hk _ _ _ h10)
    · exact absurd h2 (by decide)
  · next kd _ j o s9 e9 =>
    cases e9
    obtain ⟨a, rfl, ha, h10⟩ := iv_ldR h
    rcases h2 with ⟨h2, -⟩ | ⟨h2, -⟩ | ⟨-, rfl, h2, ty, h3, h4⟩
    · exact absurd h2 (by decide)
    · exact absurd h2 (by decide)
    · exact ld_snd X.ex X.by_ X.k0 (by omega) h3 (Or.inr (Or.inr (Or.inr (Or.inr ⟨rfl, h4⟩)))) h1 ha (v := vR _) (elV_ref h2).symm (hk _ _ _ h10)
  · exact absurd h (by simp)
theorem st9_snd (X : Ctx p l e R s m meth c D G iT q mc ms) (ho : ok9 q pc len i r0) (h : sp9 cl k r0 L st M = some r) (hc : cl ≠ 0) (hk : ∀ L st M, k L st M = some r → Sd p l e R s m args below meth c D mc ms q.2.2.1 (pc + len) L st M r) : Sd p l e R s m args below meth c D mc ms q.2.2.1 pc L st M r := by
  unfold sp9 at h
  obtain ⟨sort, kd9, ks9, hr, rfl, h1, h2⟩ := ho
  subst hr
  split at h
  · next v j o s9 e9 =>
    cases e9
    obtain ⟨a, rfl, ha, h10⟩ := iv_stI h
    rcases h2 with ⟨h2, h3, h4⟩ | ⟨h2, h3, h4⟩ | ⟨h2, h3, h4⟩ | ⟨h2, h3, h4⟩ | ⟨h2, -⟩ <;> (first | (exact absurd h2 (by decide)) | skip)
    subst h3; subst h4
    exact st_snd (M' := sai M a _ _) (w := vI v) (v := vI v) (ty := .int) X.ex X.by_ X.k0 (by decide) rfl (Or.inl ⟨rfl, rfl, rfl⟩) (Or.inl ⟨rfl, _, rfl⟩) h1 ⟨ha.1, by rw [ha.2.1]; exact hc, ha.2.2⟩ rfl rfl rfl rfl rfl (ext_sai hc ha.2.1).2.2.2.2 (fun b q => fldV_sai b q) (fun k b j hb => elV_sai k (Or.inl hb)) (by show Value.int (up2 _ _ _ _ _ _) = _; rw [up2_at]; rfl) (fun i hi => elV_sai _ (Or.inr hi)) (hk _ _ _ h10)
  · next v j o s9 e9 =>
    cases e9
    obtain ⟨a, rfl, ha, h10⟩ := iv_stD h
    rcases h2 with ⟨h2, h3, h4⟩ | ⟨h2, h3, h4⟩ | ⟨h2, h3, h4⟩ | ⟨h2, h3, h4⟩ | ⟨h2, -⟩ <;> (first | (exact absurd h2 (by decide)) | skip)
    subst h3; subst h4
    exact st_snd (M' := sad M a _ _) (w := vD v) (v := vD v) (ty := .double) X.ex X.by_ X.k0 (by decide) rfl (Or.inr (Or.inl ⟨rfl, rfl, rfl⟩)) (Or.inr (Or.inl ⟨rfl, _, rfl⟩)) h1 ⟨ha.1, by rw [ha.2.1]; exact hc, ha.2.2⟩ rfl rfl rfl rfl rfl (ext_sad hc ha.2.1).2.2.2.2 (fun b q => fldV_sad b q) (fun k b j hb => elV_sad k (Or.inl hb)) (by show Value.double (up2 _ _ _ _ _ _) = _; rw [up2_at]; rfl) (fun i hi => elV_sad _ (Or.inr hi)) (hk _ _ _ h10)
  · next v j o s9 e9 =>
    cases e9
    obtain ⟨a, rfl, ha, h10⟩ := iv_stR h
    rcases h2 with ⟨h2, -⟩ | ⟨h2, -⟩ | ⟨h2, -⟩ | ⟨h2, -⟩ | ⟨-, h2, h3, ty, h4, h5, h6⟩ <;> (first | (exact absurd h2 (by decide)) | skip)
    subst h2
    exact ast_snd X.ex X.by_ X.k0 X.ao h3 h4 h5 h6 h1 ⟨ha.1, by rw [ha.2.1]; exact hc, ha.2.2⟩ (hk _ _ _ h10)
  · next v j o s9 e9 =>
    cases e9
    obtain ⟨a, rfl, ha, h10⟩ := iv_stI h
    rcases h2 with ⟨h2, h3, h4⟩ | ⟨h2, h3, h4⟩ | ⟨h2, h3, h4⟩ | ⟨h2, h3, h4⟩ | ⟨h2, -⟩ <;> (first | (exact absurd h2 (by decide)) | skip)
    subst h3; subst h4
    exact st_snd (M' := sai M a _ _) (w := vI v) (v := vI (z2Z v)) (ty := .boolean) X.ex X.by_ X.k0 (by decide) rfl (Or.inr (Or.inr (Or.inl ⟨rfl, rfl, v, rfl, rfl⟩))) (Or.inr (Or.inr (Or.inl rfl))) h1 ⟨ha.1, by rw [ha.2.1]; exact hc, ha.2.2⟩ rfl rfl rfl rfl rfl (ext_sai hc ha.2.1).2.2.2.2 (fun b q => fldV_sai b q) (fun k b j hb => elV_sai k (Or.inl hb)) (by show Value.int (up2 _ _ _ _ _ _) = _; rw [up2_at]; rfl) (fun i hi => elV_sai _ (Or.inr hi)) (hk _ _ _ h10)
  · next v j o s9 e9 =>
    cases e9
    obtain ⟨a, rfl, ha, h10⟩ := iv_stI h
    rcases h2 with ⟨h2, h3, h4⟩ | ⟨h2, h3, h4⟩ | ⟨h2, h3, h4⟩ | ⟨h2, h3, h4⟩ | ⟨h2, -⟩ <;> (first | (exact absurd h2 (by decide)) | skip)
    subst h3; subst h4
    exact st_snd (M' := sai M a _ _) (w := vI v) (v := vI (i2B v)) (ty := .byte) X.ex X.by_ X.k0 (by decide) rfl (Or.inr (Or.inr (Or.inr ⟨rfl, rfl, v, rfl, rfl⟩))) (Or.inr (Or.inr (Or.inr rfl))) h1 ⟨ha.1, by rw [ha.2.1]; exact hc, ha.2.2⟩ rfl rfl rfl rfl rfl (ext_sai hc ha.2.1).2.2.2.2 (fun b q => fldV_sai b q) (fun k b j hb => elV_sai k (Or.inl hb)) (by show Value.int (up2 _ _ _ _ _ _) = _; rw [up2_at]; rfl) (fun i hi => elV_sai _ (Or.inr hi)) (hk _ _ _ h10)
  · exact absurd h (by simp)
end S12
