/-! ===== the abstract machine is sound ===== -/
/-- a block's entries stand one behind the other -/
def Chn (mi : Nat → MI) (iT : XT) (q : MI) (bp : Nat → Nat) : Nat → List Ent → Prop
  | _, [] => True
  | pc, e :: rest => e.1 = pc ∧ OKe mi iT q bp e ∧ Chn mi iT q bp (e.1 + e.2.1) rest
/-- where a block begins -/
def bpc (code : Code_) (b : Nat) : Nat := match blkAt code b with
  | some (_, e :: _) => e.1
  | _ => 0
/-- Math.ceil's bytes as the abstract machine reads them: a call of StrictMath.ceil -/
def ceI (code : Code_) (m2 : Nat) : Prop := ∀ (G : Nat → Option Nat) (orc : Orc) (c m : Nat) (as : List AV) (M : Mem) (y : Out × Mem), (as.map ab_ca).sum ≤ 2 → exB G orc c m code 400 0 (mkA 0 as) [] M = some y → ∃ (x v : UInt64) (M' : Mem), as = [vD x] ∧ orc c m2 0 (mkA 0 as) [] M = some y ∧ y = (.inl (some (vD v)), M') ∧ isN v
def CeM (mi : Nat → MI) (prg : Nat → Code_) (m : Nat) : Prop := ∃ (m2 : Nat) (b1 b2 : ByteArray), (mi m).1 = ceN ∧ miW (mi m) = Cond.code ceN b1 2 (some .double) ∧ (mi m).2.2.1 = 2 ∧ (mi m2).1 = ceS ∧ miW (mi m2) = Cond.code ceS b2 2 (some .double) ∧ miW (mi m2) ∈ lw_tbl ∧ (mi m2).2.2.1 = 2 ∧ Cond.static ceN ∈ lw_tbl ∧ Cond.initialized "java/lang/StrictMath" ∈ lw_tbl ∧ (mi m2).2.2.2.2.2 + 1 ≤ (mi m).2.2.2.2.2 ∧ ceI (prg m) m2
/-- a method is as it should be -/
def OKm (mi : Nat → MI) (iT : XT) (prg : Nat → Code_) (m : Nat) : Prop := prg m = [] ∨ ((plainFor (mi m).1 = true ∨ CeM mi prg m) ∧ bpc (prg m) 0 = 0 ∧ ∀ (b : Nat) (blk : Blk), blkAt (prg m) b = some blk → Chn mi iT (mi m) (bpc (prg m)) (bpc (prg m) b) blk.2)
theorem pick_mem {ks : List Nat} {L : Loc_} : ∀ {L' : Loc_}, pick ks L = some L' → ∀ z ∈ L', z ∈ L := by
  induction ks with
  | nil => intro L' h; cases h; intro z hz; cases hz
  | cons k ks ih =>
    intro L' h
    unfold pick at h
    split at h
    · next v e1 =>
      split at h
      · next L2 e2 =>
        cases h
        intro z hz
        rcases List.mem_cons.mp hz with rfl | hz
        · exact lget_mem e1
        · exact ih e2 z hz
      · exact absurd h (by simp)
    · exact absurd h (by simp)
theorem blkAt_nil {b : Nat} : blkAt [] b = none := rfl
theorem run_nil {G : Nat → Option Nat} {prg : Nat → Code_} {m : Nat} (h : prg m = []) : ∀ (n c b : Nat) (L : Loc_) (st : List AV) (M : Mem), run G prg n c m b L st M = none
  | 0, _, _, _, _, _ => rfl
  | n + 1, c, b, L, st, M => by
    show exB G (run G prg n) c m (prg m) 400 b L st M = none
    rw [h]
    rfl
section S15
variable {p : Program} {l : Launch} {e : Env} {R : Room} {s : State} {m : MethodId} {args : Array Value} {below : List Frame} {meth : Method} {c : Code} {D : Gh} {mc ms : Nat} {r : Out × Mem} {G : Nat → Option Nat} {iT : XT} {q : MI} {cl : Nat} {go : Nat → Go_} {orc : Orc} {bp : Nat → Nat} {mi : Nat → MI}
theorem exE_snd (X : Ctx p l e R s m meth c D G iT q mc ms) (hin : kIn) (hty : kTy) (hkk : kOK D) (hc : cl ≠ 0)
    (hO : ∀ (c' m' : Nat) (as : List AV) (M : Mem) (y : Out × Mem), c' ≠ 0 → orc c' m' 0 (mkA 0 as) [] M = some y → (as.map ab_ca).sum ≤ (mi m').2.2.1 → (mnx M ≤ mnx y.2 ∧ msl M ≤ msl y.2) ∧ nb_Met l (mi m').1 [miW (mi m')] { frames := (mi m').2.2.2.2.2, locals := 5000 * (mi m').2.2.2.2.2, cells := mnx y.2 - mnx M, slots := msl y.2 - msl M } (PcM D G iT as M) (Qr D y) (Xr D y) (mnx y.2 - mnx M) (msl y.2 - msl M) (hbA D))
    (hoE : ∀ c m L1 M1 y, c ≠ 0 → orc c m 0 L1 [] M1 = some y → Ext c M1 y.2) (hgE : ∀ b L st M r, go b L st M = some r → Ext cl M r.2)
    (hg : ∀ b L st M, go b L st M = some r → Sd p l e R s m args below meth c D mc ms q.2.2.1 (bp b) L st M r) : ∀ (es : List Ent) (pc : Nat), Chn mi iT q bp pc es → ∀ (L : Loc_) (st : List AV) (M : Mem), exE G orc cl go es L st M = some r → Sd p l e R s m args below meth c D mc ms q.2.2.1 pc L st M r
  | [], _, _, _, _, _, h => absurd h (by simp [exE])
  | e0 :: rest, pc, hC, L, st, M, h => by
    obtain ⟨h1, h2, h3⟩ := hC
    subst h1
    refine stp_snd X hin hty hkk hc h2 (show stp G orc cl go (exE G orc cl go rest) e0 L st M = some r from h) hO ?_ ?_ hg ?_
    · intro L st M h
      exact exE_snd X hin hty hkk hc hO hoE hgE hg rest _ h3 L st M h
    · intro L st M h
      have := exE_ext hc hoE hgE rest L st M r h
      exact ⟨this.1, this.2.1⟩
    · intro b L st M h
      have := hgE b L st M r h
      exact ⟨this.1, this.2.1⟩
theorem exB_snd {code : Code_} {mn : Nat} (X : Ctx p l e R s m meth c D G iT q mc ms) (hin : kIn) (hty : kTy) (hkk : kOK D) (hc : cl ≠ 0)
    (hO : ∀ (c' m' : Nat) (as : List AV) (M : Mem) (y : Out × Mem), c' ≠ 0 → orc c' m' 0 (mkA 0 as) [] M = some y → (as.map ab_ca).sum ≤ (mi m').2.2.1 → (mnx M ≤ mnx y.2 ∧ msl M ≤ msl y.2) ∧ nb_Met l (mi m').1 [miW (mi m')] { frames := (mi m').2.2.2.2.2, locals := 5000 * (mi m').2.2.2.2.2, cells := mnx y.2 - mnx M, slots := msl y.2 - msl M } (PcM D G iT as M) (Qr D y) (Xr D y) (mnx y.2 - mnx M) (msl y.2 - msl M) (hbA D))
    (hoE : ∀ c m b L1 s M1 y, c ≠ 0 → orc c m b L1 s M1 = some y → Ext c M1 y.2) (hH : ∀ b L st M, orc cl mn b L st M = some r → Sd p l e R s m args below meth c D mc ms q.2.2.1 (bpc code b) L st M r)
    (hB : ∀ (b : Nat) (blk : Blk), blkAt code b = some blk → Chn mi iT q (bpc code) (bpc code b) blk.2) : ∀ (K b : Nat) (L : Loc_) (st : List AV) (M : Mem), exB G orc cl mn code K b L st M = some r → Sd p l e R s m args below meth c D mc ms q.2.2.1 (bpc code b) L st M r
  | 0, _, _, _, _, h => absurd h (by simp [exB])
  | K + 1, b, L, st, M, h => by
    unfold exB at h
    split at h
    · next ks es e9 =>
      refine exE_snd X hin hty hkk hc hO (fun c m L1 M1 y hc h => hoE c m 0 L1 [] M1 y hc h) ?_ ?_ es (bpc code b) (hB b _ e9) L st M h
      · intro b L st M r h
        unfold goH at h
        split at h
        · exact exB_ext hc hoE K _ _ _ _ _ h
        · split at h
          · exact hoE _ _ _ _ _ _ _ hc h
          · exact absurd h (by simp)
        · exact absurd h (by simp)
      · intro b L st M h
        unfold goH at h
        split at h
        · exact exB_snd X hin hty hkk hc hO hoE hH hB K b L st M h
        · split at h
          · next L' e8 =>
            have h9 := hH b L' st M h
            intro H locs cells slots ls a1 a2 a3 a4 a5
            refine h9 H locs cells slots ls a1 a2 ⟨a3.1, a3.2.1, fun z hz => ?_⟩ a4 a5
            obtain ⟨z', hz', rfl⟩ := List.mem_map.mp hz
            exact a3.2.2 _ (List.mem_map.mpr ⟨z', pick_mem e8 z' hz', rfl⟩)
          · exact absurd h (by simp)
        · exact absurd h (by simp)
    · exact absurd h (by simp)
end S15
theorem mkA_args : ∀ (as : List AV) (i : Nat), (mkA i as).map cvp = lv_args i (as.map ab_cv)
  | [], _ => rfl
  | v :: as, i => by
    have h2 : (if (ab_cv v).category = 2 then i + 2 else i + 1) = i + ab_ca v := by
      rw [ab_cat]
      rcases v with x | x | x | x <;> rfl
    show (i, ab_cv v) :: (mkA (i + ab_ca v) as).map cvp = (i, ab_cv v) :: lv_args _ (as.map ab_cv)
    rw [h2, mkA_args as]
theorem sl_len : ∀ as : List AV, (lg_sl (as.map ab_cv)).length = (as.map ab_ca).sum
  | [] => rfl
  | v :: as => by
    have ih := sl_len as
    unfold lg_sl at ih ⊢
    simp only [List.map_cons, List.flatMap_cons, List.length_append, List.sum_cons, ih]
    congr 1
    rw [ab_cat]
    rcases v with x | x | x | x <;> rfl
/-- THE SOUNDNESS: what the abstract machine computes the machine computes -/
theorem snd_all {l : Launch} {D : Gh} {G : Nat → Option Nat} {iT : XT} {mi : Nat → MI} {prg : Nat → Code_} (hl : l.stackTraces = false) (hin : kIn) (hty : kTy) (hkk : kOK D) (hm : ∀ m, OKm mi iT prg m) : ∀ n : Nat,
    (∀ (cl mn b : Nat) (L : Loc_) (st : List AV) (M : Mem) (r : Out × Mem), cl ≠ 0 → run G prg n cl mn b L st M = some r → ∀ (p : Program) (e : Env) (R : Room) (s : State) (m : MethodId) (args : Array Value) (below : List Frame) (meth : Method) (c : Code) (mc ms : Nat), Ctx p l e R s m meth c D G iT (mi mn) mc ms → Sd p l e R s m args below meth c D mc ms (mi mn).2.2.1 (bpc (prg mn) b) L st M r) ∧
    (∀ (c' m' : Nat) (as : List AV) (M : Mem) (y : Out × Mem), c' ≠ 0 → run G prg n c' m' 0 (mkA 0 as) [] M = some y → (as.map ab_ca).sum ≤ (mi m').2.2.1 → (mnx M ≤ mnx y.2 ∧ msl M ≤ msl y.2) ∧ nb_Met l (mi m').1 [miW (mi m')] { frames := (mi m').2.2.2.2.2, locals := 5000 * (mi m').2.2.2.2.2, cells := mnx y.2 - mnx M, slots := msl y.2 - msl M } (PcM D G iT as M) (Qr D y) (Xr D y) (mnx y.2 - mnx M) (msl y.2 - msl M) (hbA D)) := by
  intro n
  induction n with
  | zero => exact ⟨fun _ _ _ _ _ _ _ _ h => absurd h (by simp [run]), fun _ _ _ _ _ _ h => absurd h (by simp [run])⟩
  | succ n ih =>
    obtain ⟨ih1, ih2⟩ := ih
    have P1 : ∀ (cl mn b : Nat) (L : Loc_) (st : List AV) (M : Mem) (r : Out × Mem), cl ≠ 0 → run G prg (n + 1) cl mn b L st M = some r → ∀ (p : Program) (e : Env) (R : Room) (s : State) (m : MethodId) (args : Array Value) (below : List Frame) (meth : Method) (c : Code) (mc ms : Nat), Ctx p l e R s m meth c D G iT (mi mn) mc ms → Sd p l e R s m args below meth c D mc ms (mi mn).2.2.1 (bpc (prg mn) b) L st M r := by
      intro cl mn b L st M r hc h p e R s m args below meth c mc ms X
      rcases hm mn with h0 | ⟨-, -, hB⟩
      · rw [run_nil h0] at h
        exact absurd h (by simp)
      · exact exB_snd X hin hty hkk hc ih2 (fun c m b L s M y hc h => run_ext G prg n c m b L s M y hc h) (fun b L st M h => ih1 cl mn b L st M r hc h p e R s m args below meth c mc ms X) hB 400 b L st M h
    refine ⟨P1, fun c' m' as M y hc' h hsum => ?_⟩
    have hE := run_ext G prg (n + 1) c' m' 0 (mkA 0 as) [] M y hc' h
    refine ⟨⟨hE.1, hE.2.1⟩, ?_⟩
    rcases hm m' with h0 | ⟨hpl | ⟨m2, b1, b2, c1, c2, c3, c4, c5, c6, c7, c8, c9, c10, c11⟩, hb0, hB⟩
    · rw [run_nil h0] at h
      exact absurd h (by simp)
    rotate_left
    · obtain ⟨x, v, M', rfl, h3, rfl, h5⟩ := c11 G (run G prg n) c' m' as M y (by rw [← c3]; exact hsum) h
      obtain ⟨-, h6⟩ := ih2 c' m2 _ M _ hc' h3 (by rw [c7, ← c3]; exact hsum)
      rw [c4] at h6
      rw [c1, c2]
      exact ce_met h6 h5 c5 c6 c8 c9 c10 (by show 5000 * _ + 1024 ≤ 5000 * _; omega) rfl rfl
    · refine nb_of (cc := (mi m').2.1) (maxL := (mi m').2.2.1) (ret := (mi m').2.2.2.1) (tb := tableOf (mi m').2.2.2.2.1) hpl ?_ ?_
      · intro args s m hw hn
        have hw := hw _ (List.mem_singleton.mpr rfl)
        cases htab : (mi m').2.2.2.2.1 with
        | nil =>
          have hw9 : miW (mi m') = Cond.code (mi m').1 (mi m').2.1 (mi m').2.2.1 (mi m').2.2.2.1 := by unfold miW; rw [htab]
          rw [hw9] at hw
          obtain ⟨meth, c, h1, h2, h3, h4, h5, h6, h7, -⟩ := Cond.code_spec hn hw
          exact ⟨meth, c, h1, h2, h3, h4, h5, h6, by rw [Array.isEmpty_iff.mp h7]; rfl⟩
        | cons z zs =>
          have hw9 : miW (mi m') = Cond.codeWith (mi m').1 (mi m').2.1 (mi m').2.2.1 (mi m').2.2.2.1 (z :: zs) := by unfold miW; rw [htab]
          rw [hw9] at hw
          obtain ⟨m9, meth, c, hn9, h1, h2, h3, h4, h7, h5, h6, -⟩ := Cond.codeWith_spec hw
          cases Option.some.inj (hn9.symm.trans hn)
          exact ⟨meth, c, h1, h2, h3, h4, h5, h6, by rw [← h7, table_eq]⟩
      · intro p e s m args below meth c hex hnm hme hby hml hre hlk htb hP
        obtain ⟨rfl, hK, hH⟩ := hP
        have X : Ctx p l e { frames := (mi m').2.2.2.2.2, locals := 5000 * (mi m').2.2.2.2.2, cells := mnx y.2 - mnx M, slots := msl y.2 - msl M } s m meth c D G iT (mi m') (mnx y.2 - mnx M) (msl y.2 - msl M) :=
          ⟨hex, hby, hml, findClass_of_methodNamed hnm, hK, hlk, hre, (name_of_methodNamed hnm hme).1, htb, Nat.le_refl _, Nat.le_refl _, Nat.le_refl _, Nat.le_refl _, hl⟩
        have h1 := P1 c' m' 0 (mkA 0 as) [] M y hc' h p e _ s m (as.map ab_cv).toArray below meth c _ _ X
        rw [hb0] at h1
        rw [lg_entry_eq]
        refine h1 s.heap [] 0 0 _ hH va_S.rf ?_ (by have := hE.1; omega) (by have := hE.2.1; omega)
        rw [mkA_args]
        exact lv_entry (as.map ab_cv) (by rw [sl_len]; exact hsum)
