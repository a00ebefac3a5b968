/-! ===== soundness: arraycopy, clone ===== -/
section S7
variable {p : Program} {l : Launch} {e : Env} {R : Room} {s : State} {m : MethodId} {args : Array Value} {below : List Frame} {meth : Method} {c : Code} {D : Gh} {mc ms nL : Nat} {pc : Nat} {L : Loc_} {st st' : List AV} {M M' : Mem} {r : Out × Mem} {cc : ByteArray} {own : String} {G : Nat → Option Nat}
theorem i32_nn {z : Int32} (hz : ¬ z < 0) : z.toInt = (z.toNatClampNeg : Int) := by
  have hz0 : (0 : Int) ≤ z.toInt := by
    have := Int32.not_lt.mp hz
    simpa using Int32.le_iff_toInt_le.mp this
  show z.toInt = ((z.toInt.toNat : Nat) : Int)
  omega
theorem acp_snd (hx : p.tables.exec = Jvm.exec) (hb : c.code = cc) (hml : c.maxLocals = nL) (hown : s.vm.findClass own = some m.cls) (K : K0 D s) (hR : 1 ≤ R.frames ∧ 40 ≤ R.locals) {idx kd : Nat} {ty : FieldType} (hge : 100 ≤ kd) (hty : kAr[kd - 100]? = some ty)
    (hl : Cond.methodLink own idx arraycopyName ∈ lw_tbl) (hw : Cond.native arraycopyName ∈ lw_tbl ∧ Cond.static arraycopyName ∈ lw_tbl ∧ Cond.initialized "java/lang/System" ∈ lw_tbl) (hd : decode cc pc = .ok (.invokestatic idx, 3)) (hst : (st.map ab_ca).sum ≤ 8)
    {a b : Nat} {sp dp n : Int32} (hq : mcl M a = kd ∧ mcl M b = kd ∧ mco M b ≠ 0 ∧ ¬ sp < 0 ∧ ¬ dp < 0 ∧ ¬ n < 0 ∧ sp.toNatClampNeg + n.toNatClampNeg ≤ mln M a ∧ dp.toNatClampNeg + n.toNatClampNeg ≤ mln M b)
    (htk : ∀ (T : State) (vm' : Vm) (comp : ClassId) (kA : Class), s.vm.Alike vm' → HR D M T.heap → s.vm.classes[D.2.2.1 kd]? = some kA → kA.kind = .array comp ty → ∀ i, i < n.toNatClampNeg → (T.setVm vm').takes comp (elV M kd a (sp.toNatClampNeg + i)))
    (e1 : mcl M' = mcl M) (e2 : mco M' = mco M) (e3 : mln M' = mln M) (e4 : mnx M' = mnx M) (e5 : msl M' = msl M) (hz : Zr M → Zr M') (ef : ∀ b q, fldV M' b q = fldV M b q) (ee : ∀ k x j, x ≠ b → elV M' k x j = elV M k x j)
    (ew : ∀ j, elV M' kd b j = if dp.toNatClampNeg ≤ j ∧ j < dp.toNatClampNeg + n.toNatClampNeg then elV M kd a (sp.toNatClampNeg + (j - dp.toNatClampNeg)) else elV M kd b j)
    (k : Sd p l e R s m args below meth c D mc ms nL (pc + 3) L st M' r) : Sd p l e R s m args below meth c D mc ms nL pc L (vI n :: vI dp :: vR (some b) :: vI sp :: vR (some a) :: st) M r := by
  intro H locs cells slots ls hH hS hl' h1 h2
  obtain ⟨ha, hbk, hco, n1, n2, n3, n4, n5⟩ := hq
  obtain ⟨ca, hca, hra⟩ := hH.at (a := a) (by rw [ha]; omega)
  obtain ⟨cb, hcb, hrb⟩ := hH.at (a := b) (by rw [hbk]; omega)
  obtain ⟨va, -, -, oa⟩ := hra
  obtain ⟨clsa, sza, ela⟩ := oa (by rw [ha]; exact hge)
  obtain ⟨vb, vb2, -, ob⟩ := hrb
  obtain ⟨clsb, szb, elb⟩ := ob (by rw [hbk]; exact hge)
  have arb := clsb
  have clsb := clsb.own hco
  obtain ⟨nA, clsa, -⟩ := clsa
  rw [ha] at clsa ela
  rw [hbk] at clsb elb
  have hba : hbA D b := hH.2.2.1 b hco
  obtain ⟨-, kA, hkA, comp, hkind⟩ := (K.2.2.2 _ _ hty).1 0 0 (fun _ => .null)
  have hkA : s.vm.classes[D.2.2.1 (100 + (kd - 100) + 1000 * 0)]? = some kA := hkA
  rw [show 100 + (kd - 100) + 1000 * 0 = kd by omega] at hkA
  obtain ⟨-, kA', hkA', comp', hkind'⟩ := (K.2.2.2 _ _ hty).1 nA 0 (fun _ => .null)
  have hkA' : s.vm.classes[D.2.2.1 (100 + (kd - 100) + 1000 * nA)]? = some kA' := hkA'
  rw [show 100 + (kd - 100) + 1000 * nA = kd + 1000 * nA by omega] at hkA'
  have hgd : ∀ i, i < n.toNatClampNeg → ca.slots.getD (sp.toNatClampNeg + i) .null = elV M kd a (sp.toNatClampNeg + i) := fun i hi => by
    rw [Array.getD_eq_getD_getElem?, (ela (sp.toNatClampNeg + i) (by omega)).1]
    rfl
  intro T hT X
  obtain ⟨vm', X', step⟩ := X.arraycopy hx hown (K.1 _ hl rfl args) (K.1 _ hw.1 rfl args) (K.1 _ hw.2.1 rfl args) (K.1 _ hw.2.2 rfl args) (src := a) (dst := b) (cs := ca) (cd := cb) (srcPos := sp) (destPos := dp) (n := n) (by rw [hT]; exact hca) (by rw [hT]; exact hcb)
    va.2 vb.2 va.1 vb.1 (by rw [clsa]; exact hkA') (by rw [clsb]; exact hkA) hkind' hkind (by simp) n1 n2 n3
    (by rw [i32_nn n1, i32_nn n3, sza]; omega) (by rw [i32_nn n2, i32_nn n3, szb]; omega)
    (fun vm₁ hal i hi => by
      rw [hgd i hi]
      exact ⟨by rw [← elT_at hty]; exact (ela (sp.toNatClampNeg + i) (by omega)).2, htk T vm₁ comp kA hal (by rw [hT]; exact hH) hkA hkind i hi⟩)
    (g := F0 m pc ls (.int n :: .int dp :: .ref b :: .int sp :: .ref a :: st.map ab_cv)) rfl (by rw [hml]; exact hl'.1) (rest := st.map ab_cv) rfl (by rw [hb]; exact hd) hR.1 (by show 2 * 0 + _ + _ ≤ _; rw [map_sum]; have : nativeFrameWords "java/lang/System" "arraycopy" 5 ≤ 20 := (by decide); omega)
  have hlt : b < T.heap.size := by rw [hT]; exact (Array.getElem?_eq_some_iff.mp hcb).1
  have hlen : (ca.stretch sp.toNatClampNeg n.toNatClampNeg).length = n.toNatClampNeg := by simp [Cell.stretch]
  obtain ⟨c1, c2, c3, -, c5⟩ := cb.storeRun_facts dp.toNatClampNeg (ca.stretch sp.toNatClampNeg n.toNatClampNeg)
  have hcell : CellR D M' b (copied ca cb sp dp n) := by
    refine ⟨⟨by rw [c2]; exact vb.1, by rw [c2]; exact vb.2⟩, fun h => ?_, fun h => ?_, fun _ => ?_⟩
    · rw [e2] at h
      rw [c2, c5]
      exact vb2 h
    · rw [e1, hbk] at h; omega
    · rw [e1, hbk, e3]
      refine ⟨⟨0, by rw [c1, e1, hbk]; exact clsb, fun _ => rfl⟩, by rw [c3]; exact szb, fun j hj => ?_⟩
      rw [ew j, cb.storeRun_get _ _ _ (by rw [hlen, szb]; exact n5), hlen]
      by_cases hin : dp.toNatClampNeg ≤ j ∧ j < dp.toNatClampNeg + n.toNatClampNeg
      · rw [if_pos hin, if_pos hin]
        refine ⟨?_, (ela _ (by omega)).2⟩
        rw [Cell.stretch, List.getElem?_map, List.getElem?_range (by omega)]
        exact congrArg some (hgd (j - dp.toNatClampNeg) (by omega))
      · rw [if_neg hin, if_neg hin]
        exact elb j hj
  have hH' : HR D M' ((T.setVm vm').setCell b (copied ca cb sp dp n)).heap := by
    refine hH.upd (by rw [hbk]; omega) e1 e2 e3 e4 (hz hH.2.1) (fun b q _ => ef b q) ee (heapAt_setCell_self (s := T.setVm vm') _ hlt) ?_ (fun q hq => ?_) hcell
    · rw [size_setCell]; show T.heap.size = _; rw [hT]
    · rw [heapAt_setCell_ne (s := T.setVm vm') _ (Ne.symm hq)]; show T.heap[q]? = _; rw [hT]
  obtain ⟨t, a1, b1⟩ := k _ _ cells slots ls hH' ⟨by rw [size_setCell]; show _ ≤ T.heap.size; rw [hT]; exact hS.1, fun q g1 g2 => by
      rw [heapAt_setCell_ne (s := T.setVm vm') _ (fun e => g2 (by rw [← e]; exact hba))]
      show T.heap[q]? = _
      rw [hT]
      exact hS.2.1 q g1 g2, fun q hq => by
      rcases List.mem_append.mp hq with h | h
      · exact hS.2.2 q h
      · obtain ⟨z, -, hz⟩ := List.mem_map.mp h
        rw [← hz]
        exact hba⟩ hl' (by rw [e4]; exact h1) (by rw [e5]; exact h2) _ rfl X'
  exact ⟨t, step t a1, b1⟩
theorem elV_cpI {M : Mem} {a p b q n : Nat} {kd : Nat} (h : kd = 100 ∨ kd = 101 ∨ kd = 102) (j : Nat) : elV (cpI M a p b q n) kd b j = if q ≤ j ∧ j < q + n then elV M kd a (p + (j - q)) else elV M kd b j := by
  have e : cpy2 (mai M) a p b q n b j = if q ≤ j ∧ j < q + n then mai M a (p + (j - q)) else mai M b j := by
    unfold cpy2
    by_cases hq : q ≤ j ∧ j < q + n
    · rw [if_pos ⟨rfl, hq⟩, if_pos hq]
    · rw [if_neg (fun x => hq x.2), if_neg hq]
  rcases h with rfl | rfl | rfl
  all_goals
    show Value.int (cpy2 (mai M) a p b q n b j) = _
    rw [e]
    split <;> rfl
theorem elV_cpI_ne {M : Mem} {a p b q n : Nat} (k x j : Nat) (h : x ≠ b) : elV (cpI M a p b q n) k x j = elV M k x j := by
  have e : cpy2 (mai M) a p b q n x j = mai M x j := if_neg fun z => h z.1
  unfold elV
  split
  · show Value.int (cpy2 (mai M) a p b q n x j) = _; rw [e]
  · show Value.int (cpy2 (mai M) a p b q n x j) = _; rw [e]
  · show Value.int (cpy2 (mai M) a p b q n x j) = _; rw [e]
  · rfl
  · rfl
theorem elV_cpR {M : Mem} {a p b q n : Nat} {kd : Nat} (h : 104 ≤ kd) (j : Nat) : elV (cpR M a p b q n) kd b j = if q ≤ j ∧ j < q + n then elV M kd a (p + (j - q)) else elV M kd b j := by
  have e : cpy2 (mar M) a p b q n b j = if q ≤ j ∧ j < q + n then mar M a (p + (j - q)) else mar M b j := by
    unfold cpy2
    by_cases hq : q ≤ j ∧ j < q + n
    · rw [if_pos ⟨rfl, hq⟩, if_pos hq]
    · rw [if_neg (fun x => hq x.2), if_neg hq]
  rw [elV_ref h, elV_ref h, elV_ref h]
  show va_rf (cpy2 (mar M) a p b q n b j) = _
  rw [e]
  split <;> rfl
theorem elV_cpR_ne {M : Mem} {a p b q n : Nat} (k x j : Nat) (h : x ≠ b) : elV (cpR M a p b q n) k x j = elV M k x j := by
  have e : cpy2 (mar M) a p b q n x j = mar M x j := if_neg fun z => h z.1
  unfold elV
  split
  · rfl
  · rfl
  · rfl
  · rfl
  · show va_rf (cpy2 (mar M) a p b q n x j) = _; rw [e]
theorem aci_snd (hx : p.tables.exec = Jvm.exec) (hb : c.code = cc) (hml : c.maxLocals = nL) (hown : s.vm.findClass own = some m.cls) (K : K0 D s) (hR : 1 ≤ R.frames ∧ 40 ≤ R.locals) {idx kd : Nat} (hk3 : kd = 100 ∨ kd = 101 ∨ kd = 102)
    (hl : Cond.methodLink own idx arraycopyName ∈ lw_tbl) (hw : Cond.native arraycopyName ∈ lw_tbl ∧ Cond.static arraycopyName ∈ lw_tbl ∧ Cond.initialized "java/lang/System" ∈ lw_tbl) (hd : decode cc pc = .ok (.invokestatic idx, 3)) (hst : (st.map ab_ca).sum ≤ 8)
    {a b : Nat} {sp dp n : Int32} (hq : mcl M a = kd ∧ mcl M b = kd ∧ mco M b ≠ 0 ∧ ¬ sp < 0 ∧ ¬ dp < 0 ∧ ¬ n < 0 ∧ sp.toNatClampNeg + n.toNatClampNeg ≤ mln M a ∧ dp.toNatClampNeg + n.toNatClampNeg ≤ mln M b)
    (k : Sd p l e R s m args below meth c D mc ms nL (pc + 3) L st (cpI M a sp.toNatClampNeg b dp.toNatClampNeg n.toNatClampNeg) r) : Sd p l e R s m args below meth c D mc ms nL pc L (vI n :: vI dp :: vR (some b) :: vI sp :: vR (some a) :: st) M r := by
  obtain ⟨ty, hty⟩ : ∃ ty, kAr[kd - 100]? = some ty := by rcases hk3 with rfl | rfl | rfl <;> exact ⟨_, rfl⟩
  refine acp_snd (M' := cpI M a sp.toNatClampNeg b dp.toNatClampNeg n.toNatClampNeg) hx hb hml hown K hR (by omega) hty hl hw hd hst hq ?_ rfl rfl rfl rfl rfl (ext_cpI hq.2.2.1 rfl).2.2.2.2 (fun b q => by unfold fldV; split <;> rfl) (fun k x j h => elV_cpI_ne k x j h) (fun j => elV_cpI hk3 j) k
  intro T vm' comp kA _ _ _ _ i _
  rcases hk3 with rfl | rfl | rfl <;> exact trivial
theorem acr_snd (hx : p.tables.exec = Jvm.exec) (hb : c.code = cc) (hml : c.maxLocals = nL) (hown : s.vm.findClass own = some m.cls) (K : K0 D s) (KA : AOv s) (hR : 1 ≤ R.frames ∧ 40 ≤ R.locals) {idx kd : Nat} {ty : FieldType} (hge : 104 ≤ kd) (hty : kAr[kd - 100]? = some ty) (hwk : AsgK ty ksO)
    (hl : Cond.methodLink own idx arraycopyName ∈ lw_tbl) (hw : Cond.native arraycopyName ∈ lw_tbl ∧ Cond.static arraycopyName ∈ lw_tbl ∧ Cond.initialized "java/lang/System" ∈ lw_tbl) (hd : decode cc pc = .ok (.invokestatic idx, 3)) (hst : (st.map ab_ca).sum ≤ 8)
    {a b : Nat} {sp dp n : Int32} (hq : mcl M a = kd ∧ mcl M b = kd ∧ mco M b ≠ 0 ∧ ¬ sp < 0 ∧ ¬ dp < 0 ∧ ¬ n < 0 ∧ sp.toNatClampNeg + n.toNatClampNeg ≤ mln M a ∧ dp.toNatClampNeg + n.toNatClampNeg ≤ mln M b) (hok : ∀ i, i < n.toNatClampNeg → okK M ksO (mar M a (sp.toNatClampNeg + i)) = true)
    (k : Sd p l e R s m args below meth c D mc ms nL (pc + 3) L st (cpR M a sp.toNatClampNeg b dp.toNatClampNeg n.toNatClampNeg) r) : Sd p l e R s m args below meth c D mc ms nL pc L (vI n :: vI dp :: vR (some b) :: vI sp :: vR (some a) :: st) M r := by
  refine acp_snd (M' := cpR M a sp.toNatClampNeg b dp.toNatClampNeg n.toNatClampNeg) hx hb hml hown K hR (by omega) hty hl hw hd hst hq ?_ rfl rfl rfl rfl rfl (ext_cpR hq.2.2.1 rfl).2.2.2.2 (fun b q => by unfold fldV; split <;> rfl) (fun k x j h => elV_cpR_ne k x j h) (fun j => elV_cpR hge j) k
  intro T vm' comp kA hal hH h1 h2 i hi
  rw [elV_ref hge]
  have ho := hok i hi
  cases hy : mar M a (sp.toNatClampNeg + i) with
  | none => exact trivial
  | some y =>
    rw [hy] at ho
    obtain ⟨hbk, hbo⟩ := okK_at ho
    obtain ⟨cv, hcv, hcvr⟩ := hH.at (a := y) (fun h => by rw [h] at hbk; revert hbk; decide)
    obtain ⟨kA', comp', kcomp, f1, f2, f3, f4, f5⟩ := asgK K KA (by omega) hty hwk
    cases Option.some.inj (h1.symm.trans f1)
    cases h2.symm.trans f2
    obtain ⟨g1, kv, g2⟩ := f5 M y cv hbk hbo hcvr
    obtain ⟨kv', hkv', -⟩ := hal.2.2 _ _ g2
    obtain ⟨kc', hkc', -⟩ := hal.2.2 _ _ f4
    refine ⟨cv, hcv, hcvr.1.2, ⟨kv', hkv'⟩, ⟨kc', hkc'⟩, ?_⟩
    show vm'.assignable _ _ = true
    rw [hal.assignable]
    exact g1
abbrev cloN : MethodName := ⟨"java/lang/Object", "clone", "()Ljava/lang/Object;"⟩
theorem cln_snd (hx : p.tables.exec = Jvm.exec) (hb : c.code = cc) (hml : c.maxLocals = nL) (hown : s.vm.findClass own = some m.cls) (K : K0 D s) (hR : 1 ≤ R.frames ∧ 40 ≤ R.locals) (hR2 : mc ≤ R.cells ∧ ms ≤ R.slots) (hbs : D.2.2.2 ≤ s.heap.size) {idx c2 : Nat}
    (hl : Cond.methodLink own idx ⟨"[B", "clone", "()Ljava/lang/Object;"⟩ ∈ lw_tbl) (hw : Cond.sameMethod "[B" "java/lang/Object" "clone" "()Ljava/lang/Object;" ∈ lw_tbl ∧ Cond.native cloN ∈ lw_tbl ∧ Cond.instanceMethod cloN ∈ lw_tbl ∧ Cond.selects "[B" ⟨"[B", "clone", "()Ljava/lang/Object;"⟩ cloN ∈ lw_tbl ∧ Cond.castable "[B" "java/lang/Cloneable" ∈ lw_tbl) (hd : decode cc pc = .ok (.invokevirtual idx, 3)) (hst : (st.map ab_ca).sum ≤ 8)
    {a : Nat} (ha : mcl M a = 102) (hao : mco M a ≠ 0) (hmo : mnx M + 1 ≤ mnx r.2 ∧ msl M + mln M a ≤ msl r.2)
    (k : Sd p l e R s m args below meth c D mc ms nL (pc + 3) L (vR (some (mnx M)) :: st) (cpI (marr M c2 102 (mln M a)) a 0 (mnx M) 0 (mln M a)) r) : Sd p l e R s m args below meth c D mc ms nL pc L (vR (some a) :: st) M r := by
  intro H locs cells slots ls hH hS hl' h1 h2
  obtain ⟨hm1, hm2⟩ := hmo
  have hHs : H.size = mnx M := hH.1
  have hka : a < mnx M := hH.lt (by rw [ha]; decide)
  obtain ⟨ca, hca, hra⟩ := hH.at (a := a) (by rw [ha]; decide)
  have hn : KX 102 "[B" := Or.inr ⟨2, .byte, rfl, rfl, rfl⟩
  have hnm := hn.cls K ha hra (fun _ => hao)
  obtain ⟨va, -, -, oa⟩ := hra
  obtain ⟨clsa, sza, ela⟩ := oa (by rw [ha]; decide)
  have clsa := clsa.own hao
  rw [ha] at clsa ela
  obtain ⟨c0, t0, f1, f2, f3⟩ := Cond.castable_spec (K.1 _ hw.2.2.2.2 rfl args)
  cases Option.some.inj (hnm.symm.trans f1)
  obtain ⟨-, kS, hkS, compS, hkindS⟩ := (K.2.2.2 2 .byte rfl).1 0 0 (fun _ => .null)
  have hkS : s.vm.classes[D.2.2.1 102]? = some kS := hkS
  intro T hT X
  obtain ⟨kA, hkA, heA⟩ := X.warmed.alike.2.2 _ _ hkS
  obtain ⟨vm', X', step⟩ := X.cloneArray hx hown (K.1 _ hl rfl args) (K.1 _ hw.1 rfl args) (K.1 _ hw.2.1 rfl args) (K.1 _ hw.2.2.1 rfl args) (K.1 _ hw.2.2.2.1 rfl args) (a := a) (cell := ca) (by rw [hT]; exact hca) va.2 va.1 hnm f2 f3
    (fun i v hv => by
      have hi : i < mln M a := by rw [← sza]; exact (Array.getElem?_eq_some_iff.mp hv).1
      have h5 := (ela i hi).2
      rw [Option.some.inj ((ela i hi).1.symm.trans hv)] at h5
      rw [clsa]
      have hkind : kA.kind = .array compS .byte := by rw [heA]; exact hkindS
      have h5 : fits .byte v = true := h5
      simpa [State.fitsSlot, State.slotType?, hkA, hkind] using h5)
    (g := F0 m pc ls (.ref a :: st.map ab_cv)) rfl (by rw [hml]; exact hl'.1) (rest := st.map ab_cv) rfl (by rw [hb]; exact hd) hR.1 (by show 2 * 0 + _ + 14 ≤ _; rw [map_sum]; omega) (by omega) (by rw [sza]; omega) (hloader := by rw [clsa]; exact Vm.clonesLoader_of_array hkS hkindS)
  have hH' : HR D (cpI (marr M c2 102 (mln M a)) a 0 (mnx M) 0 (mln M a)) (H.push { cls := ca.cls, slots := ca.slots }) := by
    refine hH.psh (cell := { cls := ca.cls, slots := ca.slots }) (fun x hx => if_neg hx) (fun x hx => if_neg hx) (fun x hx => if_neg hx) rfl ?_ (fun _ _ _ => rfl) (fun k b j hb => ?_) (by have := hS.1; omega) (by rw [← hHs, Array.getElem?_push_size]) (by simp) (fun q hq => by rw [Array.getElem?_push, if_neg (Nat.ne_of_lt hq)]) fun _ => ?_
    · intro x hx
      have hx' : mnx M + 1 ≤ x := hx
      obtain ⟨⟨z1, z2, z3⟩, z4, z5, z6, z7, z8, z9, z10⟩ := hH.2.1 x (by omega)
      have hne : x ≠ mnx M := by omega
      refine ⟨⟨(if_neg hne).trans z1, (if_neg hne).trans z2, (if_neg hne).trans z3⟩, z4, z5, z6, z7, fun j => ?_, z9, z10⟩
      show cpy2 (mai M) a 0 (mnx M) 0 (mln M a) x j = 0
      rw [cpy2, if_neg (fun h => hne h.1)]
      exact z8 j
    · rw [elV_cpI_ne _ _ _ hb]
      unfold elV
      split <;> rfl
    · have ek : mcl (cpI (marr M c2 102 (mln M a)) a 0 (mnx M) 0 (mln M a)) (mnx M) = 102 := if_pos rfl
      have el : mln (cpI (marr M c2 102 (mln M a)) a 0 (mnx M) 0 (mln M a)) (mnx M) = mln M a := if_pos rfl
      refine ⟨vmOK.no rfl, fun _ => ⟨rfl, rfl⟩, fun h => ?_, fun _ => ?_⟩
      · rw [ek] at h; omega
      · rw [ek, el]
        refine ⟨⟨0, by rw [ek]; exact clsa, fun _ => rfl⟩, sza, fun j hj => ?_⟩
        rw [elV_cpI (by decide) j, if_pos ⟨Nat.zero_le _, by omega⟩, Nat.sub_zero, Nat.zero_add]
        exact ela j hj
  obtain ⟨t, a1, b1⟩ := k _ _ (cells + 1) (slots + mln M a) ls hH' (hS.grow (by simp) (fun q hq => by rw [Array.getElem?_push, if_neg (Nat.ne_of_lt hq)])) hl' (by show _ ≤ mc + (mnx M + 1); omega) (by show _ ≤ ms + (msl M + mln M a); omega) ((T.setVm vm').pushCell { cls := ca.cls, slots := ca.slots }) (by rw [← hT]; rfl) (by rw [← sza]; exact X')
  refine ⟨t, step t ?_, b1⟩
  rw [hT, hHs]
  exact a1
end S7
