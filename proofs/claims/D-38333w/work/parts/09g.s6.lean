/-! ===== soundness: references stored, statics, constants, casts, switches ===== -/
section S6
variable {p : Program} {l : Launch} {e : Env} {R : Room} {s : State} {m : MethodId} {args : Array Value} {below : List Frame} {meth : Method} {c : Code} {D : Gh} {mc ms nL : Nat} {pc : Nat} {L : Loc_} {st st' : List AV} {M M' : Mem} {r : Out × Mem} {cc : ByteArray} {own : String} {G : Nat → Option Nat}
/-- what may be stored in an array of references -/
def AsgK (ty : FieldType) (ks : List Nat) : Prop := (∃ E, ty = .object E ∧ ∀ k ∈ ks, ∃ nm, KX k nm ∧ (nm = E ∨ Cond.castable nm E ∈ lw_tbl)) ∨ (ty = .array .int ∧ ks = [100])
theorem asgK (K : K0 D s) (KA : AOv s) {kd : Nat} {ty : FieldType} {ks : List Nat} (hge : 100 ≤ kd) (hty : kAr[kd - 100]? = some ty) (hw : AsgK ty ks) :
    ∃ (kA : Class) (comp : ClassId) (kcomp : Class), s.vm.classes[D.2.2.1 kd]? = some kA ∧ kA.kind = .array comp ty ∧ ty.isReference = true ∧ s.vm.classes[comp]? = some kcomp ∧ ∀ (M : Mem) (b : Nat) (cv : Cell), mcl M b ∈ ks → (100 ≤ mcl M b → mco M b ≠ 0) → CellR D M b cv → s.vm.assignable cv.cls comp = true ∧ ∃ kv, s.vm.classes[cv.cls]? = some kv := by
  have hra := (K.2.2.2 _ _ hty).2
  rw [show 100 + (kd - 100) = kd by omega] at hra
  rcases hw with ⟨E, rfl, hks⟩ | ⟨rfl, rfl⟩
  · obtain ⟨kA, comp, k1, k2, k3, -⟩ := hra
    obtain ⟨kE, hkE, -⟩ := Vm.findClass_spec k3
    refine ⟨kA, comp, kE, k1, k2, rfl, hkE, fun M b cv hb hco hcv => ?_⟩
    obtain ⟨nm, hn, hc⟩ := hks _ hb
    have f := hn.cls K rfl hcv hco
    obtain ⟨kv, hkv, -⟩ := Vm.findClass_spec f
    refine ⟨?_, kv, hkv⟩
    rcases hc with rfl | hc
    · cases Option.some.inj (k3.symm.trans f)
      exact va_asg _ _
    · obtain ⟨c0, t0, f1, f2, f3⟩ := Cond.castable_spec (K.1 _ hc rfl #[])
      cases Option.some.inj (f.symm.trans f1)
      cases Option.some.inj (k3.symm.trans f2)
      exact f3
  · obtain ⟨comp, c0, k0, h1, h2, h3, h4, h5⟩ := arrayOverA_spec KA.2
    have hra : s.vm.findClass ("[" ++ (FieldType.array .int).toString) = some (D.2.2.1 kd) := hra
    cases Option.some.inj (hra.symm.trans h5)
    obtain ⟨kE, hkE, -⟩ := Vm.findClass_spec h1
    refine ⟨k0, comp, kE, h3, h4, rfl, hkE, fun M b cv hb hco hcv => ?_⟩
    have hn : KX (mcl M b) ("[" ++ FieldType.int.toString) := by
      rw [List.mem_singleton.mp hb]
      exact Or.inr ⟨0, .int, rfl, rfl, rfl⟩
    have f := hn.cls K rfl hcv hco
    obtain ⟨kv, hkv, -⟩ := Vm.findClass_spec f
    refine ⟨?_, kv, hkv⟩
    have h1 : s.vm.findClass ("[" ++ FieldType.int.toString) = some comp := h1
    cases Option.some.inj (h1.symm.trans f)
    exact va_asg _ _
theorem elV_ref {M : Mem} {kd a j : Nat} (h : 104 ≤ kd) : elV M kd a j = va_rf (mar M a j) := by
  unfold elV
  split
  · omega
  · omega
  · omega
  · omega
  · rfl
theorem elT_at {kd : Nat} {ty : FieldType} (hty : kAr[kd - 100]? = some ty) : elT kd = ty := by unfold elT; rw [List.getD_eq_getElem?_getD, hty]; rfl
theorem fits_rf {ty : FieldType} (h : ty.isReference = true) (v : Option Nat) : fits ty (va_rf v) = true := by
  cases ty <;> first | (cases h; done) | (cases v <;> rfl)
theorem ast_snd (hx : p.tables.exec = Jvm.exec) (hb : c.code = cc) (K : K0 D s) (KA : AOv s) {kd : Nat} {ty : FieldType} {ks : List Nat} (hge : 104 ≤ kd) (hty : kAr[kd - 100]? = some ty) (hw : AsgK ty ks) (h0 : 0 ∉ ks) (hd : decode cc pc = .ok (.aastore, 1))
    {a : Nat} {j : Int32} {v : Option Nat} (ha : mcl M a = kd ∧ mco M a ≠ 0 ∧ inR j (mln M a) ∧ okK M ks v = true)
    (k : Sd p l e R s m args below meth c D mc ms nL (pc + 1) L st (sar M a j.toNatClampNeg v) r) : Sd p l e R s m args below meth c D mc ms nL pc L (vR v :: vI j :: vR (some a) :: st) M r := by
  intro H locs cells slots ls hH hS hl' h1 h2
  obtain ⟨ha, hco, ⟨hj0, hj1⟩, hok⟩ := ha
  obtain ⟨cell, hc, hcr⟩ := hH.at (a := a) (by rw [ha]; omega)
  have hcr0 := hcr
  obtain ⟨hvm, -, -, hob⟩ := hcr
  obtain ⟨hcls, hsz, hsl⟩ := hob (by rw [ha]; omega)
  have hcls := hcls.own hco
  rw [ha] at hsl hcls
  have hba : hbA D a := hH.2.2.1 a hco
  obtain ⟨kA, comp, kcomp, f1, f2, f3, f4, f5⟩ := asgK K KA (by omega) hty hw
  have hin : ¬ j < 0 ∧ j.toNatClampNeg < cell.slots.size := ⟨hj0, by rw [hsz]; exact hj1⟩
  have hz : Zr (sar M a j.toNatClampNeg v) := (ext_sar hco rfl).2.2.2.2 hH.2.1
  have kk : ∀ H' : Heap, H'[a]? = some (cell.setSlot j.toNatClampNeg (va_rf v)) → H'.size = H.size → (∀ q, q ≠ a → H'[q]? = H[q]?) → W p l e R s m args below meth c H' (locs ++ [⟨a, j.toNatClampNeg⟩]) cells slots (vx_MQ below (Qr D r) (Xr D r) args s mc ms (hbA D)) (F0 m (pc + 1) ls (st.map ab_cv)) := by
    intro H' g1 g2 g3
    refine k H' _ cells slots ls (HR.elm hH ha (by omega) hj1 hc hcr0 rfl rfl rfl rfl hz (fun b q => fldV_sar b q) (fun k b j hb => elV_sar k (Or.inl hb)) ?_ (by rw [elT_at hty]; exact fits_rf f3 v) (fun i hi => elV_sar _ (Or.inr hi)) g1 g2 g3) (hS.put g2 g3 hba) hl' h1 h2
    rw [elV_ref hge]
    show va_rf (up2 _ _ _ _ _ _) = _
    rw [up2_at]
  cases v with
  | none =>
    intro T hT X
    have hT' : T.heap[a]? = some cell := by rw [hT]; exact hc
    obtain ⟨X', st9⟩ := X.aastoreNullIn hx hT' hvm.2 hvm.1 (by rw [hcls]; exact f1) f2 f3 hin (g := F0 m pc ls (.null :: .int j :: .ref a :: st.map ab_cv)) rfl rfl (by rw [hb]; exact hd)
    have hlt : a < T.heap.size := (Array.getElem?_eq_some_iff.mp hT').1
    obtain ⟨t', a1, b1⟩ := kk _ (heapAt_setCell_self _ hlt) (by rw [size_setCell, hT]) (fun q hq => by rw [heapAt_setCell_ne _ (Ne.symm hq), hT]) (T.setCell a (cell.setSlot j.toNatClampNeg .null)) rfl X'
    exact ⟨t', st9 t' a1, b1⟩
  | some b =>
    obtain ⟨hbk, hbo⟩ := okK_at hok
    obtain ⟨cv, hcv, hcvr⟩ := hH.at (a := b) (fun h => h0 (h ▸ hbk))
    obtain ⟨g1, kv, g2⟩ := f5 M b cv hbk hbo hcvr
    exact W.aast hx hb hc hvm.2 hvm.1 (by rw [hcls]; exact f1) f2 f3 f4 hin hcv hcvr.1.2 g2 g1 rfl rfl hd kk
theorem sta_snd (hx : p.tables.exec = Jvm.exec) (hb : c.code = cc) (hown : s.vm.findClass own = some m.cls) (K : K0 D s) {idx : Nat} {C n d ref : String} {v : AV} (hZ : va_Z C n d (ab_cv v) (hbA D) s s.heap)
    (hl : Cond.fieldLink own idx ref n d ∈ lw_tbl ∨ ∃ host, Cond.fieldLinkNest own idx ref n d host ∈ lw_tbl) (hsm : ref = C ∨ Cond.sameField ref C n d ∈ lw_tbl) (hd : decode cc pc = .ok (.getstatic idx, 3))
    (k : Sd p l e R s m args below meth c D mc ms nL (pc + 3) L (v :: st) M r) : Sd p l e R s m args below meth c D mc ms nL pc L st M r := by
  intro H locs cells slots ls hH hS hl' h1 h2
  have kk := k H locs cells slots ls hH hS hl' h1 h2
  have hs : ∀ x, s.fieldFound? C n d = some x → s.fieldFound? ref n d = some x := by
    rcases hsm with rfl | h
    · exact fun x h => h
    · exact fun x hx => u_same (K.1 _ h rfl #[]) x hx
  rcases hl with hl | ⟨host, hl⟩
  · exact va_gets hx hb hZ hS hown (K.1 _ hl rfl args) hs hd kk
  · exact va_getsN hx hb hZ hS hown (K.1 _ hl rfl args) hs hd kk
theorem ldi_snd (hx : p.tables.exec = Jvm.exec) (hb : c.code = cc) (hown : s.vm.findClass own = some m.cls) (K : K0 D s) {idx n : Nat} {v : Int32} (hl : Cond.constant own idx v ∈ lw_tbl) (hd : decode cc pc = .ok (.ldc idx, 2) ∧ n = 2 ∨ decode cc pc = .ok (.ldc_w idx, 3) ∧ n = 3)
    (k : Sd p l e R s m args below meth c D mc ms nL (pc + n) L (vI v :: st) M r) : Sd p l e R s m args below meth c D mc ms nL pc L st M r := by
  intro H locs cells slots ls hH hS hl' h1 h2
  have kk := k H locs cells slots ls hH hS hl' h1 h2
  rcases hd with ⟨hd, rfl⟩ | ⟨hd, rfl⟩
  · exact lv_ldc hx hb hown (K.1 _ hl rfl args) hd kk
  · exact lv_ldcw hx hb hown (K.1 _ hl rfl args) hd kk
theorem ldj_snd (hx : p.tables.exec = Jvm.exec) (hb : c.code = cc) (hown : s.vm.findClass own = some m.cls) (K : K0 D s) {idx : Nat} {v : Int64} (hl : Cond.constantLong own idx v ∈ lw_tbl) (hd : decode cc pc = .ok (.ldc2_w idx, 3))
    (k : Sd p l e R s m args below meth c D mc ms nL (pc + 3) L (vJ v :: st) M r) : Sd p l e R s m args below meth c D mc ms nL pc L st M r := by
  intro H locs cells slots ls hH hS hl' h1 h2
  exact lv_ldc2 hx hb hown (K.1 _ hl rfl args) hd (k H locs cells slots ls hH hS hl' h1 h2)
theorem ldd_snd (hx : p.tables.exec = Jvm.exec) (hb : c.code = cc) (hown : s.vm.findClass own = some m.cls) (K : K0 D s) {idx : Nat} {v : UInt64} (hl : Cond.constantDouble own idx v ∈ lw_tbl) (hd : decode cc pc = .ok (.ldc2_w idx, 3))
    (k : Sd p l e R s m args below meth c D mc ms nL (pc + 3) L (vD v :: st) M r) : Sd p l e R s m args below meth c D mc ms nL pc L st M r := by
  intro H locs cells slots ls hH hS hl' h1 h2
  exact lv_ldc2d hx hb hown (K.1 _ hl rfl args) hd (k H locs cells slots ls hH hS hl' h1 h2)
theorem ldcw_str {T : State} {locs : List Loc} {cells slots : Nat} (X : Stand p l e R s m args below meth c T locs cells slots) (hexec : p.tables.exec = Jvm.exec) {own text : String} {index : Nat} {a : Addr} (hown : s.vm.findClass own = some m.cls)
    (hconst : (Cond.stringRef own index text).before args s = true) (hev : (Term.string own index).eval args s none [] s = some (.ref a)) {g : JFrame} (hg : g.method = m) (hdg : decode c.code g.pc = .ok (.ldc_w index, 3)) :
    ∀ target, Steps p.tables e below (T.setTop { g with pc := g.pc + 3, stack := .ref a :: g.stack }) target → Steps p.tables e below (T.setTop g) target := by
  obtain ⟨k, cf, i, a', hk, hcf, hcp, -, hr, hev'⟩ := Cond.stringRef_spec hown hconst
  cases hev.symm.trans hev'
  obtain ⟨k', hk', he⟩ := X.warmed.alike.2.2 _ _ hk
  have hr' : k'.resolved[index]? = some (some (.string a)) := by
    rcases X.warmed.entry hk hk' index with h | ⟨h, -⟩
    · rw [h]; exact hr
    · rw [hr] at h; cases h
  intro target hrest
  subst hg
  jvm_step X.here [hexec, hdg, ldc_w.wp_string (e := e) (s := T) (f := g) X.here.top hk' (by rw [he]; exact hcf) hcp hr']
  exact hrest
theorem lds_snd (hx : p.tables.exec = Jvm.exec) (hb : c.code = cc) (hown : s.vm.findClass own = some m.cls) {idx n a : Nat} {tx : String} (hZ : vk_R own idx tx a s) (hd : decode cc pc = .ok (.ldc idx, 2) ∧ n = 2 ∨ decode cc pc = .ok (.ldc_w idx, 3) ∧ n = 3)
    (k : Sd p l e R s m args below meth c D mc ms nL (pc + n) L (vR (some a) :: st) M r) : Sd p l e R s m args below meth c D mc ms nL pc L st M r := by
  intro H locs cells slots ls hH hS hl' h1 h2
  have kk := k H locs cells slots ls hH hS hl' h1 h2
  rcases hd with ⟨hd, rfl⟩ | ⟨hd, rfl⟩
  · exact va_ldcS hx hb hown hZ hd kk
  · intro T hT X
    obtain ⟨t, a1, b1⟩ := kk T hT X
    exact ⟨t, ldcw_str X hx hown (text := tx) (a := a) hZ.1 hZ.2 (g := F0 m pc ls (st.map ab_cv)) rfl (by rw [hb]; exact hd) t a1, b1⟩
theorem ldm_snd (hx : p.tables.exec = Jvm.exec) (hb : c.code = cc) (hown : s.vm.findClass own = some m.cls) (K : K0 D s) {idx a : Nat} {C : String} (hl : Cond.classLink own idx C ∈ lw_tbl) (hZ : va_Mi C a s) (hd : decode cc pc = .ok (.ldc idx, 2))
    (k : Sd p l e R s m args below meth c D mc ms nL (pc + 2) L (vR (some a) :: st) M r) : Sd p l e R s m args below meth c D mc ms nL pc L st M r := by
  intro H locs cells slots ls hH hS hl' h1 h2
  exact va_ldcM hx hb hown (K.1 _ hl rfl args) hZ hd (k H locs cells slots ls hH hS hl' h1 h2)
theorem cst_snd (hx : p.tables.exec = Jvm.exec) (hb : c.code = cc) (hown : s.vm.findClass own = some m.cls) (K : K0 D s) {idx kd : Nat} {nm : String} (hn : KX kd nm) (hl : Cond.classLink own idx nm ∈ lw_tbl) (hd : decode cc pc = .ok (.checkcast idx, 3)) {o : Option Nat} (ho : okK M [kd] o = true)
    (k : Sd p l e R s m args below meth c D mc ms nL (pc + 3) L (vR o :: st) M r) : Sd p l e R s m args below meth c D mc ms nL pc L (vR o :: st) M r := by
  intro H locs cells slots ls hH hS hl' h1 h2
  have kk := k H locs cells slots ls hH hS hl' h1 h2
  cases o with
  | none => exact lv_castN hx hb hd kk
  | some a =>
    obtain ⟨hk, hko⟩ := okK_at ho
    have hk := List.mem_singleton.mp hk
    rw [hk] at hko
    obtain ⟨cell, hc, hcr⟩ := hH.at (a := a) (by rw [hk]; exact hn.ne)
    exact va_castE hx hb hown (K.1 _ hl rfl args) ⟨cell, hc, hcr.1.ns, hn.cls K hk hcr hko⟩ hd kk
theorem csu_snd (hx : p.tables.exec = Jvm.exec) (hb : c.code = cc) (hown : s.vm.findClass own = some m.cls) (K : K0 D s) {idx kd : Nat} {nm nm' : String} (hn : KX kd nm') (hca : Cond.castable nm' nm ∈ lw_tbl) (hl : Cond.classLink own idx nm ∈ lw_tbl) (hd : decode cc pc = .ok (.checkcast idx, 3)) {o : Option Nat} (ho : okK M [kd] o = true)
    (k : Sd p l e R s m args below meth c D mc ms nL (pc + 3) L (vR o :: st) M r) : Sd p l e R s m args below meth c D mc ms nL pc L (vR o :: st) M r := by
  intro H locs cells slots ls hH hS hl' h1 h2
  have kk := k H locs cells slots ls hH hS hl' h1 h2
  cases o with
  | none => exact lv_castN hx hb hd kk
  | some a =>
    obtain ⟨hk, hko⟩ := okK_at ho
    have hk := List.mem_singleton.mp hk
    rw [hk] at hko
    obtain ⟨cell, hc, hcr⟩ := hH.at (a := a) (by rw [hk]; exact hn.ne)
    exact va_castY hx hb hown (K.1 _ hl rfl args) (va_Nw.of rfl (K.1 _ hca rfl #[])) ⟨cell, hc, hcr.1.ns, hn.cls K hk hcr hko⟩ hd kk
theorem ino_snd (hx : p.tables.exec = Jvm.exec) (hb : c.code = cc) (hown : s.vm.findClass own = some m.cls) (K : K0 D s) {idx kd : Nat} {nm : String} (hn : KN kd nm) (hl : Cond.classLink own idx nm ∈ lw_tbl) (hd : decode cc pc = .ok (.instanceof idx, 3)) {a : Nat} (hk : mcl M a = kd)
    (k : Sd p l e R s m args below meth c D mc ms nL (pc + 3) L (vI 1 :: st) M r) : Sd p l e R s m args below meth c D mc ms nL pc L (vR (some a) :: st) M r := by
  intro H locs cells slots ls hH hS hl' h1 h2
  have kk := k H locs cells slots ls hH hS hl' h1 h2
  obtain ⟨cell, hc, hcr⟩ := hH.at (a := a) (by rw [hk]; exact hn.1)
  exact va_instE hx hb hown (K.1 _ hl rfl args) ⟨cell, hc, hcr.1.ns, hn.cls K hk hcr⟩ hd kk
theorem gto_snd (hx : p.tables.exec = Jvm.exec) (hb : c.code = cc) {off : Int} {tgt : Nat} (hd : decode cc pc = .ok (.goto off, 3)) (ht : (pc : Int) + off = (tgt : Int)) (k : Sd p l e R s m args below meth c D mc ms nL tgt L st M r) : Sd p l e R s m args below meth c D mc ms nL pc L st M r := by
  intro H locs cells slots ls hH hS hl' h1 h2
  exact lv_goto hx hb hd ht (k H locs cells slots ls hH hS hl' h1 h2)
/-- where a switch goes -/
def swT (x : Int32) : Nat → List (Int32 × Nat) → Nat
  | d, [] => d
  | d, (v, t) :: ts => if x = v then t else swT x d ts
theorem swk_T {x : Int32} {κ : Nat → Res} {d : Nat} {ts : List (Int32 × Nat)} : swk x κ d ts = κ (swT x d ts) := by
  induction ts with
  | nil => rfl
  | cons q ts ih =>
    obtain ⟨v, t⟩ := q
    unfold swk swT
    split
    · rfl
    · exact ih
theorem swT_no {x : Int32} {d : Nat} {ts : List (Int32 × Nat)} (h : ∀ q ∈ ts, x ≠ q.1) : swT x d ts = d := by
  induction ts with
  | nil => rfl
  | cons q ts ih =>
    obtain ⟨v, t⟩ := q
    unfold swT
    rw [if_neg (h _ List.mem_cons_self)]
    exact ih fun q hq => h q (List.mem_cons_of_mem _ hq)
/-- a tableswitch's table fits the pairs -/
def okT (pc : Nat) (bp : Nat → Nat) (dflt lo : Int) (n : Nat) (offs : Array Int) (d : Nat) (ts : List (Int32 × Nat)) : Bool :=
  decide ((pc : Int) + dflt = (bp d : Int)) && (ts.all fun q => decide (lo ≤ q.1.toInt) && decide (q.1.toInt < lo + n)) && ((List.range n).all fun i => match offs[i]? with | some off => decide ((pc : Int) + off = (bp (swT (Int32.ofInt (lo + i)) d ts) : Int)) | none => false)
theorem tsw_snd (hx : p.tables.exec = Jvm.exec) (hb : c.code = cc) {dflt lo hi : Int} {offs : Array Int} {len n d : Nat} {bp : Nat → Nat} {ts : List (Int32 × Nat)} (hd : decode cc pc = .ok (.tableswitch dflt lo hi offs, len)) (hn : hi = lo + n - 1) (ho : okT pc bp dflt lo n offs d ts = true) {x : Int32}
    (k : Sd p l e R s m args below meth c D mc ms nL (bp (swT x d ts)) L st M r) : Sd p l e R s m args below meth c D mc ms nL pc L (vI x :: st) M r := by
  intro H locs cells slots ls hH hS hl' h1 h2
  have kk := k H locs cells slots ls hH hS hl' h1 h2
  unfold okT at ho
  simp only [Bool.and_eq_true, decide_eq_true_eq, List.all_eq_true, List.mem_range] at ho
  obtain ⟨⟨h3, h4⟩, h5⟩ := ho
  by_cases hin : lo ≤ x.toInt ∧ x.toInt < lo + n
  · have hi9 := h5 (x.toInt - lo).toNat (by omega)
    split at hi9
    · next off hoff =>
      simp only [decide_eq_true_eq] at hi9
      rw [show lo + ((x.toInt - lo).toNat : Int) = x.toInt by omega, Int32.ofInt_toInt] at hi9
      exact lv_tableIn hx hb hd (by omega) (by omega) hoff hi9 kk
    · exact absurd hi9 (by simp)
  · have e9 : swT x d ts = d := swT_no fun q hq he => by
      have := h4 q hq
      rw [← he] at this
      exact hin this
    rw [e9] at kk
    exact lv_tableOut hx hb hd (by omega) h3 kk
/-- a lookupswitch's pairs -/
def okLk (pc : Nat) (bp : Nat → Nat) : List (Int × Int) → List (Int32 × Nat) → Bool
  | [], [] => true
  | (a, o) :: r, (v, t) :: ts => decide (v.toInt = a) && decide ((pc : Int) + o = (bp t : Int)) && okLk pc bp r ts
  | _, _ => false
theorem okLk_off {pc d : Nat} {bp : Nat → Nat} {dflt : Int} {x : Int32} (hd : (pc : Int) + dflt = (bp d : Int)) : ∀ (ps : List (Int × Int)) (ts : List (Int32 × Nat)), okLk pc bp ps ts = true → (pc : Int) + Op.lookupswitch.offset ps dflt x.toInt = (bp (swT x d ts) : Int)
  | [], [], _ => hd
  | (a, o) :: r, (v, t) :: ts, h => by
    unfold okLk at h
    simp only [Bool.and_eq_true, decide_eq_true_eq] at h
    rw [Op.lookupswitch.offset_cons]
    unfold swT
    by_cases hv : x = v
    · rw [if_pos (by rw [hv]; exact h.1.1.symm), if_pos hv]
      exact h.1.2
    · rw [if_neg (fun q => hv (Int32.toInt_inj.mp (by rw [h.1.1]; exact q.symm))), if_neg hv]
      exact okLk_off hd r ts h.2
  | [], _ :: _, h => absurd h (by simp [okLk])
  | _ :: _, [], h => absurd h (by simp [okLk])
theorem lsw_snd (hx : p.tables.exec = Jvm.exec) (hb : c.code = cc) {dflt : Int} {ps : Array (Int × Int)} {len d : Nat} {bp : Nat → Nat} {ts : List (Int32 × Nat)} (hd : decode cc pc = .ok (.lookupswitch dflt ps, len)) (hp : (ps.toList.zip (ps.toList.drop 1)).all (fun (a, next) => a.1 < next.1) = true) (hdf : (pc : Int) + dflt = (bp d : Int)) (ho : okLk pc bp ps.toList ts = true) {x : Int32}
    (k : Sd p l e R s m args below meth c D mc ms nL (bp (swT x d ts)) L st M r) : Sd p l e R s m args below meth c D mc ms nL pc L (vI x :: st) M r := by
  intro H locs cells slots ls hH hS hl' h1 h2
  have kk := k H locs cells slots ls hH hS hl' h1 h2
  exact lv_lookup hx hb hd hp rfl (okLk_off hdf _ _ ho) kk
theorem map_sum {st : List AV} : ((st.map ab_cv).map fun v => v.category).sum = (st.map ab_ca).sum := by
  rw [List.map_map]
  congr 1
  apply List.map_congr_left
  intro v _
  exact ab_cat v
/-- Object's constructor -/
theorem obi_snd (hx : p.tables.exec = Jvm.exec) (hb : c.code = cc) (hml : c.maxLocals = nL) (hown : s.vm.findClass own = some m.cls) (K : K0 D s) (hR : 1 ≤ R.frames ∧ 40 ≤ R.locals) {idx a : Nat} (hl : Cond.methodLink own idx Lib.objectInit ∈ lw_tbl) (hi : Cond.instanceMethod Lib.objectInit ∈ lw_tbl) (hc : Cond.code Lib.objectInit ⟨#[0xb1]⟩ 1 none ∈ lw_tbl) (hd : decode cc pc = .ok (.invokespecial idx, 3)) (hst : (st.map ab_ca).sum ≤ 8)
    (k : Sd p l e R s m args below meth c D mc ms nL (pc + 3) L st M r) : Sd p l e R s m args below meth c D mc ms nL pc L (vR (some a) :: st) M r := by
  intro H locs cells slots ls hH hS hl' h1 h2
  exact W.objInit hx hb hown (K.1 _ hl rfl args) (K.1 _ hi rfl args) (K.1 _ hc rfl args) rfl (by rw [hml]; exact hl'.1) rfl hd hR.1 (by show 2 * 0 + _ + 12 ≤ _; rw [map_sum]; omega) (k H locs cells slots ls hH hS hl' h1 h2)
abbrev d2lN : MethodName := ⟨"java/lang/Double", "doubleToRawLongBits", "(D)J"⟩
abbrev l2dN : MethodName := ⟨"java/lang/Double", "longBitsToDouble", "(J)D"⟩
theorem d2l_snd (hx : p.tables.exec = Jvm.exec) (hb : c.code = cc) (hml : c.maxLocals = nL) (hown : s.vm.findClass own = some m.cls) (K : K0 D s) (hR : 1 ≤ R.frames ∧ 40 ≤ R.locals) {idx : Nat} (hl : Cond.methodLink own idx d2lN ∈ lw_tbl) (hw : Cond.native d2lN ∈ lw_tbl ∧ Cond.static d2lN ∈ lw_tbl ∧ Cond.initialized "java/lang/Double" ∈ lw_tbl) (hd : decode cc pc = .ok (.invokestatic idx, 3)) (hst : (st.map ab_ca).sum ≤ 8) {x : UInt64}
    (k : Sd p l e R s m args below meth c D mc ms nL (pc + 3) L (vJ (d2J x) :: st) M r) : Sd p l e R s m args below meth c D mc ms nL pc L (vD x :: st) M r := by
  intro H locs cells slots ls hH hS hl' h1 h2
  have kk := k H locs cells slots ls hH hS hl' h1 h2
  simp only [List.map_cons, ab_cv, d2J_e] at kk
  exact vn_d2l hx hb (by rw [hml]; exact hl'.1.symm) hown (K.1 _ hl rfl args) (K.1 _ hw.1 rfl args) (K.1 _ hw.2.1 rfl args) (K.1 _ hw.2.2 rfl args) hR.1 (by rw [map_sum]; omega) hd kk
theorem l2d_snd (hx : p.tables.exec = Jvm.exec) (hb : c.code = cc) (hml : c.maxLocals = nL) (hown : s.vm.findClass own = some m.cls) (K : K0 D s) (hR : 1 ≤ R.frames ∧ 40 ≤ R.locals) {idx : Nat} (hl : Cond.methodLink own idx l2dN ∈ lw_tbl) (hw : Cond.native l2dN ∈ lw_tbl ∧ Cond.static l2dN ∈ lw_tbl ∧ Cond.initialized "java/lang/Double" ∈ lw_tbl) (hd : decode cc pc = .ok (.invokestatic idx, 3)) (hst : (st.map ab_ca).sum ≤ 8) {x : Int64} (hn : isN (j2D x))
    (k : Sd p l e R s m args below meth c D mc ms nL (pc + 3) L (vD (j2D x) :: st) M r) : Sd p l e R s m args below meth c D mc ms nL pc L (vJ x :: st) M r := by
  intro H locs cells slots ls hH hS hl' h1 h2
  have kk := k H locs cells slots ls hH hS hl' h1 h2
  rw [j2D_e] at hn
  simp only [List.map_cons, ab_cv, j2D_e] at kk
  refine vn_l2d hx hb (by rw [hml]; exact hl'.1.symm) hown (K.1 _ hl rfl args) (K.1 _ hw.1 rfl args) (K.1 _ hw.2.1 rfl args) (K.1 _ hw.2.2 rfl args) ?_ hR.1 (by rw [map_sum]; omega) hd kk
  have : ¬ (x.toUInt64 &&& 0x7fffffffffffffff > 0x7ff0000000000000) := UInt64.not_lt.mpr hn
  simp [vn_snl2d, this]
abbrev gcN : MethodName := ⟨"java/lang/Object", "getClass", "()Ljava/lang/Class;"⟩
theorem gcl_snd (hx : p.tables.exec = Jvm.exec) (hb : c.code = cc) (hml : c.maxLocals = nL) (hown : s.vm.findClass own = some m.cls) (K : K0 D s) (hR : 1 ≤ R.frames ∧ 40 ≤ R.locals) {idx kd a b : Nat} {C : String} (hn : KX kd C) (hl : Cond.methodLink own idx gcN ∈ lw_tbl) (hw : Cond.declares gcN ∈ lw_tbl ∧ Cond.selects C gcN gcN ∈ lw_tbl ∧ Cond.instanceMethod gcN ∈ lw_tbl ∧ Cond.native gcN ∈ lw_tbl) (hM : va_Mi C b s) (hd : decode cc pc = .ok (.invokevirtual idx, 3)) (hst : (st.map ab_ca).sum ≤ 8) (hk : mcl M a = kd) (hko : mco M a ≠ 0)
    (k : Sd p l e R s m args below meth c D mc ms nL (pc + 3) L (vR (some b) :: st) M r) : Sd p l e R s m args below meth c D mc ms nL pc L (vR (some a) :: st) M r := by
  intro H locs cells slots ls hH hS hl' h1 h2
  have kk := k H locs cells slots ls hH hS hl' h1 h2
  obtain ⟨cell, hc, hcr⟩ := hH.at (a := a) (by rw [hk]; exact hn.ne)
  exact va_getC hx hb (by rw [hml]; exact hl'.1.symm) hown (K.1 _ hl rfl args) (K.1 _ hw.1 rfl args) (K.1 _ hw.2.1 rfl args) (K.1 _ hw.2.2.1 rfl args) (K.1 _ hw.2.2.2 rfl args) hM ⟨cell, hc, hcr.1.ns, hn.cls K hk hcr (fun _ => hko)⟩ hR.1 (by rw [map_sum]; omega) hd kk
end S6
