/-! ===== soundness: fields ===== -/
def kIn : Prop := ∀ (k : Nat) (q : vw_C), kCl[k]? = some q → ∀ w ∈ u_ws q.1 q.2.1 q.2.2, w ∈ lw_tbl ∧ stW w = true
/-- the sort of a field's type -/
def srt : FieldType → Nat
  | .int => 0
  | .long => 1
  | .double => 2
  | .boolean => 4
  | .byte => 5
  | .object _ => 3
  | .array _ => 3
  | _ => 9
def kTy : Prop := ∀ (k : Nat) (q : vw_C), kCl[k]? = some q → ∀ j, j < q.2.2 → ∃ (ty : FieldType) (f : Nat), parseFieldDescriptor (q.2.1 j).2.2.1 = some ty ∧ (kFl.getD k [])[j]? = some (srt ty, f)
def LinkF (own : String) (idx : Nat) (ref : String) (t : String × String × String × Bool) : Prop := Cond.fieldLink own idx ref t.2.1 t.2.2.1 ∈ lw_tbl ∨ ∃ host, Cond.fieldLinkNest own idx ref t.2.1 t.2.2.1 host ∈ lw_tbl
def SameF (ref : String) (t : String × String × String × Bool) : Prop := ref = t.1 ∨ Cond.sameField ref t.1 t.2.1 t.2.2.1 ∈ lw_tbl
theorem SameF.use {D : Gh} {s : State} {ref : String} {t : String × String × String × Bool} (K : K0 D s) (h : SameF ref t) (x : ClassId × Class × Nat × Field) (hx : s.fieldFound? t.1 t.2.1 t.2.2.1 = some x) : s.fieldFound? ref t.2.1 t.2.2.1 = some x := by
  rcases h with rfl | h
  · exact hx
  · exact u_same (K.1 _ h rfl #[]) x hx
theorem fit_z (x : Int32) : fits .boolean (.int (x &&& 1)) = true := by
  obtain ⟨j, hj, e⟩ := pk_andE x (m := 1) 1 rfl
  rw [e]
  match j, hj with
  | 0, _ => rfl
  | 1, _ => rfl
section S3
variable {p : Program} {l : Launch} {e : Env} {R : Room} {s : State} {m : MethodId} {args : Array Value} {below : List Frame} {meth : Method} {c : Code} {D : Gh} {mc ms nL : Nat} {pc : Nat} {L : Loc_} {st : List AV} {M M' : Mem} {r : Out × Mem} {cc : ByteArray} {own : String}
theorem get_snd (hx : p.tables.exec = Jvm.exec) (hb : c.code = cc) (hown : s.vm.findClass own = some m.cls) (K : K0 D s) (hin : kIn) {idx kd j f sort : Nat} {ref : String} {q : vw_C} (hq : kCl[kd]? = some q) (h0 : kd ≠ 0) (hlt : kd < 100) (hj : j < q.2.2) (hf : (kFl.getD kd [])[j]? = some (sort, f))
    (hl : LinkF own idx ref (q.2.1 j)) (hsm : SameF ref (q.2.1 j)) (hd : decode cc pc = .ok (.getfield idx, 3)) {a : Nat} (ha : mcl M a = kd) {v : AV} (hv : ab_cv v = fldV M a (sort, f)) (k : Sd p l e R s m args below meth c D mc ms nL (pc + 3) L (v :: st) M r) :
    Sd p l e R s m args below meth c D mc ms nL pc L (vR (some a) :: st) M r := by
  intro H locs cells slots ls hH hS hl' h1 h2
  obtain ⟨cell, hc, ⟨hun, hst⟩, -, hob, -⟩ := hH.at (a := a) (by rw [ha]; exact h0)
  obtain ⟨hcls, hsl⟩ := hob (by rw [ha]; exact hlt)
  rw [ha] at hsl hcls
  obtain ⟨hS', hfc, kC, hkC, hkind⟩ := K.2.1 kd q hq
  obtain ⟨cf, kf, fi, fd, hi, hsl2⟩ := hS' j hj
  have hts : ∀ w ∈ u_ws q.1 q.2.1 q.2.2, w.before args s = true := fun w hw => K.1 w (hin kd q hq w hw).1 (hin kd q hq w hw).2 args
  have hfx := u_facts hfc hkC (u_lays hts (fun w h => h) hj) hi
  have hslot : cell.slots[fd.slot]? = some (ab_cv v) := by rw [hsl2, hv]; exact hsl j _ hf
  have kk := k H locs cells slots ls hH hS hl' h1 h2
  rcases hl with hl | ⟨host, hl⟩
  · exact W.getf hx hb hown (K.1 _ hl rfl args) (hsm.use K _ hi) hfx.1 hc hun hslot rfl rfl hd kk
  · exact va_Wgetf hx hb hown (K.1 _ hl rfl args) (hsm.use K _ hi) hfx.1 hc hun hslot rfl rfl hd kk
theorem put_snd (hx : p.tables.exec = Jvm.exec) (hb : c.code = cc) (hown : s.vm.findClass own = some m.cls) (K : K0 D s) (hin : kIn) (hty : kTy) (hk : kOK D) {idx kd j : Nat} {q0 : Nat × Nat} {ref : String} {q : vw_C} (hq : kCl[kd]? = some q) (h0 : kd ≠ 0) (hlt : kd < 100) (hj : j < q.2.2) (hf : (kFl.getD kd [])[j]? = some q0)
    (hl : LinkF own idx ref (q.2.1 j)) (hsm : SameF ref (q.2.1 j)) (hfin : (q.2.1 j).2.2.2 = false ∨ ((q.2.1 j).2.2.2 = true ∧ meth.name = "<init>" ∧ (q.2.1 j).1 = own ∧ Cond.fieldLink own idx ref (q.2.1 j).2.1 (q.2.1 j).2.2.1 ∈ lw_tbl)) (hd : decode cc pc = .ok (.putfield idx, 3))
    {a : Nat} (ha : mcl M a = kd) (hco : mco M a ≠ 0) {v : AV} (hnv : ∀ ty, srt ty = q0.1 → narrow ty (ab_cv v) = ab_cv v ∧ fits ty (ab_cv v) = true)
    (e1 : mcl M' = mcl M) (e2 : mco M' = mco M) (e3 : mln M' = mln M) (e4 : mnx M' = mnx M) (e5 : msl M' = msl M) (hz : Zr M → Zr M') (ef : ∀ b q, b ≠ a → fldV M' b q = fldV M b q) (ee : ∀ k b j, elV M' k b j = elV M k b j) (ew : fldV M' a q0 = ab_cv v) (eo : ∀ q : Nat × Nat, q.2 ≠ q0.2 → fldV M' a q = fldV M a q)
    (k : Sd p l e R s m args below meth c D mc ms nL (pc + 3) L st M' r) : Sd p l e R s m args below meth c D mc ms nL pc L (v :: vR (some a) :: st) M r := by
  intro H locs cells slots ls hH hS hl' h1 h2
  obtain ⟨cell, hc, hcr⟩ := hH.at (a := a) (by rw [ha]; exact h0)
  have hcr0 := hcr
  obtain ⟨⟨hun, hst⟩, hvm, hob, -⟩ := hcr
  obtain ⟨hcls, hsl⟩ := hob (by rw [ha]; exact hlt)
  rw [ha] at hsl hcls
  obtain ⟨hS', hfc, kC, hkC, hkind⟩ := K.2.1 kd q hq
  obtain ⟨cf, kf, fi, fd, hi, hsl2⟩ := hS' j hj
  have hts : ∀ w ∈ u_ws q.1 q.2.1 q.2.2, w.before args s = true := fun w hw => K.1 w (hin kd q hq w hw).1 (hin kd q hq w hw).2 args
  have hfx := u_facts hfc hkC (u_lays hts (fun w h => h) hj) hi
  obtain ⟨ty, f9, hp1, hp2⟩ := hty kd q hq j hj
  have hq9 : q0 = (srt ty, f9) := Option.some.inj (hf.symm.trans hp2)
  obtain ⟨hn1, hn2⟩ := hnv ty (by rw [hq9])
  have hslt : fd.slot < cell.slots.size := by rw [hsl2]; exact k2_hasslot (hsl j _ hf)
  have hba : hbA D a := hH.2.2.1 a hco
  have kk : ∀ H' : Heap, H'[a]? = some (cell.setSlot fd.slot (ab_cv v)) → H'.size = H.size → (∀ q, q ≠ a → H'[q]? = H[q]?) → W p l e R s m args below meth c H' (locs ++ [⟨a, fd.slot⟩]) cells slots (vx_MQ below (Qr D r) (Xr D r) args s mc ms (hbA D)) (F0 m (pc + 3) ls (st.map ab_cv)) := by
    intro H' g1 g2 g3
    rw [hsl2] at g1
    exact k H' _ cells slots ls (HR.fld hk hH ha h0 hlt hf hc hcr0 e1 e2 e3 e4 (hz hH.2.1) ef ee ew eo g1 g2 g3) (hS.put g2 g3 hba) hl' (by rw [e4]; exact h1) (by rw [e5]; exact h2)
  rcases hfin with hfin | ⟨hfin, hini, hdecl, hl0⟩
  · have hlay := hts _ (u_in_lay hj)
    unfold u_lay at hlay
    rw [if_neg (by rw [hfin]; decide)] at hlay
    have h6 := u_store hfc hkC hkind hlay hi hp1 hn1 hn2
    rcases hl with hl | ⟨host, hl⟩
    · exact W.putK hx hb (f := fd) ⟨hown, K.1 _ hl rfl args, ⟨_, _, _, hsm.use K _ hi⟩, hfx.1⟩ (by rw [hcls]; exact h6) hc (hvm hco).1 hslt rfl rfl hd kk
    · exact va_WputK hx hb (f := fd) hown (K.1 _ hl rfl args) (hsm.use K _ hi) hfx.1 (by rw [hcls]; exact h6) hc (hvm hco).1 hslt rfl rfl hd kk
  · have hlay := hts _ (u_in_lay hj)
    unfold u_lay at hlay
    rw [if_pos hfin] at hlay
    have hcf : m.cls = cf := by
      obtain ⟨_, _, c', _, _, _, -, -, hf', -, -, -, hown2, -⟩ := Cond.laysFinal_spec hlay
      have e9 : c' = cf := by have := hi.symm.trans hf'; simp at this; exact this.1.symm
      rw [hdecl] at hown2
      rw [← e9]; exact Option.some.inj (hown.symm.trans hown2)
    have h6 := u_fits hfc hkC hkind (Or.inr hlay) hi hp1 hn1 hn2
    exact W.putFinK hx hb hown (K.1 _ hl0 rfl args) (hsm.use K _ hi) hfx.1 hcf hini (by rw [hcls]; exact h6) hc (hvm hco).1 hslt rfl rfl hd kk
/-! ===== arrays ===== -/
theorem arrOf {cell : Cell} {ty : FieldType} {i : Nat} (K : K0 D s) (hi : kAr[i]? = some ty) (hv : vmOK cell) {Q : Nat → Prop} (hcls : ∃ n, cell.cls = D.2.2.1 (100 + i + 1000 * n) ∧ Q n) : s.isArrayOf cell ty := by
  obtain ⟨n, hcls, -⟩ := hcls
  obtain ⟨-, k9, h1, comp, h2⟩ := (K.2.2.2 i ty hi).1 n 0 (fun _ => .null)
  exact ⟨hv.2, k9, by rw [hcls]; exact h1, comp, h2⟩
theorem ld_snd (hx : p.tables.exec = Jvm.exec) (hb : c.code = cc) (K : K0 D s) {i : Instr} {kd : Nat} {ty : FieldType} (hge : 100 ≤ kd) (hty : kAr[kd - 100]? = some ty) (hi : (i = .iaload ∧ ty = .int) ∨ (i = .baload ∧ ty = .byte) ∨ (i = .baload ∧ ty = .boolean) ∨ (i = .daload ∧ ty = .double) ∨ (i = .aaload ∧ ty.isReference = true)) (hd : decode cc pc = .ok (i, 1))
    {a : Nat} {j : Int32} (ha : mcl M a = kd ∧ inR j (mln M a)) {v : AV} (hv : ab_cv v = elV M kd a j.toNatClampNeg) (k : Sd p l e R s m args below meth c D mc ms nL (pc + 1) L (v :: st) M r) :
    Sd p l e R s m args below meth c D mc ms nL pc L (vI j :: vR (some a) :: st) M r := by
  intro H locs cells slots ls hH hS hl' h1 h2
  obtain ⟨ha, hj0, hj1⟩ := ha
  obtain ⟨cell, hc, hvm, -, -, hob⟩ := hH.at (a := a) (by rw [ha]; omega)
  obtain ⟨hcls, hsz, hsl⟩ := hob (by rw [ha]; exact hge)
  rw [ha] at hsl
  have har := arrOf K hty hvm (Q := fun n => mco M a ≠ 0 → n = 0) (by rw [show 100 + (kd - 100) = kd by omega, ← ha]; exact hcls)
  have hin : ¬ (j < 0 ∨ cell.slots.size ≤ j.toNatClampNeg) := by rw [hsz]; rintro (h | h); exact hj0 h; omega
  have hvv : cell.slots[j.toNatClampNeg]? = some (ab_cv v) := by rw [hv]; exact (hsl _ hj1).1
  have kk := k H locs cells slots ls hH hS hl' h1 h2
  rcases hi with ⟨rfl, rfl⟩ | ⟨rfl, rfl⟩ | ⟨rfl, rfl⟩ | ⟨rfl, rfl⟩ | ⟨rfl, hr⟩
  · exact W.iald hx hb hc har hvm.1 hin hvv rfl rfl hd kk
  · exact W.bald hx hb hc har hvm.1 hin hvv rfl rfl hd kk
  · exact W.zald hx hb hc har hvm.1 hin hvv rfl rfl hd kk
  · exact W.dald hx hb hc har hvm.1 hin hvv rfl rfl hd kk
  · exact W.aald hx hb hc har hr hvm.1 hin hvv rfl rfl hd kk
theorem alen_snd (hx : p.tables.exec = Jvm.exec) (hb : c.code = cc) (K : K0 D s) {kd : Nat} {ty : FieldType} (hge : 100 ≤ kd) (hty : kAr[kd - 100]? = some ty) (hd : decode cc pc = .ok (.arraylength, 1)) {a : Nat} (ha : mcl M a = kd)
    (k : Sd p l e R s m args below meth c D mc ms nL (pc + 1) L (vI (nI (mln M a)) :: st) M r) : Sd p l e R s m args below meth c D mc ms nL pc L (vR (some a) :: st) M r := by
  intro H locs cells slots ls hH hS hl' h1 h2
  obtain ⟨cell, hc, hvm, -, -, hob⟩ := hH.at (a := a) (by rw [ha]; omega)
  obtain ⟨hcls, hsz, -⟩ := hob (by rw [ha]; exact hge)
  have har := arrOf K hty hvm (Q := fun n => mco M a ≠ 0 → n = 0) (by rw [show 100 + (kd - 100) = kd by omega, ← ha]; exact hcls)
  exact W.alen hx hb hc har (by rw [hsz]; rfl) rfl rfl hd (k H locs cells slots ls hH hS hl' h1 h2)
/-- a store into an array: the new cell, and the relation behind it -/
theorem st_snd (hx : p.tables.exec = Jvm.exec) (hb : c.code = cc) (K : K0 D s) {i : Instr} {kd : Nat} {ty : FieldType} (hge : 100 ≤ kd) (hty : kAr[kd - 100]? = some ty) {w v : AV}
    (hi : (i = .iastore ∧ ty = .int ∧ v = w) ∨ (i = .dastore ∧ ty = .double ∧ v = w) ∨ (i = .bastore ∧ ty = .boolean ∧ ∃ x, w = vI x ∧ v = vI (z2Z x)) ∨ (i = .bastore ∧ ty = .byte ∧ ∃ x, w = vI x ∧ v = vI (i2B x)))
    (hw : (ty = .int ∧ ∃ x, w = vI x) ∨ (ty = .double ∧ ∃ x, w = vD x) ∨ ty = .boolean ∨ ty = .byte) (hd : decode cc pc = .ok (i, 1))
    {a : Nat} {j : Int32} (ha : mcl M a = kd ∧ mco M a ≠ 0 ∧ inR j (mln M a))
    (e1 : mcl M' = mcl M) (e2 : mco M' = mco M) (e3 : mln M' = mln M) (e4 : mnx M' = mnx M) (e5 : msl M' = msl M) (hz : Zr M → Zr M') (ef : ∀ b q, fldV M' b q = fldV M b q) (ee : ∀ k b j, b ≠ a → elV M' k b j = elV M k b j) (ew : elV M' kd a j.toNatClampNeg = ab_cv v) (eo : ∀ q : Nat, q ≠ j.toNatClampNeg → elV M' kd a q = elV M kd a q)
    (k : Sd p l e R s m args below meth c D mc ms nL (pc + 1) L st M' r) : Sd p l e R s m args below meth c D mc ms nL pc L (w :: vI j :: vR (some a) :: st) M r := by
  intro H locs cells slots ls hH hS hl' h1 h2
  obtain ⟨ha, hco, hj0, hj1⟩ := ha
  obtain ⟨cell, hc, hcr⟩ := hH.at (a := a) (by rw [ha]; omega)
  have hcr0 := hcr
  obtain ⟨hvm, -, -, hob⟩ := hcr
  obtain ⟨hcls, hsz, hsl⟩ := hob (by rw [ha]; exact hge)
  rw [ha] at hsl
  have har := arrOf K hty hvm (Q := fun n => mco M a ≠ 0 → n = 0) (by rw [show 100 + (kd - 100) = kd by omega, ← ha]; exact hcls)
  have hin : ¬ (j < 0 ∨ cell.slots.size ≤ j.toNatClampNeg) := by rw [hsz]; rintro (h | h); exact hj0 h; omega
  have hba : hbA D a := hH.2.2.1 a hco
  have hfv : fits (elT kd) (ab_cv v) = true := by
    have e9 : elT kd = ty := by unfold elT; rw [List.getD_eq_getElem?_getD, hty]; rfl
    rw [e9]
    rcases hi with ⟨-, rfl, rfl⟩ | ⟨-, rfl, rfl⟩ | ⟨-, rfl, x, -, rfl⟩ | ⟨-, rfl, x, -, rfl⟩
    · rcases hw with ⟨-, x, rfl⟩ | ⟨h, -⟩ | h | h
      · rfl
      · cases h
      · cases h
      · cases h
    · rcases hw with ⟨h, -⟩ | ⟨-, x, rfl⟩ | h | h
      · cases h
      · rfl
      · cases h
      · cases h
    · show fits .boolean (Value.int (z2Z x)) = true
      rw [z2Z_e]
      exact fit_z x
    · show fits .byte (Value.int (i2B x)) = true
      rw [i2B_e]
      exact pk_fb x
  have kk : ∀ H' : Heap, H'[a]? = some (cell.setSlot j.toNatClampNeg (ab_cv v)) → H'.size = H.size → (∀ q, q ≠ a → H'[q]? = H[q]?) → W p l e R s m args below meth c H' (locs ++ [⟨a, j.toNatClampNeg⟩]) cells slots (vx_MQ below (Qr D r) (Xr D r) args s mc ms (hbA D)) (F0 m (pc + 1) ls (st.map ab_cv)) := by
    intro H' g1 g2 g3
    exact k H' _ cells slots ls (HR.elm hH ha hge hj1 hc hcr0 e1 e2 e3 e4 (hz hH.2.1) ef ee ew hfv eo g1 g2 g3) (hS.put g2 g3 hba) hl' (by rw [e4]; exact h1) (by rw [e5]; exact h2)
  rcases hi with ⟨rfl, rfl, rfl⟩ | ⟨rfl, rfl, rfl⟩ | ⟨rfl, rfl, x, rfl, rfl⟩ | ⟨rfl, rfl, x, rfl, rfl⟩
  · rcases hw with ⟨-, x, rfl⟩ | ⟨h, -⟩ | h | h
    · exact W.iast hx hb hc har hvm.1 hin rfl rfl hd kk
    · cases h
    · cases h
    · cases h
  · rcases hw with ⟨h, -⟩ | ⟨-, x, rfl⟩ | h | h
    · cases h
    · exact W.dast hx hb hc har hvm.1 hin rfl rfl hd kk
    · cases h
    · cases h
  · refine W.zast hx hb hc har hvm.1 hin rfl rfl hd fun H' g1 g2 g3 => kk H' ?_ g2 g3
    rw [g1]
    show _ = some (cell.setSlot _ (Value.int (z2Z x)))
    rw [z2Z_e]
    rfl
  · refine W.bast hx hb hc har hvm.1 hin rfl rfl hd fun H' g1 g2 g3 => kk H' ?_ g2 g3
    rw [g1]
    show _ = some (cell.setSlot _ (Value.int (i2B x)))
    rw [i2B_e]
    rfl
end S3
