/-! ===== soundness: what is made; constants; casts; switches ===== -/
theorem va_S.grow {A : Nat → Prop} {H0 H H' : Heap} {locs : List Loc} (h : va_S A H0 H locs) (hz : H.size ≤ H'.size) (g : ∀ q, q < H.size → H'[q]? = H[q]?) : va_S A H0 H' locs :=
  ⟨Nat.le_trans h.1 hz, fun q h1 h2 => (g q (Nat.lt_of_lt_of_le h1 h.1)).trans (h.2.1 q h1 h2), h.2.2⟩
/-- the name of a kind's class -/
def KN (k : Nat) (nm : String) : Prop := k ≠ 0 ∧ ((∃ q : vw_C, kCl[k]? = some q ∧ k < 100 ∧ q.1 = nm) ∨ ((k, nm) ∈ kEn ∧ k < 100))
/-- an array's class; a kind's class -/
def KA (k : Nat) (nm : String) : Prop := ∃ (i : Nat) (ty : FieldType), k = 100 + i ∧ kAr[i]? = some ty ∧ "[" ++ ty.toString = nm
def KX (k : Nat) (nm : String) : Prop := KN k nm ∨ KA k nm
theorem raNm {s : State} {cA : ClassId} {ty : FieldType} (h : va_RA s cA ty) : s.vm.findClass ("[" ++ ty.toString) = some cA := by
  cases ty with
  | object C => obtain ⟨-, -, -, -, -, h4⟩ := h; exact h4
  | _ => exact h
theorem KN.cls {D : Gh} {s : State} {M : Mem} {a k : Nat} {nm : String} {cell : Cell} (h : KN k nm) (K : K0 D s) (hk : mcl M a = k) (hc : CellR D M a cell) : s.vm.findClass nm = some cell.cls := by
  obtain ⟨h0, h⟩ := h
  subst hk
  obtain ⟨hv, -, ho, ha⟩ := hc
  rcases h with ⟨q, hq, hlt, rfl⟩ | ⟨hm, hlt⟩
  · rw [(ho hlt).1]; exact (K.2.1 _ q hq).2.1
  · rw [(ho hlt).1]; exact (K.2.2.1 _ hm).1
theorem KX.ne {k : Nat} {nm : String} (h : KX k nm) : k ≠ 0 := by
  rcases h with h | ⟨i, ty, hi, -⟩
  · exact h.1
  · omega
theorem KX.cls {D : Gh} {s : State} {M : Mem} {a k : Nat} {nm : String} {cell : Cell} (h : KX k nm) (K : K0 D s) (hk : mcl M a = k) (hc : CellR D M a cell) (hco : 100 ≤ k → mco M a ≠ 0) : s.vm.findClass nm = some cell.cls := by
  rcases h with h | ⟨i, ty, hi, hty, rfl⟩
  · exact h.cls K hk hc
  · subst hk
    obtain ⟨-, -, -, ha⟩ := hc
    have e := (ha (by omega)).1.own (hco (by omega))
    rw [hi] at e
    rw [e]
    exact raNm (K.2.2.2 i ty hty).2
theorem okK_at {M : Mem} {ks : List Nat} {b : Nat} (h : okK M ks (some b) = true) : mcl M b ∈ ks ∧ (100 ≤ mcl M b → mco M b ≠ 0) := by
  unfold okK at h
  simp only [Bool.and_eq_true, Bool.or_eq_true] at h
  refine ⟨List.contains_iff_mem.mp h.1, fun hge h0 => ?_⟩
  rcases h.2 with h2 | h2
  · have := Nat.le_of_ble_eq_true h2
    omega
  · rw [h0] at h2
    cases h2
theorem vmOK.no {cell : Cell} (h : cell.vm = .none) : vmOK cell := ⟨fun e => (by rw [h] at e; cases e), fun q e => (by rw [h] at e; cases e)⟩
theorem vmOK.ns {cell : Cell} (h : vmOK cell) : cell.vm.isStatics = false := by
  obtain ⟨-, h2⟩ := h
  cases hv : cell.vm with
  | statics q => exact absurd hv (h2 q)
  | _ => rfl
/-- what statics, texts and class objects are: by the numbers of the table gTb; statics that are numbers -/
def GR (D : Gh) (G : Nat → Option Nat) (s : State) (H : Heap) : Prop :=
  (∀ (g : Nat) (C n d : String), gTb[g]? = some (0, C, n, d) → g ≠ 0 → va_Z C n d (va_rf (G g)) (hbA D) s H) ∧
  (∀ (g : Nat) (tx : String), gTb[g]? = some (1, tx, "", "") → ∀ (own : String) (k : Nat), Cond.stringRef own k tx ∈ lw_tbl → ∃ a, G g = some a ∧ vk_R own k tx a s) ∧
  (∀ (g : Nat) (C : String), gTb[g]? = some (2, C, "", "") → ∃ a, G g = some a ∧ va_Mi C a s) ∧
  (∀ z ∈ eTb, ∃ a, G z.1 = some a ∧ va_O z.2 a (hbA D) s H)
theorem GR.moved {D : Gh} {G : Nat → Option Nat} {s U : State} {H H1 : Heap} (h : GR D G s H) (hW : s.WarmedH U.vm) (hq : ∀ a : Nat, a < H.size → ¬ hbA D a → H1[a]? = H[a]?) : GR D G U H1 := by
  obtain ⟨h1, h2, h3, h4⟩ := h
  refine ⟨fun g C n d e e0 => ((h1 g C n d e e0).moved hW.alike).kept hq, fun g tx e own k hk => ?_, fun g C e => ?_, fun z hz => ?_⟩
  · obtain ⟨a, e1, e2⟩ := h2 g tx e own k hk
    exact ⟨a, e1, e2.warm hW⟩
  · obtain ⟨a, e1, e2⟩ := h3 g C e
    exact ⟨a, e1, e2.moved hW.alike⟩
  · obtain ⟨a, e1, e2⟩ := h4 z hz
    exact ⟨a, e1, (va_O.moved hW.alike e2).kept hq⟩
section S5
variable {p : Program} {l : Launch} {e : Env} {R : Room} {s : State} {m : MethodId} {args : Array Value} {below : List Frame} {meth : Method} {c : Code} {D : Gh} {mc ms nL : Nat} {pc : Nat} {L : Loc_} {st st' : List AV} {M M' : Mem} {r : Out × Mem} {cc : ByteArray} {own : String} {G : Nat → Option Nat}
theorem fldV_0 {M : Mem} {c2 k n a : Nat} {ty : FieldType} {f : Nat} (hz : Zr M) (ha : mnx M ≤ a) (h9 : srt ty ≠ 9) : fldV (mnew M c2 k n) a (srt ty, f) = defaultValue ty := by
  obtain ⟨-, z1, z2, z3, z4, -⟩ := hz a ha
  cases ty with
  | int => exact congrArg Value.int (z1 f)
  | long => exact congrArg Value.long (z2 f)
  | double => exact congrArg Value.double (z3 f)
  | boolean => exact congrArg Value.int (z1 f)
  | byte => exact congrArg Value.int (z1 f)
  | object C => exact congrArg va_rf (z4 f)
  | array t => exact congrArg va_rf (z4 f)
  | _ => exact absurd rfl h9
theorem new_snd (hx : p.tables.exec = Jvm.exec) (hb : c.code = cc) (hown : s.vm.findClass own = some m.cls) (K : K0 D s) (hin : kIn) (hty : kTy) (hR : mc ≤ R.cells ∧ ms ≤ R.slots) (hbs : D.2.2.2 ≤ s.heap.size) {idx kd n c2 : Nat} {q : vw_C} (hq : kCl[kd]? = some q) (h0 : kd ≠ 0) (hlt : kd < 100)
    (hfl : (kFl.getD kd []).length ≤ q.2.2) (h9 : ∀ x ∈ kFl.getD kd [], x.1 ≠ 9) (hcl : Cond.classLink own idx q.1 ∈ lw_tbl) (hi : Cond.instantiable q.1 n ∈ lw_tbl) (hini : Cond.initialized q.1 ∈ lw_tbl) (hd : decode cc pc = .ok (.new idx, 3))
    (hmo : mnx M + 1 ≤ mnx r.2 ∧ msl M + n ≤ msl r.2) (k : Sd p l e R s m args below meth c D mc ms nL (pc + 3) L (vR (some (mnx M)) :: st) (mnew M c2 kd n) r) : Sd p l e R s m args below meth c D mc ms nL pc L st M r := by
  intro H locs cells slots ls hH hS hl h1 h2
  obtain ⟨hm1, hm2⟩ := hmo
  have hkn := K.2.1 kd q hq
  have hts : ∀ w ∈ u_ws q.1 q.2.1 q.2.2, w.before args s = true := fun w hw => K.1 w (hin kd q hq w hw).1 (hin kd q hq w hw).2 args
  refine W.newcK hx hb hown (K.1 _ hcl rfl args) (K.1 _ hi rfl args) (K.1 _ hini rfl args) rfl hd (by omega) (by omega) hkn.2.1 hH.1 fun H' kC e1 e2 e3 e4 => ?_
  have hHs : H.size = mnx M := hH.1
  refine k H' locs (cells + 1) (slots + n) ls ?_ (hS.grow (by omega) (fun q hq => e4 q (by omega))) hl (by show _ ≤ mc + (mnx M + 1); omega) (by show _ ≤ ms + (msl M + n); omega)
  have hz : Zr (mnew M c2 kd n) := (ext_mnew (c := 1)).2.2.2.2 hH.2.1
  refine hH.psh (cell := blank (D.1 kd) kC) (fun a ha => if_neg ha) (fun a ha => if_neg ha) (fun _ _ => rfl) rfl hz (fun _ _ _ => rfl) (fun k b j _ => by unfold elV; split <;> rfl) (by have := hS.1; omega) e2 (by omega) (fun q hq => e4 q (by omega)) fun _ => ?_
  have ek : mcl (mnew M c2 kd n) (mnx M) = kd := if_pos rfl
  refine ⟨vmOK.no rfl, fun _ => ⟨rfl, rfl⟩, fun _ => ?_, fun hge => ?_⟩
  · rw [ek]
    refine ⟨rfl, fun j x hj => ?_⟩
    have hjl : j < q.2.2 := Nat.lt_of_lt_of_le (List.getElem?_eq_some_iff.mp hj).1 hfl
    obtain ⟨ty, f, t1, t2⟩ := hty kd q hq j hjl
    cases Option.some.inj (hj.symm.trans t2)
    rw [fldV_0 hH.2.1 (Nat.le_refl _) (h9 _ (List.mem_of_getElem? hj))]
    obtain ⟨cell, c1, -, -, c4⟩ := u_born (H := H') (o := mnx M) (fun i => (parseFieldDescriptor (q.2.1 i).2.2.1).getD .int) hts (fun w h => h) hkn e1 e2 (fun i hi => by obtain ⟨ty', _, t1', -⟩ := hty kd q hq i hi; rw [t1']; rfl)
    cases Option.some.inj (c1.symm.trans e2)
    have := c4 j hjl
    dsimp only at this
    rw [t1] at this
    exact this
  · rw [ek] at hge; omega
/-- a new array's cell -/
theorem HR.arr {D : Gh} {M : Mem} {H H' : Heap} {c2 kd n : Nat} {dv : Value} (h : HR D M H) (hge : 100 ≤ kd) (hhb : D.2.2.2 ≤ mnx M) (g1 : H'[mnx M]? = some { cls := D.2.2.1 kd, slots := Array.replicate n dv, vm := .none }) (g2 : H'.size = H.size + 1) (g3 : ∀ q, q < H.size → H'[q]? = H[q]?) (hdv : ∀ j, elV M kd (mnx M) j = dv) (hf : fits (elT kd) dv = true) : HR D (marr M c2 kd n) H' := by
  have hz : Zr (marr M c2 kd n) := (ext_marr (c := 1)).2.2.2.2 h.2.1
  have ek : mcl (marr M c2 kd n) (mnx M) = kd := if_pos rfl
  have el : mln (marr M c2 kd n) (mnx M) = n := if_pos rfl
  refine h.psh (fun a ha => if_neg ha) (fun a ha => if_neg ha) (fun a ha => if_neg ha) rfl hz (fun _ _ _ => rfl) (fun k b j _ => by unfold elV; split <;> rfl) hhb g1 g2 g3 fun _ => ?_
  refine ⟨vmOK.no rfl, fun _ => ⟨rfl, rfl⟩, fun hlt => ?_, fun _ => ?_⟩
  · rw [ek] at hlt; omega
  · rw [ek, el]
    refine ⟨⟨0, by rw [ek]; rfl, fun _ => rfl⟩, by simp, fun j hj => ?_⟩
    have e1 : elV (marr M c2 kd n) kd (mnx M) j = elV M kd (mnx M) j := by unfold elV; split <;> rfl
    rw [e1, hdv j]
    exact ⟨by simp [hj], hf⟩
theorem elV_0 {M : Mem} {kd a j : Nat} {ty : FieldType} (hz : Zr M) (ha : mnx M ≤ a) (hge : 100 ≤ kd) (hty : kAr[kd - 100]? = some ty) : elV M kd a j = defaultValue ty ∧ fits (elT kd) (defaultValue ty) = true := by
  obtain ⟨-, -, -, -, -, z5, z6, z7⟩ := hz a ha
  have e9 : elT kd = ty := by unfold elT; rw [List.getD_eq_getElem?_getD, hty]; rfl
  rw [e9]
  obtain ⟨i, rfl⟩ : ∃ i, kd = 100 + i := ⟨kd - 100, by omega⟩
  rw [Nat.add_sub_cancel_left] at hty
  match i, hty with
  | 0, h => cases h; exact ⟨congrArg Value.int (z5 j), rfl⟩
  | 1, h => cases h; exact ⟨congrArg Value.int (z5 j), rfl⟩
  | 2, h => cases h; exact ⟨congrArg Value.int (z5 j), rfl⟩
  | 3, h => cases h; exact ⟨congrArg Value.double (z6 j), rfl⟩
  | 4, h => cases h; exact ⟨congrArg va_rf (z7 j), rfl⟩
  | 5, h => cases h; exact ⟨congrArg va_rf (z7 j), rfl⟩
  | 6, h => cases h; exact ⟨congrArg va_rf (z7 j), rfl⟩
  | 7, h => cases h; exact ⟨congrArg va_rf (z7 j), rfl⟩
  | 8, h => cases h; exact ⟨congrArg va_rf (z7 j), rfl⟩
  | 9, h => cases h; exact ⟨congrArg va_rf (z7 j), rfl⟩
  | 10, h => cases h; exact ⟨congrArg va_rf (z7 j), rfl⟩
  | 11, h => cases h; exact ⟨congrArg va_rf (z7 j), rfl⟩
  | n + 12, h => exact absurd h (by simp [kAr])
theorem clamp_le {n : Int32} (h : n ≤ 100000) : n.toNatClampNeg ≤ 100000 := by
  have h1 : n.toInt ≤ 100000 := Int32.le_iff_toInt_le.mp h
  rw [Int32.toNatClampNeg]
  omega
theorem nar_snd (hx : p.tables.exec = Jvm.exec) (hb : c.code = cc) (K : K0 D s) (hR : mc ≤ R.cells ∧ ms ≤ R.slots) (hbs : D.2.2.2 ≤ s.heap.size) {at_ : ArrayType} {kd c2 : Nat} (hge : 100 ≤ kd) (hty : kAr[kd - 100]? = some (newarray.typeOf at_))
    (harr : Cond.arrayClass (newarray.typeOf at_) ∈ lw_tbl) (hd : decode cc pc = .ok (.newarray at_, 2)) {n : Int32} (hn : ¬ n < 0 ∧ n ≤ 100000) (hmo : mnx M + 1 ≤ mnx r.2 ∧ msl M + n.toNatClampNeg ≤ msl r.2)
    (k : Sd p l e R s m args below meth c D mc ms nL (pc + 2) L (vR (some (mnx M)) :: st) (marr M c2 kd n.toNatClampNeg) r) : Sd p l e R s m args below meth c D mc ms nL pc L (vI n :: st) M r := by
  intro H locs cells slots ls hH hS hl h1 h2
  obtain ⟨hm1, hm2⟩ := hmo
  have hHs : H.size = mnx M := hH.1
  have hnb := clamp_le hn.2
  have hcb : componentBytes (newarray.typeOf at_) ≤ 8 := by cases at_ <;> decide
  refine W.newa hx hb (K.1 _ harr rfl args) rfl hd rfl hn.1 (Nat.le_trans (Nat.mul_le_mul hnb hcb) (by decide)) (by omega) (by omega) fun cA kA comp e1 e2 e3 => ?_
  have hra := raNm (K.2.2.2 _ _ hty).2
  rw [show 100 + (kd - 100) = kd by omega] at hra
  cases Option.some.inj (hra.symm.trans e1)
  show W p l e R s m args below meth c _ locs (cells + 1) (slots + n.toNatClampNeg) _ (F0 m (pc + 2) ls (.ref H.size :: st.map ab_cv))
  have kk := k (H.push { cls := D.2.2.1 kd, slots := Array.replicate n.toNatClampNeg (defaultValue (newarray.typeOf at_)), vm := .none }) locs (cells + 1) (slots + n.toNatClampNeg) ls
    (hH.arr hge (by have := hS.1; omega) (by rw [← hHs, Array.getElem?_push_size]) (by simp) (fun q hq => by rw [Array.getElem?_push, if_neg (Nat.ne_of_lt hq)]) (fun j => (elV_0 hH.2.1 (Nat.le_refl _) hge hty).1) (elV_0 (a := mnx M) (j := 0) hH.2.1 (Nat.le_refl _) hge hty).2)
    (hS.grow (by simp) (fun q hq => by rw [Array.getElem?_push, if_neg (Nat.ne_of_lt hq)])) hl (by show _ ≤ mc + (mnx M + 1); omega) (by show _ ≤ ms + (msl M + n.toNatClampNeg); omega)
  rw [hHs]
  exact kk
/-- arrays of references: their words -/
def AOv (s : State) : Prop := (∀ C, Cond.arrayOver (.object C) ∈ lw_tbl → va_AO C s) ∧ (Cond.arrayOver (.array .int)).before #[] s = true
theorem AOv.moved {s U : State} (h : AOv s) (hvm : s.vm.Alike U.vm) : AOv U := by
  refine ⟨fun C hC => (h.1 C hC).moved hvm, ?_⟩
  obtain ⟨comp, c, k, h1, h2, h3, h4, h5⟩ := arrayOverA_spec h.2
  obtain ⟨k', hk', he⟩ := hvm.2.2 _ _ h3
  have hi : (U.vm.classes.findIdx? fun (x : Class) => match x.kind with | .array component _ => component == comp | _ => false) = some c := by
    have q1 := va_idx_bare U.vm comp
    have q2 := va_idx_bare s.vm comp
    have hb : s.vm.bare = U.vm.bare := by first | exact hvm.bare_eq | exact hvm.bare_eq.symm
    rw [hb] at q2
    exact q1.symm.trans (q2.trans h2)
  have hkind : k'.kind = .array comp (.array .int) := by rw [he]; exact h4
  have f1 : U.vm.findClass (FieldType.array .int).toString = some comp := by rw [hvm.findClass]; exact h1
  have f2 : U.vm.findClass ("[" ++ (FieldType.array .int).toString) = some c := by rw [hvm.findClass]; exact h5
  unfold Cond.before Cond.holds
  simp only [Cond.value]
  rw [f1, Option.bind_some]
  refine (congrArg (fun o : Option Nat => (o.bind (fun c => (U.vm.classes[c]?).map fun (k : Class) => match k.kind with | .array _ ty => decide (ty = FieldType.array .int) && decide (U.vm.findClass ("[" ++ (FieldType.array .int).toString) = some c) | _ => false) == some true)) hi).trans ?_
  simp [hk', hkind, f2]
theorem anw_snd (hx : p.tables.exec = Jvm.exec) (hb : c.code = cc) (hown : s.vm.findClass own = some m.cls) (K : K0 D s) (KA : AOv s) (hR : mc ≤ R.cells ∧ ms ≤ R.slots) (hbs : D.2.2.2 ≤ s.heap.size) {idx kd c2 : Nat} {ty : FieldType} (hge : 100 ≤ kd) (hty : kAr[kd - 100]? = some ty)
    (hw : (∃ C, ty = .object C ∧ Cond.classLink own idx C ∈ lw_tbl ∧ Cond.arrayOver (.object C) ∈ lw_tbl) ∨ (ty = .array .int ∧ Cond.classLink own idx (FieldType.array .int).toString ∈ lw_tbl)) (hd : decode cc pc = .ok (.anewarray idx, 3)) {n : Int32} (hn : ¬ n < 0 ∧ n ≤ 100000) (hmo : mnx M + 1 ≤ mnx r.2 ∧ msl M + n.toNatClampNeg ≤ msl r.2)
    (k : Sd p l e R s m args below meth c D mc ms nL (pc + 3) L (vR (some (mnx M)) :: st) (marr M c2 kd n.toNatClampNeg) r) : Sd p l e R s m args below meth c D mc ms nL pc L (vI n :: st) M r := by
  intro H locs cells slots ls hH hS hl h1 h2
  obtain ⟨hm1, hm2⟩ := hmo
  have hHs : H.size = mnx M := hH.1
  have hnb := clamp_le hn.2
  have hra := raNm (K.2.2.2 _ _ hty).2
  rw [show 100 + (kd - 100) = kd by omega] at hra
  have hdn : defaultValue ty = .null := by rcases hw with ⟨C, rfl, -⟩ | ⟨rfl, -⟩ <;> rfl
  have kk := k (H.push { cls := D.2.2.1 kd, slots := Array.replicate n.toNatClampNeg .null, vm := .none }) locs (cells + 1) (slots + n.toNatClampNeg) ls
    (hH.arr hge (by have := hS.1; omega) (by rw [← hHs, Array.getElem?_push_size]) (by simp) (fun q hq => by rw [Array.getElem?_push, if_neg (Nat.ne_of_lt hq)]) (fun j => hdn ▸ (elV_0 hH.2.1 (Nat.le_refl _) hge hty).1) (hdn ▸ (elV_0 (a := mnx M) (j := 0) hH.2.1 (Nat.le_refl _) hge hty).2))
    (hS.grow (by simp) (fun q hq => by rw [Array.getElem?_push, if_neg (Nat.ne_of_lt hq)])) hl (by show _ ≤ mc + (mnx M + 1); omega) (by show _ ≤ ms + (msl M + n.toNatClampNeg); omega)
  rw [← hHs] at kk
  rcases hw with ⟨C, rfl, hcl, hao⟩ | ⟨rfl, hcl⟩
  · refine W.anew hx hb hown (K.1 _ hcl rfl args) (va_AO.use (KA.1 C hao)) rfl hd rfl hn.1 (by omega) (by omega) (by omega) fun cA kA comp e1 e2 e3 e4 => ?_
    cases Option.some.inj (hra.symm.trans e1)
    exact kk
  · refine W.anewA hx hb hown (K.1 _ hcl rfl args) KA.2 rfl hd rfl hn.1 (by omega) (by omega) (by omega) fun cA kA comp e1 e2 e3 e4 => ?_
    cases Option.some.inj (hra.symm.trans e1)
    exact kk
end S5
