/-! ===== soundness, instruction by instruction: the simple ones ===== -/
def cvp (q : Nat × AV) : Nat × Value := (q.1, ab_cv q.2)
def excN : Nat → String
  | 1 => "java/lang/IllegalArgumentException"
  | 2 => "java/lang/IllegalStateException"
  | 3 => "java/lang/IndexOutOfBoundsException"
  | _ => "java/lang/IllegalMonitorStateException"
abbrev hbA (D : Gh) : Nat → Prop := fun q => D.2.2.2 ≤ q
def Qr (D : Gh) (r : Out × Mem) : Array Value → State → Outcome → State → Prop := fun _ st o t => (∃ v, r.1 = .inl v ∧ o = .returned (v.map ab_cv)) ∧ HR D r.2 t.heap ∧ va_F (hbA D) st t
def Xr (D : Gh) (r : Out × Mem) : String → State → State → Prop := fun E st t => (∃ n, r.1 = .inr n ∧ excN n = E) ∧ HR D r.2 t.heap ∧ va_F (hbA D) st t
/-- from there on the machine comes to the end r -/
def Sd (p : Program) (l : Launch) (e : Env) (R : Room) (s : State) (m : MethodId) (args : Array Value) (below : List Frame) (meth : Method) (c : Code) (D : Gh) (mc ms nL : Nat) (pc : Nat) (L : Loc_) (st : List AV) (M : Mem) (r : Out × Mem) : Prop :=
  ∀ (H : Heap) (locs : List Loc) (cells slots : Nat) (ls : Array Slot), HR D M H → va_S (hbA D) s.heap H locs → lv_has ls nL (L.map cvp) → cells + mnx r.2 ≤ mc + mnx M → slots + msl r.2 ≤ ms + msl M →
    W p l e R s m args below meth c H locs cells slots (vx_MQ below (Qr D r) (Xr D r) args s mc ms (hbA D)) (F0 m pc ls (st.map ab_cv))
theorem ab_cat (v : AV) : (ab_cv v).category = ab_ca v := by
  rcases v with x | x | x | x
  · rfl
  · rfl
  · rfl
  · cases x <;> rfl
theorem lget_mem {L : Loc_} {i : Nat} {v : AV} (h : lget L i = some v) : (i, v) ∈ L := by
  induction L with
  | nil => exact absurd h (by simp [lget])
  | cons q t ih =>
    obtain ⟨j, w⟩ := q
    unfold lget at h
    split at h
    · next e =>
      have := Nat.eq_of_beq_eq_true e
      subst this
      cases h
      exact List.mem_cons_self
    · exact List.mem_cons_of_mem _ (ih h)
theorem lget_at {L : Loc_} {i nL : Nat} {v : AV} {ls : Array Slot} (hl : lv_has ls nL (L.map cvp)) (h : lget L i = some v) : ls[i]? = some (.val (ab_cv v)) := hl.2.2 (i, ab_cv v) (List.mem_map.mpr ⟨(i, v), lget_mem h, rfl⟩)
theorem lput1_map {L : Loc_} {i : Nat} {v : AV} : (i, ab_cv v) :: (L.map cvp).filter (fun q => !(q.1 == i) && !(q.1 + 1 == i && q.2.category == 2)) = (lput1 L i v).map cvp := by
  unfold lput1
  rw [List.map_cons, List.filter_map]
  congr 2
  apply List.filter_congr
  intro q _
  show (!(q.1 == i) && !(q.1 + 1 == i && (ab_cv q.2).category == 2)) = _
  rw [ab_cat]
theorem lput2_map {L : Loc_} {i : Nat} {v : AV} : (i, ab_cv v) :: (L.map cvp).filter (fun q => !(q.1 == i) && (!(q.1 == i + 1) && !(q.1 + 1 == i && q.2.category == 2))) = (lput2 L i v).map cvp := by
  unfold lput2
  rw [List.map_cons, List.filter_map]
  congr 2
  apply List.filter_congr
  intro q _
  show (!(q.1 == i) && (!(q.1 == i + 1) && !(q.1 + 1 == i && (ab_cv q.2).category == 2))) = _
  rw [ab_cat]
/-- what a simple instruction's form must be: its length, its constant, its local's place -/
def okS (i : Instr) (len : Nat) (cn : Int32) (nL : Nat) : Bool := match i with
  | .iload _ | .lload _ | .dload _ | .aload _ => len == 2
  | .istore k | .astore k => len == 2 && Nat.blt k nL
  | .lstore k | .dstore k => len == 2 && Nat.blt (k + 1) nL
  | .istore_n k | .astore_n k => len == 1 && Nat.blt k.val nL
  | .lstore_n k | .dstore_n k => len == 1 && Nat.blt (k.val + 1) nL
  | .iinc k n => len == 3 && Nat.blt k nL && decide (Int32.ofInt n = cn)
  | .iconst n => len == 1 && decide (Int32.ofInt n = cn)
  | .bipush n => len == 2 && decide ((Int8.ofInt n).toInt32 = cn)
  | .sipush n => len == 3 && decide ((Int16.ofInt n).toInt32 = cn)
  | _ => len == 1
section S1
variable {p : Program} {l : Launch} {e : Env} {R : Room} {s : State} {m : MethodId} {args : Array Value} {below : List Frame} {meth : Method} {c : Code} {D : Gh} {mc ms nL : Nat} {pc len : Nat} {L L' : Loc_} {st st' : List AV} {M : Mem} {r : Out × Mem} {cc : ByteArray} {cn : Int32}
set_option maxHeartbeats 4000000 in
theorem sop_snd (hx : p.tables.exec = Jvm.exec) (hb : c.code = cc) {i : Instr} (hd : decode cc pc = .ok (i, len)) (ho : okS i len cn nL = true) (h : sop i cn L st = some (L', st'))
    (k : Sd p l e R s m args below meth c D mc ms nL (pc + len) L' st' M r) : Sd p l e R s m args below meth c D mc ms nL pc L st M r := by
  intro H locs cells slots ls hH hS hl h1 h2
  have k' := k H locs cells slots ls hH hS
  cases i with
  | iload q =>
    simp only [okS, beq_iff_eq] at ho; subst ho
    simp only [sop] at h
    split at h
    · next x e => cases h; exact lv_iload hx hb hd (lget_at hl e) (k' hl h1 h2)
    · exact absurd h (by simp)
  | iload_n q =>
    simp only [okS, beq_iff_eq] at ho; subst ho
    simp only [sop] at h
    split at h
    · next x e => cases h; exact lv_iload_n hx hb hd rfl (lget_at hl e) (k' hl h1 h2)
    · exact absurd h (by simp)
  | lload q =>
    simp only [okS, beq_iff_eq] at ho; subst ho
    simp only [sop] at h
    split at h
    · next x e => cases h; exact lv_lload hx hb hd (lget_at hl e) (k' hl h1 h2)
    · exact absurd h (by simp)
  | lload_n q =>
    simp only [okS, beq_iff_eq] at ho; subst ho
    simp only [sop] at h
    split at h
    · next x e => cases h; exact lv_lload_n hx hb hd rfl (lget_at hl e) (k' hl h1 h2)
    · exact absurd h (by simp)
  | dload q =>
    simp only [okS, beq_iff_eq] at ho; subst ho
    simp only [sop] at h
    split at h
    · next x e => cases h; exact lv_dload hx hb hd (lget_at hl e) (k' hl h1 h2)
    · exact absurd h (by simp)
  | dload_n q =>
    simp only [okS, beq_iff_eq] at ho; subst ho
    simp only [sop] at h
    split at h
    · next x e => cases h; exact lv_dload_n hx hb hd rfl (lget_at hl e) (k' hl h1 h2)
    · exact absurd h (by simp)
  | aload q =>
    simp only [okS, beq_iff_eq] at ho; subst ho
    simp only [sop] at h
    split at h
    · next x e =>
      cases h
      cases x with
      | none => exact lv_aloadN hx hb hd (lget_at hl e) (k' hl h1 h2)
      | some a => exact lv_aload hx hb hd (lget_at hl e) (k' hl h1 h2)
    · exact absurd h (by simp)
  | aload_n q =>
    simp only [okS, beq_iff_eq] at ho; subst ho
    simp only [sop] at h
    split at h
    · next x e =>
      cases h
      cases x with
      | none => exact lv_aload_nN hx hb hd rfl (lget_at hl e) (k' hl h1 h2)
      | some a => exact lv_aload_n hx hb hd rfl (lget_at hl e) (k' hl h1 h2)
    · exact absurd h (by simp)
  | istore q =>
    simp only [okS, Bool.and_eq_true, beq_iff_eq] at ho; obtain ⟨ho, hn⟩ := ho; subst ho; have hn := Nat.le_of_ble_eq_true hn
    simp only [sop] at h
    split at h
    · next x s => cases h; exact lv_istore hx hb hd hl hn (lput1_map (v := vI x)) (fun ls' hl' => k H locs cells slots ls' hH hS hl' h1 h2)
    · exact absurd h (by simp)
  | istore_n q =>
    simp only [okS, Bool.and_eq_true, beq_iff_eq] at ho; obtain ⟨ho, hn⟩ := ho; subst ho; have hn := Nat.le_of_ble_eq_true hn
    simp only [sop] at h
    split at h
    · next x s => cases h; exact lv_istore_n hx hb hd rfl hl hn (lput1_map (v := vI x)) (fun ls' hl' => k H locs cells slots ls' hH hS hl' h1 h2)
    · exact absurd h (by simp)
  | lstore q =>
    simp only [okS, Bool.and_eq_true, beq_iff_eq] at ho; obtain ⟨ho, hn⟩ := ho; subst ho; have hn := Nat.le_of_ble_eq_true hn
    simp only [sop] at h
    split at h
    · next x s => cases h; exact lv_lstore hx hb hd hl hn (lput2_map (v := vJ x)) (fun ls' hl' => k H locs cells slots ls' hH hS hl' h1 h2)
    · exact absurd h (by simp)
  | lstore_n q =>
    simp only [okS, Bool.and_eq_true, beq_iff_eq] at ho; obtain ⟨ho, hn⟩ := ho; subst ho; have hn := Nat.le_of_ble_eq_true hn
    simp only [sop] at h
    split at h
    · next x s => cases h; exact lv_lstore_n hx hb hd rfl hl hn (lput2_map (v := vJ x)) (fun ls' hl' => k H locs cells slots ls' hH hS hl' h1 h2)
    · exact absurd h (by simp)
  | dstore q =>
    simp only [okS, Bool.and_eq_true, beq_iff_eq] at ho; obtain ⟨ho, hn⟩ := ho; subst ho; have hn := Nat.le_of_ble_eq_true hn
    simp only [sop] at h
    split at h
    · next x s => cases h; exact lv_dstore hx hb hd hl hn (lput2_map (v := vD x)) (fun ls' hl' => k H locs cells slots ls' hH hS hl' h1 h2)
    · exact absurd h (by simp)
  | dstore_n q =>
    simp only [okS, Bool.and_eq_true, beq_iff_eq] at ho; obtain ⟨ho, hn⟩ := ho; subst ho; have hn := Nat.le_of_ble_eq_true hn
    simp only [sop] at h
    split at h
    · next x s => cases h; exact lv_dstore_n hx hb hd rfl hl hn (lput2_map (v := vD x)) (fun ls' hl' => k H locs cells slots ls' hH hS hl' h1 h2)
    · exact absurd h (by simp)
  | astore q =>
    simp only [okS, Bool.and_eq_true, beq_iff_eq] at ho; obtain ⟨ho, hn⟩ := ho; subst ho; have hn := Nat.le_of_ble_eq_true hn
    simp only [sop] at h
    split at h
    · next x s =>
      cases h
      cases x with
      | none => exact lv_astoreN hx hb hd hl hn (lput1_map (v := vR none)) (fun ls' hl' => k H locs cells slots ls' hH hS hl' h1 h2)
      | some a => exact lv_astore hx hb hd hl hn (lput1_map (v := vR (some a))) (fun ls' hl' => k H locs cells slots ls' hH hS hl' h1 h2)
    · exact absurd h (by simp)
  | astore_n q =>
    simp only [okS, Bool.and_eq_true, beq_iff_eq] at ho; obtain ⟨ho, hn⟩ := ho; subst ho; have hn := Nat.le_of_ble_eq_true hn
    simp only [sop] at h
    split at h
    · next x s =>
      cases h
      cases x with
      | none => exact lv_astore_nN hx hb hd rfl hl hn (lput1_map (v := vR none)) (fun ls' hl' => k H locs cells slots ls' hH hS hl' h1 h2)
      | some a => exact lv_astore_n hx hb hd rfl hl hn (lput1_map (v := vR (some a))) (fun ls' hl' => k H locs cells slots ls' hH hS hl' h1 h2)
    · exact absurd h (by simp)
  | iinc q n =>
    simp only [okS, Bool.and_eq_true, beq_iff_eq, decide_eq_true_eq] at ho; obtain ⟨⟨ho, hn⟩, hv⟩ := ho; subst ho; have hn := Nat.le_of_ble_eq_true hn
    simp only [sop] at h
    split at h
    · next x e =>
      cases h
      obtain ⟨j, hj⟩ := List.getElem?_of_mem (List.mem_map.mpr ⟨_, lget_mem e, rfl⟩ : cvp (q, vI x) ∈ L.map cvp)
      exact lv_iinc hx hb hd hl hj (v := aAdd x cn) (by rw [hv, aAdd_e]) hn (lput1_map (v := vI (aAdd x cn))) (fun ls' hl' => k H locs cells slots ls' hH hS hl' h1 h2)
    · exact absurd h (by simp)
  | iconst n =>
    simp only [okS, Bool.and_eq_true, beq_iff_eq, decide_eq_true_eq] at ho; obtain ⟨ho, hv⟩ := ho; subst ho
    simp only [sop] at h
    cases h
    exact lv_iconst hx hb hd hv (k' hl h1 h2)
  | bipush n =>
    simp only [okS, Bool.and_eq_true, beq_iff_eq, decide_eq_true_eq] at ho; obtain ⟨ho, hv⟩ := ho; subst ho
    simp only [sop] at h
    cases h
    exact lv_bipush hx hb hd hv (k' hl h1 h2)
  | sipush n =>
    simp only [okS, Bool.and_eq_true, beq_iff_eq, decide_eq_true_eq] at ho; obtain ⟨ho, hv⟩ := ho; subst ho
    simp only [sop] at h
    cases h
    exact lv_sipush hx hb hd hv (k' hl h1 h2)
  | lconst n =>
    simp only [okS, beq_iff_eq] at ho; subst ho
    simp only [sop] at h
    split at h
    · cases h; exact lv_lconst hx hb hd rfl (k' hl h1 h2)
    · cases h; exact lv_lconst hx hb hd rfl (k' hl h1 h2)
  | dconst n =>
    simp only [okS, beq_iff_eq] at ho; subst ho
    simp only [sop] at h
    split at h
    · cases h; exact lv_dconst0 hx hb hd (k' hl h1 h2)
    · cases h; exact lv_dconst1 hx hb hd (k' hl h1 h2)
  | aconst_null =>
    simp only [okS, beq_iff_eq] at ho; subst ho
    simp only [sop] at h
    cases h
    exact lv_null hx hb hd (k' hl h1 h2)
  | iadd =>
    simp only [okS, beq_iff_eq] at ho; subst ho
    simp only [sop] at h
    split at h
    · next y x s =>
      cases h
      have k2 := k' hl h1 h2
      simp only [List.map_cons, ab_cv, aAdd_e] at k2
      exact lv_iadd hx hb hd k2
    · exact absurd h (by simp)
  | isub =>
    simp only [okS, beq_iff_eq] at ho; subst ho
    simp only [sop] at h
    split at h
    · next y x s =>
      cases h
      have k2 := k' hl h1 h2
      simp only [List.map_cons, ab_cv, aSub_e] at k2
      exact lv_isub hx hb hd k2
    · exact absurd h (by simp)
  | imul =>
    simp only [okS, beq_iff_eq] at ho; subst ho
    simp only [sop] at h
    split at h
    · next y x s =>
      cases h
      have k2 := k' hl h1 h2
      simp only [List.map_cons, ab_cv, aMul_e] at k2
      exact lv_imul hx hb hd k2
    · exact absurd h (by simp)
  | iand =>
    simp only [okS, beq_iff_eq] at ho; subst ho
    simp only [sop] at h
    split at h
    · next y x s =>
      cases h
      have k2 := k' hl h1 h2
      simp only [List.map_cons, ab_cv, aAnd_e] at k2
      exact lv_iand hx hb hd k2
    · exact absurd h (by simp)
  | ior =>
    simp only [okS, beq_iff_eq] at ho; subst ho
    simp only [sop] at h
    split at h
    · next y x s =>
      cases h
      have k2 := k' hl h1 h2
      simp only [List.map_cons, ab_cv, aOr_e] at k2
      exact lv_ior hx hb hd k2
    · exact absurd h (by simp)
  | ixor =>
    simp only [okS, beq_iff_eq] at ho; subst ho
    simp only [sop] at h
    split at h
    · next y x s =>
      cases h
      have k2 := k' hl h1 h2
      simp only [List.map_cons, ab_cv, aXor_e] at k2
      exact lv_ixor hx hb hd k2
    · exact absurd h (by simp)
  | ishl =>
    simp only [okS, beq_iff_eq] at ho; subst ho
    simp only [sop] at h
    split at h
    · next y x s =>
      cases h
      have k2 := k' hl h1 h2
      simp only [List.map_cons, ab_cv, aShl_e] at k2
      exact lv_ishl hx hb hd k2
    · exact absurd h (by simp)
  | ishr =>
    simp only [okS, beq_iff_eq] at ho; subst ho
    simp only [sop] at h
    split at h
    · next y x s =>
      cases h
      have k2 := k' hl h1 h2
      simp only [List.map_cons, ab_cv, aShr_e] at k2
      exact lv_ishr hx hb hd k2
    · exact absurd h (by simp)
  | ladd =>
    simp only [okS, beq_iff_eq] at ho; subst ho
    simp only [sop] at h
    split at h
    · next y x s =>
      cases h
      have k2 := k' hl h1 h2
      simp only [List.map_cons, ab_cv, jAdd_e] at k2
      exact lv_ladd hx hb hd k2
    · exact absurd h (by simp)
  | lsub =>
    simp only [okS, beq_iff_eq] at ho; subst ho
    simp only [sop] at h
    split at h
    · next y x s =>
      cases h
      have k2 := k' hl h1 h2
      simp only [List.map_cons, ab_cv, jSub_e] at k2
      exact lv_lsub hx hb hd k2
    · exact absurd h (by simp)
  | lmul =>
    simp only [okS, beq_iff_eq] at ho; subst ho
    simp only [sop] at h
    split at h
    · next y x s =>
      cases h
      have k2 := k' hl h1 h2
      simp only [List.map_cons, ab_cv, jMul_e] at k2
      exact lv_lmul hx hb hd k2
    · exact absurd h (by simp)
  | land =>
    simp only [okS, beq_iff_eq] at ho; subst ho
    simp only [sop] at h
    split at h
    · next y x s =>
      cases h
      have k2 := k' hl h1 h2
      simp only [List.map_cons, ab_cv, jAnd_e] at k2
      exact lv_land hx hb hd k2
    · exact absurd h (by simp)
  | lxor =>
    simp only [okS, beq_iff_eq] at ho; subst ho
    simp only [sop] at h
    split at h
    · next y x s =>
      cases h
      have k2 := k' hl h1 h2
      simp only [List.map_cons, ab_cv, jXor_e] at k2
      exact lv_lxor hx hb hd k2
    · exact absurd h (by simp)
  | iushr =>
    simp only [okS, beq_iff_eq] at ho; subst ho
    simp only [sop] at h
    split at h
    · next y x s =>
      cases h
      have k2 := k' hl h1 h2
      simp only [List.map_cons, ab_cv, aUsh_e] at k2
      exact lv_iushr hx hb hd rfl k2
    · exact absurd h (by simp)
  | lshr =>
    simp only [okS, beq_iff_eq] at ho; subst ho
    simp only [sop] at h
    split at h
    · next y x s =>
      cases h
      have k2 := k' hl h1 h2
      simp only [List.map_cons, ab_cv, jShr_e] at k2
      exact lv_lshr hx hb hd rfl k2
    · exact absurd h (by simp)
  | lcmp =>
    simp only [okS, beq_iff_eq] at ho; subst ho
    simp only [sop] at h
    split at h
    · next y x s =>
      cases h
      have k2 := k' hl h1 h2
      simp only [List.map_cons, ab_cv, jCmp_e] at k2
      exact W.lcmp hx hb hd k2
    · exact absurd h (by simp)
  | ineg =>
    simp only [okS, beq_iff_eq] at ho; subst ho
    simp only [sop] at h
    split at h
    · next x s =>
      cases h
      have k2 := k' hl h1 h2
      simp only [List.map_cons, ab_cv, aNeg_e] at k2
      exact lv_ineg hx hb hd k2
    · exact absurd h (by simp)
  | i2l =>
    simp only [okS, beq_iff_eq] at ho; subst ho
    simp only [sop] at h
    split at h
    · next x s =>
      cases h
      have k2 := k' hl h1 h2
      simp only [List.map_cons, ab_cv, i2J_e] at k2
      exact lv_i2l hx hb hd rfl k2
    · exact absurd h (by simp)
  | l2i =>
    simp only [okS, beq_iff_eq] at ho; subst ho
    simp only [sop] at h
    split at h
    · next x s =>
      cases h
      have k2 := k' hl h1 h2
      simp only [List.map_cons, ab_cv, j2I_e] at k2
      exact lv_l2i hx hb hd rfl k2
    · exact absurd h (by simp)
  | i2d =>
    simp only [okS, beq_iff_eq] at ho; subst ho
    simp only [sop] at h
    split at h
    · next x s =>
      cases h
      have k2 := k' hl h1 h2
      simp only [List.map_cons, ab_cv, i2D_e] at k2
      exact lv_i2d hx hb hd k2
    · exact absurd h (by simp)
  | d2i =>
    simp only [okS, beq_iff_eq] at ho; subst ho
    simp only [sop] at h
    split at h
    · next x s =>
      cases h
      have k2 := k' hl h1 h2
      simp only [List.map_cons, ab_cv, d2I_e] at k2
      exact lv_d2i hx hb hd k2
    · exact absurd h (by simp)
  | i2b =>
    simp only [okS, beq_iff_eq] at ho; subst ho
    simp only [sop] at h
    split at h
    · next x s =>
      cases h
      have k2 := k' hl h1 h2
      simp only [List.map_cons, ab_cv, i2B_e] at k2
      exact lv_i2b hx hb hd rfl k2
    · exact absurd h (by simp)
  | i2c =>
    simp only [okS, beq_iff_eq] at ho; subst ho
    simp only [sop] at h
    split at h
    · next x s =>
      cases h
      have k2 := k' hl h1 h2
      simp only [List.map_cons, ab_cv, i2C_e] at k2
      exact lv_i2c hx hb hd rfl k2
    · exact absurd h (by simp)
  | dcmp op =>
    simp only [okS, beq_iff_eq] at ho; subst ho
    simp only [sop] at h
    split at h
    · next y x s =>
      split at h
      · cases h
        have k2 := k' hl h1 h2
        simp only [List.map_cons, ab_cv, dCmL_e] at k2
        exact lv_dcmp hx hb hd k2
      · cases h
        have k2 := k' hl h1 h2
        simp only [List.map_cons, ab_cv, dCmG_e] at k2
        exact lv_dcmp hx hb hd k2
    · exact absurd h (by simp)
  | dup =>
    simp only [okS, beq_iff_eq] at ho; subst ho
    simp only [sop] at h
    split at h
    · next x s =>
      split at h
      · next q => cases h; exact lv_dup hx hb hd (by rw [ab_cat]; exact q) (k' hl h1 h2)
      · exact absurd h (by simp)
    · exact absurd h (by simp)
  | dup_x1 =>
    simp only [okS, beq_iff_eq] at ho; subst ho
    simp only [sop] at h
    split at h
    · next x y s =>
      split at h
      · next q q2 => cases h; exact lv_dup_x1 hx hb hd (by rw [ab_cat]; exact q) (by rw [ab_cat]; exact q2) (k' hl h1 h2)
      · exact absurd h (by simp)
    · exact absurd h (by simp)
  | dup2 =>
    simp only [okS, beq_iff_eq] at ho; subst ho
    simp only [sop] at h
    split at h
    · next x s =>
      split at h
      · next q => cases h; exact lv_dup2_2 hx hb hd (by rw [ab_cat]; exact q) (k' hl h1 h2)
      · next q =>
        split at h
        · next y s2 =>
          split at h
          · next q2 => cases h; exact lv_dup2_11 hx hb hd (by rw [ab_cat]; exact q) (by rw [ab_cat]; exact q2) (k' hl h1 h2)
          · exact absurd h (by simp)
        · exact absurd h (by simp)
      · exact absurd h (by simp)
    · exact absurd h (by simp)
  | dup2_x1 =>
    simp only [okS, beq_iff_eq] at ho; subst ho
    simp only [sop] at h
    split at h
    · next x y s =>
      split at h
      · next q q2 => cases h; exact lv_dup2_x1_2 hx hb hd (by rw [ab_cat]; exact q) (by rw [ab_cat]; exact q2) (k' hl h1 h2)
      · exact absurd h (by simp)
    · exact absurd h (by simp)
  | pop =>
    simp only [okS, beq_iff_eq] at ho; subst ho
    simp only [sop] at h
    split at h
    · next x s =>
      split at h
      · next q => cases h; exact lv_pop hx hb hd (by rw [ab_cat]; exact q) (k' hl h1 h2)
      · exact absurd h (by simp)
    · exact absurd h (by simp)
  | pop2 =>
    simp only [okS, beq_iff_eq] at ho; subst ho
    simp only [sop] at h
    split at h
    · next x s =>
      split at h
      · next q => cases h; exact lv_pop2_2 hx hb hd (by rw [ab_cat]; exact q) (k' hl h1 h2)
      · next q =>
        split at h
        · next y s2 =>
          split at h
          · next q2 => cases h; exact lv_pop2_11 hx hb hd (by rw [ab_cat]; exact q) (by rw [ab_cat]; exact q2) (k' hl h1 h2)
          · exact absurd h (by simp)
        · exact absurd h (by simp)
      · exact absurd h (by simp)
    · exact absurd h (by simp)
  | _ => exact absurd h (by simp [sop])
end S1
