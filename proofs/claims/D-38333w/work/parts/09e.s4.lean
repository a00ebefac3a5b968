/-! ===== soundness: reckoning that may fail, branches, constants, ends ===== -/
section S4
variable {p : Program} {l : Launch} {e : Env} {R : Room} {s : State} {m : MethodId} {args : Array Value} {below : List Frame} {meth : Method} {c : Code} {D : Gh} {mc ms nL : Nat} {pc : Nat} {L : Loc_} {st st' : List AV} {M M' : Mem} {r : Out × Mem} {cc : ByteArray} {own : String}
theorem fop_snd (hx : p.tables.exec = Jvm.exec) (hb : c.code = cc) {i : Instr} (hd : decode cc pc = .ok (i, 1)) {x : UInt64} (h : fop i st = some (x, st')) (hn : isN x) (k : Sd p l e R s m args below meth c D mc ms nL (pc + 1) L (vD x :: st') M r) : Sd p l e R s m args below meth c D mc ms nL pc L st M r := by
  intro H locs cells slots ls hH hS hl h1 h2
  have kk := k H locs cells slots ls hH hS hl h1 h2
  unfold fop at h
  split at h
  · cases h
    rw [dAdd_e] at hn
    simp only [List.map_cons, ab_cv, dAdd_e] at kk
    exact lv_dadd hx hb hd hn kk
  · cases h
    rw [dSub_e] at hn
    simp only [List.map_cons, ab_cv, dSub_e] at kk
    exact lv_dsub hx hb hd hn kk
  · cases h
    rw [dMul_e] at hn
    simp only [List.map_cons, ab_cv, dMul_e] at kk
    exact lv_dmul hx hb hd hn kk
  · cases h
    rw [dDiv_e] at hn
    simp only [List.map_cons, ab_cv, dDiv_e] at kk
    exact lv_ddiv hx hb hd hn kk
  · exact absurd h (by simp)
theorem dop_snd (hx : p.tables.exec = Jvm.exec) (hb : c.code = cc) {i : Instr} (hd : decode cc pc = .ok (i, 1)) {y x : Int32} (h : dop i st = some (y, x, st')) (hn : ¬ y = 0) (k : Sd p l e R s m args below meth c D mc ms nL (pc + 1) L (vI x :: st') M r) : Sd p l e R s m args below meth c D mc ms nL pc L st M r := by
  intro H locs cells slots ls hH hS hl h1 h2
  have kk := k H locs cells slots ls hH hS hl h1 h2
  unfold dop at h
  split at h
  · cases h
    simp only [List.map_cons, ab_cv, aDiv_e] at kk
    exact lv_idiv hx hb hd hn kk
  · cases h
    simp only [List.map_cons, ab_cv, aRem_e] at kk
    exact lv_irem hx hb hd hn kk
  · exact absurd h (by simp)
/-- how far a branch goes -/
def offB : Instr → Option Int
  | .ifCond _ o | .if_icmp _ o | .if_acmp _ o | .ifnull o | .ifnonnull o => some o
  | _ => none
theorem i32_not_le {x y : Int32} : ¬ x ≤ y ↔ y < x := by
  rw [Int32.le_iff_toInt_le, Int32.lt_iff_toInt_lt]; omega
set_option maxHeartbeats 1000000 in
theorem bop_snd (hx : p.tables.exec = Jvm.exec) (hb : c.code = cc) {i : Instr} (hd : decode cc pc = .ok (i, 3)) {off : Int} {tgt : Nat} (ho : offB i = some off) (ht : (pc : Int) + off = (tgt : Int)) {t f : List AV → Res} (h : bop i st t f = some r)
    (kt : ∀ s', t s' = some r → Sd p l e R s m args below meth c D mc ms nL tgt L s' M r) (kf : ∀ s', f s' = some r → Sd p l e R s m args below meth c D mc ms nL (pc + 3) L s' M r) : Sd p l e R s m args below meth c D mc ms nL pc L st M r := by
  intro H locs cells slots ls hH hS hl h1 h2
  have kt := fun s' h => kt s' h H locs cells slots ls hH hS hl h1 h2
  have kf := fun s' h => kf s' h H locs cells slots ls hH hS hl h1 h2
  unfold bop at h
  split at h <;> (try (cases Option.some.inj ho))
  · exact lv_if_eq hx hb hd ht (fun q => kt _ (by rw [if_pos q] at h; exact h)) (fun q => kf _ (by rw [if_neg q] at h; exact h))
  · exact lv_if_ne hx hb hd ht (fun q => kt _ (by rw [if_neg q] at h; exact h)) (fun q => kf _ (by rw [if_pos q] at h; exact h))
  · exact lv_if_lt hx hb hd ht (fun q => kt _ (by rw [if_pos q] at h; exact h)) (fun q => kf _ (by rw [if_neg q] at h; exact h))
  · exact lv_if_ge hx hb hd ht (fun q => kt _ (by rw [if_neg (fun z => absurd q (by rw [i32_not_le]; exact z))] at h; exact h)) (fun q => kf _ (by rw [if_pos (i32_not_le.mp q)] at h; exact h))
  · exact lv_if_gt hx hb hd ht (fun q => kt _ (by rw [if_neg (i32_not_le.mpr q)] at h; exact h)) (fun q => kf _ (by rw [if_pos (Classical.not_not.mp fun z => q (i32_not_le.mp z))] at h; exact h))
  · exact lv_if_le hx hb hd ht (fun q => kt _ (by rw [if_pos q] at h; exact h)) (fun q => kf _ (by rw [if_neg q] at h; exact h))
  · exact lv_icmp_eq hx hb hd ht (fun q => kt _ (by rw [if_pos q] at h; exact h)) (fun q => kf _ (by rw [if_neg q] at h; exact h))
  · exact lv_icmp_ne hx hb hd ht (fun q => kt _ (by rw [if_neg q] at h; exact h)) (fun q => kf _ (by rw [if_pos q] at h; exact h))
  · exact lv_icmp_lt hx hb hd ht (fun q => kt _ (by rw [if_pos q] at h; exact h)) (fun q => kf _ (by rw [if_neg q] at h; exact h))
  · exact lv_icmp_ge hx hb hd ht (fun q => kt _ (by rw [if_neg (fun z => absurd q (by rw [i32_not_le]; exact z))] at h; exact h)) (fun q => kf _ (by rw [if_pos (i32_not_le.mp q)] at h; exact h))
  · exact lv_icmp_gt hx hb hd ht (fun q => kt _ (by rw [if_neg (i32_not_le.mpr q)] at h; exact h)) (fun q => kf _ (by rw [if_pos (Classical.not_not.mp fun z => q (i32_not_le.mp z))] at h; exact h))
  · exact lv_icmp_le hx hb hd ht (fun q => kt _ (by rw [if_pos q] at h; exact h)) (fun q => kf _ (by rw [if_neg q] at h; exact h))
  · exact lv_acmp_eq hx hb hd ht (fun q => kt _ (by rw [if_pos q] at h; exact h)) (fun q => kf _ (by rw [if_neg q] at h; exact h))
  · exact lv_acmp_ne hx hb hd ht (fun q => kt _ (by rw [if_neg q] at h; exact h)) (fun q => kf _ (by rw [if_pos q] at h; exact h))
  · next x s' =>
    cases x with
    | none => exact lv_ifnullN hx hb hd ht (kt _ (by rw [if_pos rfl] at h; exact h))
    | some a => exact lv_ifnull hx hb hd (kf _ (by rw [if_neg (by simp)] at h; exact h))
  · next x s' =>
    cases x with
    | none => exact lv_ifnonnullN hx hb hd (kf _ (by rw [if_pos rfl] at h; exact h))
    | some a => exact lv_ifnonnull hx hb hd ht (kt _ (by rw [if_neg (by simp)] at h; exact h))
  · exact absurd h (by simp)
/-! ends -/
theorem ret_snd (hx : p.tables.exec = Jvm.exec) (hb : c.code = cc) (hlocks : meth.locks = false) {i : Instr} {v : Option AV} (hd : decode cc pc = .ok (i, 1)) (hr1 : r = (.inl v, M))
    (hi : (i = .ireturn ∧ ∃ x ty, v = some (vI x) ∧ st = [vI x] ∧ meth.sig.returnType = some ty ∧ narrow ty (.int x) = .int x) ∨ (i = .lreturn ∧ meth.sig.returnType = some .long ∧ ∃ x, v = some (vJ x) ∧ st = [vJ x]) ∨ (i = .dreturn ∧ meth.sig.returnType = some .double ∧ ∃ x, v = some (vD x) ∧ st = [vD x]) ∨ (i = .areturn ∧ (∃ rt, meth.sig.returnType = some rt ∧ ((∃ n, rt = .object n) ∨ ∃ t, rt = .array t)) ∧ ∃ x, v = some (vR x) ∧ st = [vR x]) ∨ (i = .return_ ∧ meth.sig.returnType = none ∧ v = none ∧ st = [])) :
    Sd p l e R s m args below meth c D mc ms nL pc L st M r := by
  subst hr1
  intro H locs cells slots ls hH hS hl h1 h2
  refine W.widen (k := mc) (n := ms) (by dsimp only at h1; omega) (by dsimp only at h2; omega) (vx_ret ?_)
  have hq : ∀ t : State, t.heap = H → s.WarmedH t.vm → Qr D (.inl v, M) args s (.returned (v.map ab_cv)) t := fun t ht _ => ⟨⟨v, rfl, rfl⟩, by rw [ht]; exact hH, hS.F ht⟩
  rcases hi with ⟨rfl, x, ty, rfl, rfl, hrt, hn⟩ | ⟨rfl, hrt, x, rfl, rfl⟩ | ⟨rfl, hrt, x, rfl, rfl⟩ | ⟨rfl, ⟨rt, hrt, hrr⟩, x, rfl, rfl⟩ | ⟨rfl, hrt, rfl, rfl⟩
  · exact W.zret hx hb hrt hn hq hS.2.2 hd
  · exact W.lret hx hb hrt hq hS.2.2 hd
  · exact W.dret hx hb hrt hq hS.2.2 hd
  · refine W.aret (v := va_rf x) hx hb hrt hrr ?_ hq hS.2.2 hd
    cases x with
    | none => exact Or.inl rfl
    | some a => exact Or.inr ⟨a, rfl⟩
  · exact W.vret hx hb hrt hq hS.2.2 hd
end S4
