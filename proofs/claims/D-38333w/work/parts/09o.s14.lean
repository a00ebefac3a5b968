/-! ===== one step is sound: calls; and all together (printed by gen_s14.py) ===== -/
section S14
variable {p : Program} {l : Launch} {e : Env} {R : Room} {s : State} {m : MethodId} {args : Array Value} {below : List Frame} {meth : Method} {c : Code} {D : Gh} {mc ms : Nat} {L : Loc_} {st : List AV} {M : Mem} {r : Out × Mem} {G : Nat → Option Nat} {iT : XT} {q : MI} {cl pc len : Nat} {k : Go_} {go : Nat → Go_} {orc : Orc} {bp : Nat → Nat} {mi : Nat → MI} {i : Instr} {r0 : List Nat} {cn : Int32}
theorem callT (X : Ctx p l e R s m meth c D G iT q mc ms) {c' m' aw : Nat} {as stk : List AV} {y : Out × Mem} (hcal : Cal q (mi m') aw) (hO : ∀ (c' m' : Nat) (as : List AV) (M : Mem) (y : Out × Mem), c' ≠ 0 → orc c' m' 0 (mkA 0 as) [] M = some y → (as.map ab_ca).sum ≤ (mi m').2.2.1 → (mnx M ≤ mnx y.2 ∧ msl M ≤ msl y.2) ∧ nb_Met l (mi m').1 [miW (mi m')] { frames := (mi m').2.2.2.2.2, locals := 5000 * (mi m').2.2.2.2.2, cells := mnx y.2 - mnx M, slots := msl y.2 - msl M } (PcM D G iT as M) (Qr D y) (Xr D y) (mnx y.2 - mnx M) (msl y.2 - msl M) (hbA D)) (hc' : c' ≠ 0) (hy : orc c' m' 0 (mkA 0 as) [] M = some y) (haw : (as.map ab_ca).sum = aw)
    (hcall : ∀ (H : Heap) (locs : List Loc) (ls : Array Slot), HR D M H → va_S (hbA D) s.heap H locs → ls.size = q.2.2.1 → CallsTo p l e R s m args below meth c H (F0 m pc ls (stk.map ab_cv)) (mi m').1 len (as.map ab_cv) (st.map ab_cv)) (hmr : mnx y.2 ≤ mnx r.2 ∧ msl y.2 ≤ msl r.2)
    (kv : ∀ v : Option AV, y.1 = .inl v → Sd p l e R s m args below meth c D mc ms q.2.2.1 (pc + len) L (v.toList ++ st) y.2 r)
    (kx : ∀ (E : Nat), y.1 = .inr E → ∀ (H : Heap) (locs : List Loc) (cells slots : Nat) (ls : Array Slot) (a : Addr) (ce : Cell), HR D y.2 H → va_S (hbA D) s.heap H locs → lv_has ls q.2.2.1 (L.map cvp) → cells + mnx r.2 ≤ mc + mnx y.2 → slots + msl r.2 ≤ ms + msl y.2 → H[a]? = some ce → ce.vm = .none → s.vm.findClass (excN E) = some ce.cls → vx_W p l e R s m args below meth c H locs cells slots (vx_MQ below (Qr D r) (Xr D r) args s mc ms (hbA D)) (F0 m pc ls (st.map ab_cv)) a) :
    Sd p l e R s m args below meth c D mc ms q.2.2.1 pc L stk M r := by
  obtain ⟨h1, h3, h4, h5⟩ := hcal
  obtain ⟨⟨g1, g2⟩, hM⟩ := hO c' m' as M y hc' hy (by omega)
  exact call_snd X.sk (miW_code _) h1 X.cs (Nat.le_trans h3 X.fr) (by have := X.lo; omega) hM ⟨g1, g2, hmr.1, hmr.2⟩ hcall kv kx
theorem rtV_ct (X : Ctx p l e R s m meth c D G iT q mc ms) {kd n a : Nat} {q' : MI} {as : List AV} (h : RtV q pc kd q' n) (hw : miW q' ∈ lw_tbl) (hlen : as.length = n) (ha : mcl M a = kd) (hs : (st.map ab_ca).sum ≤ 8) : ∀ (H : Heap) (locs : List Loc) (ls : Array Slot), HR D M H → va_S (hbA D) s.heap H locs → ls.size = q.2.2.1 → CallsTo p l e R s m args below meth c H (F0 m pc ls (((vR (some a) :: as).reverse ++ st).map ab_cv)) q'.1 3 ((vR (some a) :: as).map ab_cv) (st.map ab_cv) := by
  subst hlen
  obtain ⟨idx, C, h1, h2, h3, ⟨h4, h5, h6, h7⟩ | ⟨x, owner, h4, h5, h6, h7, h8, h9, h10⟩ | ⟨C2, x2, y2, h4, h5, h6, h7, h9, h10, h11, h12⟩⟩ := h
  · exact ctV X.ex X.by_ X.ml X.ow X.k0 (miW_code q') hw h1 h4 h3 h5 h6 h2 h7 ha hs
  · exact ctU X.ex X.by_ X.ml X.ow X.k0 h4 hw h1 h5 h6 h7 h8 h3 h9 h2 h10 ha hs
  · exact ctW X.ex X.by_ X.ml X.ow X.k0 h4 hw h1.1 h5 h3 h6 h7 h9 h10 h11 h2 h12 ha hs
theorem rtE_ct (X : Ctx p l e R s m meth c D G iT q mc ms) {g n a : Nat} {q' : MI} {as : List AV} (h : RtE q pc g q' n) (hg : G g = some a) (hw : miW q' ∈ lw_tbl) (hlen : as.length = n) (hs : (st.map ab_ca).sum ≤ 8) : ∀ (H : Heap) (locs : List Loc) (ls : Array Slot), HR D M H → va_S (hbA D) s.heap H locs → ls.size = q.2.2.1 → CallsTo p l e R s m args below meth c H (F0 m pc ls (((vR (some a) :: as).reverse ++ st).map ab_cv)) q'.1 3 ((vR (some a) :: as).map ab_cv) (st.map ab_cv) := by
  subst hlen
  obtain ⟨idx, C, h1, h2, h3, h⟩ := h
  obtain ⟨a', e1, e2⟩ := X.gr.2.2.2 _ h1
  cases Option.some.inj (e1.symm.trans hg)
  rcases h with ⟨h4, h5, h6, h7⟩ | ⟨x, owner, h4, h5, h6, h7, h8, h9, h10⟩
  · exact ctVE X.ex X.by_ X.ml X.ow X.k0 (miW_code q') hw e2 h4 h3 h5 h6 h2 h7 hs
  · exact ctUE X.ex X.by_ X.ml X.ow X.k0 h4 hw e2 h5 h6 h7 h8 h3 h9 h2 h10 hs
theorem rtI_ct (X : Ctx p l e R s m meth c D G iT q mc ms) {kd n a : Nat} {q' : MI} {as : List AV} (h : RtI q pc kd q' n) (hw : miW q' ∈ lw_tbl) (hlen : as.length = n) (ha : mcl M a = kd) (hs : (st.map ab_ca).sum ≤ 8) : ∀ (H : Heap) (locs : List Loc) (ls : Array Slot), HR D M H → va_S (hbA D) s.heap H locs → ls.size = q.2.2.1 → CallsTo p l e R s m args below meth c H (F0 m pc ls (((vR (some a) :: as).reverse ++ st).map ab_cv)) q'.1 3 ((vR (some a) :: as).map ab_cv) (st.map ab_cv) := by
  subst hlen
  obtain ⟨idx, h1, h2, h3, ⟨h4, h5, h6, h7⟩ | ⟨C, h4, h5, h6, h7, h8, h9⟩⟩ := h
  · exact ctI X.ex X.by_ X.ml X.ow X.k0 h7 hw h5 h4 h3 h6 h1 h2 hs
  · exact ctP X.ex X.by_ X.ml X.ow X.k0 h5 hw h4 h6 h7 h8 h3 h9 h1 h2 ha hs
theorem rtF_ct (X : Ctx p l e R s m meth c D G iT q mc ms) {kd n a : Nat} {q' : MI} {as : List AV} (h : RtF q pc kd q' n) (hw : miW q' ∈ lw_tbl) (hlen : as.length = n) (ha : mcl M a = kd) (hs : (st.map ab_ca).sum ≤ 8) : ∀ (H : Heap) (locs : List Loc) (ls : Array Slot), HR D M H → va_S (hbA D) s.heap H locs → ls.size = q.2.2.1 → CallsTo p l e R s m args below meth c H (F0 m pc ls (((vR (some a) :: as).reverse ++ st).map ab_cv)) q'.1 5 ((vR (some a) :: as).map ab_cv) (st.map ab_cv) := by
  subst hlen
  obtain ⟨idx, cnt, C, x, h1, h2, h3, h4, h5, h6, h7, h8, h9, h10, h11, h12, h13⟩ := h
  rcases h7 with h7 | ⟨rfl, h7⟩
  · exact ctF X.ex X.by_ X.ml X.ow X.k0 h3 hw h1 h4 h5 h6 h7 h8 h9 h10 h11 h12 h2 h13 ha hs
  · exact ctFD X.ex X.by_ X.ml X.ow X.k0 X.sk.2.2.2.2.2.2.2 h3 hw h1 h4 h5 h6 h7 h8 h9 h10 h11 h12 h2 h13 ha hs
theorem st39_snd (X : Ctx p l e R s m meth c D G iT q mc ms) (ho : ok39 mi q pc len r0) (h : sp40 orc cl k r0 L st M = some r) (hc : cl ≠ 0) (hO : ∀ (c' m' : Nat) (as : List AV) (M : Mem) (y : Out × Mem), c' ≠ 0 → orc c' m' 0 (mkA 0 as) [] M = some y → (as.map ab_ca).sum ≤ (mi m').2.2.1 → (mnx M ≤ mnx y.2 ∧ msl M ≤ msl y.2) ∧ nb_Met l (mi m').1 [miW (mi m')] { frames := (mi m').2.2.2.2.2, locals := 5000 * (mi m').2.2.2.2.2, cells := mnx y.2 - mnx M, slots := msl y.2 - msl M } (PcM D G iT as M) (Qr D y) (Xr D y) (mnx y.2 - mnx M) (msl y.2 - msl M) (hbA D)) (hk : ∀ L st M, k L st M = some r → Sd p l e R s m args below meth c D mc ms q.2.2.1 (pc + len) L st M r) (he : ∀ L st M, k L st M = some r → mnx M ≤ mnx r.2 ∧ msl M ≤ msl r.2) : Sd p l e R s m args below meth c D mc ms q.2.2.1 pc L st M r := by
  unfold sp40 at h
  obtain ⟨rt, n, aw, m', rfl, hlen3, hcal, ⟨idx, hd, hl, hst, hi9, hy, hdn⟩⟩ := ho
  subst hlen3
  dsimp only at h
  split at h
  · next as s9 e9 =>
    split at h
    · next q9 =>
      simp only [Bool.and_eq_true] at q9
      obtain ⟨hs8, haw⟩ := q9
      have hs8 := Nat.le_of_ble_eq_true hs8
      have haw := Nat.eq_of_beq_eq_true haw
      obtain ⟨hlen, rfl⟩ := cargs_at e9
      obtain ⟨v, M1, -, h2, h3⟩ := iv_dbk h
      refine callT X hcal hO hc h2 haw (ctS X.ex X.by_ X.ml X.ow X.k0 (miW_code _) hcal.1 hl hst hi9 hy hd (hlen ▸ hdn) hs8) (he _ _ _ h3) (fun v' hv' => ?_) (fun E hE => absurd hE (by simp))
      cases hv'
      exact hk _ _ _ h3
    · exact absurd h (by simp)
  · exact absurd h (by simp)
theorem st18_snd (X : Ctx p l e R s m meth c D G iT q mc ms) (ho : ok18 mi q pc len r0) (h : sp18 orc cl k r0 L st M = some r) (hc : cl ≠ 0) (hO : ∀ (c' m' : Nat) (as : List AV) (M : Mem) (y : Out × Mem), c' ≠ 0 → orc c' m' 0 (mkA 0 as) [] M = some y → (as.map ab_ca).sum ≤ (mi m').2.2.1 → (mnx M ≤ mnx y.2 ∧ msl M ≤ msl y.2) ∧ nb_Met l (mi m').1 [miW (mi m')] { frames := (mi m').2.2.2.2.2, locals := 5000 * (mi m').2.2.2.2.2, cells := mnx y.2 - mnx M, slots := msl y.2 - msl M } (PcM D G iT as M) (Qr D y) (Xr D y) (mnx y.2 - mnx M) (msl y.2 - msl M) (hbA D)) (hk : ∀ L st M, k L st M = some r → Sd p l e R s m args below meth c D mc ms q.2.2.1 (pc + len) L st M r) (he : ∀ L st M, k L st M = some r → mnx M ≤ mnx r.2 ∧ msl M ≤ msl r.2) : Sd p l e R s m args below meth c D mc ms q.2.2.1 pc L st M r := by
  unfold sp18 at h
  obtain ⟨rt, n, aw, m', rfl, hlen3, hcal, ⟨idx, hd, hl, hst, hi9, hy, hdn⟩, hno⟩ := ho
  subst hlen3
  dsimp only at h
  split at h
  · next as s9 e9 =>
    split at h
    · next q9 =>
      simp only [Bool.and_eq_true] at q9
      obtain ⟨hs8, haw⟩ := q9
      have hs8 := Nat.le_of_ble_eq_true hs8
      have haw := Nat.eq_of_beq_eq_true haw
      obtain ⟨hlen, rfl⟩ := cargs_at e9
      rcases iv_cbk h with ⟨v, M1, -, h2, h3⟩ | ⟨E, h2, h4⟩
      · refine callT X hcal hO hc h2 haw (ctS X.ex X.by_ X.ml X.ow X.k0 (miW_code _) hcal.1 hl hst hi9 hy hd (hlen ▸ hdn) hs8) (he _ _ _ h3) (fun v' hv' => ?_) (fun E hE => absurd hE (by simp))
        cases hv'
        exact hk _ _ _ h3
      · have hr : r = (.inr E, r.2) := by rw [← h4]
        refine callT (len := 3) X hcal hO hc h2 haw (ctS X.ex X.by_ X.ml X.ow X.k0 (miW_code _) hcal.1 hl hst hi9 hy hd (hlen ▸ hdn) hs8) ⟨Nat.le_refl _, Nat.le_refl _⟩ (fun v' hv' => absurd hv' (by simp)) (fun E' hE' H locs cells slots ls a9 ce hH hS hl' h1 h2 hce hcv hcl => ?_)
        cases hE'
        exact out_snd X.lk (by rw [X.tb]; exact hno) hr hH hS h1 h2 hce hcv hcl
    · exact absurd h (by simp)
  · exact absurd h (by simp)
theorem st19_snd (X : Ctx p l e R s m meth c D G iT q mc ms) (ho : ok19 mi q pc len r0) (h : sp19 orc cl k r0 L st M = some r) (hc : cl ≠ 0) (hO : ∀ (c' m' : Nat) (as : List AV) (M : Mem) (y : Out × Mem), c' ≠ 0 → orc c' m' 0 (mkA 0 as) [] M = some y → (as.map ab_ca).sum ≤ (mi m').2.2.1 → (mnx M ≤ mnx y.2 ∧ msl M ≤ msl y.2) ∧ nb_Met l (mi m').1 [miW (mi m')] { frames := (mi m').2.2.2.2.2, locals := 5000 * (mi m').2.2.2.2.2, cells := mnx y.2 - mnx M, slots := msl y.2 - msl M } (PcM D G iT as M) (Qr D y) (Xr D y) (mnx y.2 - mnx M) (msl y.2 - msl M) (hbA D)) (hk : ∀ L st M, k L st M = some r → Sd p l e R s m args below meth c D mc ms q.2.2.1 (pc + len) L st M r) (he : ∀ L st M, k L st M = some r → mnx M ≤ mnx r.2 ∧ msl M ≤ msl r.2) : Sd p l e R s m args below meth c D mc ms q.2.2.1 pc L st M r := by
  unfold sp19 at h
  obtain ⟨rt, n, aw, kd, m', rfl, hlen3, hcal, hrt, hno⟩ := ho
  subst hlen3
  dsimp only at h
  split at h
  · next o as s9 e9 =>
    split at h
    · next q9 =>
      simp only [Bool.and_eq_true] at q9
      obtain ⟨hs8, haw⟩ := q9
      have hs8 := Nat.le_of_ble_eq_true hs8
      have haw := Nat.eq_of_beq_eq_true haw
      obtain ⟨hlen, rfl⟩ := cargs_at e9
      obtain ⟨a, rfl, ha, h⟩ := iv_vc1 h
      rcases iv_cbk h with ⟨v, M1, -, h2, h3⟩ | ⟨E, h2, h4⟩
      · refine callT X hcal hO hc h2 haw (rtV_ct X hrt hcal.1 (Nat.succ.inj hlen) ha hs8) (he _ _ _ h3) (fun v' hv' => ?_) (fun E hE => absurd hE (by simp))
        cases hv'
        exact hk _ _ _ h3
      · have hr : r = (.inr E, r.2) := by rw [← h4]
        refine callT (len := 3) X hcal hO hc h2 haw (rtV_ct X hrt hcal.1 (Nat.succ.inj hlen) ha hs8) ⟨Nat.le_refl _, Nat.le_refl _⟩ (fun v' hv' => absurd hv' (by simp)) (fun E' hE' H locs cells slots ls a9 ce hH hS hl' h1 h2 hce hcv hcl => ?_)
        cases hE'
        exact out_snd X.lk (by rw [X.tb]; exact hno) hr hH hS h1 h2 hce hcv hcl
    · exact absurd h (by simp)
  · exact absurd h (by simp)
theorem st31_snd (X : Ctx p l e R s m meth c D G iT q mc ms) (ho : ok31 mi q pc len r0) (h : sp38 G orc cl k r0 L st M = some r) (hc : cl ≠ 0) (hO : ∀ (c' m' : Nat) (as : List AV) (M : Mem) (y : Out × Mem), c' ≠ 0 → orc c' m' 0 (mkA 0 as) [] M = some y → (as.map ab_ca).sum ≤ (mi m').2.2.1 → (mnx M ≤ mnx y.2 ∧ msl M ≤ msl y.2) ∧ nb_Met l (mi m').1 [miW (mi m')] { frames := (mi m').2.2.2.2.2, locals := 5000 * (mi m').2.2.2.2.2, cells := mnx y.2 - mnx M, slots := msl y.2 - msl M } (PcM D G iT as M) (Qr D y) (Xr D y) (mnx y.2 - mnx M) (msl y.2 - msl M) (hbA D)) (hk : ∀ L st M, k L st M = some r → Sd p l e R s m args below meth c D mc ms q.2.2.1 (pc + len) L st M r) (he : ∀ L st M, k L st M = some r → mnx M ≤ mnx r.2 ∧ msl M ≤ msl r.2) : Sd p l e R s m args below meth c D mc ms q.2.2.1 pc L st M r := by
  unfold sp38 at h
  obtain ⟨rt, n, aw, ts, rfl, hlen3, hall⟩ := ho
  subst hlen3
  dsimp only at h
  split at h
  · next o as s9 e9 =>
    split at h
    · next q9 =>
      simp only [Bool.and_eq_true] at q9
      obtain ⟨hs8, haw⟩ := q9
      have hs8 := Nat.le_of_ble_eq_true hs8
      have haw := Nat.eq_of_beq_eq_true haw
      obtain ⟨hlen, rfl⟩ := cargs_at e9
      obtain ⟨a, rfl, h⟩ := iv_nn h
      obtain ⟨i9, g9, m', t1, t2, hg9, h⟩ := iv_dsg h
      obtain ⟨hcal, hrt⟩ := hall i9 _ m' t1 t2
      obtain ⟨v, M1, -, h2, h3⟩ := iv_dbk h
      refine callT X hcal hO hc h2 haw (rtE_ct X hrt hg9 hcal.1 (Nat.succ.inj hlen) hs8) (he _ _ _ h3) (fun v' hv' => ?_) (fun E hE => absurd hE (by simp))
      cases hv'
      exact hk _ _ _ h3
    · exact absurd h (by simp)
  · exact absurd h (by simp)
theorem st35_snd (X : Ctx p l e R s m meth c D G iT q mc ms) (ho : ok35 mi q pc len r0) (h : sp31 orc cl k r0 L st M = some r) (hc : cl ≠ 0) (hO : ∀ (c' m' : Nat) (as : List AV) (M : Mem) (y : Out × Mem), c' ≠ 0 → orc c' m' 0 (mkA 0 as) [] M = some y → (as.map ab_ca).sum ≤ (mi m').2.2.1 → (mnx M ≤ mnx y.2 ∧ msl M ≤ msl y.2) ∧ nb_Met l (mi m').1 [miW (mi m')] { frames := (mi m').2.2.2.2.2, locals := 5000 * (mi m').2.2.2.2.2, cells := mnx y.2 - mnx M, slots := msl y.2 - msl M } (PcM D G iT as M) (Qr D y) (Xr D y) (mnx y.2 - mnx M) (msl y.2 - msl M) (hbA D)) (hk : ∀ L st M, k L st M = some r → Sd p l e R s m args below meth c D mc ms q.2.2.1 (pc + len) L st M r) (he : ∀ L st M, k L st M = some r → mnx M ≤ mnx r.2 ∧ msl M ≤ msl r.2) : Sd p l e R s m args below meth c D mc ms q.2.2.1 pc L st M r := by
  unfold sp31 at h
  obtain ⟨rt, n, aw, ts, rfl, hlen3, hall⟩ := ho
  subst hlen3
  dsimp only at h
  split at h
  · next o as s9 e9 =>
    split at h
    · next q9 =>
      simp only [Bool.and_eq_true] at q9
      obtain ⟨hs8, haw⟩ := q9
      have hs8 := Nat.le_of_ble_eq_true hs8
      have haw := Nat.eq_of_beq_eq_true haw
      obtain ⟨hlen, rfl⟩ := cargs_at e9
      obtain ⟨a, rfl, h⟩ := iv_nn h
      obtain ⟨i9, m', t1, t2, h⟩ := iv_dsp h
      obtain ⟨hcal, hrt⟩ := hall i9 _ m' t1 t2
      obtain ⟨v, M1, -, h2, h3⟩ := iv_dbk h
      refine callT X hcal hO hc h2 haw (rtF_ct X hrt hcal.1 (Nat.succ.inj hlen) rfl hs8) (he _ _ _ h3) (fun v' hv' => ?_) (fun E hE => absurd hE (by simp))
      cases hv'
      exact hk _ _ _ h3
    · exact absurd h (by simp)
  · exact absurd h (by simp)
theorem st34_snd (X : Ctx p l e R s m meth c D G iT q mc ms) (ho : ok34 mi q pc len r0) (h : sp34 orc cl k r0 L st M = some r) (hc : cl ≠ 0) (hO : ∀ (c' m' : Nat) (as : List AV) (M : Mem) (y : Out × Mem), c' ≠ 0 → orc c' m' 0 (mkA 0 as) [] M = some y → (as.map ab_ca).sum ≤ (mi m').2.2.1 → (mnx M ≤ mnx y.2 ∧ msl M ≤ msl y.2) ∧ nb_Met l (mi m').1 [miW (mi m')] { frames := (mi m').2.2.2.2.2, locals := 5000 * (mi m').2.2.2.2.2, cells := mnx y.2 - mnx M, slots := msl y.2 - msl M } (PcM D G iT as M) (Qr D y) (Xr D y) (mnx y.2 - mnx M) (msl y.2 - msl M) (hbA D)) (hk : ∀ L st M, k L st M = some r → Sd p l e R s m args below meth c D mc ms q.2.2.1 (pc + len) L st M r) (he : ∀ L st M, k L st M = some r → mnx M ≤ mnx r.2 ∧ msl M ≤ msl r.2) : Sd p l e R s m args below meth c D mc ms q.2.2.1 pc L st M r := by
  unfold sp34 at h
  obtain ⟨rt, n, aw, kd, m', rfl, hlen3, hcal, hrt⟩ := ho
  subst hlen3
  dsimp only at h
  split at h
  · next o as s9 e9 =>
    split at h
    · next q9 =>
      simp only [Bool.and_eq_true] at q9
      obtain ⟨hs8, haw⟩ := q9
      have hs8 := Nat.le_of_ble_eq_true hs8
      have haw := Nat.eq_of_beq_eq_true haw
      obtain ⟨hlen, rfl⟩ := cargs_at e9
      obtain ⟨a, rfl, ha, h⟩ := iv_vc1 h
      obtain ⟨v, M1, -, h2, h3⟩ := iv_dbk h
      refine callT X hcal hO hc h2 haw (rtF_ct X hrt hcal.1 (Nat.succ.inj hlen) ha hs8) (he _ _ _ h3) (fun v' hv' => ?_) (fun E hE => absurd hE (by simp))
      cases hv'
      exact hk _ _ _ h3
    · exact absurd h (by simp)
  · exact absurd h (by simp)
theorem st36_snd (X : Ctx p l e R s m meth c D G iT q mc ms) (ho : ok36 mi q pc len r0) (h : sp36 orc cl k r0 L st M = some r) (hc : cl ≠ 0) (hO : ∀ (c' m' : Nat) (as : List AV) (M : Mem) (y : Out × Mem), c' ≠ 0 → orc c' m' 0 (mkA 0 as) [] M = some y → (as.map ab_ca).sum ≤ (mi m').2.2.1 → (mnx M ≤ mnx y.2 ∧ msl M ≤ msl y.2) ∧ nb_Met l (mi m').1 [miW (mi m')] { frames := (mi m').2.2.2.2.2, locals := 5000 * (mi m').2.2.2.2.2, cells := mnx y.2 - mnx M, slots := msl y.2 - msl M } (PcM D G iT as M) (Qr D y) (Xr D y) (mnx y.2 - mnx M) (msl y.2 - msl M) (hbA D)) (hk : ∀ L st M, k L st M = some r → Sd p l e R s m args below meth c D mc ms q.2.2.1 (pc + len) L st M r) (he : ∀ L st M, k L st M = some r → mnx M ≤ mnx r.2 ∧ msl M ≤ msl r.2) : Sd p l e R s m args below meth c D mc ms q.2.2.1 pc L st M r := by
  unfold sp36 at h
  obtain ⟨rt, n, aw, kd, m', rfl, hlen3, hcal, hrt⟩ := ho
  subst hlen3
  dsimp only at h
  split at h
  · next o as s9 e9 =>
    split at h
    · next q9 =>
      simp only [Bool.and_eq_true] at q9
      obtain ⟨hs8, haw⟩ := q9
      have hs8 := Nat.le_of_ble_eq_true hs8
      have haw := Nat.eq_of_beq_eq_true haw
      obtain ⟨hlen, rfl⟩ := cargs_at e9
      obtain ⟨a, rfl, ha, h⟩ := iv_vc1 h
      obtain ⟨v, M1, -, h2, h3⟩ := iv_dbk h
      refine callT X hcal hO hc h2 haw (rtI_ct X hrt hcal.1 (Nat.succ.inj hlen) ha hs8) (he _ _ _ h3) (fun v' hv' => ?_) (fun E hE => absurd hE (by simp))
      cases hv'
      exact hk _ _ _ h3
    · exact absurd h (by simp)
  · exact absurd h (by simp)
theorem st37_snd (X : Ctx p l e R s m meth c D G iT q mc ms) (ho : ok37 mi q pc len r0) (h : sp37 orc cl k r0 L st M = some r) (hO : ∀ (c' m' : Nat) (as : List AV) (M : Mem) (y : Out × Mem), c' ≠ 0 → orc c' m' 0 (mkA 0 as) [] M = some y → (as.map ab_ca).sum ≤ (mi m').2.2.1 → (mnx M ≤ mnx y.2 ∧ msl M ≤ msl y.2) ∧ nb_Met l (mi m').1 [miW (mi m')] { frames := (mi m').2.2.2.2.2, locals := 5000 * (mi m').2.2.2.2.2, cells := mnx y.2 - mnx M, slots := msl y.2 - msl M } (PcM D G iT as M) (Qr D y) (Xr D y) (mnx y.2 - mnx M) (msl y.2 - msl M) (hbA D)) (hk : ∀ L st M, k L st M = some r → Sd p l e R s m args below meth c D mc ms q.2.2.1 (pc + len) L st M r) (he : ∀ L st M, k L st M = some r → mnx M ≤ mnx r.2 ∧ msl M ≤ msl r.2) : Sd p l e R s m args below meth c D mc ms q.2.2.1 pc L st M r := by
  unfold sp37 at h
  obtain ⟨rt, n, aw, m', c2, kd, rfl, hlen3, hcal, hrt⟩ := ho
  subst hlen3
  dsimp only at h
  split at h
  · next o as s9 e9 =>
    split at h
    · next q9 =>
      simp only [Bool.and_eq_true] at q9
      obtain ⟨-, hc2, hs8, haw⟩ := q9
      have hc2 : _ ≠ 0 := Nat.ne_of_gt (Nat.le_of_ble_eq_true hc2)
      have hs8 := Nat.le_of_ble_eq_true hs8
      have haw := Nat.eq_of_beq_eq_true haw
      obtain ⟨hlen, rfl⟩ := cargs_at e9
      obtain ⟨a, rfl, ha, h⟩ := iv_vc1 h
      obtain ⟨v, M1, -, h2, h3⟩ := iv_dbk h
      refine callT X hcal hO hc2 h2 haw (rtI_ct X hrt hcal.1 (Nat.succ.inj hlen) ha hs8) (he _ _ _ h3) (fun v' hv' => ?_) (fun E hE => absurd hE (by simp))
      cases hv'
      exact hk _ _ _ h3
    · exact absurd h (by simp)
  · exact absurd h (by simp)
theorem st23_snd (X : Ctx p l e R s m meth c D G iT q mc ms) (ho : ok23 mi iT q bp pc len r0) (h : sp23 orc cl go k r0 L st M = some r) (hO : ∀ (c' m' : Nat) (as : List AV) (M : Mem) (y : Out × Mem), c' ≠ 0 → orc c' m' 0 (mkA 0 as) [] M = some y → (as.map ab_ca).sum ≤ (mi m').2.2.1 → (mnx M ≤ mnx y.2 ∧ msl M ≤ msl y.2) ∧ nb_Met l (mi m').1 [miW (mi m')] { frames := (mi m').2.2.2.2.2, locals := 5000 * (mi m').2.2.2.2.2, cells := mnx y.2 - mnx M, slots := msl y.2 - msl M } (PcM D G iT as M) (Qr D y) (Xr D y) (mnx y.2 - mnx M) (msl y.2 - msl M) (hbA D)) (hk : ∀ L st M, k L st M = some r → Sd p l e R s m args below meth c D mc ms q.2.2.1 (pc + len) L st M r) (he : ∀ L st M, k L st M = some r → mnx M ≤ mnx r.2 ∧ msl M ≤ msl r.2) (hg : ∀ b L st M, go b L st M = some r → Sd p l e R s m args below meth c D mc ms q.2.2.1 (bp b) L st M r) (hge : ∀ b L st M, go b L st M = some r → mnx M ≤ mnx r.2 ∧ msl M ≤ msl r.2) : Sd p l e R s m args below meth c D mc ms q.2.2.1 pc L st M r := by
  unfold sp23 at h
  obtain ⟨rt, n, aw, m', c2, kd, k9, hs9, rfl, hlen3, hcal, hrt, hhd⟩ := ho
  subst hlen3
  dsimp only at h
  split at h
  · next o as s9 e9 =>
    split at h
    · next q9 =>
      simp only [Bool.and_eq_true] at q9
      obtain ⟨-, hc2, hs8, haw⟩ := q9
      have hc2 : _ ≠ 0 := Nat.ne_of_gt (Nat.le_of_ble_eq_true hc2)
      have hs8 := Nat.le_of_ble_eq_true hs8
      have haw := Nat.eq_of_beq_eq_true haw
      obtain ⟨hlen, rfl⟩ := cargs_at e9
      obtain ⟨a, rfl, ha, h⟩ := iv_vc1 h
      rcases iv_ctH (by unfold cbk; split <;> rfl) h with ⟨E, M1, h2, h3⟩ | ⟨v, M1, h2, h3⟩
      · obtain ⟨j9, b9, t1, t2, t3, h4⟩ := iv_hsel h3
        refine callT (len := 3) X hcal hO hc2 h2 haw (rtV_ct X hrt hcal.1 (Nat.succ.inj hlen) ha hs8) (hge _ _ _ _ h4) (fun v' hv' => absurd hv' (by simp)) (fun E' hE' H locs cells slots ls a9 ce hH hS hl' g1 g2 hce hcv hcl => ?_)
        cases hE'
        exact hnd_snd X (hhd j9 E b9 t1 t2 t3) (hg _ _ _ _ h4) hH hS hl' g1 g2 hce hcv hcl
      · rcases iv_cbk h3 with ⟨w, M2, -, h4, h5⟩ | ⟨E, h4, -⟩
        · cases h4
          refine callT X hcal hO hc2 h2 haw (rtV_ct X hrt hcal.1 (Nat.succ.inj hlen) ha hs8) (he _ _ _ h5) (fun v' hv' => ?_) (fun E hE => absurd hE (by simp))
          cases hv'
          exact hk _ _ _ h5
        · cases h4
    · exact absurd h (by simp)
  · exact absurd h (by simp)
theorem stp_snd (X : Ctx p l e R s m meth c D G iT q mc ms) (hin : kIn) (hty : kTy) (hkk : kOK D) (hc : cl ≠ 0) {e0 : Ent} (ho : OKe mi iT q bp e0) (h : stp G orc cl go k e0 L st M = some r) (hO : ∀ (c' m' : Nat) (as : List AV) (M : Mem) (y : Out × Mem), c' ≠ 0 → orc c' m' 0 (mkA 0 as) [] M = some y → (as.map ab_ca).sum ≤ (mi m').2.2.1 → (mnx M ≤ mnx y.2 ∧ msl M ≤ msl y.2) ∧ nb_Met l (mi m').1 [miW (mi m')] { frames := (mi m').2.2.2.2.2, locals := 5000 * (mi m').2.2.2.2.2, cells := mnx y.2 - mnx M, slots := msl y.2 - msl M } (PcM D G iT as M) (Qr D y) (Xr D y) (mnx y.2 - mnx M) (msl y.2 - msl M) (hbA D)) (hk : ∀ L st M, k L st M = some r → Sd p l e R s m args below meth c D mc ms q.2.2.1 (e0.1 + e0.2.1) L st M r) (he : ∀ L st M, k L st M = some r → mnx M ≤ mnx r.2 ∧ msl M ≤ msl r.2) (hg : ∀ b L st M, go b L st M = some r → Sd p l e R s m args below meth c D mc ms q.2.2.1 (bp b) L st M r) (hge : ∀ b L st M, go b L st M = some r → mnx M ≤ mnx r.2 ∧ msl M ≤ msl r.2) : Sd p l e R s m args below meth c D mc ms q.2.2.1 e0.1 L st M r := by
  obtain ⟨pc, len, cat, i, r0, cn⟩ := e0
  match cat, ho, h with
  | 0, ho, h => exact st0_snd X ho h hk
  | 1, ho, h => exact st1_snd X ho h hk
  | 2, ho, h => exact st2_snd X ho h hk
  | 3, ho, h => exact st3_snd X ho h hg
  | 4, ho, h => exact st4_snd X ho h hg
  | 5, ho, h => exact st5_snd X ho h hg
  | 6, ho, h => exact st6_snd X ho h hin hk
  | 7, ho, h => exact st7_snd X ho h hin hty hkk hc hk
  | 8, ho, h => exact st8_snd X ho h hk
  | 9, ho, h => exact st9_snd X ho h hc hk
  | 10, ho, h => exact st10_snd X ho h hk
  | 11, ho, h => exact st11_snd X ho h hin hty hk he
  | 12, ho, h => exact st12_snd X ho h hk he
  | 13, ho, h => exact st13_snd X ho h hk
  | 14, ho, h => exact st14_snd X ho h hk
  | 15, ho, h => exact st15_snd X ho h hk
  | 16, ho, h => exact st16_snd X ho h hk
  | 17, ho, h => exact st17_snd X ho h hk
  | 18, ho, h => exact st18_snd X ho h hc hO hk he
  | 19, ho, h => exact st19_snd X ho h hc hO hk he
  | 20, ho, h => exact st20_snd X ho h 
  | 21, ho, h => exact st21_snd X ho h 
  | 22, ho, h => exact st22_snd X ho h hk
  | 23, ho, h => exact st23_snd X ho h hO hk he hg hge
  | 24, ho, h => exact st24_snd X ho h hin hty hk he
  | 25, ho, h => exact st25_snd X ho h hc hg hge
  | 26, ho, h => exact st26_snd X ho h hc hk
  | 27, ho, h => exact st27_snd X ho h hk
  | 28, ho, h => exact st28_snd X ho h hk
  | 29, ho, h => exact st29_snd X ho hc h hk
  | 30, ho, h => exact st30_snd X ho h hk
  | 31, ho, h => exact st31_snd X ho h hc hO hk he
  | 32, ho, h => exact st32_snd X ho h hk
  | 33, ho, h => exact st33_snd X ho hc h hk he
  | 34, ho, h => exact st34_snd X ho h hc hO hk he
  | 35, ho, h => exact st35_snd X ho h hc hO hk he
  | 36, ho, h => exact st36_snd X ho h hc hO hk he
  | 37, ho, h => exact st37_snd X ho h hO hk he
  | 38, ho, h => exact st38_snd X ho h hk
  | 39, ho, h => exact st39_snd X ho h hc hO hk he
  | n + 40, _, h => exact absurd h (by simp [stp])
end S14
