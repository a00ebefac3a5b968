set_option maxRecDepth 4000
/-! ===== Strength.carry ===== -/
theorem sad_sdA {M : Mem} {a i : Nat} {v : UInt64} {f : Nat → UInt64} : sad (sdA M a f) a i v = sdA M a (fun j => if j = i then v else f j) := by
  have : up2 (mad (sdA M a f)) a i v = fun x j => if x = a then (if j = i then v else f j) else mad M x j := by
    funext x j
    rw [up2_if]
    by_cases h1 : x = a
    · rw [if_pos h1]
      by_cases h2 : j = i
      · rw [if_pos ⟨h1, h2⟩, if_pos h2]
      · rw [if_neg (fun h => h2 h.2), if_neg h2]
        exact if_pos h1
    · rw [if_neg (fun h => h1 h.1), if_neg h1]
      exact if_neg h1
  unfold sad
  rw [this]
  rfl
theorem mad_sdA {M : Mem} {a i : Nat} {f : Nat → UInt64} : mad (sdA M a f) a i = f i := if_pos rfl
noncomputable def cyF (f : Nat → UInt64) (x : Ld) : Nat → UInt64 := fun c => if c = x.c then dAdd (f x.c) x.t else f c
noncomputable def Sh.carry (S : Sh) (p : Bool) : Nat → UInt64 := (ldsC S p).foldl cyF (fun _ => FP.dconst0)
theorem ldsC_c {S : Sh} {p : Bool} (i : SI S) : ∀ x ∈ ldsC S p, x.c < 6 := by
  intro x hx
  unfold ldsC at hx
  simp only [List.mem_append, List.mem_map, List.mem_cons, List.mem_range] at hx
  rcases hx with ⟨k, hk, e⟩ | ⟨k, hk, e⟩ | ⟨k, hk, e⟩ | e | ⟨k, hk, e⟩
  · subst e; show k / 3 < 6; omega
  · subst e; exact i.ic k hk
  · subst e; exact hk
  · rw [e]; show 1 < 6; decide
  · subst e; exact hk
theorem fold_cy : ∀ (l : List Ld) (f f' : Nat → UInt64), (∀ x ∈ l, x.c < 6) → (∀ c, c < 6 → f c = f' c) → ∀ c, c < 6 → (l.foldl cyF f) c = (l.foldl cyF f') c
  | [], f, f', _, h, c, hc => h c hc
  | x :: l, f, f', hl, h, c, hc => by
    rw [List.foldl_cons, List.foldl_cons]
    refine fold_cy l (cyF f x) (cyF f' x) (fun y hy => hl y (List.mem_cons_of_mem _ hy)) (fun d hd => ?_) c hc
    unfold cyF
    rw [h d hd, h x.c (hl x List.mem_cons_self)]
section CRY
variable {G : Nat → Option Nat} {M : Mem} {b : Nat} {g : SG} {S : Sh} {p : Bool}
theorem c568_4 (C : ShC G M b g S p) (iS : SI S) : ∀ (l : List Ld) (k : Nat) (f : Nat → UInt64) (K : Nat), (ldsC S p).drop k = l → k ≤ 31 + S.items.length → 1250 ≤ K → K + 2 * l.length ≤ 1900 → (∀ c, c < 6 → Bd (f c) K) →
    ∃ f', ex G 1 568 4 [(0, vR (some (b + 16))), (1, vI (nI (31 + S.items.length))), (2, vI (nI k))] [] (sdA M (b + 17) f) = some (.inl none, sdA M (b + 17) f') ∧ ∀ c, c < 6 → f' c = (l.foldl cyF f) c
  | [], k, f, K, hl, hk, hK, hK2, hf => by
    have hlen := ldsC_len (S := S) (p := p)
    have hi := iS.il
    have e : k = 31 + S.items.length := by have := List.drop_eq_nil_iff.mp hl; omega
    subst e
    refine ⟨f, ?_, fun _ _ => rfl⟩
    rw [E568_4, if_neg (nI_nlt (Nat.le_refl _) (by omega))]
    rfl
  | x :: l, k, f, K, hl, hk, hK, hK2, hf => by
    have hlen := ldsC_len (S := S) (p := p)
    have hi := iS.il
    have hx : (ldsC S p)[k]? = some x := by rw [← List.head?_drop, hl]; rfl
    have hl' : (ldsC S p).drop (k + 1) = l := by rw [← List.tail_drop, hl]; rfl
    have hkl : k < 31 + S.items.length := by have := (List.getElem?_eq_some_iff.mp hx).1; omega
    have bx : LdB x := ldsC_b iS x (List.mem_of_getElem? hx)
    have hc6 := ldsC_c iS x (List.mem_of_getElem? hx)
    have xt := bx.t
    have fx := hf x.c hc6
    simp only [List.length_cons] at hK2
    have C1 : ShC G (sdA M (b + 17) f) b g S p := C.fr0 QC.sdA
    have D1 := ldA_ok C1 hx
    have hf' : ∀ c, c < 6 → Bd (cyF f x c) (K + 2) := fun c hc => by
      unfold cyF
      split
      · exact Bd.up (bd_add fx xt) _ (by omega)
      · exact Bd.up (hf c hc) _ (by omega)
    obtain ⟨f', e', h'⟩ := c568_4 C iS l (k + 1) (cyF f x) (K + 2) hl' hkl (by omega) (by omega) hf'
    refine ⟨f', ?_, h'⟩
    rw [E568_4, if_pos (nI_lt hkl (by omega)), show aAdd (nI k) 1 = nI (k + 1) from aAdd_n k 1]
    first | refine Eq.trans ((gR_v C1.stk C1.stsh)) ?_ | refine Rt.eq ((gR_v C1.stk C1.stsh)) ?_ | refine Th.eq ((gR_v C1.stk C1.stsh)) ?_
    first | refine Eq.trans ((vc1_ok C1.k)) ?_ | refine Rt.eq ((vc1_ok C1.k)) ?_ | refine Th.eq ((vc1_ok C1.k)) ?_
    first | refine Eq.trans ((cbR_of (c486 C1 hkl))) ?_ | refine Rt.eq ((cbR_of (c486 C1 hkl))) ?_ | refine Th.eq ((cbR_of (c486 C1 hkl))) ?_
    first | refine Eq.trans ((gR_v C1.stk C1.rsca)) ?_ | refine Rt.eq ((gR_v C1.stk C1.rsca)) ?_ | refine Th.eq ((gR_v C1.stk C1.rsca)) ?_
    first | refine Eq.trans (nn_ok) ?_ | refine Rt.eq (nn_ok) ?_ | refine Th.eq (nn_ok) ?_
    first | refine Eq.trans ((D1.2.1 _)) ?_ | refine Rt.eq ((D1.2.1 _)) ?_ | refine Th.eq ((D1.2.1 _)) ?_
    first | refine Eq.trans ((gR_v C1.stk C1.rsca)) ?_ | refine Rt.eq ((gR_v C1.stk C1.rsca)) ?_ | refine Th.eq ((gR_v C1.stk C1.rsca)) ?_
    first | refine Eq.trans (nn_ok) ?_ | refine Rt.eq (nn_ok) ?_ | refine Th.eq (nn_ok) ?_
    first | refine Eq.trans ((D1.2.1 _)) ?_ | refine Rt.eq ((D1.2.1 _)) ?_ | refine Th.eq ((D1.2.1 _)) ?_
    first | refine Eq.trans ((ldD_v C1.scak C1.scaln hc6 (by decide) mad_sdA)) ?_ | refine Rt.eq ((ldD_v C1.scak C1.scaln hc6 (by decide) mad_sdA)) ?_ | refine Th.eq ((ldD_v C1.scak C1.scaln hc6 (by decide) mad_sdA)) ?_
    first | refine Eq.trans (nn_ok) ?_ | refine Rt.eq (nn_ok) ?_ | refine Th.eq (nn_ok) ?_
    first | refine Eq.trans ((D1.1 _)) ?_ | refine Rt.eq ((D1.1 _)) ?_ | refine Th.eq ((D1.1 _)) ?_
    first | refine Eq.trans ((fD_ok (isN_of (bd_add fx xt) (by omega)))) ?_ | refine Rt.eq ((fD_ok (isN_of (bd_add fx xt) (by omega)))) ?_ | refine Th.eq ((fD_ok (isN_of (bd_add fx xt) (by omega)))) ?_
    first | refine Eq.trans ((stD_ok C1.scak C1.scaco C1.scaln hc6 (by decide))) ?_ | refine Rt.eq ((stD_ok C1.scak C1.scaco C1.scaln hc6 (by decide))) ?_ | refine Th.eq ((stD_ok C1.scak C1.scaco C1.scaln hc6 (by decide))) ?_
    rw [sad_sdA]
    exact e'
theorem c568_1 (C : ShC G M b g S p) (iS : SI S) : ∀ (n k : Nat) (f : Nat → UInt64), k + n = 6 → (∀ j, j < k → f j = FP.dconst0) →
    ∃ f', ex G 1 568 1 [(0, vR (some (b + 16))), (1, vI (nI k))] [] (sdA M (b + 17) f) = some (.inl none, sdA M (b + 17) f') ∧ ∀ c, c < 6 → f' c = S.carry p c
  | 0, k, f, hk, hf => by
    have e : k = 6 := by omega
    subst e
    have hi := iS.il
    have C1 : ShC G (sdA M (b + 17) f) b g S p := C.fr0 QC.sdA
    obtain ⟨f', e', h'⟩ := c568_4 C iS (ldsC S p) 0 f 1250 rfl (Nat.zero_le _) (by decide) (by rw [ldsC_len]; omega) (fun c hc => by rw [hf c hc]; exact Bd.up (by (repeat' (with_reducible first | assumption | exact bd_kD | exact bd_i2D | exact bd_c0 | exact bd_c1 | apply bd_add | apply bd_mul | apply bd_div | apply bd_sub | exact dr_b | exact bd_step | exact bd_Q | exact bd_wide | exact bd_slice | exact bd_part | exact bd_section | exact bd_lift | exact bd_at | exact bd_X | exact bd_ord | exact bd_so | exact bd_vol | exact bd_water | exact bd_draught | exact bd_simT | exact bd_bread | exact bd_br | exact bd_far | exact bd_tank | exact LdB.t (by (first | assumption | exact ldB_plate | exact ldB_item | exact ldB_tank | exact ldB_engine | exact ldB_hold)) | exact LdB.s (by (first | assumption | exact ldB_plate | exact ldB_item | exact ldB_tank | exact ldB_engine | exact ldB_hold)) | exact LdB.u (by (first | assumption | exact ldB_plate | exact ldB_item | exact ldB_tank | exact ldB_engine | exact ldB_hold)) | exact SmB.w (by (first | assumption | exact sums_b)) | exact SmB.l (by (first | assumption | exact sums_b)) | exact SmB.t (by (first | assumption | exact sums_b)) | exact SmB.k (by (first | assumption | exact sums_b)) | exact wt_b | exact bd_lcg | exact bd_tcg | exact bd_kg | exact bd_dr | exact bd_loose | exact bd_free | exact bd_bulk | exact bd_fWater | exact lo_4 | exact lo_8 | exact lo_6 | exact lo_2 | exact lo_18 | exact lo_16 | exact lo_64 | exact lo_72 | exact lo_12 | exact lo_100 | exact lo_step | fail))) _ (by decide))
    refine ⟨f', ?_, fun c hc => (h' c hc).trans (fold_cy (ldsC S p) f _ (ldsC_c iS) (fun d hd => hf d hd) c hc)⟩
    rw [E568_1, if_neg (by decide)]
    first | refine Eq.trans ((gR_v C1.stk C1.stsh)) ?_ | refine Rt.eq ((gR_v C1.stk C1.stsh)) ?_ | refine Th.eq ((gR_v C1.stk C1.stsh)) ?_
    first | refine Eq.trans ((vc1_ok C1.k)) ?_ | refine Rt.eq ((vc1_ok C1.k)) ?_ | refine Th.eq ((vc1_ok C1.k)) ?_
    first | refine Eq.trans ((cbI_of (c485 C1))) ?_ | refine Rt.eq ((cbI_of (c485 C1))) ?_ | refine Th.eq ((cbI_of (c485 C1))) ?_
    exact e'
  | n + 1, k, f, hk, hf => by
    have C1 : ShC G (sdA M (b + 17) f) b g S p := C.fr0 QC.sdA
    obtain ⟨f', e', h'⟩ := c568_1 C iS n (k + 1) (fun j => if j = k then FP.dconst0 else f j) (by omega) (fun j hj => by
      show (if j = k then FP.dconst0 else f j) = FP.dconst0
      split
      · rfl
      · exact hf j (by omega))
    refine ⟨f', ?_, h'⟩
    rw [E568_1, if_pos (show nI k < 6 from nI_lt (a := k) (b := 6) (by omega) (by decide)), show aAdd (nI k) 1 = nI (k + 1) from aAdd_n k 1]
    first | refine Eq.trans ((gR_v C1.stk C1.rsca)) ?_ | refine Rt.eq ((gR_v C1.stk C1.rsca)) ?_ | refine Th.eq ((gR_v C1.stk C1.rsca)) ?_
    first | refine Eq.trans ((stD_ok C1.scak C1.scaco C1.scaln (show k < 6 by omega) (by decide))) ?_ | refine Rt.eq ((stD_ok C1.scak C1.scaco C1.scaln (show k < 6 by omega) (by decide))) ?_ | refine Th.eq ((stD_ok C1.scak C1.scaco C1.scaln (show k < 6 by omega) (by decide))) ?_
    rw [sad_sdA]
    exact e'
/-- STRENGTH.CARRY -/
theorem c568 (C : ShC G M b g S p) (iS : SI S) : ∃ f', ex G 1 568 0 [(0, vR (some (b + 16)))] [] M = some (.inl none, sdA M (b + 17) f') ∧ ∀ c, c < 6 → f' c = S.carry p c := by
  have h := c568_1 (M := M) C iS 6 0 (mad M (b + 17)) rfl (fun j hj => absurd hj (Nat.not_lt_zero j))
  rw [sdA_self] at h
  rw [E568_0]
  exact h
end CRY
