set_option maxRecDepth 4000
/-! ===== the reference's loads as a whole ===== -/
/-- the lots as the reference keeps them -/
abbrev LtT (G : Nat → Option Nat) (M : Mem) (m : Nat) (lots : List LotA) (ll le : Nat) (lx : Nat → Nat) : Prop := (mcl M m = 37) ∧ (mfr M 208 m = some ll) ∧ (AL G M 2 ll le lots.length lx) ∧ (m < mnx M) ∧ (∀ i, i < lots.length → lx i < mnx M) ∧ (∀ i x, lots[i]? = some x → mcl M (lx i) = 40 ∧ mco M (lx i) = 2 ∧ mfi M 255 (lx i) = nI x.at_ ∧ mfi M 256 (lx i) = nI x.to ∧ mfi M 257 (lx i) = nI x.tn ∧ mfi M 258 (lx i) = nI x.sort ∧ mfi M 259 (lx i) = x.frt ∧ mfi M 260 (lx i) = nI x.st ∧ mfi M 261 (lx i) = oI x.ship ∧ mfi M 262 (lx i) = oI x.cm ∧ mfd M 263 (lx i) = x.sd) ∧ (∀ i j, i < lots.length → j < lots.length → lx i = lx j → i = j)
theorem LtT.k {G : Nat → Option Nat} {M : Mem} {m : Nat} {lots : List LotA} {ll le : Nat} {lx : Nat → Nat} (self_ : LtT G M m lots ll le lx) : mcl M m = 37 := self_.1
theorem LtT.r {G : Nat → Option Nat} {M : Mem} {m : Nat} {lots : List LotA} {ll le : Nat} {lx : Nat → Nat} (self_ : LtT G M m lots ll le lx) : mfr M 208 m = some ll := self_.2.1
theorem LtT.al {G : Nat → Option Nat} {M : Mem} {m : Nat} {lots : List LotA} {ll le : Nat} {lx : Nat → Nat} (self_ : LtT G M m lots ll le lx) : AL G M 2 ll le lots.length lx := self_.2.2.1
theorem LtT.ml {G : Nat → Option Nat} {M : Mem} {m : Nat} {lots : List LotA} {ll le : Nat} {lx : Nat → Nat} (self_ : LtT G M m lots ll le lx) : m < mnx M := self_.2.2.2.1
theorem LtT.xl {G : Nat → Option Nat} {M : Mem} {m : Nat} {lots : List LotA} {ll le : Nat} {lx : Nat → Nat} (self_ : LtT G M m lots ll le lx) : ∀ i, i < lots.length → lx i < mnx M := self_.2.2.2.2.1
theorem LtT.x {G : Nat → Option Nat} {M : Mem} {m : Nat} {lots : List LotA} {ll le : Nat} {lx : Nat → Nat} (self_ : LtT G M m lots ll le lx) : ∀ i x, lots[i]? = some x → mcl M (lx i) = 40 ∧ mco M (lx i) = 2 ∧ mfi M 255 (lx i) = nI x.at_ ∧ mfi M 256 (lx i) = nI x.to ∧ mfi M 257 (lx i) = nI x.tn ∧ mfi M 258 (lx i) = nI x.sort ∧ mfi M 259 (lx i) = x.frt ∧ mfi M 260 (lx i) = nI x.st ∧ mfi M 261 (lx i) = oI x.ship ∧ mfi M 262 (lx i) = oI x.cm ∧ mfd M 263 (lx i) = x.sd := self_.2.2.2.2.2.1
theorem LtT.xi {G : Nat → Option Nat} {M : Mem} {m : Nat} {lots : List LotA} {ll le : Nat} {lx : Nat → Nat} (self_ : LtT G M m lots ll le lx) : ∀ i j, i < lots.length → j < lots.length → lx i = lx j → i = j := self_.2.2.2.2.2.2
theorem LtT.fr0 {G : Nat → Option Nat} {n s : Nat} {M M' : Mem} {m : Nat} {lots : List LotA} {ll le : Nat} {lx : Nat → Nat} (T : LtT G M m lots ll le lx) (q : QC noX n s M M') : LtT G M' m lots ll le lx := ⟨
  (q.cl _ T.ml).trans T.k, (q.fr 208 _ T.ml rfl).trans T.r, T.al.fr q, Nat.lt_of_lt_of_le T.ml q.nx.1, fun i hi => Nat.lt_of_lt_of_le (T.xl i hi) q.nx.1, (by
    intro i x hx
    have h := T.xl i (List.getElem?_eq_some_iff.mp hx).1
    rw [q.cl _ h, q.co _ h, q.fi 255 _ h rfl, q.fi 256 _ h rfl, q.fi 257 _ h rfl, q.fi 258 _ h rfl, q.fi 259 _ h rfl, q.fi 260 _ h rfl, q.fi 261 _ h rfl, q.fi 262 _ h rfl, q.fd 263 _ h rfl]
    exact T.x i x hx), T.xi⟩
/-- what a lot keeps to -/
abbrev LtI (x : LotA) : Prop := (x.at_ < 6) ∧ (x.to < 6) ∧ (1 ≤ x.tn ∧ x.tn ≤ 400) ∧ (x.sort < 3) ∧ (x.st < 4) ∧ (∀ k, x.ship = some k → k < 3) ∧ (∀ k, x.cm = some k → k < 6) ∧ (eF x.sd ≤ 1200 ∧ sgn x.sd = false)
theorem LtI.a {x : LotA} (self_ : LtI x) : x.at_ < 6 := self_.1
theorem LtI.b {x : LotA} (self_ : LtI x) : x.to < 6 := self_.2.1
theorem LtI.t {x : LotA} (self_ : LtI x) : 1 ≤ x.tn ∧ x.tn ≤ 400 := self_.2.2.1
theorem LtI.s {x : LotA} (self_ : LtI x) : x.sort < 3 := self_.2.2.2.1
theorem LtI.st {x : LotA} (self_ : LtI x) : x.st < 4 := self_.2.2.2.2.1
theorem LtI.sh {x : LotA} (self_ : LtI x) : ∀ k, x.ship = some k → k < 3 := self_.2.2.2.2.2.1
theorem LtI.cm {x : LotA} (self_ : LtI x) : ∀ k, x.cm = some k → k < 6 := self_.2.2.2.2.2.2.1
theorem LtI.sd {x : LotA} (self_ : LtI x) : eF x.sd ≤ 1200 ∧ sgn x.sd = false := self_.2.2.2.2.2.2.2
def abd (k : Nat) (x : LotA) : Bool := x.st == 1 && x.ship == some k
noncomputable def SmC (S : Sh) (p : Bool) (k : Nat) : Sm := ((ldsC S p).take k).foldl (smAdd S.H) sm0
noncomputable def CyC (S : Sh) (p : Bool) (k : Nat) : Nat → UInt64 := ((ldsC S p).take k).foldl cyF (fun _ => FP.dconst0)
theorem SmC_s {S : Sh} {p : Bool} {k : Nat} {x : Ld} (h : (ldsC S p)[k]? = some x) : SmC S p (k + 1) = smAdd S.H (SmC S p k) x ∧ CyC S p (k + 1) = cyF (CyC S p k) x := by
  unfold SmC CyC
  rw [List.take_add_one, h]
  simp only [List.foldl_append, Option.toList_some, List.foldl_cons, List.foldl_nil]
  exact ⟨trivial, trivial⟩
theorem SmC_b {S : Sh} {p : Bool} (iS : SI S) {k : Nat} (hk : k ≤ 31 + S.items.length) : SmB (SmC S p k) 1704 ∧ ∀ c, Bd (CyC S p k c) 1400 := by
  have hl : ((ldsC S p).take k).length ≤ 37 := by
    rw [List.length_take, ldsC_len]
    have := iS.il
    omega
  have hb : ∀ x ∈ (ldsC S p).take k, LdB x := fun x hx => ldsC_b iS x (List.mem_of_mem_take hx)
  have h := foldl_b (H := S.H) ((ldsC S p).take k) sm0 1630 (by decide) hb (sm0_b _)
  have q : ∀ {x : UInt64}, Bd x (1630 + 2 * ((ldsC S p).take k).length) → Bd x 1704 := fun hx => Bd.up hx _ (by omega)
  refine ⟨⟨q h.w, q h.l, q h.t, q h.k⟩, fun c => ?_⟩
  exact Bd.up (fold_cb ((ldsC S p).take k) (fun _ => FP.dconst0) 1250 (by decide) hb (fun _ => Bd.up bd_c0 _ (by decide)) c) _ (by omega)
/-- signs of the sums -/
abbrev SmP (s : Sm) (f : Nat → UInt64) : Prop := (Ps s.w) ∧ (Ps s.l) ∧ (Nz s.t) ∧ (Ps s.k) ∧ (∀ c, Ps (f c))
theorem SmP.w {s : Sm} {f : Nat → UInt64} (self_ : SmP s f) : Ps s.w := self_.1
theorem SmP.l {s : Sm} {f : Nat → UInt64} (self_ : SmP s f) : Ps s.l := self_.2.1
theorem SmP.t {s : Sm} {f : Nat → UInt64} (self_ : SmP s f) : Nz s.t := self_.2.2.1
theorem SmP.k {s : Sm} {f : Nat → UInt64} (self_ : SmP s f) : Ps s.k := self_.2.2.2.1
theorem SmP.c {s : Sm} {f : Nat → UInt64} (self_ : SmP s f) : ∀ c, Ps (f c) := self_.2.2.2.2
theorem ps_far {H : Hull} {c : Nat} (hc : c < 6) (iH : HI H) : Ps (hFar H c) := by
  have h1 : Ps (i2D (nI H.len)) := ps_i2D (nI_pos (by have := iH.l2; omega))
  have h2 : Ps (i2D (nI c)) := ps_i2D (nI_pos (by omega))
  unfold hFar
  exact ps_div (bd_mul (bd_add bd_i2D bd_kD) bd_i2D) bd_kD lo_6 (ps_mul (bd_add bd_i2D bd_kD) bd_i2D (ps_add bd_i2D bd_kD h2 ps_h (by decide)) h1 (by decide)) ps_6 (by decide)
/-- heights aren't negative -/
theorem ps_up {S : Sh} {p : Bool} (iS : SI S) : ∀ x ∈ ldsC S p, Ps x.u := by
  have iH := iS.h
  have hd : Ps (i2D (nI S.H.dep)) := ps_i2D (nI_pos (by have := iH.d2; omega))
  intro x hx
  unfold ldsC at hx
  simp only [List.mem_append, List.mem_map, List.mem_cons] at hx
  rcases hx with ⟨k, -, e⟩ | ⟨y, hy, e⟩ | ⟨c, -, e⟩ | e | ⟨c, -, e⟩
  · subst e
    show Ps (if k % 3 = 0 then FP.dconst0 else if k % 3 = 1 then dDiv (i2D (nI S.H.dep)) (kD 4611686018427387904) else i2D (nI S.H.dep))
    split
    · exact ps_c0
    · split
      · exact ps_div bd_i2D bd_kD lo_2 hd ps_2 (by decide)
      · exact hd
  · subst e
    exact ps_div bd_i2D bd_kD lo_8 (ps_i2D (iS.iu y hy)) ps_8 (by decide)
  · subst e
    have h1 : ¬ aMul (nI (S.fill c)) (nI S.H.dep) < 0 := by
      rw [aMul_n]
      have h2 := iS.fl c
      have h3 := iH.d2
      have h4 : S.fill c * S.H.dep ≤ 8 * 12 := Nat.mul_le_mul h2 h3
      exact nI_pos (by omega)
    exact ps_div bd_i2D bd_kD lo_64 (ps_i2D h1) (ps_kD _ (by decide)) (by decide)
  · rw [e]
    exact ps_mul bd_i2D bd_kD hd (ps_kD _ (by decide)) (by decide)
  · subst e
    exact ps_mul bd_i2D bd_kD hd (ps_kD _ (by decide)) (by decide)
theorem SmC_p {S : Sh} {p : Bool} (iS : SI S) : ∀ k, k ≤ 31 + S.items.length → SmP (SmC S p k) (CyC S p k)
  | 0, _ => ⟨ps_c0, ps_c0, ps_c0.nz, ps_c0, fun _ => ps_c0⟩
  | k + 1, hk => by
    have h := SmC_p (p := p) iS k (by omega)
    obtain ⟨bs, bf⟩ := SmC_b (p := p) iS (k := k) (by omega)
    obtain ⟨x, hx⟩ : ∃ x, (ldsC S p)[k]? = some x := ⟨(ldsC S p)[k]'(by rw [ldsC_len]; omega), List.getElem?_eq_getElem _⟩
    obtain ⟨e1, e2⟩ := SmC_s hx
    have hm := List.mem_of_getElem? hx
    have bx := ldsC_b iS x hm
    have zx := ldsC_z (i := iS) x hm
    have ux := ps_up iS x hm
    have cx := ldsC_c iS x hm
    have fx := ps_far cx iS.h
    rw [e1, e2]
    refine ⟨ps_add bs.w bx.t h.w zx.1 (by decide), ps_add bs.l (bd_mul bx.t bd_far) h.l (ps_mul bx.t bd_far zx.1 fx (by decide)) (by decide), add_nz bs.t (by decide) (bd_mul bx.t bx.s) (by decide) h.t, ps_add bs.k (bd_mul bx.t bx.u) h.k (ps_mul bx.t bx.u zx.1 ux (by decide)) (by decide), fun c => ?_⟩
    unfold cyF
    split
    · exact ps_add (bf _) bx.t (h.c _) zx.1 (by decide)
    · exact h.c c
/-- a load of nothing changes nothing -/
theorem SmC_z {S : Sh} {p : Bool} (iS : SI S) {k : Nat} {x : Ld} (h : (ldsC S p)[k]? = some x) (h1 : x.t = FP.dconst0) (h2 : x.s = FP.dconst0) : SmC S p (k + 1) = SmC S p k ∧ ∀ c, CyC S p (k + 1) c = CyC S p k c := by
  have hk : k < 31 + S.items.length := by
    have := (List.getElem?_eq_some_iff.mp h).1
    rw [ldsC_len] at this
    exact this
  obtain ⟨e1, e2⟩ := SmC_s h
  obtain ⟨bs, bf⟩ := SmC_b (p := p) iS (k := k) (by omega)
  have P := SmC_p (p := p) iS k (by omega)
  have hm := List.mem_of_getElem? h
  have ux := ps_up iS x hm
  have cx := ldsC_c iS x hm
  have bx := ldsC_b iS x hm
  have a1 : dAdd (SmC S p k).w x.t = (SmC S p k).w := by rw [h1]; exact add_z bs.w (by decide) P.w.nz
  have a2 : dAdd (SmC S p k).l (dMul x.t (hFar S.H x.c)) = (SmC S p k).l := by
    rw [h1, z_mul (bd_far (H := S.H) (c := x.c)) (by decide) (ps_far cx iS.h)]; exact add_z bs.l (by decide) P.l.nz
  have a3 : dAdd (SmC S p k).t (dMul x.t x.s) = (SmC S p k).t := by
    rw [h1, h2, z_mul bd_c0 (by decide) ps_c0]; exact add_z bs.t (by decide) P.t
  have a4 : dAdd (SmC S p k).k (dMul x.t x.u) = (SmC S p k).k := by
    rw [h1, z_mul bx.u (by decide) ux]; exact add_z bs.k (by decide) P.k.nz
  refine ⟨?_, fun c => ?_⟩
  · rw [e1]
    show (dAdd (SmC S p k).w x.t, dAdd (SmC S p k).l (dMul x.t (hFar S.H x.c)), dAdd (SmC S p k).t (dMul x.t x.s), dAdd (SmC S p k).k (dMul x.t x.u)) = _
    rw [a1, a2, a3, a4]
    rfl
  · rw [e2]
    unfold cyF
    split
    · next hc => rw [h1, ← hc]; exact add_z (bf c) (by decide) (P.c c).nz
    · rfl
/-- the loads by their places -/
theorem lds_pl {S : Sh} {p : Bool} {k : Nat} (h : k < 18) : (ldsC S p)[k]? = some (ldPlate S p k) := by
  unfold ldsC
  rw [List.getElem?_append_left (by simp; exact h), List.getElem?_map, List.getElem?_range h]
  rfl
theorem lds_it {S : Sh} {p : Bool} {k : Nat} {x : Item} (h : S.items[k]? = some x) : (ldsC S p)[18 + k]? = some (ldItem x) := by
  have hk := (List.getElem?_eq_some_iff.mp h).1
  unfold ldsC
  rw [List.getElem?_append_right (by simp), List.getElem?_append_left (by simp; omega), List.length_map, List.length_range, List.getElem?_map, show 18 + k - 18 = k by omega, h]
  rfl
theorem lds_tk {S : Sh} {p : Bool} {c : Nat} (h : c < 6) : (ldsC S p)[18 + S.items.length + c]? = some (ldTank S c) := by
  unfold ldsC
  rw [List.getElem?_append_right (by simp; omega), List.getElem?_append_right (by simp; omega), List.getElem?_append_left (by simp; omega), List.length_map, List.length_range, List.length_map, List.getElem?_map, show 18 + S.items.length + c - 18 - S.items.length = c by omega, List.getElem?_range h]
  rfl
theorem lds_en {S : Sh} {p : Bool} : (ldsC S p)[24 + S.items.length]? = some (ldEngine S) := by
  unfold ldsC
  rw [List.getElem?_append_right (by simp; omega), List.getElem?_append_right (by simp; omega), List.getElem?_append_right (by simp; omega)]
  simp only [List.length_map, List.length_range]
  rw [show 24 + S.items.length - 18 - S.items.length - 6 = 0 by omega]
  rfl
theorem lds_hd {S : Sh} {p : Bool} {c : Nat} (h : c < 6) : (ldsC S p)[25 + S.items.length + c]? = some (ldHold S c) := by
  unfold ldsC
  rw [List.getElem?_append_right (by simp; omega), List.getElem?_append_right (by simp; omega), List.getElem?_append_right (by simp; omega)]
  simp only [List.length_map, List.length_range]
  rw [show 25 + S.items.length + c - 18 - S.items.length - 6 = c + 1 by omega, List.getElem?_cons_succ, List.getElem?_map, List.getElem?_range h]
  rfl
