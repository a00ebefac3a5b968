set_option maxRecDepth 8000
/-! ===== limit, power, bulkheads ===== -/
def oLimit (Y : Yd) (s x : Int32) : OR := oS Y s fun S => oR Y 1 (inB 20 400 x) (0, vI (nI S.limit), Y.upS S.num (S.s_limit x.toNatClampNeg))
def oPower (Y : Yd) (s x : Int32) : OR := oS Y s fun S => oR Y 1 (inB 0 20 x) (oR Y 2 (S.stage == 0) (0, vI (nI S.power), Y.upS S.num (S.s_power x.toNatClampNeg)))
def oBulk (Y : Yd) (s x : Int32) : OR := oS Y s fun S => oR Y 1 (inB 0 31 x) (oR Y 2 (Nat.ble S.stage 1) (0, vI (nI S.bulk), Y.upS S.num (S.s_bulk x.toNatClampNeg)))
section OP1
variable {G : Nat → Option Nat} {M : Mem} {k m : Nat} {h : YH} {Y : Yd}
/-- is a ship at a stage -/
theorem stg_is (hg : StgG G) {S : Sh} (i : SI S) {j : Nat} (hj : j < 6) : (G (stgN S.stage) = G (stgN j)) ↔ ((S.stage == j) = true) := by
  rw [beq_iff_eq]
  exact ⟨fun e => hg _ _ i.stg hj e, fun e => by rw [e]⟩
theorem C_limit (C : YC G M k h Y) (I : YI Y) {s x : Int32} : Cls G M k 1 6 (ex G 1 225 0 [(0, vR (some k)), (1, vI s), (2, vI x)] [] M) (oLimit Y s x) := by
  rw [E225_0, vc1_ok C.rt.k]
  refine Cls.ship C I (by decide) (by decide) fun S e e1 e3 R i => Cls.reqI C I (by decide) (by decide) fun hb => ?_
  obtain ⟨n, hn, n1, n2⟩ := inB_n (a := 20) (b := 400) hb (by decide) (by decide)
  rw [gI_v R.c.k R.c.limit, pI_ok R.c.k R.c.co, hn, nI_cl (by omega)]
  have co := (R.o.blk (h.bs S.num) (Nat.le_refl _) (by omega)).2
  exact Cls.ok (C.up1 (P := fun a => a = h.bs S.num) e3 (QW.sfi rfl) (C.z.sfi co) (fun a p => by omega) (R.c.w_limit n) rfl rfl rfl rfl rfl) (cost.rf.mono (by decide) (by decide))
theorem T_limit (C : YT G M m h Y) (I : YI Y) {s x : Int32} : Ref G M m [3, 1] 0 0 (ex G 2 383 0 [(0, vR (some m)), (1, vI s), (2, vI x)] [] M) (oLimit Y s x) := by
  rw [E383_0, vc1_ok C.rt.k]
  refine Ref.ship C I rfl (v := fun _ => vI 0) (fun _ => rfl) fun S e e1 e3 i M1 C1 z1 q1 => ?_
  rw [if_pos rfl, cbI_of t362, show (if bI (inB 20 400 x) = 0 then _ else _) = _ from ifb (f := fun z => ex G 2 383 4 [(0, vR (some m)), (1, vI s), (2, vI x)] [vI z, vR (some m)] M1)]
  rw [E383_4, vc1_ok C1.rt.k]
  refine Ref.rq C1 z1 (w := 2) (by decide) rfl rfl (by decide) (by decide) (v := fun _ => vI 0) (fun _ => rfl) fun hb => ?_
  obtain ⟨n, hn, n1, n2⟩ := inB_n (a := 20) (b := 400) hb (by decide) (by decide)
  have R := C1.sh _ S e3
  rw [if_pos rfl, tget C1 I e, cst_k R.t.ln.k (by decide) (by decide), gI_v R.t.ln.k R.t.limit, tget C1 I e, cst_k R.t.ln.k (by decide) (by decide), pI_ok R.t.ln.k R.t.ln.co, hn, nI_cl (by omega)]
  have co := (R.o.blk (h.bs S.num) (Nat.le_refl _) (by omega)).2
  exact Ref.ok (C1.up1 (P := fun a => a = h.bs S.num) e3 (QW.sfi rfl) (ext_sfi (by decide) co) (fun a p => by omega) (R.t.w_limit n) rfl rfl) ((sfi_ne (by decide)).trans z1) cost.rf rfl
end OP1
