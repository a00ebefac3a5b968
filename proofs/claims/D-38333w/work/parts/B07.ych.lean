set_option maxRecDepth 8000
/-! ===== the class' yard changes part by part (printed by gch.py) ===== -/
section YCH
variable {G : Nat → Option Nat} {M M' : Mem} {k n s : Nat} {P : Nat → Prop} {h : YH} {Y : Yd}
/-- carried over what writes none of its cells -/
theorem YC.fw (C : YC G M k h Y) (q : QW P n s M M') (z' : Zr M') (i3 : Y.ships.length ≤ 3) (hP' : ∀ a, h.own a < 90 → mco M a = 1 → ¬ P a) : YC G M' k h Y :=
  ⟨Nat.le_trans C.lt q.nx.1,
   fun j hj => ⟨(C.o j hj).1, (q.co _ (by have := C.lt; omega)).trans (C.o j hj).2⟩,
   z',
   C.rt.fw q C.lt (fun j hj e p => hP' _ (by rw [(C.o j hj).1, e]; decide) (C.o j hj).2 p),
   C.bk.fw q C.lt (hP' _ (by rw [(C.o 2 (by decide)).1]; decide) (C.o 2 (by decide)).2) (hP' _ (by rw [(C.o 3 (by decide)).1]; decide) (C.o 3 (by decide)).2),
   C.wk.fw q C.lt (hP' _ (by rw [(C.o 11 (by decide)).1]; decide) (C.o 11 (by decide)).2) (hP' _ (by rw [(C.o 12 (by decide)).1]; decide) (C.o 12 (by decide)).2),
   C.ed.fw q C.lt (hP' _ (by rw [(C.o 8 (by decide)).1]; decide) (C.o 8 (by decide)).2) (hP' _ (by rw [(C.o 9 (by decide)).1]; decide) (C.o 9 (by decide)).2),
   C.sl.fw q (fun a e c p => hP' a (by omega) c p),
   fun i S hi => (C.sh i S hi).fw q (fun a e c p => by have := lt_of_get hi; have h3 := i3; exact hP' a (by omega) c p),
   C.kd.fw frF_kd q (fun a e c p => hP' a (by omega) c p),
   C.od.fw frF_or q (fun a e c p => hP' a (by omega) c p),
   C.of.fw frF_of q (fun a e c p => hP' a (by omega) c p),
   C.bu.fw frF_bu q (fun a e c p => hP' a (by omega) c p),
   C.pt.fw frF_pt q (fun a e c p => hP' a (by omega) c p),
   fun i hi => (q.fi 176 _ (C.pt.l.el i hi).1 (hP' _ (by rw [C.pt.l.ox i hi]; decide) (C.pt.l.el i hi).2.2) rfl).trans (C.pn i hi),
   C.lo.fw frF_lo q (fun a e c p => hP' a (by omega) c p),
   fun i hi => (q.fi 180 _ (C.lo.l.el i hi).1 (hP' _ (by rw [C.lo.l.ox i hi]; decide) (C.lo.l.el i hi).2.2) rfl).trans (C.ln i hi)⟩
theorem ShP.ow {own own' : Nat → Nat} {i b : Nat} {g : SG} {px lx : Nat → Nat} {lots : List LotA} {S : Sh} (R : ShP own G M i b g px lx lots S) (e : ∀ a, a < mnx M → own' a = own a) : ShP own' G M i b g px lx lots S :=
  ⟨R.c, R.o.ow R.c e, R.pa, fun j hj => ⟨(R.ya j hj).1, (e _ (R.c.yxl j hj)).trans (R.ya j hj).2⟩⟩
theorem YC.ow {own' : Nat → Nat} (C : YC G M k h Y) (e : ∀ a, a < mnx M → own' a = h.own a) : YC G M k (h.s_own own') Y :=
  ⟨C.lt, fun j hj => ⟨(e _ (by have := C.lt; omega)).trans (C.o j hj).1, (C.o j hj).2⟩, C.z, C.rt, C.bk, C.wk, C.ed, C.sl.ow e, fun i S hi => (C.sh i S hi).ow e, C.kd.ow e, C.od.ow e, C.of.ow e, C.bu.ow e, C.pt.ow e, C.pn, C.lo.ow e, C.ln⟩
theorem YC.owU (C : YC G M k h Y) (id : Nat) : YC G M k (h.s_own (ownU h.own (mnx M) id)) Y := C.ow (fun a ha => ownU_lt ha)
theorem YC.c_bk (C : YC G M k h Y) (q : QW P n s M M') (z' : Zr M') (hP : ∀ a, P a → h.own a = 8) {bk : Nat → Nat → Nat → Int32} {cash : Int32} (N : BkC M' k (Y.day / 30) bk cash) : YC G M' k h (Y.s_bc bk cash) :=
  ⟨Nat.le_trans C.lt q.nx.1,
   fun j hj => ⟨(C.o j hj).1, (q.co _ (by have := C.lt; omega)).trans (C.o j hj).2⟩,
   z',
   C.rt.fw q C.lt (fun j hj e p => by have := hP _ p; have e2 := (C.o j hj).1; omega),
   N,
   C.wk.fw q C.lt (fun p => by have := hP _ p; have e := (C.o 11 (by decide)).1; have e2 : idR 11 = 10 := rfl; omega) (fun p => by have := hP _ p; have e := (C.o 12 (by decide)).1; have e2 : idR 12 = 10 := rfl; omega),
   C.ed.fw q C.lt (fun p => by have := hP _ p; have e := (C.o 8 (by decide)).1; have e2 : idR 8 = 9 := rfl; omega) (fun p => by have := hP _ p; have e := (C.o 9 (by decide)).1; have e2 : idR 9 = 9 := rfl; omega),
   C.sl.fw q (fun a e _ p => by have := hP a p; omega),
   fun i S hi => (C.sh i S hi).fw q (fun a e _ p => by have := hP a p; omega),
   C.kd.fw frF_kd q (fun a e _ p => by have := hP a p; omega),
   C.od.fw frF_or q (fun a e _ p => by have := hP a p; omega),
   C.of.fw frF_of q (fun a e _ p => by have := hP a p; omega),
   C.bu.fw frF_bu q (fun a e _ p => by have := hP a p; omega),
   C.pt.fw frF_pt q (fun a e _ p => by have := hP a p; omega),
   fun i hi => (q.fi 176 _ (C.pt.l.el i hi).1 (fun p => by have := hP _ p; have := C.pt.l.ox i hi; omega) rfl).trans (C.pn i hi),
   C.lo.fw frF_lo q (fun a e _ p => by have := hP a p; omega),
   fun i hi => (q.fi 180 _ (C.lo.l.el i hi).1 (fun p => by have := hP _ p; have := C.lo.l.ox i hi; omega) rfl).trans (C.ln i hi)⟩
theorem YC.c_wk (C : YC G M k h Y) (q : QW P n s M M') (z' : Zr M') (hP : ∀ a, P a → h.own a = 10) {luck : Nat} {flt wkd lst : Int32} {tm : Nat → Nat} (N : WkC M' k luck flt wkd lst tm) : YC G M' k h (Y.s_wk luck flt wkd lst tm) :=
  ⟨Nat.le_trans C.lt q.nx.1,
   fun j hj => ⟨(C.o j hj).1, (q.co _ (by have := C.lt; omega)).trans (C.o j hj).2⟩,
   z',
   C.rt.fw q C.lt (fun j hj e p => by have := hP _ p; have e2 := (C.o j hj).1; omega),
   C.bk.fw q C.lt (fun p => by have := hP _ p; have e := (C.o 2 (by decide)).1; have e2 : idR 2 = 8 := rfl; omega) (fun p => by have := hP _ p; have e := (C.o 3 (by decide)).1; have e2 : idR 3 = 8 := rfl; omega),
   N,
   C.ed.fw q C.lt (fun p => by have := hP _ p; have e := (C.o 8 (by decide)).1; have e2 : idR 8 = 9 := rfl; omega) (fun p => by have := hP _ p; have e := (C.o 9 (by decide)).1; have e2 : idR 9 = 9 := rfl; omega),
   C.sl.fw q (fun a e _ p => by have := hP a p; omega),
   fun i S hi => (C.sh i S hi).fw q (fun a e _ p => by have := hP a p; omega),
   C.kd.fw frF_kd q (fun a e _ p => by have := hP a p; omega),
   C.od.fw frF_or q (fun a e _ p => by have := hP a p; omega),
   C.of.fw frF_of q (fun a e _ p => by have := hP a p; omega),
   C.bu.fw frF_bu q (fun a e _ p => by have := hP a p; omega),
   C.pt.fw frF_pt q (fun a e _ p => by have := hP a p; omega),
   fun i hi => (q.fi 176 _ (C.pt.l.el i hi).1 (fun p => by have := hP _ p; have := C.pt.l.ox i hi; omega) rfl).trans (C.pn i hi),
   C.lo.fw frF_lo q (fun a e _ p => by have := hP a p; omega),
   fun i hi => (q.fi 180 _ (C.lo.l.el i hi).1 (fun p => by have := hP _ p; have := C.lo.l.ox i hi; omega) rfl).trans (C.ln i hi)⟩
theorem YC.c_rt (C : YC G M k h Y) (q : QW P n s M M') (z' : Zr M') (hP : ∀ a, P a → h.own a = 0 ∨ h.own a = 8) {day wea : Nat} {rfs : Int32} (N : RtC M' k day wea rfs) (N2 : BkC M' k (day / 30) Y.bk Y.cash) : YC G M' k h (Y.s_rt day wea rfs) :=
  ⟨Nat.le_trans C.lt q.nx.1,
   fun j hj => ⟨(C.o j hj).1, (q.co _ (by have := C.lt; omega)).trans (C.o j hj).2⟩,
   z',
   N,
   N2,
   C.wk.fw q C.lt (fun p => by have := hP _ p; have e := (C.o 11 (by decide)).1; have e2 : idR 11 = 10 := rfl; omega) (fun p => by have := hP _ p; have e := (C.o 12 (by decide)).1; have e2 : idR 12 = 10 := rfl; omega),
   C.ed.fw q C.lt (fun p => by have := hP _ p; have e := (C.o 8 (by decide)).1; have e2 : idR 8 = 9 := rfl; omega) (fun p => by have := hP _ p; have e := (C.o 9 (by decide)).1; have e2 : idR 9 = 9 := rfl; omega),
   C.sl.fw q (fun a e _ p => by have := hP a p; omega),
   fun i S hi => (C.sh i S hi).fw q (fun a e _ p => by have := hP a p; omega),
   C.kd.fw frF_kd q (fun a e _ p => by have := hP a p; omega),
   C.od.fw frF_or q (fun a e _ p => by have := hP a p; omega),
   C.of.fw frF_of q (fun a e _ p => by have := hP a p; omega),
   C.bu.fw frF_bu q (fun a e _ p => by have := hP a p; omega),
   C.pt.fw frF_pt q (fun a e _ p => by have := hP a p; omega),
   fun i hi => (q.fi 176 _ (C.pt.l.el i hi).1 (fun p => by have := hP _ p; have := C.pt.l.ox i hi; omega) rfl).trans (C.pn i hi),
   C.lo.fw frF_lo q (fun a e _ p => by have := hP a p; omega),
   fun i hi => (q.fi 180 _ (C.lo.l.el i hi).1 (fun p => by have := hP _ p; have := C.lo.l.ox i hi; omega) rfl).trans (C.ln i hi)⟩
theorem YC.c_kd (C : YC G M k h Y) (q : QW P n s M M') (z' : Zr M') (hP : ∀ a, P a → h.own a = 1) {kinds : List KindA} {ke : Nat} {kx : Nat → Nat} (I : YI Y) (N : CC h.own 1 G M' 1 (k + 5) ke kx 27 KdF kinds) (hk : ∀ i, i < Y.kinds.length → kx i = h.kx i) : YC G M' k ((h.s_kx kx).s_ke ke) (Y.s_kinds kinds) :=
  ⟨Nat.le_trans C.lt q.nx.1,
   fun j hj => ⟨(C.o j hj).1, (q.co _ (by have := C.lt; omega)).trans (C.o j hj).2⟩,
   z',
   C.rt.fw q C.lt (fun j hj e p => by have := hP _ p; have e2 := (C.o j hj).1; omega),
   C.bk.fw q C.lt (fun p => by have := hP _ p; have e := (C.o 2 (by decide)).1; have e2 : idR 2 = 8 := rfl; omega) (fun p => by have := hP _ p; have e := (C.o 3 (by decide)).1; have e2 : idR 3 = 8 := rfl; omega),
   C.wk.fw q C.lt (fun p => by have := hP _ p; have e := (C.o 11 (by decide)).1; have e2 : idR 11 = 10 := rfl; omega) (fun p => by have := hP _ p; have e := (C.o 12 (by decide)).1; have e2 : idR 12 = 10 := rfl; omega),
   C.ed.fw q C.lt (fun p => by have := hP _ p; have e := (C.o 8 (by decide)).1; have e2 : idR 8 = 9 := rfl; omega) (fun p => by have := hP _ p; have e := (C.o 9 (by decide)).1; have e2 : idR 9 = 9 := rfl; omega),
   C.sl.fw q (fun a e _ p => by have := hP a p; omega),
   fun i S hi => (C.sh i S hi).fw q (fun a e _ p => by have := hP a p; omega),
   N,
   ((C.od.fw frF_or q (fun a e _ p => by have := hP a p; omega)).mp (fun i x hx f => ⟨by show mfr M' 149 _ = some (kx x.k); rw [show kx x.k = h.kx x.k from hk _ (I.oi x (List.mem_of_getElem? hx))]; exact f.1, f.2⟩)),
   ((C.of.fw frF_of q (fun a e _ p => by have := hP a p; omega)).mp (fun i x hx f => ⟨by show mfr M' 157 _ = some (kx x.k); rw [show kx x.k = h.kx x.k from hk _ (I.fi x (List.mem_of_getElem? hx))]; exact f.1, f.2⟩)),
   C.bu.fw frF_bu q (fun a e _ p => by have := hP a p; omega),
   C.pt.fw frF_pt q (fun a e _ p => by have := hP a p; omega),
   fun i hi => (q.fi 176 _ (C.pt.l.el i hi).1 (fun p => by have := hP _ p; have := C.pt.l.ox i hi; omega) rfl).trans (C.pn i hi),
   C.lo.fw frF_lo q (fun a e _ p => by have := hP a p; omega),
   fun i hi => (q.fi 180 _ (C.lo.l.el i hi).1 (fun p => by have := hP _ p; have := C.lo.l.ox i hi; omega) rfl).trans (C.ln i hi)⟩
theorem YC.c_od (C : YC G M k h Y) (q : QW P n s M M') (z' : Zr M') (hP : ∀ a, P a → h.own a = 2) {ords : List OrdA} {oe : Nat} {ox : Nat → Nat} (N : CC h.own 2 G M' 1 (k + 6) oe ox 28 (OrF h.kx) ords) : YC G M' k ((h.s_ox ox).s_oe oe) (Y.s_ords ords) :=
  ⟨Nat.le_trans C.lt q.nx.1,
   fun j hj => ⟨(C.o j hj).1, (q.co _ (by have := C.lt; omega)).trans (C.o j hj).2⟩,
   z',
   C.rt.fw q C.lt (fun j hj e p => by have := hP _ p; have e2 := (C.o j hj).1; omega),
   C.bk.fw q C.lt (fun p => by have := hP _ p; have e := (C.o 2 (by decide)).1; have e2 : idR 2 = 8 := rfl; omega) (fun p => by have := hP _ p; have e := (C.o 3 (by decide)).1; have e2 : idR 3 = 8 := rfl; omega),
   C.wk.fw q C.lt (fun p => by have := hP _ p; have e := (C.o 11 (by decide)).1; have e2 : idR 11 = 10 := rfl; omega) (fun p => by have := hP _ p; have e := (C.o 12 (by decide)).1; have e2 : idR 12 = 10 := rfl; omega),
   C.ed.fw q C.lt (fun p => by have := hP _ p; have e := (C.o 8 (by decide)).1; have e2 : idR 8 = 9 := rfl; omega) (fun p => by have := hP _ p; have e := (C.o 9 (by decide)).1; have e2 : idR 9 = 9 := rfl; omega),
   C.sl.fw q (fun a e _ p => by have := hP a p; omega),
   fun i S hi => (C.sh i S hi).fw q (fun a e _ p => by have := hP a p; omega),
   C.kd.fw frF_kd q (fun a e _ p => by have := hP a p; omega),
   N,
   C.of.fw frF_of q (fun a e _ p => by have := hP a p; omega),
   C.bu.fw frF_bu q (fun a e _ p => by have := hP a p; omega),
   C.pt.fw frF_pt q (fun a e _ p => by have := hP a p; omega),
   fun i hi => (q.fi 176 _ (C.pt.l.el i hi).1 (fun p => by have := hP _ p; have := C.pt.l.ox i hi; omega) rfl).trans (C.pn i hi),
   C.lo.fw frF_lo q (fun a e _ p => by have := hP a p; omega),
   fun i hi => (q.fi 180 _ (C.lo.l.el i hi).1 (fun p => by have := hP _ p; have := C.lo.l.ox i hi; omega) rfl).trans (C.ln i hi)⟩
theorem YC.c_of (C : YC G M k h Y) (q : QW P n s M M') (z' : Zr M') (hP : ∀ a, P a → h.own a = 3) {offs : List OffA} {fe : Nat} {fx : Nat → Nat} (N : CC h.own 3 G M' 1 (k + 7) fe fx 31 (OfF h.kx) offs) : YC G M' k ((h.s_fx fx).s_fe fe) (Y.s_offs offs) :=
  ⟨Nat.le_trans C.lt q.nx.1,
   fun j hj => ⟨(C.o j hj).1, (q.co _ (by have := C.lt; omega)).trans (C.o j hj).2⟩,
   z',
   C.rt.fw q C.lt (fun j hj e p => by have := hP _ p; have e2 := (C.o j hj).1; omega),
   C.bk.fw q C.lt (fun p => by have := hP _ p; have e := (C.o 2 (by decide)).1; have e2 : idR 2 = 8 := rfl; omega) (fun p => by have := hP _ p; have e := (C.o 3 (by decide)).1; have e2 : idR 3 = 8 := rfl; omega),
   C.wk.fw q C.lt (fun p => by have := hP _ p; have e := (C.o 11 (by decide)).1; have e2 : idR 11 = 10 := rfl; omega) (fun p => by have := hP _ p; have e := (C.o 12 (by decide)).1; have e2 : idR 12 = 10 := rfl; omega),
   C.ed.fw q C.lt (fun p => by have := hP _ p; have e := (C.o 8 (by decide)).1; have e2 : idR 8 = 9 := rfl; omega) (fun p => by have := hP _ p; have e := (C.o 9 (by decide)).1; have e2 : idR 9 = 9 := rfl; omega),
   C.sl.fw q (fun a e _ p => by have := hP a p; omega),
   fun i S hi => (C.sh i S hi).fw q (fun a e _ p => by have := hP a p; omega),
   C.kd.fw frF_kd q (fun a e _ p => by have := hP a p; omega),
   C.od.fw frF_or q (fun a e _ p => by have := hP a p; omega),
   N,
   C.bu.fw frF_bu q (fun a e _ p => by have := hP a p; omega),
   C.pt.fw frF_pt q (fun a e _ p => by have := hP a p; omega),
   fun i hi => (q.fi 176 _ (C.pt.l.el i hi).1 (fun p => by have := hP _ p; have := C.pt.l.ox i hi; omega) rfl).trans (C.pn i hi),
   C.lo.fw frF_lo q (fun a e _ p => by have := hP a p; omega),
   fun i hi => (q.fi 180 _ (C.lo.l.el i hi).1 (fun p => by have := hP _ p; have := C.lo.l.ox i hi; omega) rfl).trans (C.ln i hi)⟩
theorem YC.c_bu (C : YC G M k h Y) (q : QW P n s M M') (z' : Zr M') (hP : ∀ a, P a → h.own a = 5) {buys : List BuyA} {ue : Nat} {ux : Nat → Nat} (N : CC h.own 5 G M' 1 (k + 14) ue ux 33 (BuF h.bs) buys) : YC G M' k ((h.s_ux ux).s_ue ue) (Y.s_buys buys) :=
  ⟨Nat.le_trans C.lt q.nx.1,
   fun j hj => ⟨(C.o j hj).1, (q.co _ (by have := C.lt; omega)).trans (C.o j hj).2⟩,
   z',
   C.rt.fw q C.lt (fun j hj e p => by have := hP _ p; have e2 := (C.o j hj).1; omega),
   C.bk.fw q C.lt (fun p => by have := hP _ p; have e := (C.o 2 (by decide)).1; have e2 : idR 2 = 8 := rfl; omega) (fun p => by have := hP _ p; have e := (C.o 3 (by decide)).1; have e2 : idR 3 = 8 := rfl; omega),
   C.wk.fw q C.lt (fun p => by have := hP _ p; have e := (C.o 11 (by decide)).1; have e2 : idR 11 = 10 := rfl; omega) (fun p => by have := hP _ p; have e := (C.o 12 (by decide)).1; have e2 : idR 12 = 10 := rfl; omega),
   C.ed.fw q C.lt (fun p => by have := hP _ p; have e := (C.o 8 (by decide)).1; have e2 : idR 8 = 9 := rfl; omega) (fun p => by have := hP _ p; have e := (C.o 9 (by decide)).1; have e2 : idR 9 = 9 := rfl; omega),
   C.sl.fw q (fun a e _ p => by have := hP a p; omega),
   fun i S hi => (C.sh i S hi).fw q (fun a e _ p => by have := hP a p; omega),
   C.kd.fw frF_kd q (fun a e _ p => by have := hP a p; omega),
   C.od.fw frF_or q (fun a e _ p => by have := hP a p; omega),
   C.of.fw frF_of q (fun a e _ p => by have := hP a p; omega),
   N,
   C.pt.fw frF_pt q (fun a e _ p => by have := hP a p; omega),
   fun i hi => (q.fi 176 _ (C.pt.l.el i hi).1 (fun p => by have := hP _ p; have := C.pt.l.ox i hi; omega) rfl).trans (C.pn i hi),
   C.lo.fw frF_lo q (fun a e _ p => by have := hP a p; omega),
   fun i hi => (q.fi 180 _ (C.lo.l.el i hi).1 (fun p => by have := hP _ p; have := C.lo.l.ox i hi; omega) rfl).trans (C.ln i hi)⟩
def gsU (gs : Nat → SG) (i : Nat) (g : SG) : Nat → SG := fun j => if j = i then g else gs j
theorem gsU_at {gs : Nat → SG} {i : Nat} {g : SG} : gsU gs i g i = g := if_pos rfl
theorem gsU_ne {gs : Nat → SG} {i j : Nat} {g : SG} (e : ¬ i = j) : gsU gs i g j = gs j := if_neg (fun x => e x.symm)
theorem get_set_at {α : Type} {l : List α} {i : Nat} {x y : α} (hi : l[i]? = some x) : (l.set i y)[i]? = some y := by
  rw [List.getElem?_set, if_pos rfl, if_pos (lt_of_get hi)]
theorem get_set_ne {α : Type} {l : List α} {i j : Nat} {y : α} (e : ¬ i = j) : (l.set i y)[j]? = l[j]? := by
  rw [List.getElem?_set, if_neg e]
theorem atS_set {S' : Sh} {s : Nat} : ∀ {l : List Sh} {i : Nat} {S : Sh}, l[i]? = some S → S'.num = S.num → S'.spot = S.spot → atS (l.set i S') s = atS l s
  | [], i, S, hi, _, _ => by cases hi
  | T :: l, 0, S, hi, h1, h2 => by
    cases hi
    show (if S'.spot = some s then some S'.num else atS l s) = (if T.spot = some s then some T.num else atS l s)
    rw [h1, h2]
  | T :: l, i + 1, S, hi, h1, h2 => by
    show (if T.spot = some s then some T.num else atS (l.set i S') s) = (if T.spot = some s then some T.num else atS l s)
    rw [atS_set (l := l) (i := i) hi h1 h2]
theorem YC.c_sh (C : YC G M k h Y) (q : QW P n s M M') (z' : Zr M') {i : Nat} {S S' : Sh} {g' : SG} (hi : Y.ships[i]? = some S) (hP : ∀ a, P a → h.own a = 20 + i) (N : ShP h.own G M' i (h.bs i) g' h.px h.lx Y.lots S') (hn : S'.num = S.num) (hs : S'.spot = S.spot) : YC G M' k (h.s_gs (gsU h.gs i g')) (Y.s_ships (Y.ships.set i S')) :=
  ⟨Nat.le_trans C.lt q.nx.1,
   fun j hj => ⟨(C.o j hj).1, (q.co _ (by have := C.lt; omega)).trans (C.o j hj).2⟩,
   z',
   C.rt.fw q C.lt (fun j hj e p => by have := hP _ p; have e2 := (C.o j hj).1; omega),
   C.bk.fw q C.lt (fun p => by have := hP _ p; have e := (C.o 2 (by decide)).1; have e2 : idR 2 = 8 := rfl; omega) (fun p => by have := hP _ p; have e := (C.o 3 (by decide)).1; have e2 : idR 3 = 8 := rfl; omega),
   C.wk.fw q C.lt (fun p => by have := hP _ p; have e := (C.o 11 (by decide)).1; have e2 : idR 11 = 10 := rfl; omega) (fun p => by have := hP _ p; have e := (C.o 12 (by decide)).1; have e2 : idR 12 = 10 := rfl; omega),
   (by have R := C.ed.fw q C.lt (fun p => by have := hP _ p; have e := (C.o 8 (by decide)).1; have e2 : idR 8 = 9 := rfl; omega) (fun p => by have := hP _ p; have e := (C.o 9 (by decide)).1; have e2 : idR 9 = 9 := rfl; omega); exact ⟨R.k, R.r, R.ak, R.al, fun s hs' => by rw [R.v s hs']; show _ = (atS (Y.ships.set i S') s).map h.bs; rw [atS_set hi hn hs]⟩),
   (by show SlC h.own G M' 1 (k + 10) h.se (Y.ships.set i S').length h.bs 22; rw [List.length_set]; exact C.sl.fw q (fun a e _ p => by have := hP a p; omega)),
   fun j T hj => if e : i = j then (by subst e; have hj2 : (Y.ships.set i S')[i]? = some T := hj; rw [get_set_at hi] at hj2; cases hj2; show ShP h.own G M' i (h.bs i) (gsU h.gs i g' i) h.px h.lx Y.lots S'; rw [gsU_at]; exact N) else (by have hj2 : (Y.ships.set i S')[j]? = some T := hj; rw [get_set_ne e] at hj2; show ShP h.own G M' j (h.bs j) (gsU h.gs i g' j) h.px h.lx Y.lots T; rw [gsU_ne e]; exact (C.sh j T hj2).fw q (fun a x _ p => by have := hP a p; omega)),
   C.kd.fw frF_kd q (fun a e _ p => by have := hP a p; omega),
   C.od.fw frF_or q (fun a e _ p => by have := hP a p; omega),
   C.of.fw frF_of q (fun a e _ p => by have := hP a p; omega),
   C.bu.fw frF_bu q (fun a e _ p => by have := hP a p; omega),
   C.pt.fw frF_pt q (fun a e _ p => by have := hP a p; omega),
   fun i hi => (q.fi 176 _ (C.pt.l.el i hi).1 (fun p => by have := hP _ p; have := C.pt.l.ox i hi; omega) rfl).trans (C.pn i hi),
   C.lo.fw frF_lo q (fun a e _ p => by have := hP a p; omega),
   fun i hi => (q.fi 180 _ (C.lo.l.el i hi).1 (fun p => by have := hP _ p; have := C.lo.l.ox i hi; omega) rfl).trans (C.ln i hi)⟩
theorem YC.c_se (C : YC G M k h Y) (q : QW P n s M M') (z' : Zr M') {i : Nat} {S S' : Sh} {g' : SG} (hi : Y.ships[i]? = some S) (hP : ∀ a, P a → h.own a = 20 + i ∨ h.own a = 9) (N : ShP h.own G M' i (h.bs i) g' h.px h.lx Y.lots S') (E : EdC M' k (Y.ships.set i S') h.bs) : YC G M' k (h.s_gs (gsU h.gs i g')) (Y.s_ships (Y.ships.set i S')) :=
  ⟨Nat.le_trans C.lt q.nx.1,
   fun j hj => ⟨(C.o j hj).1, (q.co _ (by have := C.lt; omega)).trans (C.o j hj).2⟩,
   z',
   C.rt.fw q C.lt (fun j hj e p => by have := hP _ p; have e2 := (C.o j hj).1; omega),
   C.bk.fw q C.lt (fun p => by have := hP _ p; have e := (C.o 2 (by decide)).1; have e2 : idR 2 = 8 := rfl; omega) (fun p => by have := hP _ p; have e := (C.o 3 (by decide)).1; have e2 : idR 3 = 8 := rfl; omega),
   C.wk.fw q C.lt (fun p => by have := hP _ p; have e := (C.o 11 (by decide)).1; have e2 : idR 11 = 10 := rfl; omega) (fun p => by have := hP _ p; have e := (C.o 12 (by decide)).1; have e2 : idR 12 = 10 := rfl; omega),
   E,
   (by show SlC h.own G M' 1 (k + 10) h.se (Y.ships.set i S').length h.bs 22; rw [List.length_set]; exact C.sl.fw q (fun a e _ p => by have := hP a p; omega)),
   fun j T hj => if e : i = j then (by subst e; have hj2 : (Y.ships.set i S')[i]? = some T := hj; rw [get_set_at hi] at hj2; cases hj2; show ShP h.own G M' i (h.bs i) (gsU h.gs i g' i) h.px h.lx Y.lots S'; rw [gsU_at]; exact N) else (by have hj2 : (Y.ships.set i S')[j]? = some T := hj; rw [get_set_ne e] at hj2; show ShP h.own G M' j (h.bs j) (gsU h.gs i g' j) h.px h.lx Y.lots T; rw [gsU_ne e]; exact (C.sh j T hj2).fw q (fun a x _ p => by have := hP a p; omega)),
   C.kd.fw frF_kd q (fun a e _ p => by have := hP a p; omega),
   C.od.fw frF_or q (fun a e _ p => by have := hP a p; omega),
   C.of.fw frF_of q (fun a e _ p => by have := hP a p; omega),
   C.bu.fw frF_bu q (fun a e _ p => by have := hP a p; omega),
   C.pt.fw frF_pt q (fun a e _ p => by have := hP a p; omega),
   fun i hi => (q.fi 176 _ (C.pt.l.el i hi).1 (fun p => by have := hP _ p; have := C.pt.l.ox i hi; omega) rfl).trans (C.pn i hi),
   C.lo.fw frF_lo q (fun a e _ p => by have := hP a p; omega),
   fun i hi => (q.fi 180 _ (C.lo.l.el i hi).1 (fun p => by have := hP _ p; have := C.lo.l.ox i hi; omega) rfl).trans (C.ln i hi)⟩
end YCH
