/-! the facts of the methods' entries (written by emit_fa.py) -/
set_option maxRecDepth 100000
def fl_649_0 : List Ent := [(4, 3, 19, .invokevirtual 61, [2, 4, 5, 38, 650], 0)]
theorem fb_649_0 : FB mi iT mi_649 (bpc code_649) (fl_649_0) := ⟨fun hd => mk19 mt_650 cf_650 (pf_650_38.rt W4611 (hd rfl)) rfl rfl (noH_nil rfl),
  trivial⟩
theorem fe_649 : eqEs ((flat code_649).filter (fun e => ndE e.2.2.1)) (fl_649_0) = true := by decide +kernel
theorem om_649 : OKm mi iT prg 649 := OKm_of (code := code_649) rfl mt_649 (Or.inl (by decide +kernel)) rfl wk_649 (by decide +kernel) (by decide +kernel) (FA_of fe_649 (fb_649_0))
def fl_650_0 : List Ent := [(1, 3, 19, .invokevirtual 43, [2, 1, 1, 38, 647], 0), (32, 3, 6, .getfield 11, [3, 38, 215], 0), (41, 3, 6, .getfield 11, [3, 38, 215], 0), (53, 3, 15, .ldc2_w 51, [4620693217682128896], 0), (74, 3, 15, .ldc2_w 53, [4602678819172646912], 0), (106, 3, 6, .getfield 11, [3, 38, 215], 0), (115, 3, 15, .ldc2_w 51, [4620693217682128896], 0), (122, 3, 19, .invokevirtual 55, [2, 3, 4, 38, 646], 0), (154, 3, 15, .ldc2_w 59, [4611686018427387904], 0)]
theorem fb_650_0 : FB mi iT mi_650 (bpc code_650) (fl_650_0) := ⟨fun hd => mk19 mt_647 cf_647 (vf_647_38.rt (Or.inl W4591) (hd rfl)) rfl rfl (noH_nil rfl),
  ⟨fun hd => mk6 fld_38_3 (Or.inl ⟨rfl, by decide⟩) (Or.inl W4459) (Or.inl rfl) (hd rfl),
  ⟨fun hd => mk6 fld_38_3 (Or.inl ⟨rfl, by decide⟩) (Or.inl W4459) (Or.inl rfl) (hd rfl),
  ⟨fun hd => mk15 W4598 (hd rfl),
  ⟨fun hd => mk15 W4615 (hd rfl),
  ⟨fun hd => mk6 fld_38_3 (Or.inl ⟨rfl, by decide⟩) (Or.inl W4459) (Or.inl rfl) (hd rfl),
  ⟨fun hd => mk15 W4598 (hd rfl),
  ⟨fun hd => mk19 mt_646 cf_646 (vf_646_38.rt (Or.inl W4586) (hd rfl)) rfl rfl (noH_nil rfl),
  ⟨fun hd => mk15 W4605 (hd rfl),
  trivial⟩⟩⟩⟩⟩⟩⟩⟩⟩
theorem fe_650 : eqEs ((flat code_650).filter (fun e => ndE e.2.2.1)) (fl_650_0) = true := by decide +kernel
theorem om_650 : OKm mi iT prg 650 := OKm_of (code := code_650) rfl mt_650 (Or.inl (by decide +kernel)) rfl wk_650 (by decide +kernel) (by decide +kernel) (FA_of fe_650 (fb_650_0))
def fl_651_0 : List Ent := [(3, 3, 19, .invokevirtual 83, [2, 3, 4, 38, 644], 0)]
theorem fb_651_0 : FB mi iT mi_651 (bpc code_651) (fl_651_0) := ⟨fun hd => mk19 mt_644 cf_644 (pf_644_38.rt W4577 (hd rfl)) rfl rfl (noH_nil rfl),
  trivial⟩
theorem fe_651 : eqEs ((flat code_651).filter (fun e => ndE e.2.2.1)) (fl_651_0) = true := by decide +kernel
theorem om_651 : OKm mi iT prg 651 := OKm_of (code := code_651) rfl mt_651 (Or.inl (by decide +kernel)) rfl wk_651 (by decide +kernel) (by decide +kernel) (FA_of fe_651 (fb_651_0))
def fl_652_0 : List Ent := [(2, 3, 6, .getfield 24, [0, 38, 214], 0), (6, 3, 19, .invokevirtual 87, [2, 2, 3, 38, 651], 0), (14, 3, 15, .ldc2_w 93, [13830554455654793216], 0), (21, 3, 6, .getfield 24, [0, 38, 214], 0), (41, 3, 15, .ldc2_w 59, [4611686018427387904], 0), (50, 3, 19, .invokevirtual 87, [2, 2, 3, 38, 651], 0)]
theorem fb_652_0 : FB mi iT mi_652 (bpc code_652) (fl_652_0) := ⟨fun hd => mk6 fld_38_2 (Or.inl ⟨rfl, by decide⟩) (Or.inl W4455) (Or.inl rfl) (hd rfl),
  ⟨fun hd => mk19 mt_651 cf_651 (vf_651_38.rt (Or.inl W4620) (hd rfl)) rfl rfl (noH_nil rfl),
  ⟨fun hd => mk15 W4637 (hd rfl),
  ⟨fun hd => mk6 fld_38_2 (Or.inl ⟨rfl, by decide⟩) (Or.inl W4455) (Or.inl rfl) (hd rfl),
  ⟨fun hd => mk15 W4605 (hd rfl),
  ⟨fun hd => mk19 mt_651 cf_651 (vf_651_38.rt (Or.inl W4620) (hd rfl)) rfl rfl (noH_nil rfl),
  trivial⟩⟩⟩⟩⟩⟩
theorem fe_652 : eqEs ((flat code_652).filter (fun e => ndE e.2.2.1)) (fl_652_0) = true := by decide +kernel
theorem om_652 : OKm mi iT prg 652 := OKm_of (code := code_652) rfl mt_652 (Or.inl (by decide +kernel)) rfl wk_652 (by decide +kernel) (by decide +kernel) (FA_of fe_652 (fb_652_0))
def fl_653_0 : List Ent := [(5, 3, 15, .ldc2_w 59, [4611686018427387904], 0), (9, 3, 6, .getfield 24, [0, 38, 214], 0), (28, 3, 19, .invokevirtual 95, [0, 3, 3, 38, 654], 0), (32, 3, 15, .ldc2_w 51, [4620693217682128896], 0)]
theorem fb_653_0 : FB mi iT mi_653 (bpc code_653) (fl_653_0) := ⟨fun hd => mk15 W4605 (hd rfl),
  ⟨fun hd => mk6 fld_38_2 (Or.inl ⟨rfl, by decide⟩) (Or.inl W4455) (Or.inl rfl) (hd rfl),
  ⟨fun hd => mk19 mt_654 cf_654 (vf_654_38.rt (Or.inl W4686) (hd rfl)) rfl rfl (noH_nil rfl),
  ⟨fun hd => mk15 W4598 (hd rfl),
  trivial⟩⟩⟩⟩
theorem fe_653 : eqEs ((flat code_653).filter (fun e => ndE e.2.2.1)) (fl_653_0) = true := by decide +kernel
theorem om_653 : OKm mi iT prg 653 := OKm_of (code := code_653) rfl mt_653 (Or.inl (by decide +kernel)) rfl wk_653 (by decide +kernel) (by decide +kernel) (FA_of fe_653 (fb_653_0))
def fl_654_0 : List Ent := [(1, 3, 6, .getfield 11, [3, 38, 215], 0), (9, 3, 6, .getfield 11, [3, 38, 215], 0)]
theorem fb_654_0 : FB mi iT mi_654 (bpc code_654) (fl_654_0) := ⟨fun hd => mk6 fld_38_3 (Or.inl ⟨rfl, by decide⟩) (Or.inl W4459) (Or.inl rfl) (hd rfl),
  ⟨fun hd => mk6 fld_38_3 (Or.inl ⟨rfl, by decide⟩) (Or.inl W4459) (Or.inl rfl) (hd rfl),
  trivial⟩⟩
theorem fe_654 : eqEs ((flat code_654).filter (fun e => ndE e.2.2.1)) (fl_654_0) = true := by decide +kernel
theorem om_654 : OKm mi iT prg 654 := OKm_of (code := code_654) rfl mt_654 (Or.inl (by decide +kernel)) rfl wk_654 (by decide +kernel) (by decide +kernel) (FA_of fe_654 (fb_654_0))
def fl_655_0 : List Ent := [(2, 3, 15, .ldc2_w 53, [4602678819172646912], 0), (7, 3, 6, .getfield 21, [0, 38, 213], 0), (12, 3, 15, .ldc2_w 39, [4618441417868443648], 0)]
theorem fb_655_0 : FB mi iT mi_655 (bpc code_655) (fl_655_0) := ⟨fun hd => mk15 W4615 (hd rfl),
  ⟨fun hd => mk6 fld_38_1 (Or.inl ⟨rfl, by decide⟩) (Or.inl W4451) (Or.inl rfl) (hd rfl),
  ⟨fun hd => mk15 W4604 (hd rfl),
  trivial⟩⟩⟩
theorem fe_655 : eqEs ((flat code_655).filter (fun e => ndE e.2.2.1)) (fl_655_0) = true := by decide +kernel
theorem om_655 : OKm mi iT prg 655 := OKm_of (code := code_655) rfl mt_655 (Or.inl (by decide +kernel)) rfl wk_655 (by decide +kernel) (by decide +kernel) (FA_of fe_655 (fb_655_0))
def fl_656_0 : List Ent := [(3, 3, 19, .invokevirtual 95, [0, 3, 3, 38, 654], 0), (7, 3, 15, .ldc2_w 98, [4625196817309499392], 0), (12, 3, 6, .getfield 24, [0, 38, 214], 0), (17, 3, 15, .ldc2_w 41, [4616189618054758400], 0), (22, 3, 6, .getfield 21, [0, 38, 213], 0), (27, 3, 15, .ldc2_w 39, [4618441417868443648], 0)]
theorem fb_656_0 : FB mi iT mi_656 (bpc code_656) (fl_656_0) := ⟨fun hd => mk19 mt_654 cf_654 (vf_654_38.rt (Or.inl W4686) (hd rfl)) rfl rfl (noH_nil rfl),
  ⟨fun hd => mk15 W4721 (hd rfl),
  ⟨fun hd => mk6 fld_38_2 (Or.inl ⟨rfl, by decide⟩) (Or.inl W4455) (Or.inl rfl) (hd rfl),
  ⟨fun hd => mk15 W4596 (hd rfl),
  ⟨fun hd => mk6 fld_38_1 (Or.inl ⟨rfl, by decide⟩) (Or.inl W4451) (Or.inl rfl) (hd rfl),
  ⟨fun hd => mk15 W4604 (hd rfl),
  trivial⟩⟩⟩⟩⟩⟩
theorem fe_656 : eqEs ((flat code_656).filter (fun e => ndE e.2.2.1)) (fl_656_0) = true := by decide +kernel
theorem om_656 : OKm mi iT prg 656 := OKm_of (code := code_656) rfl mt_656 (Or.inl (by decide +kernel)) rfl wk_656 (by decide +kernel) (by decide +kernel) (FA_of fe_656 (fb_656_0))
def fl_657_0 : List Ent := [(3, 3, 19, .invokevirtual 69, [2, 3, 4, 38, 649], 0), (12, 3, 19, .invokevirtual 69, [2, 3, 4, 38, 649], 0), (16, 3, 15, .ldc2_w 59, [4611686018427387904], 0), (21, 3, 6, .getfield 21, [0, 38, 213], 0), (26, 3, 15, .ldc2_w 39, [4618441417868443648], 0)]
theorem fb_657_0 : FB mi iT mi_657 (bpc code_657) (fl_657_0) := ⟨fun hd => mk19 mt_649 cf_649 (vf_649_38.rt (Or.inl W4606) (hd rfl)) rfl rfl (noH_nil rfl),
  ⟨fun hd => mk19 mt_649 cf_649 (vf_649_38.rt (Or.inl W4606) (hd rfl)) rfl rfl (noH_nil rfl),
  ⟨fun hd => mk15 W4605 (hd rfl),
  ⟨fun hd => mk6 fld_38_1 (Or.inl ⟨rfl, by decide⟩) (Or.inl W4451) (Or.inl rfl) (hd rfl),
  ⟨fun hd => mk15 W4604 (hd rfl),
  trivial⟩⟩⟩⟩⟩
theorem fe_657 : eqEs ((flat code_657).filter (fun e => ndE e.2.2.1)) (fl_657_0) = true := by decide +kernel
theorem om_657 : OKm mi iT prg 657 := OKm_of (code := code_657) rfl mt_657 (Or.inl (by decide +kernel)) rfl wk_657 (by decide +kernel) (by decide +kernel) (FA_of fe_657 (fb_657_0))
def fl_658_0 : List Ent := [(3, 3, 19, .invokevirtual 100, [2, 3, 3, 38, 653], 0), (14, 3, 19, .invokevirtual 100, [2, 3, 3, 38, 653], 0), (25, 3, 19, .invokevirtual 100, [2, 3, 3, 38, 653], 0), (52, 3, 6, .getfield 24, [0, 38, 214], 0), (57, 3, 15, .ldc2_w 59, [4611686018427387904], 0), (64, 3, 6, .getfield 24, [0, 38, 214], 0), (92, 3, 6, .getfield 24, [0, 38, 214], 0), (101, 3, 6, .getfield 24, [0, 38, 214], 0), (113, 3, 6, .getfield 24, [0, 38, 214], 0), (117, 3, 6, .getfield 24, [0, 38, 214], 0), (122, 3, 15, .ldc2_w 104, [4622945017495814144], 0), (127, 3, 6, .getfield 24, [0, 38, 214], 0), (131, 3, 15, .ldc2_w 59, [4611686018427387904], 0), (139, 3, 6, .getfield 24, [0, 38, 214], 0), (143, 3, 15, .ldc2_w 59, [4611686018427387904], 0), (161, 3, 6, .getfield 24, [0, 38, 214], 0), (168, 3, 38, .invokestatic 106, [1], 0), (172, 3, 15, .ldc2_w 110, [4636737291354636288], 0)]
theorem fb_658_0 : FB mi iT mi_658 (bpc code_658) (fl_658_0) := ⟨fun hd => mk19 mt_653 cf_653 (vf_653_38.rt (Or.inl W4854) (hd rfl)) rfl rfl (noH_nil rfl),
  ⟨fun hd => mk19 mt_653 cf_653 (vf_653_38.rt (Or.inl W4854) (hd rfl)) rfl rfl (noH_nil rfl),
  ⟨fun hd => mk19 mt_653 cf_653 (vf_653_38.rt (Or.inl W4854) (hd rfl)) rfl rfl (noH_nil rfl),
  ⟨fun hd => mk6 fld_38_2 (Or.inl ⟨rfl, by decide⟩) (Or.inl W4455) (Or.inl rfl) (hd rfl),
  ⟨fun hd => mk15 W4605 (hd rfl),
  ⟨fun hd => mk6 fld_38_2 (Or.inl ⟨rfl, by decide⟩) (Or.inl W4455) (Or.inl rfl) (hd rfl),
  ⟨fun hd => mk6 fld_38_2 (Or.inl ⟨rfl, by decide⟩) (Or.inl W4455) (Or.inl rfl) (hd rfl),
  ⟨fun hd => mk6 fld_38_2 (Or.inl ⟨rfl, by decide⟩) (Or.inl W4455) (Or.inl rfl) (hd rfl),
  ⟨fun hd => mk6 fld_38_2 (Or.inl ⟨rfl, by decide⟩) (Or.inl W4455) (Or.inl rfl) (hd rfl),
  ⟨fun hd => mk6 fld_38_2 (Or.inl ⟨rfl, by decide⟩) (Or.inl W4455) (Or.inl rfl) (hd rfl),
  ⟨fun hd => mk15 W4855 (hd rfl),
  ⟨fun hd => mk6 fld_38_2 (Or.inl ⟨rfl, by decide⟩) (Or.inl W4455) (Or.inl rfl) (hd rfl),
  ⟨fun hd => mk15 W4605 (hd rfl),
  ⟨fun hd => mk6 fld_38_2 (Or.inl ⟨rfl, by decide⟩) (Or.inl W4455) (Or.inl rfl) (hd rfl),
  ⟨fun hd => mk15 W4605 (hd rfl),
  ⟨fun hd => mk6 fld_38_2 (Or.inl ⟨rfl, by decide⟩) (Or.inl W4455) (Or.inl rfl) (hd rfl),
  ⟨fun hd => ⟨1, _, _, by decide, rfl, rfl, by decide, W4856, mo_w1, hd rfl⟩,
  ⟨fun hd => mk15 W4857 (hd rfl),
  trivial⟩⟩⟩⟩⟩⟩⟩⟩⟩⟩⟩⟩⟩⟩⟩⟩⟩⟩
theorem fe_658 : eqEs ((flat code_658).filter (fun e => ndE e.2.2.1)) (fl_658_0) = true := by decide +kernel
theorem om_658 : OKm mi iT prg 658 := OKm_of (code := code_658) rfl mt_658 (Or.inl (by decide +kernel)) rfl wk_658 (by decide +kernel) (by decide +kernel) (FA_of fe_658 (fb_658_0))
def fl_659_0 : List Ent := [(3, 3, 19, .invokevirtual 95, [0, 3, 3, 38, 654], 0), (7, 3, 15, .ldc2_w 98, [4625196817309499392], 0), (12, 3, 6, .getfield 24, [0, 38, 214], 0), (17, 3, 15, .ldc2_w 59, [4611686018427387904], 0), (22, 3, 6, .getfield 21, [0, 38, 213], 0), (27, 3, 15, .ldc2_w 39, [4618441417868443648], 0)]
theorem fb_659_0 : FB mi iT mi_659 (bpc code_659) (fl_659_0) := ⟨fun hd => mk19 mt_654 cf_654 (vf_654_38.rt (Or.inl W4686) (hd rfl)) rfl rfl (noH_nil rfl),
  ⟨fun hd => mk15 W4721 (hd rfl),
  ⟨fun hd => mk6 fld_38_2 (Or.inl ⟨rfl, by decide⟩) (Or.inl W4455) (Or.inl rfl) (hd rfl),
  ⟨fun hd => mk15 W4605 (hd rfl),
  ⟨fun hd => mk6 fld_38_1 (Or.inl ⟨rfl, by decide⟩) (Or.inl W4451) (Or.inl rfl) (hd rfl),
  ⟨fun hd => mk15 W4604 (hd rfl),
  trivial⟩⟩⟩⟩⟩⟩
theorem fe_659 : eqEs ((flat code_659).filter (fun e => ndE e.2.2.1)) (fl_659_0) = true := by decide +kernel
theorem om_659 : OKm mi iT prg 659 := OKm_of (code := code_659) rfl mt_659 (Or.inl (by decide +kernel)) rfl wk_659 (by decide +kernel) (by decide +kernel) (FA_of fe_659 (fb_659_0))
def fl_660_0 : List Ent := [(2, 3, 7, .putfield 3, [3, 38, 248], 0), (13, 3, 36, .invokespecial 9, [9, 5, 5, 38, 641], 0), (17, 3, 11, .new 15, [5, 3], 0), (21, 3, 36, .invokespecial 17, [9, 1, 1, 5, 3], 0), (24, 3, 7, .putfield 20, [3, 38, 218], 0), (30, 2, 12, .newarray .int, [100], 0), (32, 3, 7, .putfield 24, [3, 38, 219], 0), (38, 2, 12, .newarray .int, [100], 0), (40, 3, 7, .putfield 28, [3, 38, 221], 0), (46, 2, 12, .newarray .int, [100], 0), (48, 3, 7, .putfield 31, [3, 38, 222], 0), (54, 2, 12, .newarray .int, [100], 0), (56, 3, 7, .putfield 34, [3, 38, 223], 0), (62, 2, 12, .newarray .int, [100], 0), (64, 3, 7, .putfield 37, [3, 38, 224], 0), (70, 3, 7, .putfield 40, [0, 38, 225], 0), (75, 3, 7, .putfield 44, [0, 38, 226], 0), (81, 2, 12, .newarray .int, [100], 0), (83, 3, 7, .putfield 47, [3, 38, 229], 0), (89, 2, 12, .newarray .int, [100], 0), (91, 3, 7, .putfield 50, [3, 38, 230], 0), (97, 2, 12, .newarray .boolean, [101], 0), (99, 3, 7, .putfield 53, [3, 38, 231], 0), (105, 2, 12, .newarray .boolean, [101], 0), (107, 3, 7, .putfield 57, [3, 38, 232], 0), (111, 3, 11, .new 15, [5, 3], 0), (115, 3, 36, .invokespecial 17, [9, 1, 1, 5, 3], 0), (118, 3, 7, .putfield 60, [3, 38, 234], 0), (123, 3, 7, .putfield 63, [0, 38, 236], 0), (128, 2, 12, .newarray .double, [103], 0)]
theorem fb_660_0 : FB mi iT mi_660 (bpc code_660) (fl_660_0) := ⟨fun hd => mk7 fld_38_36 (Or.inl W4447) (Or.inl rfl) (Or.inr ⟨rfl, rfl, rfl, W4447⟩) (hd rfl),
  ⟨fun hd => mk36 mt_641 cf_641 (ic_641.rt (Or.inl W4370) (hd rfl)) rfl rfl,
  ⟨fun hd => mk11 nf_5 W4380 (hd rfl),
  ⟨fun hd => mk36 mt_3 cf_3 (ic_3.rt (Or.inl W4381) (hd rfl)) rfl rfl,
  ⟨fun hd => mk7 fld_38_6 (Or.inl W4388) (Or.inl rfl) (Or.inr ⟨rfl, rfl, rfl, W4388⟩) (hd rfl),
  ⟨fun hd => mk12a (at_ := .int) (by decide) rfl W239 (hd rfl),
  ⟨fun hd => mk7 fld_38_7 (Or.inl W4390) (Or.inl rfl) (Or.inr ⟨rfl, rfl, rfl, W4390⟩) (hd rfl),
  ⟨fun hd => mk12a (at_ := .int) (by decide) rfl W239 (hd rfl),
  ⟨fun hd => mk7 fld_38_9 (Or.inl W4394) (Or.inl rfl) (Or.inr ⟨rfl, rfl, rfl, W4394⟩) (hd rfl),
  ⟨fun hd => mk12a (at_ := .int) (by decide) rfl W239 (hd rfl),
  ⟨fun hd => mk7 fld_38_10 (Or.inl W4396) (Or.inl rfl) (Or.inr ⟨rfl, rfl, rfl, W4396⟩) (hd rfl),
  ⟨fun hd => mk12a (at_ := .int) (by decide) rfl W239 (hd rfl),
  ⟨fun hd => mk7 fld_38_11 (Or.inl W4399) (Or.inl rfl) (Or.inr ⟨rfl, rfl, rfl, W4399⟩) (hd rfl),
  ⟨fun hd => mk12a (at_ := .int) (by decide) rfl W239 (hd rfl),
  ⟨fun hd => mk7 fld_38_12 (Or.inl W4402) (Or.inl rfl) (Or.inr ⟨rfl, rfl, rfl, W4402⟩) (hd rfl),
  ⟨fun hd => mk7 fld_38_13 (Or.inl W4405) (Or.inl rfl) (Or.inl rfl) (hd rfl),
  ⟨fun hd => mk7 fld_38_14 (Or.inl W4407) (Or.inl rfl) (Or.inl rfl) (hd rfl),
  ⟨fun hd => mk12a (at_ := .int) (by decide) rfl W239 (hd rfl),
  ⟨fun hd => mk7 fld_38_17 (Or.inl W4413) (Or.inl rfl) (Or.inr ⟨rfl, rfl, rfl, W4413⟩) (hd rfl),
  ⟨fun hd => mk12a (at_ := .int) (by decide) rfl W239 (hd rfl),
  ⟨fun hd => mk7 fld_38_18 (Or.inl W4416) (Or.inl rfl) (Or.inr ⟨rfl, rfl, rfl, W4416⟩) (hd rfl),
  ⟨fun hd => mk12a (at_ := .boolean) (by decide) rfl W1970 (hd rfl),
  ⟨fun hd => mk7 fld_38_19 (Or.inl W4419) (Or.inl rfl) (Or.inr ⟨rfl, rfl, rfl, W4419⟩) (hd rfl),
  ⟨fun hd => mk12a (at_ := .boolean) (by decide) rfl W1970 (hd rfl),
  ⟨fun hd => mk7 fld_38_20 (Or.inl W4421) (Or.inl rfl) (Or.inr ⟨rfl, rfl, rfl, W4421⟩) (hd rfl),
  ⟨fun hd => mk11 nf_5 W4380 (hd rfl),
  ⟨fun hd => mk36 mt_3 cf_3 (ic_3.rt (Or.inl W4381) (hd rfl)) rfl rfl,
  ⟨fun hd => mk7 fld_38_22 (Or.inl W4426) (Or.inl rfl) (Or.inr ⟨rfl, rfl, rfl, W4426⟩) (hd rfl),
  ⟨fun hd => mk7 fld_38_24 (Or.inl W4430) (Or.inl rfl) (Or.inl rfl) (hd rfl),
  ⟨fun hd => mk12a (at_ := .double) (by decide) rfl W1932 (hd rfl),
  trivial⟩⟩⟩⟩⟩⟩⟩⟩⟩⟩⟩⟩⟩⟩⟩⟩⟩⟩⟩⟩⟩⟩⟩⟩⟩⟩⟩⟩⟩⟩
def fl_660_1 : List Ent := [(130, 3, 7, .putfield 66, [3, 38, 243], 0), (136, 2, 12, .newarray .double, [103], 0), (138, 3, 7, .putfield 70, [3, 38, 244], 0), (144, 2, 12, .newarray .double, [103], 0), (146, 3, 7, .putfield 73, [3, 38, 245], 0), (152, 2, 12, .newarray .double, [103], 0), (154, 3, 7, .putfield 76, [3, 38, 246], 0), (160, 2, 12, .newarray .double, [103], 0), (162, 3, 7, .putfield 79, [3, 38, 247], 0), (167, 3, 7, .putfield 82, [0, 38, 216], 0), (181, 3, 6, .getfield 28, [3, 38, 221], 0), (188, 1, 9, .iastore, [0, 100], 0)]
theorem fb_660_1 : FB mi iT mi_660 (bpc code_660) (fl_660_1) := ⟨fun hd => mk7 fld_38_31 (Or.inl W4442) (Or.inl rfl) (Or.inr ⟨rfl, rfl, rfl, W4442⟩) (hd rfl),
  ⟨fun hd => mk12a (at_ := .double) (by decide) rfl W1932 (hd rfl),
  ⟨fun hd => mk7 fld_38_32 (Or.inl W4443) (Or.inl rfl) (Or.inr ⟨rfl, rfl, rfl, W4443⟩) (hd rfl),
  ⟨fun hd => mk12a (at_ := .double) (by decide) rfl W1932 (hd rfl),
  ⟨fun hd => mk7 fld_38_33 (Or.inl W4444) (Or.inl rfl) (Or.inr ⟨rfl, rfl, rfl, W4444⟩) (hd rfl),
  ⟨fun hd => mk12a (at_ := .double) (by decide) rfl W1932 (hd rfl),
  ⟨fun hd => mk7 fld_38_34 (Or.inl W4445) (Or.inl rfl) (Or.inr ⟨rfl, rfl, rfl, W4445⟩) (hd rfl),
  ⟨fun hd => mk12a (at_ := .double) (by decide) rfl W1932 (hd rfl),
  ⟨fun hd => mk7 fld_38_35 (Or.inl W4446) (Or.inl rfl) (Or.inr ⟨rfl, rfl, rfl, W4446⟩) (hd rfl),
  ⟨fun hd => mk7 fld_38_4 (Or.inl W4383) (Or.inl rfl) (Or.inr ⟨rfl, rfl, rfl, W4383⟩) (hd rfl),
  ⟨fun hd => mk6 fld_38_9 (Or.inl ⟨rfl, by decide⟩) (Or.inl W4394) (Or.inl rfl) (hd rfl),
  ⟨fun hd => ⟨_, _, _, rfl, rfl, hd rfl, Or.inl ⟨rfl, rfl, rfl⟩⟩,
  trivial⟩⟩⟩⟩⟩⟩⟩⟩⟩⟩⟩⟩
theorem fe_660 : eqEs ((flat code_660).filter (fun e => ndE e.2.2.1)) (fl_660_0 ++ (fl_660_1)) = true := by decide +kernel
theorem om_660 : OKm mi iT prg 660 := OKm_of (code := code_660) rfl mt_660 (Or.inl (by decide +kernel)) rfl wk_660 (by decide +kernel) (by decide +kernel) (FA_of fe_660 (FB_app fb_660_0 (fb_660_1)))
def fl_661_0 : List Ent := [(1, 3, 6, .getfield 85, [0, 38, 217], 0), (9, 3, 6, .getfield 85, [0, 38, 217], 0)]
theorem fb_661_0 : FB mi iT mi_661 (bpc code_661) (fl_661_0) := ⟨fun hd => mk6 fld_38_5 (Or.inl ⟨rfl, by decide⟩) (Or.inl W4385) (Or.inl rfl) (hd rfl),
  ⟨fun hd => mk6 fld_38_5 (Or.inl ⟨rfl, by decide⟩) (Or.inl W4385) (Or.inl rfl) (hd rfl),
  trivial⟩⟩
theorem fe_661 : eqEs ((flat code_661).filter (fun e => ndE e.2.2.1)) (fl_661_0) = true := by decide +kernel
theorem om_661 : OKm mi iT prg 661 := OKm_of (code := code_661) rfl mt_661 (Or.inl (by decide +kernel)) rfl wk_661 (by decide +kernel) (by decide +kernel) (FA_of fe_661 (fb_661_0))
def fl_662_0 : List Ent := [(1, 47, 5, .tableswitch 82 0 7 #[47, 53, 53, 53, 60, 66, 71, 77], [7, 0, 1, 1, 2, 2, 2, 3, 2, 4, 3, 5, 4, 6, 5, 7, 6], 0), (50, 3, 19, .invokevirtual 170, [2, 2, 2, 38, 663], 0), (57, 3, 19, .invokevirtual 191, [2, 3, 3, 38, 669], 0), (63, 3, 19, .invokevirtual 184, [2, 2, 2, 38, 670], 0), (68, 3, 19, .invokevirtual 199, [2, 1, 1, 38, 671], 0), (73, 3, 19, .invokevirtual 214, [0, 1, 1, 38, 673], 0), (79, 3, 19, .invokevirtual 218, [2, 1, 1, 38, 674], 0), (84, 3, 19, .invokevirtual 195, [2, 1, 1, 38, 672], 0)]
theorem fb_662_0 : FB mi iT mi_662 (bpc code_662) (fl_662_0) := ⟨fun hd => ⟨_, _, rfl, Or.inl ⟨82, 0, 7, #[47, 53, 53, 53, 60, 66, 71, 77], 8, 47, (show decode prog_78_method_13_code 1 = .ok (.tableswitch 82 0 7 #[47, 53, 53, 53, 60, 66, 71, 77], 47) by decide +kernel), by decide, by decide +kernel⟩⟩,
  ⟨fun hd => mk19 mt_663 cf_663 (vf_663_38.rt (Or.inl W4672) (hd rfl)) rfl rfl (noH_nil rfl),
  ⟨fun hd => mk19 mt_669 cf_669 (vf_669_38.rt (Or.inl W4739) (hd rfl)) rfl rfl (noH_nil rfl),
  ⟨fun hd => mk19 mt_670 cf_670 (vf_670_38.rt (Or.inl W4743) (hd rfl)) rfl rfl (noH_nil rfl),
  ⟨fun hd => mk19 mt_671 cf_671 (vf_671_38.rt (Or.inl W4748) (hd rfl)) rfl rfl (noH_nil rfl),
  ⟨fun hd => mk19 mt_673 cf_673 (vf_673_38.rt (Or.inl W4762) (hd rfl)) rfl rfl (noH_nil rfl),
  ⟨fun hd => mk19 mt_674 cf_674 (vf_674_38.rt (Or.inl W4770) (hd rfl)) rfl rfl (noH_nil rfl),
  ⟨fun hd => mk19 mt_672 cf_672 (vf_672_38.rt (Or.inl W4753) (hd rfl)) rfl rfl (noH_nil rfl),
  trivial⟩⟩⟩⟩⟩⟩⟩⟩
theorem fe_662 : eqEs ((flat code_662).filter (fun e => ndE e.2.2.1)) (fl_662_0) = true := by decide +kernel
theorem om_662 : OKm mi iT prg 662 := OKm_of (code := code_662) rfl mt_662 (Or.inl (by decide +kernel)) rfl wk_662 (by decide +kernel) (by decide +kernel) (FA_of fe_662 (fb_662_0))
def fl_663_0 : List Ent := [(2, 3, 19, .invokevirtual 166, [9, 2, 2, 38, 664], 0), (6, 3, 6, .getfield 66, [3, 38, 243], 0)]
theorem fb_663_0 : FB mi iT mi_663 (bpc code_663) (fl_663_0) := ⟨fun hd => mk19 mt_664 cf_664 (vf_664_38.rt (Or.inl W4676) (hd rfl)) rfl rfl (noH_nil rfl),
  ⟨fun hd => mk6 fld_38_31 (Or.inl ⟨rfl, by decide⟩) (Or.inl W4442) (Or.inl rfl) (hd rfl),
  trivial⟩⟩
theorem fe_663 : eqEs ((flat code_663).filter (fun e => ndE e.2.2.1)) (fl_663_0) = true := by decide +kernel
theorem om_663 : OKm mi iT prg 663 := OKm_of (code := code_663) rfl mt_663 (Or.inl (by decide +kernel)) rfl wk_663 (by decide +kernel) (by decide +kernel) (FA_of fe_663 (fb_663_0))
def fl_664_0 : List Ent := [(8, 3, 6, .getfield 66, [3, 38, 243], 0), (13, 1, 9, .dastore, [2, 103], 0), (29, 3, 6, .getfield 70, [3, 38, 244], 0), (34, 1, 9, .dastore, [2, 103], 0), (57, 3, 19, .invokevirtual 92, [2, 3, 3, 38, 653], 0), (61, 3, 6, .getfield 96, [0, 38, 213], 0), (66, 3, 15, .ldc2_w 99, [4618441417868443648], 0), (73, 3, 19, .invokevirtual 101, [0, 3, 3, 38, 665], 0), (78, 3, 15, .ldc2_w 105, [4575765307799480828], 0), (104, 3, 6, .getfield 107, [0, 38, 214], 0), (108, 3, 15, .ldc2_w 110, [4611686018427387904], 0), (116, 3, 6, .getfield 107, [0, 38, 214], 0), (120, 3, 19, .invokevirtual 112, [9, 5, 8, 38, 666], 0), (130, 3, 6, .getfield 20, [3, 38, 218], 0), (133, 3, 19, .invokevirtual 116, [3, 1, 1, 5, 4], 0), (138, 5, 34, .invokeinterface 120 1, [0, 1, 1, 11, 87], 0), (147, 5, 34, .invokeinterface 126 1, [3, 1, 1, 11, 88], 0), (152, 3, 17, .checkcast 130, [100], 0), (168, 3, 15, .ldc2_w 131, [4620693217682128896], 0), (176, 3, 15, .ldc2_w 131, [4620693217682128896], 0), (180, 3, 19, .invokevirtual 112, [9, 5, 8, 38, 666], 0), (197, 3, 19, .invokevirtual 133, [2, 2, 2, 38, 656], 0), (201, 3, 6, .getfield 24, [3, 38, 219], 0), (208, 3, 15, .ldc2_w 131, [4620693217682128896], 0), (215, 3, 6, .getfield 24, [3, 38, 219], 0), (221, 3, 6, .getfield 107, [0, 38, 214], 0), (226, 3, 15, .ldc2_w 136, [4634204016564240384], 0), (230, 3, 19, .invokevirtual 112, [9, 5, 8, 38, 666], 0), (240, 3, 19, .invokevirtual 138, [0, 1, 1, 38, 667], 0), (248, 3, 6, .getfield 141, [0, 38, 233], 0)]
theorem fb_664_0 : FB mi iT mi_664 (bpc code_664) (fl_664_0) := ⟨fun hd => mk6 fld_38_31 (Or.inl ⟨rfl, by decide⟩) (Or.inl W4442) (Or.inl rfl) (hd rfl),
  ⟨fun hd => ⟨_, _, _, rfl, rfl, hd rfl, Or.inr (Or.inl ⟨rfl, rfl, rfl⟩)⟩,
  ⟨fun hd => mk6 fld_38_32 (Or.inl ⟨rfl, by decide⟩) (Or.inl W4443) (Or.inl rfl) (hd rfl),
  ⟨fun hd => ⟨_, _, _, rfl, rfl, hd rfl, Or.inr (Or.inl ⟨rfl, rfl, rfl⟩)⟩,
  ⟨fun hd => mk19 mt_653 cf_653 (if_653_38_KeelHouseModel_Shipbreadth_II_D.rt W4680 (hd rfl)) rfl rfl (noH_nil rfl),
  ⟨fun hd => mk6 fld_38_1 (Or.inl ⟨rfl, by decide⟩) (Or.inl W4452) (Or.inr W4453) (hd rfl),
  ⟨fun hd => mk15 W4691 (hd rfl),
  ⟨fun hd => mk19 mt_665 cf_665 (vf_665_38.rt (Or.inl W4692) (hd rfl)) rfl rfl (noH_nil rfl),
  ⟨fun hd => mk15 W4696 (hd rfl),
  ⟨fun hd => mk6 fld_38_2 (Or.inl ⟨rfl, by decide⟩) (Or.inl W4456) (Or.inr W4457) (hd rfl),
  ⟨fun hd => mk15 W4697 (hd rfl),
  ⟨fun hd => mk6 fld_38_2 (Or.inl ⟨rfl, by decide⟩) (Or.inl W4456) (Or.inr W4457) (hd rfl),
  ⟨fun hd => mk19 mt_666 cf_666 (vf_666_38.rt (Or.inl W4698) (hd rfl)) rfl rfl (noH_nil rfl),
  ⟨fun hd => mk6 fld_38_6 (Or.inl ⟨rfl, by decide⟩) (Or.inl W4388) (Or.inl rfl) (hd rfl),
  ⟨fun hd => mk19 mt_4 cf_4 (vf_4_5.rt (Or.inl W4708) (hd rfl)) rfl rfl (noH_nil rfl),
  ⟨fun hd => mk34 mt_87 cf_87 (ff_87_11.rt W4710 (hd rfl)) rfl rfl,
  ⟨fun hd => mk34 mt_88 cf_88 (ff_88_11.rt W4712 (hd rfl)) rfl rfl,
  ⟨fun hd => mk17 kx_100 W4713 (hd rfl),
  ⟨fun hd => mk15 W4714 (hd rfl),
  ⟨fun hd => mk15 W4714 (hd rfl),
  ⟨fun hd => mk19 mt_666 cf_666 (vf_666_38.rt (Or.inl W4698) (hd rfl)) rfl rfl (noH_nil rfl),
  ⟨fun hd => mk19 mt_656 cf_656 (if_656_38_KeelHouseModel_Shiptank_I_D.rt W4715 (hd rfl)) rfl rfl (noH_nil rfl),
  ⟨fun hd => mk6 fld_38_7 (Or.inl ⟨rfl, by decide⟩) (Or.inl W4390) (Or.inl rfl) (hd rfl),
  ⟨fun hd => mk15 W4714 (hd rfl),
  ⟨fun hd => mk6 fld_38_7 (Or.inl ⟨rfl, by decide⟩) (Or.inl W4390) (Or.inl rfl) (hd rfl),
  ⟨fun hd => mk6 fld_38_2 (Or.inl ⟨rfl, by decide⟩) (Or.inl W4456) (Or.inr W4457) (hd rfl),
  ⟨fun hd => mk15 W4722 (hd rfl),
  ⟨fun hd => mk19 mt_666 cf_666 (vf_666_38.rt (Or.inl W4698) (hd rfl)) rfl rfl (noH_nil rfl),
  ⟨fun hd => mk19 mt_667 cf_667 (vf_667_38.rt (Or.inl W4723) (hd rfl)) rfl rfl (noH_nil rfl),
  ⟨fun hd => mk6 fld_38_21 (Or.inl ⟨rfl, by decide⟩) (Or.inl W4424) (Or.inl rfl) (hd rfl),
  trivial⟩⟩⟩⟩⟩⟩⟩⟩⟩⟩⟩⟩⟩⟩⟩⟩⟩⟩⟩⟩⟩⟩⟩⟩⟩⟩⟩⟩⟩⟩
def fl_664_1 : List Ent := [(252, 3, 15, .ldc2_w 99, [4618441417868443648], 0), (256, 3, 15, .ldc2_w 144, [4617315517961601024], 0), (263, 3, 6, .getfield 107, [0, 38, 214], 0), (267, 3, 15, .ldc2_w 146, [4598175219545276416], 0), (271, 3, 19, .invokevirtual 112, [9, 5, 8, 38, 666], 0), (288, 3, 6, .getfield 3, [3, 38, 248], 0), (291, 3, 6, .getfield 148, [3, 37, 208], 0), (294, 3, 19, .invokevirtual 116, [3, 1, 1, 5, 4], 0), (301, 5, 34, .invokeinterface 120 1, [0, 1, 1, 11, 87], 0), (311, 5, 34, .invokeinterface 126 1, [3, 1, 1, 11, 88], 0), (316, 3, 17, .checkcast 151, [40], 0), (324, 3, 6, .getfield 82, [0, 38, 216], 0), (328, 3, 19, .invokevirtual 153, [0, 3, 3, 40, 765], 0), (337, 3, 6, .getfield 157, [0, 40, 257], 0), (347, 3, 6, .getfield 157, [0, 40, 257], 0), (353, 3, 6, .getfield 160, [2, 40, 263], 0), (377, 3, 6, .getfield 107, [0, 38, 214], 0), (381, 3, 15, .ldc2_w 164, [4600877379321698714], 0), (385, 3, 19, .invokevirtual 112, [9, 5, 8, 38, 666], 0)]
theorem fb_664_1 : FB mi iT mi_664 (bpc code_664) (fl_664_1) := ⟨fun hd => mk15 W4691 (hd rfl),
  ⟨fun hd => mk15 W4731 (hd rfl),
  ⟨fun hd => mk6 fld_38_2 (Or.inl ⟨rfl, by decide⟩) (Or.inl W4456) (Or.inr W4457) (hd rfl),
  ⟨fun hd => mk15 W4732 (hd rfl),
  ⟨fun hd => mk19 mt_666 cf_666 (vf_666_38.rt (Or.inl W4698) (hd rfl)) rfl rfl (noH_nil rfl),
  ⟨fun hd => mk6 fld_38_36 (Or.inl ⟨rfl, by decide⟩) (Or.inl W4447) (Or.inl rfl) (hd rfl),
  ⟨fun hd => mk6 fld_37_14 (Or.inl ⟨rfl, by decide⟩) (Or.inr ⟨_, W4303⟩) (Or.inl rfl) (hd rfl),
  ⟨fun hd => mk19 mt_4 cf_4 (vf_4_5.rt (Or.inl W4708) (hd rfl)) rfl rfl (noH_nil rfl),
  ⟨fun hd => mk34 mt_87 cf_87 (ff_87_11.rt W4710 (hd rfl)) rfl rfl,
  ⟨fun hd => mk34 mt_88 cf_88 (ff_88_11.rt W4712 (hd rfl)) rfl rfl,
  ⟨fun hd => mk17 kx_40 W4733 (hd rfl),
  ⟨fun hd => mk6 fld_38_4 (Or.inl ⟨rfl, by decide⟩) (Or.inl W4383) (Or.inl rfl) (hd rfl),
  ⟨fun hd => mk19 mt_765 cf_765 (vf_765_40.rt (Or.inl W4734) (hd rfl)) rfl rfl (noH_nil rfl),
  ⟨fun hd => mk6 fld_40_2 (Or.inl ⟨rfl, by decide⟩) (Or.inl W5441) (Or.inl rfl) (hd rfl),
  ⟨fun hd => mk6 fld_40_2 (Or.inl ⟨rfl, by decide⟩) (Or.inl W5441) (Or.inl rfl) (hd rfl),
  ⟨fun hd => mk6 fld_40_8 (Or.inl ⟨rfl, by decide⟩) (Or.inl W5456) (Or.inl rfl) (hd rfl),
  ⟨fun hd => mk6 fld_38_2 (Or.inl ⟨rfl, by decide⟩) (Or.inl W4456) (Or.inr W4457) (hd rfl),
  ⟨fun hd => mk15 W4738 (hd rfl),
  ⟨fun hd => mk19 mt_666 cf_666 (vf_666_38.rt (Or.inl W4698) (hd rfl)) rfl rfl (noH_nil rfl),
  trivial⟩⟩⟩⟩⟩⟩⟩⟩⟩⟩⟩⟩⟩⟩⟩⟩⟩⟩⟩
theorem fe_664 : eqEs ((flat code_664).filter (fun e => ndE e.2.2.1)) (fl_664_0 ++ (fl_664_1)) = true := by decide +kernel
theorem om_664 : OKm mi iT prg 664 := OKm_of (code := code_664) rfl mt_664 (Or.inl (by decide +kernel)) rfl wk_664 (by decide +kernel) (by decide +kernel) (FA_of fe_664 (FB_app fb_664_0 (fb_664_1)))
def fl_665_0 : List Ent := [(5, 3, 6, .getfield 28, [3, 38, 221], 0), (14, 3, 6, .getfield 31, [3, 38, 222], 0)]
theorem fb_665_0 : FB mi iT mi_665 (bpc code_665) (fl_665_0) := ⟨fun hd => mk6 fld_38_9 (Or.inl ⟨rfl, by decide⟩) (Or.inl W4394) (Or.inl rfl) (hd rfl),
  ⟨fun hd => mk6 fld_38_10 (Or.inl ⟨rfl, by decide⟩) (Or.inl W4396) (Or.inl rfl) (hd rfl),
  trivial⟩⟩
theorem fe_665 : eqEs ((flat code_665).filter (fun e => ndE e.2.2.1)) (fl_665_0) = true := by decide +kernel
theorem om_665 : OKm mi iT prg 665 := OKm_of (code := code_665) rfl mt_665 (Or.inl (by decide +kernel)) rfl wk_665 (by decide +kernel) (by decide +kernel) (FA_of fe_665 (fb_665_0))
def fl_666_0 : List Ent := [(1, 3, 6, .getfield 66, [3, 38, 243], 0), (9, 1, 9, .dastore, [2, 103], 0), (11, 3, 6, .getfield 66, [3, 38, 243], 0), (20, 3, 19, .invokevirtual 88, [2, 2, 2, 38, 655], 0), (25, 1, 9, .dastore, [2, 103], 0), (27, 3, 6, .getfield 66, [3, 38, 243], 0), (38, 1, 9, .dastore, [2, 103], 0), (40, 3, 6, .getfield 66, [3, 38, 243], 0), (51, 1, 9, .dastore, [2, 103], 0), (53, 3, 6, .getfield 70, [3, 38, 244], 0), (61, 1, 9, .dastore, [2, 103], 0)]
theorem fb_666_0 : FB mi iT mi_666 (bpc code_666) (fl_666_0) := ⟨fun hd => mk6 fld_38_31 (Or.inl ⟨rfl, by decide⟩) (Or.inl W4442) (Or.inl rfl) (hd rfl),
  ⟨fun hd => ⟨_, _, _, rfl, rfl, hd rfl, Or.inr (Or.inl ⟨rfl, rfl, rfl⟩)⟩,
  ⟨fun hd => mk6 fld_38_31 (Or.inl ⟨rfl, by decide⟩) (Or.inl W4442) (Or.inl rfl) (hd rfl),
  ⟨fun hd => mk19 mt_655 cf_655 (if_655_38_KeelHouseModel_Shipfar_I_D.rt W4702 (hd rfl)) rfl rfl (noH_nil rfl),
  ⟨fun hd => ⟨_, _, _, rfl, rfl, hd rfl, Or.inr (Or.inl ⟨rfl, rfl, rfl⟩)⟩,
  ⟨fun hd => mk6 fld_38_31 (Or.inl ⟨rfl, by decide⟩) (Or.inl W4442) (Or.inl rfl) (hd rfl),
  ⟨fun hd => ⟨_, _, _, rfl, rfl, hd rfl, Or.inr (Or.inl ⟨rfl, rfl, rfl⟩)⟩,
  ⟨fun hd => mk6 fld_38_31 (Or.inl ⟨rfl, by decide⟩) (Or.inl W4442) (Or.inl rfl) (hd rfl),
  ⟨fun hd => ⟨_, _, _, rfl, rfl, hd rfl, Or.inr (Or.inl ⟨rfl, rfl, rfl⟩)⟩,
  ⟨fun hd => mk6 fld_38_32 (Or.inl ⟨rfl, by decide⟩) (Or.inl W4443) (Or.inl rfl) (hd rfl),
  ⟨fun hd => ⟨_, _, _, rfl, rfl, hd rfl, Or.inr (Or.inl ⟨rfl, rfl, rfl⟩)⟩,
  trivial⟩⟩⟩⟩⟩⟩⟩⟩⟩⟩⟩
theorem fe_666 : eqEs ((flat code_666).filter (fun e => ndE e.2.2.1)) (fl_666_0) = true := by decide +kernel
theorem om_666 : OKm mi iT prg 666 := OKm_of (code := code_666) rfl mt_666 (Or.inl (by decide +kernel)) rfl wk_666 (by decide +kernel) (by decide +kernel) (FA_of fe_666 (fb_666_0))
def fl_667_0 : List Ent := [(1, 3, 6, .getfield 303, [0, 38, 228], 0), (10, 3, 19, .invokevirtual 310, [0, 2, 2, 38, 668], 0)]
theorem fb_667_0 : FB mi iT mi_667 (bpc code_667) (fl_667_0) := ⟨fun hd => mk6 fld_38_16 (Or.inr ⟨rfl, Or.inl rfl⟩) (Or.inl W4411) (Or.inl rfl) (hd rfl),
  ⟨fun hd => mk19 mt_668 cf_668 (vf_668_38.rt (Or.inl W4727) (hd rfl)) rfl rfl (noH_nil rfl),
  trivial⟩⟩
theorem fe_667 : eqEs ((flat code_667).filter (fun e => ndE e.2.2.1)) (fl_667_0) = true := by decide +kernel
theorem om_667 : OKm mi iT prg 667 := OKm_of (code := code_667) rfl mt_667 (Or.inl (by decide +kernel)) rfl wk_667 (by decide +kernel) (by decide +kernel) (FA_of fe_667 (fb_667_0))
def fl_668_0 : List Ent := [(1, 3, 6, .getfield 50, [3, 38, 230], 0)]
theorem fb_668_0 : FB mi iT mi_668 (bpc code_668) (fl_668_0) := ⟨fun hd => mk6 fld_38_18 (Or.inl ⟨rfl, by decide⟩) (Or.inl W4416) (Or.inl rfl) (hd rfl),
  trivial⟩
theorem fe_668 : eqEs ((flat code_668).filter (fun e => ndE e.2.2.1)) (fl_668_0) = true := by decide +kernel
theorem om_668 : OKm mi iT prg 668 := OKm_of (code := code_668) rfl mt_668 (Or.inl (by decide +kernel)) rfl wk_668 (by decide +kernel) (by decide +kernel) (FA_of fe_668 (fb_668_0))
def fl_669_0 : List Ent := [(2, 3, 19, .invokevirtual 166, [9, 2, 2, 38, 664], 0), (6, 3, 6, .getfield 66, [3, 38, 243], 0), (21, 3, 6, .getfield 66, [3, 38, 243], 0), (27, 3, 6, .getfield 66, [3, 38, 243], 0)]
theorem fb_669_0 : FB mi iT mi_669 (bpc code_669) (fl_669_0) := ⟨fun hd => mk19 mt_664 cf_664 (vf_664_38.rt (Or.inl W4676) (hd rfl)) rfl rfl (noH_nil rfl),
  ⟨fun hd => mk6 fld_38_31 (Or.inl ⟨rfl, by decide⟩) (Or.inl W4442) (Or.inl rfl) (hd rfl),
  ⟨fun hd => mk6 fld_38_31 (Or.inl ⟨rfl, by decide⟩) (Or.inl W4442) (Or.inl rfl) (hd rfl),
  ⟨fun hd => mk6 fld_38_31 (Or.inl ⟨rfl, by decide⟩) (Or.inl W4442) (Or.inl rfl) (hd rfl),
  trivial⟩⟩⟩⟩
theorem fe_669 : eqEs ((flat code_669).filter (fun e => ndE e.2.2.1)) (fl_669_0) = true := by decide +kernel
theorem om_669 : OKm mi iT prg 669 := OKm_of (code := code_669) rfl mt_669 (Or.inl (by decide +kernel)) rfl wk_669 (by decide +kernel) (by decide +kernel) (FA_of fe_669 (fb_669_0))
def fl_670_0 : List Ent := [(3, 3, 19, .invokevirtual 170, [2, 2, 2, 38, 663], 0), (6, 3, 19, .invokevirtual 174, [2, 2, 3, 38, 652], 0)]
theorem fb_670_0 : FB mi iT mi_670 (bpc code_670) (fl_670_0) := ⟨fun hd => mk19 mt_663 cf_663 (vf_663_38.rt (Or.inl W4672) (hd rfl)) rfl rfl (noH_nil rfl),
  ⟨fun hd => mk19 mt_652 cf_652 (if_652_38_KeelHouseModel_Shipdraught_D_D.rt W4747 (hd rfl)) rfl rfl (noH_nil rfl),
  trivial⟩⟩
theorem fe_670 : eqEs ((flat code_670).filter (fun e => ndE e.2.2.1)) (fl_670_0) = true := by decide +kernel
theorem om_670 : OKm mi iT prg 670 := OKm_of (code := code_670) rfl mt_670 (Or.inl (by decide +kernel)) rfl wk_670 (by decide +kernel) (by decide +kernel) (FA_of fe_670 (fb_670_0))
def fl_671_0 : List Ent := [(2, 3, 19, .invokevirtual 184, [2, 2, 2, 38, 670], 0), (19, 3, 19, .invokevirtual 187, [2, 3, 4, 38, 643], 0), (25, 3, 19, .invokevirtual 187, [2, 3, 4, 38, 643], 0), (32, 3, 19, .invokevirtual 191, [2, 3, 3, 38, 669], 0), (37, 3, 19, .invokevirtual 195, [2, 1, 1, 38, 672], 0)]
theorem fb_671_0 : FB mi iT mi_671 (bpc code_671) (fl_671_0) := ⟨fun hd => mk19 mt_670 cf_670 (vf_670_38.rt (Or.inl W4743) (hd rfl)) rfl rfl (noH_nil rfl),
  ⟨fun hd => mk19 mt_643 cf_643 (if_643_38_KeelHouseModel_Shipwater_DI_D.rt W4752 (hd rfl)) rfl rfl (noH_nil rfl),
  ⟨fun hd => mk19 mt_643 cf_643 (if_643_38_KeelHouseModel_Shipwater_DI_D.rt W4752 (hd rfl)) rfl rfl (noH_nil rfl),
  ⟨fun hd => mk19 mt_669 cf_669 (vf_669_38.rt (Or.inl W4739) (hd rfl)) rfl rfl (noH_nil rfl),
  ⟨fun hd => mk19 mt_672 cf_672 (vf_672_38.rt (Or.inl W4753) (hd rfl)) rfl rfl (noH_nil rfl),
  trivial⟩⟩⟩⟩⟩
theorem fe_671 : eqEs ((flat code_671).filter (fun e => ndE e.2.2.1)) (fl_671_0) = true := by decide +kernel
theorem om_671 : OKm mi iT prg 671 := OKm_of (code := code_671) rfl mt_671 (Or.inl (by decide +kernel)) rfl wk_671 (by decide +kernel) (by decide +kernel) (FA_of fe_671 (fb_671_0))
def fl_672_0 : List Ent := [(13, 3, 19, .invokevirtual 178, [0, 3, 3, 38, 654], 0), (17, 3, 15, .ldc2_w 131, [4620693217682128896], 0), (24, 3, 6, .getfield 24, [3, 38, 219], 0), (45, 3, 6, .getfield 96, [0, 38, 213], 0), (50, 3, 15, .ldc2_w 182, [4634766966517661696], 0), (64, 3, 19, .invokevirtual 170, [2, 2, 2, 38, 663], 0)]
theorem fb_672_0 : FB mi iT mi_672 (bpc code_672) (fl_672_0) := ⟨fun hd => mk19 mt_654 cf_654 (if_654_38_KeelHouseModel_Shipboth_II_I.rt W4757 (hd rfl)) rfl rfl (noH_nil rfl),
  ⟨fun hd => mk15 W4714 (hd rfl),
  ⟨fun hd => mk6 fld_38_7 (Or.inl ⟨rfl, by decide⟩) (Or.inl W4390) (Or.inl rfl) (hd rfl),
  ⟨fun hd => mk6 fld_38_1 (Or.inl ⟨rfl, by decide⟩) (Or.inl W4452) (Or.inr W4453) (hd rfl),
  ⟨fun hd => mk15 W4761 (hd rfl),
  ⟨fun hd => mk19 mt_663 cf_663 (vf_663_38.rt (Or.inl W4672) (hd rfl)) rfl rfl (noH_nil rfl),
  trivial⟩⟩⟩⟩⟩⟩
theorem fe_672 : eqEs ((flat code_672).filter (fun e => ndE e.2.2.1)) (fl_672_0) = true := by decide +kernel
theorem om_672 : OKm mi iT prg 672 := OKm_of (code := code_672) rfl mt_672 (Or.inl (by decide +kernel)) rfl wk_672 (by decide +kernel) (by decide +kernel) (FA_of fe_672 (fb_672_0))
def fl_673_0 : List Ent := [(1, 3, 19, .invokevirtual 199, [2, 1, 1, 38, 671], 0), (7, 3, 19, .invokevirtual 184, [2, 2, 2, 38, 670], 0), (16, 3, 15, .ldc2_w 202, [4587366580439587226], 0), (29, 3, 19, .invokevirtual 191, [2, 3, 3, 38, 669], 0), (34, 3, 38, .invokestatic 204, [0], 0), (49, 3, 13, .getstatic 209, [54], 0)]
theorem fb_673_0 : FB mi iT mi_673 (bpc code_673) (fl_673_0) := ⟨fun hd => mk19 mt_671 cf_671 (vf_671_38.rt (Or.inl W4748) (hd rfl)) rfl rfl (noH_nil rfl),
  ⟨fun hd => mk19 mt_670 cf_670 (vf_670_38.rt (Or.inl W4743) (hd rfl)) rfl rfl (noH_nil rfl),
  ⟨fun hd => mk15 W4766 (hd rfl),
  ⟨fun hd => mk19 mt_669 cf_669 (vf_669_38.rt (Or.inl W4739) (hd rfl)) rfl rfl (noH_nil rfl),
  ⟨fun hd => ⟨0, _, _, by decide, rfl, rfl, by decide, W4767, mo_w0, hd rfl⟩,
  ⟨fun hd => mk13s (by decide) rfl (Or.inr ⟨_, W4768⟩) (Or.inl rfl) (hd rfl),
  trivial⟩⟩⟩⟩⟩⟩
theorem fe_673 : eqEs ((flat code_673).filter (fun e => ndE e.2.2.1)) (fl_673_0) = true := by decide +kernel
theorem om_673 : OKm mi iT prg 673 := OKm_of (code := code_673) rfl mt_673 (Or.inl (by decide +kernel)) rfl wk_673 (by decide +kernel) (by decide +kernel) (FA_of fe_673 (fb_673_0))
def fl_674_0 : List Ent := [(2, 3, 19, .invokevirtual 184, [2, 2, 2, 38, 670], 0), (15, 3, 19, .invokevirtual 187, [2, 3, 4, 38, 643], 0), (18, 3, 15, .ldc2_w 212, [4562254508917369340], 0), (30, 3, 19, .invokevirtual 191, [2, 3, 3, 38, 669], 0), (36, 3, 19, .invokevirtual 187, [2, 3, 4, 38, 643], 0), (41, 3, 6, .getfield 96, [0, 38, 213], 0), (49, 3, 19, .invokevirtual 187, [2, 3, 4, 38, 643], 0)]
theorem fb_674_0 : FB mi iT mi_674 (bpc code_674) (fl_674_0) := ⟨fun hd => mk19 mt_670 cf_670 (vf_670_38.rt (Or.inl W4743) (hd rfl)) rfl rfl (noH_nil rfl),
  ⟨fun hd => mk19 mt_643 cf_643 (if_643_38_KeelHouseModel_Shipwater_DI_D.rt W4752 (hd rfl)) rfl rfl (noH_nil rfl),
  ⟨fun hd => mk15 W4774 (hd rfl),
  ⟨fun hd => mk19 mt_669 cf_669 (vf_669_38.rt (Or.inl W4739) (hd rfl)) rfl rfl (noH_nil rfl),
  ⟨fun hd => mk19 mt_643 cf_643 (if_643_38_KeelHouseModel_Shipwater_DI_D.rt W4752 (hd rfl)) rfl rfl (noH_nil rfl),
  ⟨fun hd => mk6 fld_38_1 (Or.inl ⟨rfl, by decide⟩) (Or.inl W4452) (Or.inr W4453) (hd rfl),
  ⟨fun hd => mk19 mt_643 cf_643 (if_643_38_KeelHouseModel_Shipwater_DI_D.rt W4752 (hd rfl)) rfl rfl (noH_nil rfl),
  trivial⟩⟩⟩⟩⟩⟩⟩
theorem fe_674 : eqEs ((flat code_674).filter (fun e => ndE e.2.2.1)) (fl_674_0) = true := by decide +kernel
theorem om_674 : OKm mi iT prg 674 := OKm_of (code := code_674) rfl mt_674 (Or.inl (by decide +kernel)) rfl wk_674 (by decide +kernel) (by decide +kernel) (FA_of fe_674 (fb_674_0))
def fl_675_0 : List Ent := [(2, 3, 19, .invokevirtual 170, [2, 2, 2, 38, 663], 0), (8, 3, 19, .invokevirtual 174, [2, 2, 3, 38, 652], 0), (15, 3, 19, .invokevirtual 227, [0, 2, 2, 38, 676], 0), (27, 3, 15, .ldc2_w 231, [13830554455654793216], 0), (58, 3, 18, .invokestatic 224, [0, 2, 2, 379], 0), (73, 3, 19, .invokevirtual 233, [2, 4, 6, 38, 657], 0), (76, 3, 15, .ldc2_w 237, [4604930618986332160], 0), (94, 3, 19, .invokevirtual 174, [2, 2, 3, 38, 652], 0), (106, 3, 15, .ldc2_w 231, [13830554455654793216], 0), (119, 3, 6, .getfield 107, [0, 38, 214], 0), (123, 3, 15, .ldc2_w 239, [4606056518893174784], 0), (172, 3, 19, .invokevirtual 227, [0, 2, 2, 38, 676], 0)]
theorem fb_675_0 : FB mi iT mi_675 (bpc code_675) (fl_675_0) := ⟨fun hd => mk19 mt_663 cf_663 (vf_663_38.rt (Or.inl W4672) (hd rfl)) rfl rfl (noH_nil rfl),
  ⟨fun hd => mk19 mt_652 cf_652 (if_652_38_KeelHouseModel_Shipdraught_D_D.rt W4747 (hd rfl)) rfl rfl (noH_nil rfl),
  ⟨fun hd => mk19 mt_676 cf_676 (vf_676_38.rt (Or.inl W4783) (hd rfl)) rfl rfl (noH_nil rfl),
  ⟨fun hd => mk15 W4790 (hd rfl),
  ⟨fun hd => mk18 mt_379 sf_379 (Or.inr ⟨⟨_, W4787⟩, _, _, rfl⟩) rfl rfl (noH_nil rfl) (hd rfl),
  ⟨fun hd => mk19 mt_657 cf_657 (if_657_38_KeelHouseModel_Shipbears_IDD_D.rt W4791 (hd rfl)) rfl rfl (noH_nil rfl),
  ⟨fun hd => mk15 W4797 (hd rfl),
  ⟨fun hd => mk19 mt_652 cf_652 (if_652_38_KeelHouseModel_Shipdraught_D_D.rt W4747 (hd rfl)) rfl rfl (noH_nil rfl),
  ⟨fun hd => mk15 W4790 (hd rfl),
  ⟨fun hd => mk6 fld_38_2 (Or.inl ⟨rfl, by decide⟩) (Or.inl W4456) (Or.inr W4457) (hd rfl),
  ⟨fun hd => mk15 W4798 (hd rfl),
  ⟨fun hd => mk19 mt_676 cf_676 (vf_676_38.rt (Or.inl W4783) (hd rfl)) rfl rfl (noH_nil rfl),
  trivial⟩⟩⟩⟩⟩⟩⟩⟩⟩⟩⟩⟩
theorem fe_675 : eqEs ((flat code_675).filter (fun e => ndE e.2.2.1)) (fl_675_0) = true := by decide +kernel
theorem om_675 : OKm mi iT prg 675 := OKm_of (code := code_675) rfl mt_675 (Or.inl (by decide +kernel)) rfl wk_675 (by decide +kernel) (by decide +kernel) (FA_of fe_675 (fb_675_0))
def fl_676_0 : List Ent := [(20, 3, 6, .getfield 221, [0, 38, 220], 0), (25, 3, 18, .invokestatic 224, [0, 2, 2, 379], 0), (37, 3, 18, .invokestatic 224, [0, 2, 2, 379], 0), (57, 3, 18, .invokestatic 224, [0, 2, 2, 379], 0)]
theorem fb_676_0 : FB mi iT mi_676 (bpc code_676) (fl_676_0) := ⟨fun hd => mk6 fld_38_8 (Or.inl ⟨rfl, by decide⟩) (Or.inl W4392) (Or.inl rfl) (hd rfl),
  ⟨fun hd => mk18 mt_379 sf_379 (Or.inr ⟨⟨_, W4787⟩, _, _, rfl⟩) rfl rfl (noH_nil rfl) (hd rfl),
  ⟨fun hd => mk18 mt_379 sf_379 (Or.inr ⟨⟨_, W4787⟩, _, _, rfl⟩) rfl rfl (noH_nil rfl) (hd rfl),
  ⟨fun hd => mk18 mt_379 sf_379 (Or.inr ⟨⟨_, W4787⟩, _, _, rfl⟩) rfl rfl (noH_nil rfl) (hd rfl),
  trivial⟩⟩⟩⟩
theorem fe_676 : eqEs ((flat code_676).filter (fun e => ndE e.2.2.1)) (fl_676_0) = true := by decide +kernel
theorem om_676 : OKm mi iT prg 676 := OKm_of (code := code_676) rfl mt_676 (Or.inl (by decide +kernel)) rfl wk_676 (by decide +kernel) (by decide +kernel) (FA_of fe_676 (fb_676_0))
def fl_677_0 : List Ent := [(15, 3, 19, .invokevirtual 241, [2, 3, 3, 38, 675], 0), (28, 3, 18, .invokestatic 244, [0, 1, 1, 381], 0)]
theorem fb_677_0 : FB mi iT mi_677 (bpc code_677) (fl_677_0) := ⟨fun hd => mk19 mt_675 cf_675 (vf_675_38.rt (Or.inl W4807) (hd rfl)) rfl rfl (noH_nil rfl),
  ⟨fun hd => mk18 mt_381 sf_381 (Or.inr ⟨⟨_, W4808⟩, _, _, rfl⟩) rfl rfl (noH_nil rfl) (hd rfl),
  trivial⟩⟩
theorem fe_677 : eqEs ((flat code_677).filter (fun e => ndE e.2.2.1)) (fl_677_0) = true := by decide +kernel
theorem om_677 : OKm mi iT prg 677 := OKm_of (code := code_677) rfl mt_677 (Or.inl (by decide +kernel)) rfl wk_677 (by decide +kernel) (by decide +kernel) (FA_of fe_677 (fb_677_0))
def fl_678_0 : List Ent := [(9, 3, 6, .getfield 28, [3, 38, 221], 0), (14, 1, 9, .iastore, [0, 100], 0), (27, 3, 19, .invokevirtual 277, [2, 2, 2, 38, 679], 0), (41, 3, 6, .getfield 40, [0, 38, 225], 0), (62, 3, 19, .invokevirtual 280, [0, 2, 3, 38, 683], 0), (68, 3, 6, .getfield 28, [3, 38, 221], 0), (79, 3, 6, .getfield 28, [3, 38, 221], 0), (106, 3, 6, .getfield 28, [3, 38, 221], 0), (118, 3, 6, .getfield 28, [3, 38, 221], 0), (127, 1, 9, .iastore, [0, 100], 0), (132, 3, 6, .getfield 28, [3, 38, 221], 0), (143, 3, 6, .getfield 28, [3, 38, 221], 0), (155, 3, 6, .getfield 28, [3, 38, 221], 0), (168, 1, 9, .iastore, [0, 100], 0)]
theorem fb_678_0 : FB mi iT mi_678 (bpc code_678) (fl_678_0) := ⟨fun hd => mk6 fld_38_9 (Or.inl ⟨rfl, by decide⟩) (Or.inl W4394) (Or.inl rfl) (hd rfl),
  ⟨fun hd => ⟨_, _, _, rfl, rfl, hd rfl, Or.inl ⟨rfl, rfl, rfl⟩⟩,
  ⟨fun hd => mk19 mt_679 cf_679 (vf_679_38.rt (Or.inl W4827) (hd rfl)) rfl rfl (noH_nil rfl),
  ⟨fun hd => mk6 fld_38_13 (Or.inl ⟨rfl, by decide⟩) (Or.inl W4405) (Or.inl rfl) (hd rfl),
  ⟨fun hd => mk19 mt_683 cf_683 (vf_683_38.rt (Or.inl W4859) (hd rfl)) rfl rfl (noH_nil rfl),
  ⟨fun hd => mk6 fld_38_9 (Or.inl ⟨rfl, by decide⟩) (Or.inl W4394) (Or.inl rfl) (hd rfl),
  ⟨fun hd => mk6 fld_38_9 (Or.inl ⟨rfl, by decide⟩) (Or.inl W4394) (Or.inl rfl) (hd rfl),
  ⟨fun hd => mk6 fld_38_9 (Or.inl ⟨rfl, by decide⟩) (Or.inl W4394) (Or.inl rfl) (hd rfl),
  ⟨fun hd => mk6 fld_38_9 (Or.inl ⟨rfl, by decide⟩) (Or.inl W4394) (Or.inl rfl) (hd rfl),
  ⟨fun hd => ⟨_, _, _, rfl, rfl, hd rfl, Or.inl ⟨rfl, rfl, rfl⟩⟩,
  ⟨fun hd => mk6 fld_38_9 (Or.inl ⟨rfl, by decide⟩) (Or.inl W4394) (Or.inl rfl) (hd rfl),
  ⟨fun hd => mk6 fld_38_9 (Or.inl ⟨rfl, by decide⟩) (Or.inl W4394) (Or.inl rfl) (hd rfl),
  ⟨fun hd => mk6 fld_38_9 (Or.inl ⟨rfl, by decide⟩) (Or.inl W4394) (Or.inl rfl) (hd rfl),
  ⟨fun hd => ⟨_, _, _, rfl, rfl, hd rfl, Or.inl ⟨rfl, rfl, rfl⟩⟩,
  trivial⟩⟩⟩⟩⟩⟩⟩⟩⟩⟩⟩⟩⟩⟩
theorem fe_678 : eqEs ((flat code_678).filter (fun e => ndE e.2.2.1)) (fl_678_0) = true := by decide +kernel
theorem om_678 : OKm mi iT prg 678 := OKm_of (code := code_678) rfl mt_678 (Or.inl (by decide +kernel)) rfl wk_678 (by decide +kernel) (by decide +kernel) (FA_of fe_678 (fb_678_0))
def fl_679_0 : List Ent := [(3, 3, 19, .invokevirtual 274, [2, 3, 3, 38, 680], 0), (9, 3, 19, .invokevirtual 274, [2, 3, 3, 38, 680], 0), (15, 3, 19, .invokevirtual 274, [2, 3, 3, 38, 680], 0), (18, 3, 38, .invokestatic 252, [1], 0), (21, 3, 38, .invokestatic 252, [1], 0)]
theorem fb_679_0 : FB mi iT mi_679 (bpc code_679) (fl_679_0) := ⟨fun hd => mk19 mt_680 cf_680 (vf_680_38.rt (Or.inl W4831) (hd rfl)) rfl rfl (noH_nil rfl),
  ⟨fun hd => mk19 mt_680 cf_680 (vf_680_38.rt (Or.inl W4831) (hd rfl)) rfl rfl (noH_nil rfl),
  ⟨fun hd => mk19 mt_680 cf_680 (vf_680_38.rt (Or.inl W4831) (hd rfl)) rfl rfl (noH_nil rfl),
  ⟨fun hd => ⟨1, _, _, by decide, rfl, rfl, by decide, W4847, mo_w1, hd rfl⟩,
  ⟨fun hd => ⟨1, _, _, by decide, rfl, rfl, by decide, W4847, mo_w1, hd rfl⟩,
  trivial⟩⟩⟩⟩⟩
theorem fe_679 : eqEs ((flat code_679).filter (fun e => ndE e.2.2.1)) (fl_679_0) = true := by decide +kernel
theorem om_679 : OKm mi iT prg 679 := OKm_of (code := code_679) rfl mt_679 (Or.inl (by decide +kernel)) rfl wk_679 (by decide +kernel) (by decide +kernel) (FA_of fe_679 (fb_679_0))
def fl_680_0 : List Ent := [(3, 3, 19, .invokevirtual 270, [0, 3, 3, 38, 681], 0), (9, 3, 15, .ldc2_w 231, [13830554455654793216], 0), (16, 3, 6, .getfield 73, [3, 38, 245], 0), (23, 1, 10, .arraylength, [103], 0), (46, 3, 38, .invokestatic 252, [1], 0)]
theorem fb_680_0 : FB mi iT mi_680 (bpc code_680) (fl_680_0) := ⟨fun hd => mk19 mt_681 cf_681 (vf_681_38.rt (Or.inl W4835) (hd rfl)) rfl rfl (noH_nil rfl),
  ⟨fun hd => mk15 W4790 (hd rfl),
  ⟨fun hd => mk6 fld_38_33 (Or.inl ⟨rfl, by decide⟩) (Or.inl W4444) (Or.inl rfl) (hd rfl),
  ⟨fun hd => mk10 (by decide) rfl (hd rfl),
  ⟨fun hd => ⟨1, _, _, by decide, rfl, rfl, by decide, W4847, mo_w1, hd rfl⟩,
  trivial⟩⟩⟩⟩⟩
theorem fe_680 : eqEs ((flat code_680).filter (fun e => ndE e.2.2.1)) (fl_680_0) = true := by decide +kernel
theorem om_680 : OKm mi iT prg 680 := OKm_of (code := code_680) rfl mt_680 (Or.inl (by decide +kernel)) rfl wk_680 (by decide +kernel) (by decide +kernel) (FA_of fe_680 (fb_680_0))
def fl_681_0 : List Ent := [(2, 3, 19, .invokevirtual 184, [2, 2, 2, 38, 670], 0), (28, 3, 6, .getfield 79, [3, 38, 247], 0), (39, 3, 6, .getfield 107, [0, 38, 214], 0), (42, 3, 13, .getstatic 255, [55], 0), (52, 3, 15, .ldc2_w 259, [4629700416936869888], 0), (57, 3, 19, .invokevirtual 261, [2, 2, 3, 38, 682], 0), (63, 3, 6, .getfield 107, [0, 38, 214], 0), (66, 3, 13, .getstatic 255, [55], 0), (78, 3, 15, .ldc2_w 259, [4629700416936869888], 0), (83, 3, 19, .invokevirtual 261, [2, 2, 3, 38, 682], 0), (86, 3, 19, .invokevirtual 233, [2, 4, 6, 38, 657], 0), (89, 1, 9, .dastore, [2, 103], 0), (93, 3, 6, .getfield 79, [3, 38, 247], 0), (110, 3, 15, .ldc2_w 212, [4562254508917369340], 0), (122, 3, 6, .getfield 66, [3, 38, 243], 0), (151, 3, 6, .getfield 70, [3, 38, 244], 0), (159, 3, 6, .getfield 79, [3, 38, 247], 0), (178, 3, 15, .ldc2_w 110, [4611686018427387904], 0), (183, 3, 6, .getfield 96, [0, 38, 213], 0), (188, 3, 15, .ldc2_w 99, [4618441417868443648], 0), (204, 3, 19, .invokevirtual 101, [0, 3, 3, 38, 665], 0), (215, 3, 19, .invokevirtual 101, [0, 3, 3, 38, 665], 0), (226, 3, 19, .invokevirtual 101, [0, 3, 3, 38, 665], 0), (229, 3, 19, .invokevirtual 264, [2, 5, 5, 38, 658], 0), (235, 3, 6, .getfield 73, [3, 38, 245], 0), (247, 3, 15, .ldc2_w 268, [4666722622711529472], 0), (255, 3, 38, .invokestatic 204, [0], 0), (260, 3, 38, .invokestatic 204, [0], 0), (263, 3, 38, .invokestatic 252, [1], 0), (269, 1, 9, .dastore, [2, 103], 0)]
theorem fb_681_0 : FB mi iT mi_681 (bpc code_681) (fl_681_0) := ⟨fun hd => mk19 mt_670 cf_670 (vf_670_38.rt (Or.inl W4743) (hd rfl)) rfl rfl (noH_nil rfl),
  ⟨fun hd => mk6 fld_38_35 (Or.inl ⟨rfl, by decide⟩) (Or.inl W4446) (Or.inl rfl) (hd rfl),
  ⟨fun hd => mk6 fld_38_2 (Or.inl ⟨rfl, by decide⟩) (Or.inl W4456) (Or.inr W4457) (hd rfl),
  ⟨fun hd => mk13s (by decide) rfl (Or.inr ⟨_, W4839⟩) (Or.inl rfl) (hd rfl),
  ⟨fun hd => mk15 W4841 (hd rfl),
  ⟨fun hd => mk19 mt_682 cf_682 (vf_682_38.rt (Or.inl W4842) (hd rfl)) rfl rfl (noH_nil rfl),
  ⟨fun hd => mk6 fld_38_2 (Or.inl ⟨rfl, by decide⟩) (Or.inl W4456) (Or.inr W4457) (hd rfl),
  ⟨fun hd => mk13s (by decide) rfl (Or.inr ⟨_, W4839⟩) (Or.inl rfl) (hd rfl),
  ⟨fun hd => mk15 W4841 (hd rfl),
  ⟨fun hd => mk19 mt_682 cf_682 (vf_682_38.rt (Or.inl W4842) (hd rfl)) rfl rfl (noH_nil rfl),
  ⟨fun hd => mk19 mt_657 cf_657 (if_657_38_KeelHouseModel_Shipbears_IDD_D.rt W4791 (hd rfl)) rfl rfl (noH_nil rfl),
  ⟨fun hd => ⟨_, _, _, rfl, rfl, hd rfl, Or.inr (Or.inl ⟨rfl, rfl, rfl⟩)⟩,
  ⟨fun hd => mk6 fld_38_35 (Or.inl ⟨rfl, by decide⟩) (Or.inl W4446) (Or.inl rfl) (hd rfl),
  ⟨fun hd => mk15 W4774 (hd rfl),
  ⟨fun hd => mk6 fld_38_31 (Or.inl ⟨rfl, by decide⟩) (Or.inl W4442) (Or.inl rfl) (hd rfl),
  ⟨fun hd => mk6 fld_38_32 (Or.inl ⟨rfl, by decide⟩) (Or.inl W4443) (Or.inl rfl) (hd rfl),
  ⟨fun hd => mk6 fld_38_35 (Or.inl ⟨rfl, by decide⟩) (Or.inl W4446) (Or.inl rfl) (hd rfl),
  ⟨fun hd => mk15 W4697 (hd rfl),
  ⟨fun hd => mk6 fld_38_1 (Or.inl ⟨rfl, by decide⟩) (Or.inl W4452) (Or.inr W4453) (hd rfl),
  ⟨fun hd => mk15 W4691 (hd rfl),
  ⟨fun hd => mk19 mt_665 cf_665 (vf_665_38.rt (Or.inl W4692) (hd rfl)) rfl rfl (noH_nil rfl),
  ⟨fun hd => mk19 mt_665 cf_665 (vf_665_38.rt (Or.inl W4692) (hd rfl)) rfl rfl (noH_nil rfl),
  ⟨fun hd => mk19 mt_665 cf_665 (vf_665_38.rt (Or.inl W4692) (hd rfl)) rfl rfl (noH_nil rfl),
  ⟨fun hd => mk19 mt_658 cf_658 (if_658_38_KeelHouseModel_Shipmodulus_IIII_D.rt W4848 (hd rfl)) rfl rfl (noH_nil rfl),
  ⟨fun hd => mk6 fld_38_33 (Or.inl ⟨rfl, by decide⟩) (Or.inl W4444) (Or.inl rfl) (hd rfl),
  ⟨fun hd => mk15 W4858 (hd rfl),
  ⟨fun hd => ⟨0, _, _, by decide, rfl, rfl, by decide, W4767, mo_w0, hd rfl⟩,
  ⟨fun hd => ⟨0, _, _, by decide, rfl, rfl, by decide, W4767, mo_w0, hd rfl⟩,
  ⟨fun hd => ⟨1, _, _, by decide, rfl, rfl, by decide, W4847, mo_w1, hd rfl⟩,
  ⟨fun hd => ⟨_, _, _, rfl, rfl, hd rfl, Or.inr (Or.inl ⟨rfl, rfl, rfl⟩)⟩,
  trivial⟩⟩⟩⟩⟩⟩⟩⟩⟩⟩⟩⟩⟩⟩⟩⟩⟩⟩⟩⟩⟩⟩⟩⟩⟩⟩⟩⟩⟩⟩
def fl_681_1 : List Ent := [(271, 3, 6, .getfield 76, [3, 38, 246], 0), (278, 1, 9, .dastore, [2, 103], 0), (280, 3, 6, .getfield 79, [3, 38, 247], 0), (287, 1, 9, .dastore, [2, 103], 0)]
theorem fb_681_1 : FB mi iT mi_681 (bpc code_681) (fl_681_1) := ⟨fun hd => mk6 fld_38_34 (Or.inl ⟨rfl, by decide⟩) (Or.inl W4445) (Or.inl rfl) (hd rfl),
  ⟨fun hd => ⟨_, _, _, rfl, rfl, hd rfl, Or.inr (Or.inl ⟨rfl, rfl, rfl⟩)⟩,
  ⟨fun hd => mk6 fld_38_35 (Or.inl ⟨rfl, by decide⟩) (Or.inl W4446) (Or.inl rfl) (hd rfl),
  ⟨fun hd => ⟨_, _, _, rfl, rfl, hd rfl, Or.inr (Or.inl ⟨rfl, rfl, rfl⟩)⟩,
  trivial⟩⟩⟩⟩
theorem fe_681 : eqEs ((flat code_681).filter (fun e => ndE e.2.2.1)) (fl_681_0 ++ (fl_681_1)) = true := by decide +kernel
theorem om_681 : OKm mi iT prg 681 := OKm_of (code := code_681) rfl mt_681 (Or.inl (by decide +kernel)) rfl wk_681 (by decide +kernel) (by decide +kernel) (FA_of fe_681 (FB_app fb_681_0 (fb_681_1)))
def fl_682_0 : List Ent := [(2, 3, 6, .getfield 107, [0, 38, 214], 0), (7, 3, 38, .invokestatic 248, [2], 0), (10, 3, 38, .invokestatic 252, [1], 0)]
theorem fb_682_0 : FB mi iT mi_682 (bpc code_682) (fl_682_0) := ⟨fun hd => mk6 fld_38_2 (Or.inl ⟨rfl, by decide⟩) (Or.inl W4456) (Or.inr W4457) (hd rfl),
  ⟨fun hd => ⟨2, _, _, by decide, rfl, rfl, by decide, W4846, mo_w2, hd rfl⟩,
  ⟨fun hd => ⟨1, _, _, by decide, rfl, rfl, by decide, W4847, mo_w1, hd rfl⟩,
  trivial⟩⟩⟩
theorem fe_682 : eqEs ((flat code_682).filter (fun e => ndE e.2.2.1)) (fl_682_0) = true := by decide +kernel
theorem om_682 : OKm mi iT prg 682 := OKm_of (code := code_682) rfl mt_682 (Or.inl (by decide +kernel)) rfl wk_682 (by decide +kernel) (by decide +kernel) (FA_of fe_682 (fb_682_0))
def fl_683_0 : List Ent := [(10, 3, 19, .invokevirtual 270, [0, 3, 3, 38, 681], 0), (25, 3, 6, .getfield 73, [3, 38, 245], 0)]
theorem fb_683_0 : FB mi iT mi_683 (bpc code_683) (fl_683_0) := ⟨fun hd => mk19 mt_681 cf_681 (vf_681_38.rt (Or.inl W4835) (hd rfl)) rfl rfl (noH_nil rfl),
  ⟨fun hd => mk6 fld_38_33 (Or.inl ⟨rfl, by decide⟩) (Or.inl W4444) (Or.inl rfl) (hd rfl),
  trivial⟩⟩
theorem fe_683 : eqEs ((flat code_683).filter (fun e => ndE e.2.2.1)) (fl_683_0) = true := by decide +kernel
theorem om_683 : OKm mi iT prg 683 := OKm_of (code := code_683) rfl mt_683 (Or.inl (by decide +kernel)) rfl wk_683 (by decide +kernel) (by decide +kernel) (FA_of fe_683 (fb_683_0))
def fl_684_0 : List Ent := [(3, 3, 19, .invokevirtual 270, [0, 3, 3, 38, 681], 0), (9, 3, 15, .ldc2_w 231, [13830554455654793216], 0), (22, 3, 19, .invokevirtual 274, [2, 3, 3, 38, 680], 0), (33, 3, 6, .getfield 73, [3, 38, 245], 0), (48, 3, 6, .getfield 76, [3, 38, 246], 0), (60, 3, 6, .getfield 79, [3, 38, 247], 0)]
theorem fb_684_0 : FB mi iT mi_684 (bpc code_684) (fl_684_0) := ⟨fun hd => mk19 mt_681 cf_681 (vf_681_38.rt (Or.inl W4835) (hd rfl)) rfl rfl (noH_nil rfl),
  ⟨fun hd => mk15 W4790 (hd rfl),
  ⟨fun hd => mk19 mt_680 cf_680 (vf_680_38.rt (Or.inl W4831) (hd rfl)) rfl rfl (noH_nil rfl),
  ⟨fun hd => mk6 fld_38_33 (Or.inl ⟨rfl, by decide⟩) (Or.inl W4444) (Or.inl rfl) (hd rfl),
  ⟨fun hd => mk6 fld_38_34 (Or.inl ⟨rfl, by decide⟩) (Or.inl W4445) (Or.inl rfl) (hd rfl),
  ⟨fun hd => mk6 fld_38_35 (Or.inl ⟨rfl, by decide⟩) (Or.inl W4446) (Or.inl rfl) (hd rfl),
  trivial⟩⟩⟩⟩⟩⟩
theorem fe_684 : eqEs ((flat code_684).filter (fun e => ndE e.2.2.1)) (fl_684_0) = true := by decide +kernel
theorem om_684 : OKm mi iT prg 684 := OKm_of (code := code_684) rfl mt_684 (Or.inl (by decide +kernel)) rfl wk_684 (by decide +kernel) (by decide +kernel) (FA_of fe_684 (fb_684_0))
def fl_685_0 : List Ent := [(2, 3, 19, .invokevirtual 277, [2, 2, 2, 38, 679], 0), (28, 3, 19, .invokevirtual 270, [0, 3, 3, 38, 681], 0), (43, 3, 6, .getfield 73, [3, 38, 245], 0)]
theorem fb_685_0 : FB mi iT mi_685 (bpc code_685) (fl_685_0) := ⟨fun hd => mk19 mt_679 cf_679 (vf_679_38.rt (Or.inl W4827) (hd rfl)) rfl rfl (noH_nil rfl),
  ⟨fun hd => mk19 mt_681 cf_681 (vf_681_38.rt (Or.inl W4835) (hd rfl)) rfl rfl (noH_nil rfl),
  ⟨fun hd => mk6 fld_38_33 (Or.inl ⟨rfl, by decide⟩) (Or.inl W4444) (Or.inl rfl) (hd rfl),
  trivial⟩⟩⟩
theorem fe_685 : eqEs ((flat code_685).filter (fun e => ndE e.2.2.1)) (fl_685_0) = true := by decide +kernel
theorem om_685 : OKm mi iT prg 685 := OKm_of (code := code_685) rfl mt_685 (Or.inl (by decide +kernel)) rfl wk_685 (by decide +kernel) (by decide +kernel) (FA_of fe_685 (fb_685_0))
def fl_686_0 : List Ent := [(1, 3, 6, .getfield 96, [0, 38, 213], 0)]
theorem fb_686_0 : FB mi iT mi_686 (bpc code_686) (fl_686_0) := ⟨fun hd => mk6 fld_38_1 (Or.inl ⟨rfl, by decide⟩) (Or.inl W4452) (Or.inr W4453) (hd rfl),
  trivial⟩
theorem fe_686 : eqEs ((flat code_686).filter (fun e => ndE e.2.2.1)) (fl_686_0) = true := by decide +kernel
theorem om_686 : OKm mi iT prg 686 := OKm_of (code := code_686) rfl mt_686 (Or.inl (by decide +kernel)) rfl wk_686 (by decide +kernel) (by decide +kernel) (FA_of fe_686 (fb_686_0))
def fl_687_0 : List Ent := [(8, 3, 19, .invokevirtual 92, [2, 3, 3, 38, 653], 0), (11, 3, 15, .ldc2_w 284, [4621819117588971520], 0), (16, 3, 18, .invokestatic 286, [0, 2, 2, 74], 0)]
theorem fb_687_0 : FB mi iT mi_687 (bpc code_687) (fl_687_0) := ⟨fun hd => mk19 mt_653 cf_653 (if_653_38_KeelHouseModel_Shipbreadth_II_D.rt W4680 (hd rfl)) rfl rfl (noH_nil rfl),
  ⟨fun hd => mk15 W4924 (hd rfl),
  ⟨fun hd => mk18 mt_74 sf_74 (Or.inl W4925) rfl rfl (noH_nil rfl) (hd rfl),
  trivial⟩⟩⟩
theorem fe_687 : eqEs ((flat code_687).filter (fun e => ndE e.2.2.1)) (fl_687_0) = true := by decide +kernel
theorem om_687 : OKm mi iT prg 687 := OKm_of (code := code_687) rfl mt_687 (Or.inl (by decide +kernel)) rfl wk_687 (by decide +kernel) (by decide +kernel) (FA_of fe_687 (fb_687_0))
def fl_688_0 : List Ent := [(1, 3, 6, .getfield 3, [3, 38, 248], 0), (5, 3, 19, .invokevirtual 343, [0, 2, 2, 37, 408], 0), (12, 3, 13, .getstatic 346, [39], 0), (18, 3, 6, .getfield 96, [0, 38, 213], 0)]
theorem fb_688_0 : FB mi iT mi_688 (bpc code_688) (fl_688_0) := ⟨fun hd => mk6 fld_38_36 (Or.inl ⟨rfl, by decide⟩) (Or.inl W4447) (Or.inl rfl) (hd rfl),
  ⟨fun hd => mk19 mt_408 cf_408 (vf_408_37.rt (Or.inr ⟨⟨_, W4982⟩, _, _, rfl⟩) (hd rfl)) rfl rfl (noH_nil rfl),
  ⟨fun hd => mk13s (by decide) rfl (Or.inr ⟨_, W4986⟩) (Or.inl rfl) (hd rfl),
  ⟨fun hd => mk6 fld_38_1 (Or.inl ⟨rfl, by decide⟩) (Or.inl W4452) (Or.inr W4453) (hd rfl),
  trivial⟩⟩⟩⟩
theorem fe_688 : eqEs ((flat code_688).filter (fun e => ndE e.2.2.1)) (fl_688_0) = true := by decide +kernel
theorem om_688 : OKm mi iT prg 688 := OKm_of (code := code_688) rfl mt_688 (Or.inl (by decide +kernel)) rfl wk_688 (by decide +kernel) (by decide +kernel) (FA_of fe_688 (fb_688_0))
def fl_689_0 : List Ent := [(2, 3, 7, .putfield 303, [4, 38, 228], 0), (7, 3, 7, .putfield 85, [0, 38, 217], 0), (19, 3, 6, .getfield 47, [3, 38, 229], 0), (25, 3, 19, .invokevirtual 307, [0, 2, 2, 38, 690], 0), (28, 1, 9, .iastore, [0, 100], 0), (30, 3, 6, .getfield 50, [3, 38, 230], 0), (35, 3, 6, .getfield 47, [3, 38, 229], 0), (40, 1, 9, .iastore, [0, 100], 0)]
theorem fb_689_0 : FB mi iT mi_689 (bpc code_689) (fl_689_0) := ⟨fun hd => mk7 fld_38_16 (Or.inl W4411) (Or.inl rfl) (Or.inl rfl) (hd rfl),
  ⟨fun hd => mk7 fld_38_5 (Or.inl W4385) (Or.inl rfl) (Or.inl rfl) (hd rfl),
  ⟨fun hd => mk6 fld_38_17 (Or.inl ⟨rfl, by decide⟩) (Or.inl W4413) (Or.inl rfl) (hd rfl),
  ⟨fun hd => mk19 mt_690 cf_690 (vf_690_38.rt (Or.inl W4992) (hd rfl)) rfl rfl (noH_nil rfl),
  ⟨fun hd => ⟨_, _, _, rfl, rfl, hd rfl, Or.inl ⟨rfl, rfl, rfl⟩⟩,
  ⟨fun hd => mk6 fld_38_18 (Or.inl ⟨rfl, by decide⟩) (Or.inl W4416) (Or.inl rfl) (hd rfl),
  ⟨fun hd => mk6 fld_38_17 (Or.inl ⟨rfl, by decide⟩) (Or.inl W4413) (Or.inl rfl) (hd rfl),
  ⟨fun hd => ⟨_, _, _, rfl, rfl, hd rfl, Or.inl ⟨rfl, rfl, rfl⟩⟩,
  trivial⟩⟩⟩⟩⟩⟩⟩⟩
theorem fe_689 : eqEs ((flat code_689).filter (fun e => ndE e.2.2.1)) (fl_689_0) = true := by decide +kernel
theorem om_689 : OKm mi iT prg 689 := OKm_of (code := code_689) rfl mt_689 (Or.inl (by decide +kernel)) rfl wk_689 (by decide +kernel) (by decide +kernel) (FA_of fe_689 (fb_689_0))
def fl_690_0 : List Ent := [(6, 3, 6, .getfield 96, [0, 38, 213], 0), (13, 3, 19, .invokevirtual 288, [0, 2, 2, 38, 691], 0), (20, 3, 6, .getfield 28, [3, 38, 221], 0), (37, 3, 19, .invokevirtual 292, [0, 1, 1, 38, 686], 0), (44, 3, 19, .invokevirtual 295, [0, 2, 2, 38, 687], 0), (64, 3, 6, .getfield 221, [0, 38, 220], 0), (67, 3, 18, .invokestatic 298, [0, 1, 1, 62], 0), (84, 3, 6, .getfield 141, [0, 38, 233], 0), (101, 3, 6, .getfield 96, [0, 38, 213], 0)]
theorem fb_690_0 : FB mi iT mi_690 (bpc code_690) (fl_690_0) := ⟨fun hd => mk6 fld_38_1 (Or.inl ⟨rfl, by decide⟩) (Or.inl W4452) (Or.inr W4453) (hd rfl),
  ⟨fun hd => mk19 mt_691 cf_691 (vf_691_38.rt (Or.inl W4996) (hd rfl)) rfl rfl (noH_nil rfl),
  ⟨fun hd => mk6 fld_38_9 (Or.inl ⟨rfl, by decide⟩) (Or.inl W4394) (Or.inl rfl) (hd rfl),
  ⟨fun hd => mk19 mt_686 cf_686 (vf_686_38.rt (Or.inl W5000) (hd rfl)) rfl rfl (noH_nil rfl),
  ⟨fun hd => mk19 mt_687 cf_687 (vf_687_38.rt (Or.inl W5001) (hd rfl)) rfl rfl (noH_nil rfl),
  ⟨fun hd => mk6 fld_38_8 (Or.inl ⟨rfl, by decide⟩) (Or.inl W4392) (Or.inl rfl) (hd rfl),
  ⟨fun hd => mk18 mt_62 sf_62 (Or.inl W5002) rfl rfl (noH_nil rfl) (hd rfl),
  ⟨fun hd => mk6 fld_38_21 (Or.inl ⟨rfl, by decide⟩) (Or.inl W4424) (Or.inl rfl) (hd rfl),
  ⟨fun hd => mk6 fld_38_1 (Or.inl ⟨rfl, by decide⟩) (Or.inl W4452) (Or.inr W4453) (hd rfl),
  trivial⟩⟩⟩⟩⟩⟩⟩⟩⟩
theorem fe_690 : eqEs ((flat code_690).filter (fun e => ndE e.2.2.1)) (fl_690_0) = true := by decide +kernel
theorem om_690 : OKm mi iT prg 690 := OKm_of (code := code_690) rfl mt_690 (Or.inl (by decide +kernel)) rfl wk_690 (by decide +kernel) (by decide +kernel) (FA_of fe_690 (fb_690_0))
theorem fe_691 : eqEs ((flat code_691).filter (fun e => ndE e.2.2.1)) ([]) = true := by decide +kernel
theorem om_691 : OKm mi iT prg 691 := OKm_of (code := code_691) rfl mt_691 (Or.inl (by decide +kernel)) rfl wk_691 (by decide +kernel) (by decide +kernel) (FA_of fe_691 (trivial))
def fl_692_0 : List Ent := [(13, 3, 19, .invokevirtual 310, [0, 2, 2, 38, 668], 0), (16, 3, 18, .invokestatic 244, [0, 1, 1, 381], 0)]
theorem fb_692_0 : FB mi iT mi_692 (bpc code_692) (fl_692_0) := ⟨fun hd => mk19 mt_668 cf_668 (vf_668_38.rt (Or.inl W4727) (hd rfl)) rfl rfl (noH_nil rfl),
  ⟨fun hd => mk18 mt_381 sf_381 (Or.inr ⟨⟨_, W4808⟩, _, _, rfl⟩) rfl rfl (noH_nil rfl) (hd rfl),
  trivial⟩⟩
theorem fe_692 : eqEs ((flat code_692).filter (fun e => ndE e.2.2.1)) (fl_692_0) = true := by decide +kernel
theorem om_692 : OKm mi iT prg 692 := OKm_of (code := code_692) rfl mt_692 (Or.inl (by decide +kernel)) rfl wk_692 (by decide +kernel) (by decide +kernel) (FA_of fe_692 (fb_692_0))
def fl_693_0 : List Ent := [(1, 3, 19, .invokevirtual 334, [0, 1, 1, 38, 694], 0), (10, 3, 6, .getfield 3, [3, 38, 248], 0), (13, 3, 6, .getfield 337, [0, 37, 196], 0), (16, 3, 18, .invokestatic 340, [0, 1, 1, 411], 0)]
theorem fb_693_0 : FB mi iT mi_693 (bpc code_693) (fl_693_0) := ⟨fun hd => mk19 mt_694 cf_694 (vf_694_38.rt (Or.inl W5023) (hd rfl)) rfl rfl (noH_nil rfl),
  ⟨fun hd => mk6 fld_38_36 (Or.inl ⟨rfl, by decide⟩) (Or.inl W4447) (Or.inl rfl) (hd rfl),
  ⟨fun hd => mk6 fld_37_2 (Or.inl ⟨rfl, by decide⟩) (Or.inr ⟨_, W4285⟩) (Or.inl rfl) (hd rfl),
  ⟨fun hd => mk18 mt_411 sf_411 (Or.inr ⟨⟨_, W5028⟩, _, _, rfl⟩) rfl rfl (noH_nil rfl) (hd rfl),
  trivial⟩⟩⟩⟩
theorem fe_693 : eqEs ((flat code_693).filter (fun e => ndE e.2.2.1)) (fl_693_0) = true := by decide +kernel
theorem om_693 : OKm mi iT prg 693 := OKm_of (code := code_693) rfl mt_693 (Or.inl (by decide +kernel)) rfl wk_693 (by decide +kernel) (by decide +kernel) (FA_of fe_693 (fb_693_0))
def fl_694_0 : List Ent := [(2, 3, 19, .invokevirtual 184, [2, 2, 2, 38, 670], 0), (16, 3, 15, .ldc2_w 284, [4621819117588971520], 0), (21, 3, 18, .invokestatic 331, [2, 1, 2, 72], 0)]
theorem fb_694_0 : FB mi iT mi_694 (bpc code_694) (fl_694_0) := ⟨fun hd => mk19 mt_670 cf_670 (vf_670_38.rt (Or.inl W4743) (hd rfl)) rfl rfl (noH_nil rfl),
  ⟨fun hd => mk15 W4924 (hd rfl),
  ⟨fun hd => mk18 mt_72 sf_72 (Or.inl W5027) rfl rfl (noH_nil rfl) (hd rfl),
  trivial⟩⟩⟩
theorem fe_694 : eqEs ((flat code_694).filter (fun e => ndE e.2.2.1)) (fl_694_0) = true := by decide +kernel
theorem om_694 : OKm mi iT prg 694 := OKm_of (code := code_694) rfl mt_694 (Or.inl (by decide +kernel)) rfl wk_694 (by decide +kernel) (by decide +kernel) (FA_of fe_694 (fb_694_0))
def fl_695_0 : List Ent := [(2, 3, 7, .putfield 85, [0, 38, 217], 0), (7, 3, 7, .putfield 44, [0, 38, 226], 0), (12, 3, 7, .putfield 424, [0, 38, 235], 0), (17, 3, 7, .putfield 63, [0, 38, 236], 0), (21, 3, 6, .getfield 3, [3, 38, 248], 0), (24, 3, 6, .getfield 148, [3, 37, 208], 0), (27, 3, 19, .invokevirtual 116, [3, 1, 1, 5, 4], 0), (32, 5, 34, .invokeinterface 120 1, [0, 1, 1, 11, 87], 0), (41, 5, 34, .invokeinterface 126 1, [3, 1, 1, 11, 88], 0), (46, 3, 17, .checkcast 151, [40], 0), (52, 3, 6, .getfield 82, [0, 38, 216], 0), (55, 3, 19, .invokevirtual 427, [9, 2, 2, 40, 766], 0)]
theorem fb_695_0 : FB mi iT mi_695 (bpc code_695) (fl_695_0) := ⟨fun hd => mk7 fld_38_5 (Or.inl W4385) (Or.inl rfl) (Or.inl rfl) (hd rfl),
  ⟨fun hd => mk7 fld_38_14 (Or.inl W4407) (Or.inl rfl) (Or.inl rfl) (hd rfl),
  ⟨fun hd => mk7 fld_38_23 (Or.inl W4429) (Or.inl rfl) (Or.inl rfl) (hd rfl),
  ⟨fun hd => mk7 fld_38_24 (Or.inl W4430) (Or.inl rfl) (Or.inl rfl) (hd rfl),
  ⟨fun hd => mk6 fld_38_36 (Or.inl ⟨rfl, by decide⟩) (Or.inl W4447) (Or.inl rfl) (hd rfl),
  ⟨fun hd => mk6 fld_37_14 (Or.inl ⟨rfl, by decide⟩) (Or.inr ⟨_, W4303⟩) (Or.inl rfl) (hd rfl),
  ⟨fun hd => mk19 mt_4 cf_4 (vf_4_5.rt (Or.inl W4708) (hd rfl)) rfl rfl (noH_nil rfl),
  ⟨fun hd => mk34 mt_87 cf_87 (ff_87_11.rt W4710 (hd rfl)) rfl rfl,
  ⟨fun hd => mk34 mt_88 cf_88 (ff_88_11.rt W4712 (hd rfl)) rfl rfl,
  ⟨fun hd => mk17 kx_40 W4733 (hd rfl),
  ⟨fun hd => mk6 fld_38_4 (Or.inl ⟨rfl, by decide⟩) (Or.inl W4383) (Or.inl rfl) (hd rfl),
  ⟨fun hd => mk19 mt_766 cf_766 (vf_766_40.rt (Or.inl W5040) (hd rfl)) rfl rfl (noH_nil rfl),
  trivial⟩⟩⟩⟩⟩⟩⟩⟩⟩⟩⟩⟩
theorem fe_695 : eqEs ((flat code_695).filter (fun e => ndE e.2.2.1)) (fl_695_0) = true := by decide +kernel
theorem om_695 : OKm mi iT prg 695 := OKm_of (code := code_695) rfl mt_695 (Or.inl (by decide +kernel)) rfl wk_695 (by decide +kernel) (by decide +kernel) (FA_of fe_695 (fb_695_0))
def fl_696_0 : List Ent := [(1, 3, 6, .getfield 431, [0, 38, 239], 0), (9, 3, 6, .getfield 434, [0, 38, 242], 0), (14, 3, 7, .putfield 434, [0, 38, 242], 0), (19, 3, 19, .invokevirtual 396, [0, 1, 1, 38, 697], 0), (22, 3, 19, .invokevirtual 399, [2, 2, 2, 38, 705], 0), (27, 3, 6, .getfield 3, [3, 38, 248], 0), (30, 3, 19, .invokevirtual 436, [0, 1, 1, 37, 410], 0), (37, 3, 15, .ldc2_w 110, [4611686018427387904], 0), (45, 3, 15, .ldc2_w 439, [4627448617123184640], 0), (51, 3, 19, .invokevirtual 396, [0, 1, 1, 38, 697], 0), (65, 3, 6, .getfield 441, [0, 38, 237], 0), (75, 3, 6, .getfield 441, [0, 38, 237], 0), (81, 3, 7, .putfield 441, [0, 38, 237], 0), (88, 3, 15, .ldc2_w 402, [4616189618054758400], 0), (94, 3, 6, .getfield 3, [3, 38, 248], 0), (97, 3, 19, .invokevirtual 436, [0, 1, 1, 37, 410], 0), (104, 3, 19, .invokevirtual 444, [9, 1, 1, 38, 707], 0), (108, 3, 6, .getfield 85, [0, 38, 217], 0), (118, 3, 6, .getfield 447, [2, 38, 238], 0), (123, 3, 7, .putfield 447, [2, 38, 238], 0), (127, 3, 6, .getfield 447, [2, 38, 238], 0), (136, 3, 19, .invokevirtual 450, [9, 1, 1, 38, 708], 0), (141, 3, 6, .getfield 424, [0, 38, 235], 0), (149, 3, 6, .getfield 447, [2, 38, 238], 0), (162, 3, 7, .putfield 431, [4, 38, 239], 0)]
theorem fb_696_0 : FB mi iT mi_696 (bpc code_696) (fl_696_0) := ⟨fun hd => mk6 fld_38_27 (Or.inr ⟨rfl, Or.inl rfl⟩) (Or.inl W4436) (Or.inl rfl) (hd rfl),
  ⟨fun hd => mk6 fld_38_30 (Or.inl ⟨rfl, by decide⟩) (Or.inl W4441) (Or.inl rfl) (hd rfl),
  ⟨fun hd => mk7 fld_38_30 (Or.inl W4441) (Or.inl rfl) (Or.inl rfl) (hd rfl),
  ⟨fun hd => mk19 mt_697 cf_697 (vf_697_38.rt (Or.inl W5185) (hd rfl)) rfl rfl (noH_nil rfl),
  ⟨fun hd => mk19 mt_705 cf_705 (vf_705_38.rt (Or.inl W5221) (hd rfl)) rfl rfl (noH_nil rfl),
  ⟨fun hd => mk6 fld_38_36 (Or.inl ⟨rfl, by decide⟩) (Or.inl W4447) (Or.inl rfl) (hd rfl),
  ⟨fun hd => mk19 mt_410 cf_410 (vf_410_37.rt (Or.inr ⟨⟨_, W5231⟩, _, _, rfl⟩) (hd rfl)) rfl rfl (noH_nil rfl),
  ⟨fun hd => mk15 W4697 (hd rfl),
  ⟨fun hd => mk15 W5232 (hd rfl),
  ⟨fun hd => mk19 mt_697 cf_697 (vf_697_38.rt (Or.inl W5185) (hd rfl)) rfl rfl (noH_nil rfl),
  ⟨fun hd => mk6 fld_38_25 (Or.inl ⟨rfl, by decide⟩) (Or.inl W4432) (Or.inl rfl) (hd rfl),
  ⟨fun hd => mk6 fld_38_25 (Or.inl ⟨rfl, by decide⟩) (Or.inl W4432) (Or.inl rfl) (hd rfl),
  ⟨fun hd => mk7 fld_38_25 (Or.inl W4432) (Or.inl rfl) (Or.inl rfl) (hd rfl),
  ⟨fun hd => mk15 W5233 (hd rfl),
  ⟨fun hd => mk6 fld_38_36 (Or.inl ⟨rfl, by decide⟩) (Or.inl W4447) (Or.inl rfl) (hd rfl),
  ⟨fun hd => mk19 mt_410 cf_410 (vf_410_37.rt (Or.inr ⟨⟨_, W5231⟩, _, _, rfl⟩) (hd rfl)) rfl rfl (noH_nil rfl),
  ⟨fun hd => mk19 mt_707 cf_707 (vf_707_38.rt (Or.inl W5234) (hd rfl)) rfl rfl (noH_nil rfl),
  ⟨fun hd => mk6 fld_38_5 (Or.inl ⟨rfl, by decide⟩) (Or.inl W4385) (Or.inl rfl) (hd rfl),
  ⟨fun hd => mk6 fld_38_26 (Or.inl ⟨rfl, by decide⟩) (Or.inl W4434) (Or.inl rfl) (hd rfl),
  ⟨fun hd => mk7 fld_38_26 (Or.inl W4434) (Or.inl rfl) (Or.inl rfl) (hd rfl),
  ⟨fun hd => mk6 fld_38_26 (Or.inl ⟨rfl, by decide⟩) (Or.inl W4434) (Or.inl rfl) (hd rfl),
  ⟨fun hd => mk19 mt_708 cf_708 (vf_708_38.rt (Or.inl W5241) (hd rfl)) rfl rfl (noH_nil rfl),
  ⟨fun hd => mk6 fld_38_23 (Or.inl ⟨rfl, by decide⟩) (Or.inl W4429) (Or.inl rfl) (hd rfl),
  ⟨fun hd => mk6 fld_38_26 (Or.inl ⟨rfl, by decide⟩) (Or.inl W4434) (Or.inl rfl) (hd rfl),
  ⟨fun hd => mk7 fld_38_27 (Or.inl W4436) (Or.inl rfl) (Or.inl rfl) (hd rfl),
  trivial⟩⟩⟩⟩⟩⟩⟩⟩⟩⟩⟩⟩⟩⟩⟩⟩⟩⟩⟩⟩⟩⟩⟩⟩⟩
theorem fe_696 : eqEs ((flat code_696).filter (fun e => ndE e.2.2.1)) (fl_696_0) = true := by decide +kernel
theorem om_696 : OKm mi iT prg 696 := OKm_of (code := code_696) rfl mt_696 (Or.inl (by decide +kernel)) rfl wk_696 (by decide +kernel) (by decide +kernel) (FA_of fe_696 (fb_696_0))
def fl_697_0 : List Ent := [(1, 3, 19, .invokevirtual 138, [0, 1, 1, 38, 667], 0), (10, 3, 6, .getfield 141, [0, 38, 233], 0), (17, 3, 19, .invokevirtual 377, [0, 1, 1, 38, 698], 0), (21, 3, 18, .invokestatic 322, [0, 2, 2, 67], 0)]
theorem fb_697_0 : FB mi iT mi_697 (bpc code_697) (fl_697_0) := ⟨fun hd => mk19 mt_667 cf_667 (vf_667_38.rt (Or.inl W4723) (hd rfl)) rfl rfl (noH_nil rfl),
  ⟨fun hd => mk6 fld_38_21 (Or.inl ⟨rfl, by decide⟩) (Or.inl W4424) (Or.inl rfl) (hd rfl),
  ⟨fun hd => mk19 mt_698 cf_698 (vf_698_38.rt (Or.inl W5189) (hd rfl)) rfl rfl (noH_nil rfl),
  ⟨fun hd => mk18 mt_67 sf_67 (Or.inl W5220) rfl rfl (noH_nil rfl) (hd rfl),
  trivial⟩⟩⟩⟩
theorem fe_697 : eqEs ((flat code_697).filter (fun e => ndE e.2.2.1)) (fl_697_0) = true := by decide +kernel
theorem om_697 : OKm mi iT prg 697 := OKm_of (code := code_697) rfl mt_697 (Or.inl (by decide +kernel)) rfl wk_697 (by decide +kernel) (by decide +kernel) (FA_of fe_697 (fb_697_0))
def fl_698_0 : List Ent := [(2, 3, 19, .invokevirtual 375, [0, 2, 2, 38, 699], 0)]
theorem fb_698_0 : FB mi iT mi_698 (bpc code_698) (fl_698_0) := ⟨fun hd => mk19 mt_699 cf_699 (vf_699_38.rt (Or.inl W5193) (hd rfl)) rfl rfl (noH_nil rfl),
  trivial⟩
theorem fe_698 : eqEs ((flat code_698).filter (fun e => ndE e.2.2.1)) (fl_698_0) = true := by decide +kernel
theorem om_698 : OKm mi iT prg 698 := OKm_of (code := code_698) rfl mt_698 (Or.inl (by decide +kernel)) rfl wk_698 (by decide +kernel) (by decide +kernel) (FA_of fe_698 (fb_698_0))
def fl_699_0 : List Ent := [(4, 2, 12, .newarray .int, [100], 0), (6, 3, 19, .invokevirtual 372, [0, 3, 3, 38, 700], 0)]
theorem fb_699_0 : FB mi iT mi_699 (bpc code_699) (fl_699_0) := ⟨fun hd => mk12a (at_ := .int) (by decide) rfl W239 (hd rfl),
  ⟨fun hd => mk19 mt_700 cf_700 (vf_700_38.rt (Or.inl W5197) (hd rfl)) rfl rfl (noH_nil rfl),
  trivial⟩⟩
theorem fe_699 : eqEs ((flat code_699).filter (fun e => ndE e.2.2.1)) (fl_699_0) = true := by decide +kernel
theorem om_699 : OKm mi iT prg 699 := OKm_of (code := code_699) rfl mt_699 (Or.inl (by decide +kernel)) rfl wk_699 (by decide +kernel) (by decide +kernel) (FA_of fe_699 (fb_699_0))
def fl_700_0 : List Ent := [(4, 1, 10, .arraylength, [100], 0), (11, 1, 9, .iastore, [0, 100], 0), (23, 3, 19, .invokevirtual 349, [0, 3, 3, 38, 701], 0), (41, 3, 19, .invokevirtual 349, [0, 3, 3, 38, 701], 0)]
theorem fb_700_0 : FB mi iT mi_700 (bpc code_700) (fl_700_0) := ⟨fun hd => mk10 (by decide) rfl (hd rfl),
  ⟨fun hd => ⟨_, _, _, rfl, rfl, hd rfl, Or.inl ⟨rfl, rfl, rfl⟩⟩,
  ⟨fun hd => mk19 mt_701 cf_701 (vf_701_38.rt (Or.inl W5201) (hd rfl)) rfl rfl (noH_nil rfl),
  ⟨fun hd => mk19 mt_701 cf_701 (vf_701_38.rt (Or.inl W5201) (hd rfl)) rfl rfl (noH_nil rfl),
  trivial⟩⟩⟩⟩
theorem fe_700 : eqEs ((flat code_700).filter (fun e => ndE e.2.2.1)) (fl_700_0) = true := by decide +kernel
theorem om_700 : OKm mi iT prg 700 := OKm_of (code := code_700) rfl mt_700 (Or.inl (by decide +kernel)) rfl wk_700 (by decide +kernel) (by decide +kernel) (FA_of fe_700 (fb_700_0))
def fl_701_0 : List Ent := [(3, 3, 19, .invokevirtual 367, [3, 3, 3, 38, 702], 0), (18, 3, 14, .ldc_w 371, [], 2147483647), (56, 3, 19, .invokevirtual 363, [0, 4, 4, 38, 704], 0), (59, 3, 18, .invokestatic 322, [0, 2, 2, 67], 0), (65, 3, 6, .getfield 60, [3, 38, 234], 0), (74, 3, 19, .invokevirtual 353, [3, 2, 2, 5, 6], 0), (77, 3, 17, .checkcast 130, [100], 0), (128, 1, 9, .iastore, [0, 100], 0), (130, 3, 6, .getfield 60, [3, 38, 234], 0), (139, 3, 19, .invokevirtual 353, [3, 2, 2, 5, 6], 0), (142, 3, 17, .checkcast 130, [100], 0)]
theorem fb_701_0 : FB mi iT mi_701 (bpc code_701) (fl_701_0) := ⟨fun hd => mk19 mt_702 cf_702 (vf_702_38.rt (Or.inl W5205) (hd rfl)) rfl rfl (noH_nil rfl),
  ⟨fun hd => mk14c W5219 (Or.inr ⟨hd rfl, rfl⟩),
  ⟨fun hd => mk19 mt_704 cf_704 (vf_704_38.rt (Or.inl W5215) (hd rfl)) rfl rfl (noH_nil rfl),
  ⟨fun hd => mk18 mt_67 sf_67 (Or.inl W5220) rfl rfl (noH_nil rfl) (hd rfl),
  ⟨fun hd => mk6 fld_38_22 (Or.inl ⟨rfl, by decide⟩) (Or.inl W4426) (Or.inl rfl) (hd rfl),
  ⟨fun hd => mk19 mt_6 cf_6 (vf_6_5.rt (Or.inl W5214) (hd rfl)) rfl rfl (noH_nil rfl),
  ⟨fun hd => mk17 kx_100 W4713 (hd rfl),
  ⟨fun hd => ⟨_, _, _, rfl, rfl, hd rfl, Or.inl ⟨rfl, rfl, rfl⟩⟩,
  ⟨fun hd => mk6 fld_38_22 (Or.inl ⟨rfl, by decide⟩) (Or.inl W4426) (Or.inl rfl) (hd rfl),
  ⟨fun hd => mk19 mt_6 cf_6 (vf_6_5.rt (Or.inl W5214) (hd rfl)) rfl rfl (noH_nil rfl),
  ⟨fun hd => mk17 kx_100 W4713 (hd rfl),
  trivial⟩⟩⟩⟩⟩⟩⟩⟩⟩⟩⟩
theorem fe_701 : eqEs ((flat code_701).filter (fun e => ndE e.2.2.1)) (fl_701_0) = true := by decide +kernel
theorem om_701 : OKm mi iT prg 701 := OKm_of (code := code_701) rfl mt_701 (Or.inl (by decide +kernel)) rfl wk_701 (by decide +kernel) (by decide +kernel) (FA_of fe_701 (fb_701_0))
def fl_702_0 : List Ent := [(2, 2, 12, .newarray .int, [100], 0), (20, 1, 9, .iastore, [0, 100], 0), (30, 1, 9, .iastore, [0, 100], 0), (47, 3, 6, .getfield 60, [3, 38, 234], 0), (50, 3, 19, .invokevirtual 357, [0, 1, 1, 5, 5], 0), (60, 3, 19, .invokevirtual 360, [0, 3, 3, 38, 703], 0), (70, 3, 6, .getfield 60, [3, 38, 234], 0), (75, 3, 19, .invokevirtual 353, [3, 2, 2, 5, 6], 0), (78, 3, 17, .checkcast 130, [100], 0), (110, 3, 19, .invokevirtual 363, [0, 4, 4, 38, 704], 0), (125, 1, 9, .iastore, [0, 100], 0), (153, 3, 19, .invokevirtual 363, [0, 4, 4, 38, 704], 0), (170, 1, 9, .iastore, [0, 100], 0)]
theorem fb_702_0 : FB mi iT mi_702 (bpc code_702) (fl_702_0) := ⟨fun hd => mk12a (at_ := .int) (by decide) rfl W239 (hd rfl),
  ⟨fun hd => ⟨_, _, _, rfl, rfl, hd rfl, Or.inl ⟨rfl, rfl, rfl⟩⟩,
  ⟨fun hd => ⟨_, _, _, rfl, rfl, hd rfl, Or.inl ⟨rfl, rfl, rfl⟩⟩,
  ⟨fun hd => mk6 fld_38_22 (Or.inl ⟨rfl, by decide⟩) (Or.inl W4426) (Or.inl rfl) (hd rfl),
  ⟨fun hd => mk19 mt_5 cf_5 (vf_5_5.rt (Or.inl W5209) (hd rfl)) rfl rfl (noH_nil rfl),
  ⟨fun hd => mk19 mt_703 cf_703 (vf_703_38.rt (Or.inl W5210) (hd rfl)) rfl rfl (noH_nil rfl),
  ⟨fun hd => mk6 fld_38_22 (Or.inl ⟨rfl, by decide⟩) (Or.inl W4426) (Or.inl rfl) (hd rfl),
  ⟨fun hd => mk19 mt_6 cf_6 (vf_6_5.rt (Or.inl W5214) (hd rfl)) rfl rfl (noH_nil rfl),
  ⟨fun hd => mk17 kx_100 W4713 (hd rfl),
  ⟨fun hd => mk19 mt_704 cf_704 (vf_704_38.rt (Or.inl W5215) (hd rfl)) rfl rfl (noH_nil rfl),
  ⟨fun hd => ⟨_, _, _, rfl, rfl, hd rfl, Or.inl ⟨rfl, rfl, rfl⟩⟩,
  ⟨fun hd => mk19 mt_704 cf_704 (vf_704_38.rt (Or.inl W5215) (hd rfl)) rfl rfl (noH_nil rfl),
  ⟨fun hd => ⟨_, _, _, rfl, rfl, hd rfl, Or.inl ⟨rfl, rfl, rfl⟩⟩,
  trivial⟩⟩⟩⟩⟩⟩⟩⟩⟩⟩⟩⟩⟩
theorem fe_702 : eqEs ((flat code_702).filter (fun e => ndE e.2.2.1)) (fl_702_0) = true := by decide +kernel
theorem om_702 : OKm mi iT prg 702 := OKm_of (code := code_702) rfl mt_702 (Or.inl (by decide +kernel)) rfl wk_702 (by decide +kernel) (by decide +kernel) (FA_of fe_702 (fb_702_0))
def fl_703_0 : List Ent := [(6, 3, 6, .getfield 60, [3, 38, 234], 0), (10, 3, 19, .invokevirtual 353, [3, 2, 2, 5, 6], 0), (13, 3, 17, .checkcast 130, [100], 0), (22, 3, 6, .getfield 60, [3, 38, 234], 0), (26, 3, 19, .invokevirtual 353, [3, 2, 2, 5, 6], 0), (29, 3, 17, .checkcast 130, [100], 0)]
theorem fb_703_0 : FB mi iT mi_703 (bpc code_703) (fl_703_0) := ⟨fun hd => mk6 fld_38_22 (Or.inl ⟨rfl, by decide⟩) (Or.inl W4426) (Or.inl rfl) (hd rfl),
  ⟨fun hd => mk19 mt_6 cf_6 (vf_6_5.rt (Or.inl W5214) (hd rfl)) rfl rfl (noH_nil rfl),
  ⟨fun hd => mk17 kx_100 W4713 (hd rfl),
  ⟨fun hd => mk6 fld_38_22 (Or.inl ⟨rfl, by decide⟩) (Or.inl W4426) (Or.inl rfl) (hd rfl),
  ⟨fun hd => mk19 mt_6 cf_6 (vf_6_5.rt (Or.inl W5214) (hd rfl)) rfl rfl (noH_nil rfl),
  ⟨fun hd => mk17 kx_100 W4713 (hd rfl),
  trivial⟩⟩⟩⟩⟩⟩
theorem fe_703 : eqEs ((flat code_703).filter (fun e => ndE e.2.2.1)) (fl_703_0) = true := by decide +kernel
theorem om_703 : OKm mi iT prg 703 := OKm_of (code := code_703) rfl mt_703 (Or.inl (by decide +kernel)) rfl wk_703 (by decide +kernel) (by decide +kernel) (FA_of fe_703 (fb_703_0))
def fl_704_0 : List Ent := [(5, 3, 6, .getfield 60, [3, 38, 234], 0), (9, 3, 19, .invokevirtual 353, [3, 2, 2, 5, 6], 0), (12, 3, 17, .checkcast 130, [100], 0)]
theorem fb_704_0 : FB mi iT mi_704 (bpc code_704) (fl_704_0) := ⟨fun hd => mk6 fld_38_22 (Or.inl ⟨rfl, by decide⟩) (Or.inl W4426) (Or.inl rfl) (hd rfl),
  ⟨fun hd => mk19 mt_6 cf_6 (vf_6_5.rt (Or.inl W5214) (hd rfl)) rfl rfl (noH_nil rfl),
  ⟨fun hd => mk17 kx_100 W4713 (hd rfl),
  trivial⟩⟩⟩
theorem fe_704 : eqEs ((flat code_704).filter (fun e => ndE e.2.2.1)) (fl_704_0) = true := by decide +kernel
theorem om_704 : OKm mi iT prg 704 := OKm_of (code := code_704) rfl mt_704 (Or.inl (by decide +kernel)) rfl wk_704 (by decide +kernel) (by decide +kernel) (FA_of fe_704 (fb_704_0))
def fl_705_0 : List Ent := [(2, 3, 19, .invokevirtual 184, [2, 2, 2, 38, 670], 0), (18, 3, 19, .invokevirtual 187, [2, 3, 4, 38, 643], 0), (25, 3, 19, .invokevirtual 170, [2, 2, 2, 38, 663], 0), (33, 3, 15, .ldc2_w 259, [4629700416936869888], 0), (53, 3, 15, .ldc2_w 110, [4611686018427387904], 0), (66, 3, 19, .invokevirtual 386, [2, 4, 7, 38, 706], 0)]
theorem fb_705_0 : FB mi iT mi_705 (bpc code_705) (fl_705_0) := ⟨fun hd => mk19 mt_670 cf_670 (vf_670_38.rt (Or.inl W4743) (hd rfl)) rfl rfl (noH_nil rfl),
  ⟨fun hd => mk19 mt_643 cf_643 (if_643_38_KeelHouseModel_Shipwater_DI_D.rt W4752 (hd rfl)) rfl rfl (noH_nil rfl),
  ⟨fun hd => mk19 mt_663 cf_663 (vf_663_38.rt (Or.inl W4672) (hd rfl)) rfl rfl (noH_nil rfl),
  ⟨fun hd => mk15 W4841 (hd rfl),
  ⟨fun hd => mk15 W4697 (hd rfl),
  ⟨fun hd => mk19 mt_706 cf_706 (vf_706_38.rt (Or.inl W5225) (hd rfl)) rfl rfl (noH_nil rfl),
  trivial⟩⟩⟩⟩⟩⟩
theorem fe_705 : eqEs ((flat code_705).filter (fun e => ndE e.2.2.1)) (fl_705_0) = true := by decide +kernel
theorem om_705 : OKm mi iT prg 705 := OKm_of (code := code_705) rfl mt_705 (Or.inl (by decide +kernel)) rfl wk_705 (by decide +kernel) (by decide +kernel) (FA_of fe_705 (fb_705_0))
def fl_706_0 : List Ent := [(1, 3, 15, .ldc2_w 131, [4620693217682128896], 0), (5, 3, 6, .getfield 379, [0, 38, 227], 0), (11, 3, 15, .ldc2_w 131, [4620693217682128896], 0), (24, 3, 15, .ldc2_w 382, [4639833516098453504], 0), (42, 3, 6, .getfield 96, [0, 38, 213], 0), (46, 3, 15, .ldc2_w 384, [4643985272004935680], 0)]
theorem fb_706_0 : FB mi iT mi_706 (bpc code_706) (fl_706_0) := ⟨fun hd => mk15 W4714 (hd rfl),
  ⟨fun hd => mk6 fld_38_15 (Or.inl ⟨rfl, by decide⟩) (Or.inl W4409) (Or.inl rfl) (hd rfl),
  ⟨fun hd => mk15 W4714 (hd rfl),
  ⟨fun hd => mk15 W5229 (hd rfl),
  ⟨fun hd => mk6 fld_38_1 (Or.inl ⟨rfl, by decide⟩) (Or.inl W4452) (Or.inr W4453) (hd rfl),
  ⟨fun hd => mk15 W5230 (hd rfl),
  trivial⟩⟩⟩⟩⟩⟩
theorem fe_706 : eqEs ((flat code_706).filter (fun e => ndE e.2.2.1)) (fl_706_0) = true := by decide +kernel
theorem om_706 : OKm mi iT prg 706 := OKm_of (code := code_706) rfl mt_706 (Or.inl (by decide +kernel)) rfl wk_706 (by decide +kernel) (by decide +kernel) (FA_of fe_706 (fb_706_0))
def fl_707_0 : List Ent := [(1, 3, 6, .getfield 3, [3, 38, 248], 0), (4, 3, 6, .getfield 148, [3, 37, 208], 0), (7, 3, 19, .invokevirtual 116, [3, 1, 1, 5, 4], 0), (12, 5, 34, .invokeinterface 120 1, [0, 1, 1, 11, 87], 0), (21, 5, 34, .invokeinterface 126 1, [3, 1, 1, 11, 88], 0), (26, 3, 17, .checkcast 151, [40], 0), (31, 3, 6, .getfield 453, [0, 40, 258], 0), (39, 3, 6, .getfield 418, [0, 40, 260], 0), (47, 3, 6, .getfield 421, [0, 40, 261], 0), (51, 3, 6, .getfield 82, [0, 38, 216], 0), (59, 3, 6, .getfield 160, [2, 40, 263], 0), (62, 3, 15, .ldc2_w 456, [4602678819172646912], 0), (66, 3, 7, .putfield 160, [2, 40, 263], 0), (73, 3, 19, .invokevirtual 214, [0, 1, 1, 38, 673], 0), (82, 3, 19, .invokevirtual 458, [9, 1, 1, 38, 695], 0), (89, 3, 19, .invokevirtual 274, [2, 3, 3, 38, 680], 0), (95, 3, 19, .invokevirtual 274, [2, 3, 3, 38, 680], 0), (98, 3, 38, .invokestatic 252, [1], 0), (102, 3, 6, .getfield 40, [0, 38, 225], 0), (113, 3, 6, .getfield 460, [0, 38, 240], 0), (119, 3, 19, .invokevirtual 463, [0, 2, 2, 38, 685], 0), (124, 3, 7, .putfield 460, [0, 38, 240], 0), (129, 3, 6, .getfield 460, [0, 38, 240], 0), (133, 3, 19, .invokevirtual 241, [2, 3, 3, 38, 675], 0), (142, 3, 19, .invokevirtual 458, [9, 1, 1, 38, 695], 0)]
theorem fb_707_0 : FB mi iT mi_707 (bpc code_707) (fl_707_0) := ⟨fun hd => mk6 fld_38_36 (Or.inl ⟨rfl, by decide⟩) (Or.inl W4447) (Or.inl rfl) (hd rfl),
  ⟨fun hd => mk6 fld_37_14 (Or.inl ⟨rfl, by decide⟩) (Or.inr ⟨_, W4303⟩) (Or.inl rfl) (hd rfl),
  ⟨fun hd => mk19 mt_4 cf_4 (vf_4_5.rt (Or.inl W4708) (hd rfl)) rfl rfl (noH_nil rfl),
  ⟨fun hd => mk34 mt_87 cf_87 (ff_87_11.rt W4710 (hd rfl)) rfl rfl,
  ⟨fun hd => mk34 mt_88 cf_88 (ff_88_11.rt W4712 (hd rfl)) rfl rfl,
  ⟨fun hd => mk17 kx_40 W4733 (hd rfl),
  ⟨fun hd => mk6 fld_40_3 (Or.inl ⟨rfl, by decide⟩) (Or.inl W5444) (Or.inl rfl) (hd rfl),
  ⟨fun hd => mk6 fld_40_5 (Or.inl ⟨rfl, by decide⟩) (Or.inl W5449) (Or.inl rfl) (hd rfl),
  ⟨fun hd => mk6 fld_40_6 (Or.inl ⟨rfl, by decide⟩) (Or.inl W5452) (Or.inl rfl) (hd rfl),
  ⟨fun hd => mk6 fld_38_4 (Or.inl ⟨rfl, by decide⟩) (Or.inl W4383) (Or.inl rfl) (hd rfl),
  ⟨fun hd => mk6 fld_40_8 (Or.inl ⟨rfl, by decide⟩) (Or.inl W5456) (Or.inl rfl) (hd rfl),
  ⟨fun hd => mk15 W5238 (hd rfl),
  ⟨fun hd => mk7 fld_40_8 (Or.inl W5456) (Or.inl rfl) (Or.inl rfl) (hd rfl),
  ⟨fun hd => mk19 mt_673 cf_673 (vf_673_38.rt (Or.inl W4762) (hd rfl)) rfl rfl (noH_nil rfl),
  ⟨fun hd => mk19 mt_695 cf_695 (vf_695_38.rt (Or.inl W5239) (hd rfl)) rfl rfl (noH_nil rfl),
  ⟨fun hd => mk19 mt_680 cf_680 (vf_680_38.rt (Or.inl W4831) (hd rfl)) rfl rfl (noH_nil rfl),
  ⟨fun hd => mk19 mt_680 cf_680 (vf_680_38.rt (Or.inl W4831) (hd rfl)) rfl rfl (noH_nil rfl),
  ⟨fun hd => ⟨1, _, _, by decide, rfl, rfl, by decide, W4847, mo_w1, hd rfl⟩,
  ⟨fun hd => mk6 fld_38_13 (Or.inl ⟨rfl, by decide⟩) (Or.inl W4405) (Or.inl rfl) (hd rfl),
  ⟨fun hd => mk6 fld_38_28 (Or.inl ⟨rfl, by decide⟩) (Or.inl W4437) (Or.inl rfl) (hd rfl),
  ⟨fun hd => mk19 mt_685 cf_685 (vf_685_38.rt (Or.inl W5240) (hd rfl)) rfl rfl (noH_nil rfl),
  ⟨fun hd => mk7 fld_38_28 (Or.inl W4437) (Or.inl rfl) (Or.inl rfl) (hd rfl),
  ⟨fun hd => mk6 fld_38_28 (Or.inl ⟨rfl, by decide⟩) (Or.inl W4437) (Or.inl rfl) (hd rfl),
  ⟨fun hd => mk19 mt_675 cf_675 (vf_675_38.rt (Or.inl W4807) (hd rfl)) rfl rfl (noH_nil rfl),
  ⟨fun hd => mk19 mt_695 cf_695 (vf_695_38.rt (Or.inl W5239) (hd rfl)) rfl rfl (noH_nil rfl),
  trivial⟩⟩⟩⟩⟩⟩⟩⟩⟩⟩⟩⟩⟩⟩⟩⟩⟩⟩⟩⟩⟩⟩⟩⟩⟩
theorem fe_707 : eqEs ((flat code_707).filter (fun e => ndE e.2.2.1)) (fl_707_0) = true := by decide +kernel
theorem om_707 : OKm mi iT prg 707 := OKm_of (code := code_707) rfl mt_707 (Or.inl (by decide +kernel)) rfl wk_707 (by decide +kernel) (by decide +kernel) (FA_of fe_707 (fb_707_0))
def fl_708_0 : List Ent := [(1, 3, 6, .getfield 63, [0, 38, 236], 0), (10, 3, 7, .putfield 424, [0, 38, 235], 0), (14, 3, 13, .getstatic 466, [56], 0), (19, 1, 10, .arraylength, [100], 0), (36, 3, 19, .invokevirtual 469, [0, 2, 2, 38, 688], 0), (48, 3, 7, .putfield 44, [0, 38, 226], 0), (53, 3, 7, .putfield 424, [0, 38, 235], 0), (64, 3, 7, .putfield 379, [0, 38, 227], 0)]
theorem fb_708_0 : FB mi iT mi_708 (bpc code_708) (fl_708_0) := ⟨fun hd => mk6 fld_38_24 (Or.inl ⟨rfl, by decide⟩) (Or.inl W4430) (Or.inl rfl) (hd rfl),
  ⟨fun hd => mk7 fld_38_23 (Or.inl W4429) (Or.inl rfl) (Or.inl rfl) (hd rfl),
  ⟨fun hd => mk13s (by decide) rfl (Or.inr ⟨_, W5245⟩) (Or.inl rfl) (hd rfl),
  ⟨fun hd => mk10 (by decide) rfl (hd rfl),
  ⟨fun hd => mk19 mt_688 cf_688 (vf_688_38.rt (Or.inl W5247) (hd rfl)) rfl rfl (noH_nil rfl),
  ⟨fun hd => mk7 fld_38_14 (Or.inl W4407) (Or.inl rfl) (Or.inl rfl) (hd rfl),
  ⟨fun hd => mk7 fld_38_23 (Or.inl W4429) (Or.inl rfl) (Or.inl rfl) (hd rfl),
  ⟨fun hd => mk7 fld_38_15 (Or.inl W4409) (Or.inl rfl) (Or.inl rfl) (hd rfl),
  trivial⟩⟩⟩⟩⟩⟩⟩⟩
theorem fe_708 : eqEs ((flat code_708).filter (fun e => ndE e.2.2.1)) (fl_708_0) = true := by decide +kernel
theorem om_708 : OKm mi iT prg 708 := OKm_of (code := code_708) rfl mt_708 (Or.inl (by decide +kernel)) rfl wk_708 (by decide +kernel) (by decide +kernel) (FA_of fe_708 (fb_708_0))
def fl_709_0 : List Ent := [(2, 3, 13, .getstatic 313, [57], 0), (9, 1, 10, .arraylength, [100], 0), (33, 1, 9, .iastore, [0, 100], 0), (46, 3, 18, .invokestatic 316, [0, 1, 1, 425], 0), (51, 3, 18, .invokestatic 224, [0, 2, 2, 379], 0), (71, 3, 19, .invokevirtual 319, [0, 2, 2, 38, 710], 0), (75, 3, 18, .invokestatic 286, [0, 2, 2, 74], 0), (78, 1, 9, .iastore, [0, 100], 0), (93, 3, 19, .invokevirtual 319, [0, 2, 2, 38, 710], 0), (97, 3, 18, .invokestatic 286, [0, 2, 2, 74], 0), (116, 3, 13, .getstatic 313, [57], 0), (131, 3, 19, .invokevirtual 319, [0, 2, 2, 38, 710], 0), (135, 1, 9, .iastore, [0, 100], 0), (148, 3, 18, .invokestatic 316, [0, 1, 1, 425], 0), (153, 3, 18, .invokestatic 224, [0, 2, 2, 379], 0), (173, 3, 19, .invokevirtual 319, [0, 2, 2, 38, 710], 0), (177, 3, 18, .invokestatic 322, [0, 2, 2, 67], 0), (180, 1, 9, .iastore, [0, 100], 0)]
theorem fb_709_0 : FB mi iT mi_709 (bpc code_709) (fl_709_0) := ⟨fun hd => mk13s (by decide) rfl (Or.inr ⟨_, W5260⟩) (Or.inl rfl) (hd rfl),
  ⟨fun hd => mk10 (by decide) rfl (hd rfl),
  ⟨fun hd => ⟨_, _, _, rfl, rfl, hd rfl, Or.inl ⟨rfl, rfl, rfl⟩⟩,
  ⟨fun hd => mk18 mt_425 sf_425 (Or.inr ⟨⟨_, W5261⟩, _, _, rfl⟩) rfl rfl (noH_nil rfl) (hd rfl),
  ⟨fun hd => mk18 mt_379 sf_379 (Or.inr ⟨⟨_, W4787⟩, _, _, rfl⟩) rfl rfl (noH_nil rfl) (hd rfl),
  ⟨fun hd => mk19 mt_710 cf_710 (vf_710_38.rt (Or.inl W5262) (hd rfl)) rfl rfl (noH_nil rfl),
  ⟨fun hd => mk18 mt_74 sf_74 (Or.inl W4925) rfl rfl (noH_nil rfl) (hd rfl),
  ⟨fun hd => ⟨_, _, _, rfl, rfl, hd rfl, Or.inl ⟨rfl, rfl, rfl⟩⟩,
  ⟨fun hd => mk19 mt_710 cf_710 (vf_710_38.rt (Or.inl W5262) (hd rfl)) rfl rfl (noH_nil rfl),
  ⟨fun hd => mk18 mt_74 sf_74 (Or.inl W4925) rfl rfl (noH_nil rfl) (hd rfl),
  ⟨fun hd => mk13s (by decide) rfl (Or.inr ⟨_, W5260⟩) (Or.inl rfl) (hd rfl),
  ⟨fun hd => mk19 mt_710 cf_710 (vf_710_38.rt (Or.inl W5262) (hd rfl)) rfl rfl (noH_nil rfl),
  ⟨fun hd => ⟨_, _, _, rfl, rfl, hd rfl, Or.inl ⟨rfl, rfl, rfl⟩⟩,
  ⟨fun hd => mk18 mt_425 sf_425 (Or.inr ⟨⟨_, W5261⟩, _, _, rfl⟩) rfl rfl (noH_nil rfl) (hd rfl),
  ⟨fun hd => mk18 mt_379 sf_379 (Or.inr ⟨⟨_, W4787⟩, _, _, rfl⟩) rfl rfl (noH_nil rfl) (hd rfl),
  ⟨fun hd => mk19 mt_710 cf_710 (vf_710_38.rt (Or.inl W5262) (hd rfl)) rfl rfl (noH_nil rfl),
  ⟨fun hd => mk18 mt_67 sf_67 (Or.inl W5220) rfl rfl (noH_nil rfl) (hd rfl),
  ⟨fun hd => ⟨_, _, _, rfl, rfl, hd rfl, Or.inl ⟨rfl, rfl, rfl⟩⟩,
  trivial⟩⟩⟩⟩⟩⟩⟩⟩⟩⟩⟩⟩⟩⟩⟩⟩⟩⟩
theorem fe_709 : eqEs ((flat code_709).filter (fun e => ndE e.2.2.1)) (fl_709_0) = true := by decide +kernel
theorem om_709 : OKm mi iT prg 709 := OKm_of (code := code_709) rfl mt_709 (Or.inl (by decide +kernel)) rfl wk_709 (by decide +kernel) (by decide +kernel) (FA_of fe_709 (fb_709_0))
def fl_710_0 : List Ent := [(1, 3, 6, .getfield 50, [3, 38, 230], 0), (8, 3, 18, .invokestatic 324, [0, 2, 2, 400], 0)]
theorem fb_710_0 : FB mi iT mi_710 (bpc code_710) (fl_710_0) := ⟨fun hd => mk6 fld_38_18 (Or.inl ⟨rfl, by decide⟩) (Or.inl W4416) (Or.inl rfl) (hd rfl),
  ⟨fun hd => mk18 mt_400 sf_400 (Or.inr ⟨⟨_, W5266⟩, _, _, rfl⟩) rfl rfl (noH_nil rfl) (hd rfl),
  trivial⟩⟩
theorem fe_710 : eqEs ((flat code_710).filter (fun e => ndE e.2.2.1)) (fl_710_0) = true := by decide +kernel
theorem om_710 : OKm mi iT prg 710 := OKm_of (code := code_710) rfl mt_710 (Or.inl (by decide +kernel)) rfl wk_710 (by decide +kernel) (by decide +kernel) (FA_of fe_710 (fb_710_0))
def fl_711_0 : List Ent := [(2, 2, 12, .newarray .int, [100], 0), (9, 2, 12, .newarray .int, [100], 0), (11, 3, 19, .invokevirtual 327, [9, 3, 3, 38, 709], 0), (30, 3, 19, .invokevirtual 319, [0, 2, 2, 38, 710], 0), (34, 3, 18, .invokestatic 286, [0, 2, 2, 74], 0)]
theorem fb_711_0 : FB mi iT mi_711 (bpc code_711) (fl_711_0) := ⟨fun hd => mk12a (at_ := .int) (by decide) rfl W239 (hd rfl),
  ⟨fun hd => mk12a (at_ := .int) (by decide) rfl W239 (hd rfl),
  ⟨fun hd => mk19 mt_709 cf_709 (vf_709_38.rt (Or.inl W5283) (hd rfl)) rfl rfl (noH_nil rfl),
  ⟨fun hd => mk19 mt_710 cf_710 (vf_710_38.rt (Or.inl W5262) (hd rfl)) rfl rfl (noH_nil rfl),
  ⟨fun hd => mk18 mt_74 sf_74 (Or.inl W4925) rfl rfl (noH_nil rfl) (hd rfl),
  trivial⟩⟩⟩⟩⟩
theorem fe_711 : eqEs ((flat code_711).filter (fun e => ndE e.2.2.1)) (fl_711_0) = true := by decide +kernel
theorem om_711 : OKm mi iT prg 711 := OKm_of (code := code_711) rfl mt_711 (Or.inl (by decide +kernel)) rfl wk_711 (by decide +kernel) (by decide +kernel) (FA_of fe_711 (fb_711_0))
def fl_712_0 : List Ent := [(2, 2, 12, .newarray .int, [100], 0), (7, 2, 12, .newarray .int, [100], 0), (13, 3, 19, .invokevirtual 327, [9, 3, 3, 38, 709], 0), (32, 3, 19, .invokevirtual 310, [0, 2, 2, 38, 668], 0), (54, 3, 18, .invokestatic 244, [0, 1, 1, 381], 0)]
theorem fb_712_0 : FB mi iT mi_712 (bpc code_712) (fl_712_0) := ⟨fun hd => mk12a (at_ := .int) (by decide) rfl W239 (hd rfl),
  ⟨fun hd => mk12a (at_ := .int) (by decide) rfl W239 (hd rfl),
  ⟨fun hd => mk19 mt_709 cf_709 (vf_709_38.rt (Or.inl W5283) (hd rfl)) rfl rfl (noH_nil rfl),
  ⟨fun hd => mk19 mt_668 cf_668 (vf_668_38.rt (Or.inl W4727) (hd rfl)) rfl rfl (noH_nil rfl),
  ⟨fun hd => mk18 mt_381 sf_381 (Or.inr ⟨⟨_, W4808⟩, _, _, rfl⟩) rfl rfl (noH_nil rfl) (hd rfl),
  trivial⟩⟩⟩⟩⟩
theorem fe_712 : eqEs ((flat code_712).filter (fun e => ndE e.2.2.1)) (fl_712_0) = true := by decide +kernel
theorem om_712 : OKm mi iT prg 712 := OKm_of (code := code_712) rfl mt_712 (Or.inl (by decide +kernel)) rfl wk_712 (by decide +kernel) (by decide +kernel) (FA_of fe_712 (fb_712_0))
def fl_713_0 : List Ent := [(3, 3, 6, .getfield 50, [3, 38, 230], 0), (8, 1, 10, .arraylength, [100], 0)]
theorem fb_713_0 : FB mi iT mi_713 (bpc code_713) (fl_713_0) := ⟨fun hd => mk6 fld_38_18 (Or.inl ⟨rfl, by decide⟩) (Or.inl W4416) (Or.inl rfl) (hd rfl),
  ⟨fun hd => mk10 (by decide) rfl (hd rfl),
  trivial⟩⟩
theorem fe_713 : eqEs ((flat code_713).filter (fun e => ndE e.2.2.1)) (fl_713_0) = true := by decide +kernel
theorem om_713 : OKm mi iT prg 713 := OKm_of (code := code_713) rfl mt_713 (Or.inl (by decide +kernel)) rfl wk_713 (by decide +kernel) (by decide +kernel) (FA_of fe_713 (fb_713_0))
def fl_714_0 : List Ent := [(1, 3, 19, .invokevirtual 390, [0, 1, 1, 38, 715], 0), (11, 3, 6, .getfield 60, [3, 38, 234], 0), (14, 3, 19, .invokevirtual 357, [0, 1, 1, 5, 5], 0), (22, 3, 18, .invokestatic 224, [0, 2, 2, 379], 0), (32, 3, 6, .getfield 3, [3, 38, 248], 0), (38, 3, 6, .getfield 3, [3, 38, 248], 0), (41, 3, 6, .getfield 393, [0, 37, 198], 0), (50, 3, 7, .putfield 393, [0, 37, 198], 0), (54, 3, 6, .getfield 3, [3, 38, 248], 0), (57, 3, 6, .getfield 393, [0, 37, 198], 0), (68, 3, 6, .getfield 60, [3, 38, 234], 0), (72, 3, 19, .invokevirtual 353, [3, 2, 2, 5, 6], 0), (75, 3, 17, .checkcast 130, [100], 0), (80, 1, 9, .iastore, [0, 100], 0), (92, 3, 19, .invokevirtual 396, [0, 1, 1, 38, 697], 0), (95, 3, 19, .invokevirtual 399, [2, 2, 2, 38, 705], 0), (98, 3, 15, .ldc2_w 402, [4616189618054758400], 0), (106, 3, 19, .invokevirtual 214, [0, 1, 1, 38, 673], 0), (116, 3, 7, .putfield 85, [0, 38, 217], 0)]
theorem fb_714_0 : FB mi iT mi_714 (bpc code_714) (fl_714_0) := ⟨fun hd => mk19 mt_715 cf_715 (vf_715_38.rt (Or.inl W5338) (hd rfl)) rfl rfl (noH_nil rfl),
  ⟨fun hd => mk6 fld_38_22 (Or.inl ⟨rfl, by decide⟩) (Or.inl W4426) (Or.inl rfl) (hd rfl),
  ⟨fun hd => mk19 mt_5 cf_5 (vf_5_5.rt (Or.inl W5209) (hd rfl)) rfl rfl (noH_nil rfl),
  ⟨fun hd => mk18 mt_379 sf_379 (Or.inr ⟨⟨_, W4787⟩, _, _, rfl⟩) rfl rfl (noH_nil rfl) (hd rfl),
  ⟨fun hd => mk6 fld_38_36 (Or.inl ⟨rfl, by decide⟩) (Or.inl W4447) (Or.inl rfl) (hd rfl),
  ⟨fun hd => mk6 fld_38_36 (Or.inl ⟨rfl, by decide⟩) (Or.inl W4447) (Or.inl rfl) (hd rfl),
  ⟨fun hd => mk6 fld_37_4 (Or.inl ⟨rfl, by decide⟩) (Or.inr ⟨_, W4288⟩) (Or.inl rfl) (hd rfl),
  ⟨fun hd => mk7 fld_37_4 (Or.inr ⟨_, W4288⟩) (Or.inl rfl) (Or.inl rfl) (hd rfl),
  ⟨fun hd => mk6 fld_38_36 (Or.inl ⟨rfl, by decide⟩) (Or.inl W4447) (Or.inl rfl) (hd rfl),
  ⟨fun hd => mk6 fld_37_4 (Or.inl ⟨rfl, by decide⟩) (Or.inr ⟨_, W4288⟩) (Or.inl rfl) (hd rfl),
  ⟨fun hd => mk6 fld_38_22 (Or.inl ⟨rfl, by decide⟩) (Or.inl W4426) (Or.inl rfl) (hd rfl),
  ⟨fun hd => mk19 mt_6 cf_6 (vf_6_5.rt (Or.inl W5214) (hd rfl)) rfl rfl (noH_nil rfl),
  ⟨fun hd => mk17 kx_100 W4713 (hd rfl),
  ⟨fun hd => ⟨_, _, _, rfl, rfl, hd rfl, Or.inl ⟨rfl, rfl, rfl⟩⟩,
  ⟨fun hd => mk19 mt_697 cf_697 (vf_697_38.rt (Or.inl W5185) (hd rfl)) rfl rfl (noH_nil rfl),
  ⟨fun hd => mk19 mt_705 cf_705 (vf_705_38.rt (Or.inl W5221) (hd rfl)) rfl rfl (noH_nil rfl),
  ⟨fun hd => mk15 W5233 (hd rfl),
  ⟨fun hd => mk19 mt_673 cf_673 (vf_673_38.rt (Or.inl W4762) (hd rfl)) rfl rfl (noH_nil rfl),
  ⟨fun hd => mk7 fld_38_5 (Or.inl W4385) (Or.inl rfl) (Or.inl rfl) (hd rfl),
  trivial⟩⟩⟩⟩⟩⟩⟩⟩⟩⟩⟩⟩⟩⟩⟩⟩⟩⟩⟩
theorem fe_714 : eqEs ((flat code_714).filter (fun e => ndE e.2.2.1)) (fl_714_0) = true := by decide +kernel
theorem om_714 : OKm mi iT prg 714 := OKm_of (code := code_714) rfl mt_714 (Or.inl (by decide +kernel)) rfl wk_714 (by decide +kernel) (by decide +kernel) (FA_of fe_714 (fb_714_0))
def fl_715_0 : List Ent := [(2, 2, 12, .newarray .int, [100], 0), (8, 3, 19, .invokevirtual 372, [0, 3, 3, 38, 700], 0), (15, 3, 19, .invokevirtual 367, [3, 3, 3, 38, 702], 0), (27, 3, 6, .getfield 60, [3, 38, 234], 0), (30, 3, 19, .invokevirtual 357, [0, 1, 1, 5, 5], 0), (41, 3, 19, .invokevirtual 360, [0, 3, 3, 38, 703], 0), (49, 3, 6, .getfield 60, [3, 38, 234], 0), (54, 3, 19, .invokevirtual 353, [3, 2, 2, 5, 6], 0), (57, 3, 17, .checkcast 130, [100], 0), (70, 3, 6, .getfield 60, [3, 38, 234], 0), (75, 3, 19, .invokevirtual 353, [3, 2, 2, 5, 6], 0), (78, 3, 17, .checkcast 130, [100], 0), (94, 3, 18, .invokestatic 244, [0, 1, 1, 381], 0)]
theorem fb_715_0 : FB mi iT mi_715 (bpc code_715) (fl_715_0) := ⟨fun hd => mk12a (at_ := .int) (by decide) rfl W239 (hd rfl),
  ⟨fun hd => mk19 mt_700 cf_700 (vf_700_38.rt (Or.inl W5197) (hd rfl)) rfl rfl (noH_nil rfl),
  ⟨fun hd => mk19 mt_702 cf_702 (vf_702_38.rt (Or.inl W5205) (hd rfl)) rfl rfl (noH_nil rfl),
  ⟨fun hd => mk6 fld_38_22 (Or.inl ⟨rfl, by decide⟩) (Or.inl W4426) (Or.inl rfl) (hd rfl),
  ⟨fun hd => mk19 mt_5 cf_5 (vf_5_5.rt (Or.inl W5209) (hd rfl)) rfl rfl (noH_nil rfl),
  ⟨fun hd => mk19 mt_703 cf_703 (vf_703_38.rt (Or.inl W5210) (hd rfl)) rfl rfl (noH_nil rfl),
  ⟨fun hd => mk6 fld_38_22 (Or.inl ⟨rfl, by decide⟩) (Or.inl W4426) (Or.inl rfl) (hd rfl),
  ⟨fun hd => mk19 mt_6 cf_6 (vf_6_5.rt (Or.inl W5214) (hd rfl)) rfl rfl (noH_nil rfl),
  ⟨fun hd => mk17 kx_100 W4713 (hd rfl),
  ⟨fun hd => mk6 fld_38_22 (Or.inl ⟨rfl, by decide⟩) (Or.inl W4426) (Or.inl rfl) (hd rfl),
  ⟨fun hd => mk19 mt_6 cf_6 (vf_6_5.rt (Or.inl W5214) (hd rfl)) rfl rfl (noH_nil rfl),
  ⟨fun hd => mk17 kx_100 W4713 (hd rfl),
  ⟨fun hd => mk18 mt_381 sf_381 (Or.inr ⟨⟨_, W4808⟩, _, _, rfl⟩) rfl rfl (noH_nil rfl) (hd rfl),
  trivial⟩⟩⟩⟩⟩⟩⟩⟩⟩⟩⟩⟩⟩
theorem fe_715 : eqEs ((flat code_715).filter (fun e => ndE e.2.2.1)) (fl_715_0) = true := by decide +kernel
theorem om_715 : OKm mi iT prg 715 := OKm_of (code := code_715) rfl mt_715 (Or.inl (by decide +kernel)) rfl wk_715 (by decide +kernel) (by decide +kernel) (FA_of fe_715 (fb_715_0))
def fl_716_0 : List Ent := [(1, 47, 5, .tableswitch 92 0 7 #[47, 52, 60, 65, 70, 76, 82, 87], [9, 0, 1, 1, 2, 2, 3, 3, 4, 4, 5, 5, 6, 6, 7, 7, 8], 0), (49, 3, 6, .getfield 141, [0, 38, 233], 0), (54, 3, 6, .getfield 60, [3, 38, 234], 0), (57, 3, 19, .invokevirtual 357, [0, 1, 1, 5, 5], 0), (62, 3, 19, .invokevirtual 377, [0, 1, 1, 38, 698], 0), (67, 3, 19, .invokevirtual 390, [0, 1, 1, 38, 715], 0), (73, 3, 19, .invokevirtual 404, [0, 2, 2, 38, 717], 0), (79, 3, 19, .invokevirtual 404, [0, 2, 2, 38, 717], 0), (84, 3, 19, .invokevirtual 396, [0, 1, 1, 38, 697], 0), (89, 3, 19, .invokevirtual 407, [0, 1, 1, 38, 718], 0), (94, 3, 19, .invokevirtual 410, [0, 1, 1, 38, 719], 0)]
theorem fb_716_0 : FB mi iT mi_716 (bpc code_716) (fl_716_0) := ⟨fun hd => ⟨_, _, rfl, Or.inl ⟨92, 0, 7, #[47, 52, 60, 65, 70, 76, 82, 87], 8, 47, (show decode prog_78_method_57_code 1 = .ok (.tableswitch 92 0 7 #[47, 52, 60, 65, 70, 76, 82, 87], 47) by decide +kernel), by decide, by decide +kernel⟩⟩,
  ⟨fun hd => mk6 fld_38_21 (Or.inl ⟨rfl, by decide⟩) (Or.inl W4424) (Or.inl rfl) (hd rfl),
  ⟨fun hd => mk6 fld_38_22 (Or.inl ⟨rfl, by decide⟩) (Or.inl W4426) (Or.inl rfl) (hd rfl),
  ⟨fun hd => mk19 mt_5 cf_5 (vf_5_5.rt (Or.inl W5209) (hd rfl)) rfl rfl (noH_nil rfl),
  ⟨fun hd => mk19 mt_698 cf_698 (vf_698_38.rt (Or.inl W5189) (hd rfl)) rfl rfl (noH_nil rfl),
  ⟨fun hd => mk19 mt_715 cf_715 (vf_715_38.rt (Or.inl W5338) (hd rfl)) rfl rfl (noH_nil rfl),
  ⟨fun hd => mk19 mt_717 cf_717 (vf_717_38.rt (Or.inl W5350) (hd rfl)) rfl rfl (noH_nil rfl),
  ⟨fun hd => mk19 mt_717 cf_717 (vf_717_38.rt (Or.inl W5350) (hd rfl)) rfl rfl (noH_nil rfl),
  ⟨fun hd => mk19 mt_697 cf_697 (vf_697_38.rt (Or.inl W5185) (hd rfl)) rfl rfl (noH_nil rfl),
  ⟨fun hd => mk19 mt_718 cf_718 (vf_718_38.rt (Or.inl W5354) (hd rfl)) rfl rfl (noH_nil rfl),
  ⟨fun hd => mk19 mt_719 cf_719 (vf_719_38.rt (Or.inl W5358) (hd rfl)) rfl rfl (noH_nil rfl),
  trivial⟩⟩⟩⟩⟩⟩⟩⟩⟩⟩⟩
theorem fe_716 : eqEs ((flat code_716).filter (fun e => ndE e.2.2.1)) (fl_716_0) = true := by decide +kernel
theorem om_716 : OKm mi iT prg 716 := OKm_of (code := code_716) rfl mt_716 (Or.inl (by decide +kernel)) rfl wk_716 (by decide +kernel) (by decide +kernel) (FA_of fe_716 (fb_716_0))
def fl_717_0 : List Ent := [(6, 3, 6, .getfield 60, [3, 38, 234], 0), (9, 3, 19, .invokevirtual 357, [0, 1, 1, 5, 5], 0), (17, 3, 6, .getfield 60, [3, 38, 234], 0), (21, 3, 19, .invokevirtual 353, [3, 2, 2, 5, 6], 0), (24, 3, 17, .checkcast 130, [100], 0)]
theorem fb_717_0 : FB mi iT mi_717 (bpc code_717) (fl_717_0) := ⟨fun hd => mk6 fld_38_22 (Or.inl ⟨rfl, by decide⟩) (Or.inl W4426) (Or.inl rfl) (hd rfl),
  ⟨fun hd => mk19 mt_5 cf_5 (vf_5_5.rt (Or.inl W5209) (hd rfl)) rfl rfl (noH_nil rfl),
  ⟨fun hd => mk6 fld_38_22 (Or.inl ⟨rfl, by decide⟩) (Or.inl W4426) (Or.inl rfl) (hd rfl),
  ⟨fun hd => mk19 mt_6 cf_6 (vf_6_5.rt (Or.inl W5214) (hd rfl)) rfl rfl (noH_nil rfl),
  ⟨fun hd => mk17 kx_100 W4713 (hd rfl),
  trivial⟩⟩⟩⟩⟩
theorem fe_717 : eqEs ((flat code_717).filter (fun e => ndE e.2.2.1)) (fl_717_0) = true := by decide +kernel
theorem om_717 : OKm mi iT prg 717 := OKm_of (code := code_717) rfl mt_717 (Or.inl (by decide +kernel)) rfl wk_717 (by decide +kernel) (by decide +kernel) (FA_of fe_717 (fb_717_0))
def fl_718_0 : List Ent := [(1, 3, 19, .invokevirtual 377, [0, 1, 1, 38, 698], 0), (11, 3, 6, .getfield 60, [3, 38, 234], 0), (14, 3, 19, .invokevirtual 357, [0, 1, 1, 5, 5], 0), (24, 3, 19, .invokevirtual 360, [0, 3, 3, 38, 703], 0), (32, 3, 19, .invokevirtual 375, [0, 2, 2, 38, 699], 0), (44, 3, 18, .invokestatic 244, [0, 1, 1, 381], 0)]
theorem fb_718_0 : FB mi iT mi_718 (bpc code_718) (fl_718_0) := ⟨fun hd => mk19 mt_698 cf_698 (vf_698_38.rt (Or.inl W5189) (hd rfl)) rfl rfl (noH_nil rfl),
  ⟨fun hd => mk6 fld_38_22 (Or.inl ⟨rfl, by decide⟩) (Or.inl W4426) (Or.inl rfl) (hd rfl),
  ⟨fun hd => mk19 mt_5 cf_5 (vf_5_5.rt (Or.inl W5209) (hd rfl)) rfl rfl (noH_nil rfl),
  ⟨fun hd => mk19 mt_703 cf_703 (vf_703_38.rt (Or.inl W5210) (hd rfl)) rfl rfl (noH_nil rfl),
  ⟨fun hd => mk19 mt_699 cf_699 (vf_699_38.rt (Or.inl W5193) (hd rfl)) rfl rfl (noH_nil rfl),
  ⟨fun hd => mk18 mt_381 sf_381 (Or.inr ⟨⟨_, W4808⟩, _, _, rfl⟩) rfl rfl (noH_nil rfl) (hd rfl),
  trivial⟩⟩⟩⟩⟩⟩
theorem fe_718 : eqEs ((flat code_718).filter (fun e => ndE e.2.2.1)) (fl_718_0) = true := by decide +kernel
theorem om_718 : OKm mi iT prg 718 := OKm_of (code := code_718) rfl mt_718 (Or.inl (by decide +kernel)) rfl wk_718 (by decide +kernel) (by decide +kernel) (FA_of fe_718 (fb_718_0))
def fl_719_0 : List Ent := [(1, 3, 19, .invokevirtual 377, [0, 1, 1, 38, 698], 0), (9, 3, 6, .getfield 60, [3, 38, 234], 0), (12, 3, 19, .invokevirtual 357, [0, 1, 1, 5, 5], 0), (21, 3, 19, .invokevirtual 360, [0, 3, 3, 38, 703], 0), (30, 3, 19, .invokevirtual 375, [0, 2, 2, 38, 699], 0), (33, 3, 18, .invokestatic 322, [0, 2, 2, 67], 0)]
theorem fb_719_0 : FB mi iT mi_719 (bpc code_719) (fl_719_0) := ⟨fun hd => mk19 mt_698 cf_698 (vf_698_38.rt (Or.inl W5189) (hd rfl)) rfl rfl (noH_nil rfl),
  ⟨fun hd => mk6 fld_38_22 (Or.inl ⟨rfl, by decide⟩) (Or.inl W4426) (Or.inl rfl) (hd rfl),
  ⟨fun hd => mk19 mt_5 cf_5 (vf_5_5.rt (Or.inl W5209) (hd rfl)) rfl rfl (noH_nil rfl),
  ⟨fun hd => mk19 mt_703 cf_703 (vf_703_38.rt (Or.inl W5210) (hd rfl)) rfl rfl (noH_nil rfl),
  ⟨fun hd => mk19 mt_699 cf_699 (vf_699_38.rt (Or.inl W5193) (hd rfl)) rfl rfl (noH_nil rfl),
  ⟨fun hd => mk18 mt_67 sf_67 (Or.inl W5220) rfl rfl (noH_nil rfl) (hd rfl),
  trivial⟩⟩⟩⟩⟩⟩
theorem fe_719 : eqEs ((flat code_719).filter (fun e => ndE e.2.2.1)) (fl_719_0) = true := by decide +kernel
theorem om_719 : OKm mi iT prg 719 := OKm_of (code := code_719) rfl mt_719 (Or.inl (by decide +kernel)) rfl wk_719 (by decide +kernel) (by decide +kernel) (FA_of fe_719 (fb_719_0))
def fl_720_0 : List Ent := [(1, 3, 6, .getfield 379, [0, 38, 227], 0), (14, 3, 18, .invokestatic 244, [0, 1, 1, 381], 0), (23, 3, 19, .invokevirtual 184, [2, 2, 2, 38, 670], 0), (39, 3, 19, .invokevirtual 377, [0, 1, 1, 38, 698], 0), (47, 3, 6, .getfield 107, [0, 38, 214], 0), (51, 3, 15, .ldc2_w 237, [4604930618986332160], 0), (64, 3, 18, .invokestatic 244, [0, 1, 1, 381], 0), (68, 3, 19, .invokevirtual 199, [2, 1, 1, 38, 671], 0), (71, 3, 15, .ldc2_w 146, [4598175219545276416], 0), (79, 3, 19, .invokevirtual 214, [0, 1, 1, 38, 673], 0), (91, 3, 18, .invokestatic 244, [0, 1, 1, 381], 0), (99, 3, 19, .invokevirtual 277, [2, 2, 2, 38, 679], 0), (103, 3, 6, .getfield 40, [0, 38, 225], 0), (116, 3, 18, .invokestatic 244, [0, 1, 1, 381], 0), (123, 3, 19, .invokevirtual 413, [0, 1, 1, 38, 677], 0), (135, 3, 18, .invokestatic 244, [0, 1, 1, 381], 0), (146, 3, 19, .invokevirtual 396, [0, 1, 1, 38, 697], 0), (149, 3, 19, .invokevirtual 399, [2, 2, 2, 38, 705], 0), (152, 3, 15, .ldc2_w 99, [4618441417868443648], 0), (164, 3, 18, .invokestatic 244, [0, 1, 1, 381], 0), (176, 3, 19, .invokevirtual 410, [0, 1, 1, 38, 719], 0), (191, 3, 18, .invokestatic 244, [0, 1, 1, 381], 0), (198, 3, 19, .invokevirtual 218, [2, 1, 1, 38, 674], 0), (201, 3, 38, .invokestatic 204, [0], 0), (205, 3, 6, .getfield 96, [0, 38, 213], 0), (209, 3, 15, .ldc2_w 416, [4630826316843712512], 0), (222, 3, 18, .invokestatic 244, [0, 1, 1, 381], 0)]
theorem fb_720_0 : FB mi iT mi_720 (bpc code_720) (fl_720_0) := ⟨fun hd => mk6 fld_38_15 (Or.inl ⟨rfl, by decide⟩) (Or.inl W4409) (Or.inl rfl) (hd rfl),
  ⟨fun hd => mk18 mt_381 sf_381 (Or.inr ⟨⟨_, W4808⟩, _, _, rfl⟩) rfl rfl (noH_nil rfl) (hd rfl),
  ⟨fun hd => mk19 mt_670 cf_670 (vf_670_38.rt (Or.inl W4743) (hd rfl)) rfl rfl (noH_nil rfl),
  ⟨fun hd => mk19 mt_698 cf_698 (vf_698_38.rt (Or.inl W5189) (hd rfl)) rfl rfl (noH_nil rfl),
  ⟨fun hd => mk6 fld_38_2 (Or.inl ⟨rfl, by decide⟩) (Or.inl W4456) (Or.inr W4457) (hd rfl),
  ⟨fun hd => mk15 W4797 (hd rfl),
  ⟨fun hd => mk18 mt_381 sf_381 (Or.inr ⟨⟨_, W4808⟩, _, _, rfl⟩) rfl rfl (noH_nil rfl) (hd rfl),
  ⟨fun hd => mk19 mt_671 cf_671 (vf_671_38.rt (Or.inl W4748) (hd rfl)) rfl rfl (noH_nil rfl),
  ⟨fun hd => mk15 W4732 (hd rfl),
  ⟨fun hd => mk19 mt_673 cf_673 (vf_673_38.rt (Or.inl W4762) (hd rfl)) rfl rfl (noH_nil rfl),
  ⟨fun hd => mk18 mt_381 sf_381 (Or.inr ⟨⟨_, W4808⟩, _, _, rfl⟩) rfl rfl (noH_nil rfl) (hd rfl),
  ⟨fun hd => mk19 mt_679 cf_679 (vf_679_38.rt (Or.inl W4827) (hd rfl)) rfl rfl (noH_nil rfl),
  ⟨fun hd => mk6 fld_38_13 (Or.inl ⟨rfl, by decide⟩) (Or.inl W4405) (Or.inl rfl) (hd rfl),
  ⟨fun hd => mk18 mt_381 sf_381 (Or.inr ⟨⟨_, W4808⟩, _, _, rfl⟩) rfl rfl (noH_nil rfl) (hd rfl),
  ⟨fun hd => mk19 mt_677 cf_677 (vf_677_38.rt (Or.inl W5400) (hd rfl)) rfl rfl (noH_nil rfl),
  ⟨fun hd => mk18 mt_381 sf_381 (Or.inr ⟨⟨_, W4808⟩, _, _, rfl⟩) rfl rfl (noH_nil rfl) (hd rfl),
  ⟨fun hd => mk19 mt_697 cf_697 (vf_697_38.rt (Or.inl W5185) (hd rfl)) rfl rfl (noH_nil rfl),
  ⟨fun hd => mk19 mt_705 cf_705 (vf_705_38.rt (Or.inl W5221) (hd rfl)) rfl rfl (noH_nil rfl),
  ⟨fun hd => mk15 W4691 (hd rfl),
  ⟨fun hd => mk18 mt_381 sf_381 (Or.inr ⟨⟨_, W4808⟩, _, _, rfl⟩) rfl rfl (noH_nil rfl) (hd rfl),
  ⟨fun hd => mk19 mt_719 cf_719 (vf_719_38.rt (Or.inl W5358) (hd rfl)) rfl rfl (noH_nil rfl),
  ⟨fun hd => mk18 mt_381 sf_381 (Or.inr ⟨⟨_, W4808⟩, _, _, rfl⟩) rfl rfl (noH_nil rfl) (hd rfl),
  ⟨fun hd => mk19 mt_674 cf_674 (vf_674_38.rt (Or.inl W4770) (hd rfl)) rfl rfl (noH_nil rfl),
  ⟨fun hd => ⟨0, _, _, by decide, rfl, rfl, by decide, W4767, mo_w0, hd rfl⟩,
  ⟨fun hd => mk6 fld_38_1 (Or.inl ⟨rfl, by decide⟩) (Or.inl W4452) (Or.inr W4453) (hd rfl),
  ⟨fun hd => mk15 W5401 (hd rfl),
  ⟨fun hd => mk18 mt_381 sf_381 (Or.inr ⟨⟨_, W4808⟩, _, _, rfl⟩) rfl rfl (noH_nil rfl) (hd rfl),
  trivial⟩⟩⟩⟩⟩⟩⟩⟩⟩⟩⟩⟩⟩⟩⟩⟩⟩⟩⟩⟩⟩⟩⟩⟩⟩⟩⟩
theorem fe_720 : eqEs ((flat code_720).filter (fun e => ndE e.2.2.1)) (fl_720_0) = true := by decide +kernel
theorem om_720 : OKm mi iT prg 720 := OKm_of (code := code_720) rfl mt_720 (Or.inl (by decide +kernel)) rfl wk_720 (by decide +kernel) (by decide +kernel) (FA_of fe_720 (fb_720_0))
def fl_721_0 : List Ent := [(1, 47, 5, .tableswitch 109 0 7 #[47, 52, 57, 62, 87, 93, 99, 104], [12, 0, 1, 1, 2, 2, 3, 3, 4, 4, 8, 5, 9, 6, 10, 7, 11], 0), (49, 3, 6, .getfield 424, [0, 38, 235], 0), (54, 3, 6, .getfield 63, [0, 38, 236], 0), (59, 3, 6, .getfield 441, [0, 38, 237], 0), (64, 3, 6, .getfield 424, [0, 38, 235], 0), (73, 3, 6, .getfield 447, [2, 38, 238], 0), (76, 3, 38, .invokestatic 252, [1], 0), (79, 3, 18, .invokestatic 331, [2, 1, 2, 72], 0), (90, 3, 19, .invokevirtual 472, [0, 2, 2, 38, 722], 0), (96, 3, 19, .invokevirtual 472, [0, 2, 2, 38, 722], 0), (101, 3, 6, .getfield 460, [0, 38, 240], 0), (106, 3, 6, .getfield 475, [0, 38, 241], 0), (111, 3, 6, .getfield 434, [0, 38, 242], 0)]
theorem fb_721_0 : FB mi iT mi_721 (bpc code_721) (fl_721_0) := ⟨fun hd => ⟨_, _, rfl, Or.inl ⟨109, 0, 7, #[47, 52, 57, 62, 87, 93, 99, 104], 8, 47, (show decode prog_78_method_64_code 1 = .ok (.tableswitch 109 0 7 #[47, 52, 57, 62, 87, 93, 99, 104], 47) by decide +kernel), by decide, by decide +kernel⟩⟩,
  ⟨fun hd => mk6 fld_38_23 (Or.inl ⟨rfl, by decide⟩) (Or.inl W4429) (Or.inl rfl) (hd rfl),
  ⟨fun hd => mk6 fld_38_24 (Or.inl ⟨rfl, by decide⟩) (Or.inl W4430) (Or.inl rfl) (hd rfl),
  ⟨fun hd => mk6 fld_38_25 (Or.inl ⟨rfl, by decide⟩) (Or.inl W4432) (Or.inl rfl) (hd rfl),
  ⟨fun hd => mk6 fld_38_23 (Or.inl ⟨rfl, by decide⟩) (Or.inl W4429) (Or.inl rfl) (hd rfl),
  ⟨fun hd => mk6 fld_38_26 (Or.inl ⟨rfl, by decide⟩) (Or.inl W4434) (Or.inl rfl) (hd rfl),
  ⟨fun hd => ⟨1, _, _, by decide, rfl, rfl, by decide, W4847, mo_w1, hd rfl⟩,
  ⟨fun hd => mk18 mt_72 sf_72 (Or.inl W5027) rfl rfl (noH_nil rfl) (hd rfl),
  ⟨fun hd => mk19 mt_722 cf_722 (vf_722_38.rt (Or.inl W5526) (hd rfl)) rfl rfl (noH_nil rfl),
  ⟨fun hd => mk19 mt_722 cf_722 (vf_722_38.rt (Or.inl W5526) (hd rfl)) rfl rfl (noH_nil rfl),
  ⟨fun hd => mk6 fld_38_28 (Or.inl ⟨rfl, by decide⟩) (Or.inl W4437) (Or.inl rfl) (hd rfl),
  ⟨fun hd => mk6 fld_38_29 (Or.inl ⟨rfl, by decide⟩) (Or.inl W4439) (Or.inl rfl) (hd rfl),
  ⟨fun hd => mk6 fld_38_30 (Or.inl ⟨rfl, by decide⟩) (Or.inl W4441) (Or.inl rfl) (hd rfl),
  trivial⟩⟩⟩⟩⟩⟩⟩⟩⟩⟩⟩⟩⟩
theorem fe_721 : eqEs ((flat code_721).filter (fun e => ndE e.2.2.1)) (fl_721_0) = true := by decide +kernel
theorem om_721 : OKm mi iT prg 721 := OKm_of (code := code_721) rfl mt_721 (Or.inl (by decide +kernel)) rfl wk_721 (by decide +kernel) (by decide +kernel) (FA_of fe_721 (fb_721_0))
def fl_722_0 : List Ent := [(3, 3, 6, .getfield 3, [3, 38, 248], 0), (6, 3, 6, .getfield 148, [3, 37, 208], 0), (9, 3, 19, .invokevirtual 116, [3, 1, 1, 5, 4], 0), (14, 5, 34, .invokeinterface 120 1, [0, 1, 1, 11, 87], 0), (23, 5, 34, .invokeinterface 126 1, [3, 1, 1, 11, 88], 0), (28, 3, 17, .checkcast 151, [40], 0), (35, 3, 6, .getfield 418, [0, 40, 260], 0), (44, 3, 6, .getfield 421, [0, 40, 261], 0), (48, 3, 6, .getfield 82, [0, 38, 216], 0), (61, 3, 6, .getfield 157, [0, 40, 257], 0)]
theorem fb_722_0 : FB mi iT mi_722 (bpc code_722) (fl_722_0) := ⟨fun hd => mk6 fld_38_36 (Or.inl ⟨rfl, by decide⟩) (Or.inl W4447) (Or.inl rfl) (hd rfl),
  ⟨fun hd => mk6 fld_37_14 (Or.inl ⟨rfl, by decide⟩) (Or.inr ⟨_, W4303⟩) (Or.inl rfl) (hd rfl),
  ⟨fun hd => mk19 mt_4 cf_4 (vf_4_5.rt (Or.inl W4708) (hd rfl)) rfl rfl (noH_nil rfl),
  ⟨fun hd => mk34 mt_87 cf_87 (ff_87_11.rt W4710 (hd rfl)) rfl rfl,
  ⟨fun hd => mk34 mt_88 cf_88 (ff_88_11.rt W4712 (hd rfl)) rfl rfl,
  ⟨fun hd => mk17 kx_40 W4733 (hd rfl),
  ⟨fun hd => mk6 fld_40_5 (Or.inl ⟨rfl, by decide⟩) (Or.inl W5449) (Or.inl rfl) (hd rfl),
  ⟨fun hd => mk6 fld_40_6 (Or.inl ⟨rfl, by decide⟩) (Or.inl W5452) (Or.inl rfl) (hd rfl),
  ⟨fun hd => mk6 fld_38_4 (Or.inl ⟨rfl, by decide⟩) (Or.inl W4383) (Or.inl rfl) (hd rfl),
  ⟨fun hd => mk6 fld_40_2 (Or.inl ⟨rfl, by decide⟩) (Or.inl W5441) (Or.inl rfl) (hd rfl),
  trivial⟩⟩⟩⟩⟩⟩⟩⟩⟩⟩
theorem fe_722 : eqEs ((flat code_722).filter (fun e => ndE e.2.2.1)) (fl_722_0) = true := by decide +kernel
theorem om_722 : OKm mi iT prg 722 := OKm_of (code := code_722) rfl mt_722 (Or.inl (by decide +kernel)) rfl wk_722 (by decide +kernel) (by decide +kernel) (FA_of fe_722 (fb_722_0))
def fl_723_0 : List Ent := [(6, 3, 6, .getfield 60, [3, 38, 234], 0), (9, 3, 19, .invokevirtual 357, [0, 1, 1, 5, 5], 0), (18, 3, 18, .invokestatic 224, [0, 2, 2, 379], 0), (25, 3, 6, .getfield 60, [3, 38, 234], 0), (29, 3, 19, .invokevirtual 353, [3, 2, 2, 5, 6], 0), (32, 3, 17, .checkcast 130, [100], 0)]
theorem fb_723_0 : FB mi iT mi_723 (bpc code_723) (fl_723_0) := ⟨fun hd => mk6 fld_38_22 (Or.inl ⟨rfl, by decide⟩) (Or.inl W4426) (Or.inl rfl) (hd rfl),
  ⟨fun hd => mk19 mt_5 cf_5 (vf_5_5.rt (Or.inl W5209) (hd rfl)) rfl rfl (noH_nil rfl),
  ⟨fun hd => mk18 mt_379 sf_379 (Or.inr ⟨⟨_, W4787⟩, _, _, rfl⟩) rfl rfl (noH_nil rfl) (hd rfl),
  ⟨fun hd => mk6 fld_38_22 (Or.inl ⟨rfl, by decide⟩) (Or.inl W4426) (Or.inl rfl) (hd rfl),
  ⟨fun hd => mk19 mt_6 cf_6 (vf_6_5.rt (Or.inl W5214) (hd rfl)) rfl rfl (noH_nil rfl),
  ⟨fun hd => mk17 kx_100 W4713 (hd rfl),
  trivial⟩⟩⟩⟩⟩⟩
theorem fe_723 : eqEs ((flat code_723).filter (fun e => ndE e.2.2.1)) (fl_723_0) = true := by decide +kernel
theorem om_723 : OKm mi iT prg 723 := OKm_of (code := code_723) rfl mt_723 (Or.inl (by decide +kernel)) rfl wk_723 (by decide +kernel) (by decide +kernel) (FA_of fe_723 (fb_723_0))
def fl_724_0 : List Ent := [(1, 3, 6, .getfield 7, [0, 26, 139], 0)]
theorem fb_724_0 : FB mi iT mi_724 (bpc code_724) (fl_724_0) := ⟨fun hd => mk6 fld_26_0 (Or.inl ⟨rfl, by decide⟩) (Or.inl W2643) (Or.inl rfl) (hd rfl),
  trivial⟩
theorem fe_724 : eqEs ((flat code_724).filter (fun e => ndE e.2.2.1)) (fl_724_0) = true := by decide +kernel
theorem om_724 : OKm mi iT prg 724 := OKm_of (code := code_724) rfl mt_724 (Or.inl (by decide +kernel)) rfl wk_724 (by decide +kernel) (by decide +kernel) (FA_of fe_724 (fb_724_0))
def fl_725_0 : List Ent := [(1, 3, 6, .getfield 13, [0, 26, 140], 0)]
theorem fb_725_0 : FB mi iT mi_725 (bpc code_725) (fl_725_0) := ⟨fun hd => mk6 fld_26_1 (Or.inl ⟨rfl, by decide⟩) (Or.inl W2644) (Or.inl rfl) (hd rfl),
  trivial⟩
theorem fe_725 : eqEs ((flat code_725).filter (fun e => ndE e.2.2.1)) (fl_725_0) = true := by decide +kernel
theorem om_725 : OKm mi iT prg 725 := OKm_of (code := code_725) rfl mt_725 (Or.inl (by decide +kernel)) rfl wk_725 (by decide +kernel) (by decide +kernel) (FA_of fe_725 (fb_725_0))
def fl_726_0 : List Ent := [(1, 3, 6, .getfield 16, [0, 26, 141], 0), (5, 3, 15, .ldc2_w 22, [4620693217682128896], 0)]
theorem fb_726_0 : FB mi iT mi_726 (bpc code_726) (fl_726_0) := ⟨fun hd => mk6 fld_26_2 (Or.inl ⟨rfl, by decide⟩) (Or.inl W2645) (Or.inl rfl) (hd rfl),
  ⟨fun hd => mk15 W1202 (hd rfl),
  trivial⟩⟩
theorem fe_726 : eqEs ((flat code_726).filter (fun e => ndE e.2.2.1)) (fl_726_0) = true := by decide +kernel
theorem om_726 : OKm mi iT prg 726 := OKm_of (code := code_726) rfl mt_726 (Or.inl (by decide +kernel)) rfl wk_726 (by decide +kernel) (by decide +kernel) (FA_of fe_726 (fb_726_0))
def fl_727_0 : List Ent := [(1, 3, 6, .getfield 19, [0, 26, 142], 0), (5, 3, 15, .ldc2_w 22, [4620693217682128896], 0)]
theorem fb_727_0 : FB mi iT mi_727 (bpc code_727) (fl_727_0) := ⟨fun hd => mk6 fld_26_3 (Or.inl ⟨rfl, by decide⟩) (Or.inl W2646) (Or.inl rfl) (hd rfl),
  ⟨fun hd => mk15 W1202 (hd rfl),
  trivial⟩⟩
theorem fe_727 : eqEs ((flat code_727).filter (fun e => ndE e.2.2.1)) (fl_727_0) = true := by decide +kernel
theorem om_727 : OKm mi iT prg 727 := OKm_of (code := code_727) rfl mt_727 (Or.inl (by decide +kernel)) rfl wk_727 (by decide +kernel) (by decide +kernel) (FA_of fe_727 (fb_727_0))
def fl_728_0 : List Ent := [(1, 3, 22, .invokespecial 1, [], 0), (6, 3, 7, .putfield 7, [0, 26, 139], 0), (11, 3, 7, .putfield 13, [0, 26, 140], 0), (16, 3, 7, .putfield 16, [0, 26, 141], 0), (22, 3, 7, .putfield 19, [0, 26, 142], 0)]
theorem fb_728_0 : FB mi iT mi_728 (bpc code_728) (fl_728_0) := ⟨fun hd => mk22 (by decide) W2642 oi_w (hd rfl),
  ⟨fun hd => mk7 fld_26_0 (Or.inl W2643) (Or.inl rfl) (Or.inr ⟨rfl, rfl, rfl, W2643⟩) (hd rfl),
  ⟨fun hd => mk7 fld_26_1 (Or.inl W2644) (Or.inl rfl) (Or.inr ⟨rfl, rfl, rfl, W2644⟩) (hd rfl),
  ⟨fun hd => mk7 fld_26_2 (Or.inl W2645) (Or.inl rfl) (Or.inr ⟨rfl, rfl, rfl, W2645⟩) (hd rfl),
  ⟨fun hd => mk7 fld_26_3 (Or.inl W2646) (Or.inl rfl) (Or.inr ⟨rfl, rfl, rfl, W2646⟩) (hd rfl),
  trivial⟩⟩⟩⟩⟩
theorem fe_728 : eqEs ((flat code_728).filter (fun e => ndE e.2.2.1)) (fl_728_0) = true := by decide +kernel
theorem om_728 : OKm mi iT prg 728 := OKm_of (code := code_728) rfl mt_728 (Or.inl (by decide +kernel)) rfl wk_728 (by decide +kernel) (by decide +kernel) (FA_of fe_728 (fb_728_0))
def fl_729_0 : List Ent := [(0, 3, 13, .getstatic 7, [10], 0), (4, 3, 31, .invokevirtual 13, [0, 2, 2, 10, 794], 0)]
theorem fb_729_0 : FB mi iT mi_729 (bpc code_729) (fl_729_0) := ⟨fun hd => mk13s (by decide) rfl (Or.inl W1483) (Or.inr W1484) (hd rfl),
  ⟨fun hd => mk31 ⟨pr3 mt_794 cf_794 (ei_794_10_KeelHouse_Seaswell_I_I.rt W1485 (hd rfl)) rfl rfl, trivial⟩,
  trivial⟩⟩
theorem fe_729 : eqEs ((flat code_729).filter (fun e => ndE e.2.2.1)) (fl_729_0) = true := by decide +kernel
theorem om_729 : OKm mi iT prg 729 := OKm_of (code := code_729) rfl mt_729 (Or.inl (by decide +kernel)) rfl wk_729 (by decide +kernel) (by decide +kernel) (FA_of fe_729 (fb_729_0))
def fl_730_0 : List Ent := [(1, 3, 22, .invokespecial 1, [], 0), (6, 3, 7, .putfield 7, [0, 27, 143], 0), (11, 3, 7, .putfield 13, [0, 27, 144], 0), (16, 3, 7, .putfield 16, [0, 27, 145], 0), (22, 3, 7, .putfield 19, [0, 27, 146], 0), (28, 3, 7, .putfield 22, [0, 27, 147], 0)]
theorem fb_730_0 : FB mi iT mi_730 (bpc code_730) (fl_730_0) := ⟨fun hd => mk22 (by decide) W2801 oi_w (hd rfl),
  ⟨fun hd => mk7 fld_27_0 (Or.inl W2802) (Or.inl rfl) (Or.inr ⟨rfl, rfl, rfl, W2802⟩) (hd rfl),
  ⟨fun hd => mk7 fld_27_1 (Or.inl W2805) (Or.inl rfl) (Or.inr ⟨rfl, rfl, rfl, W2805⟩) (hd rfl),
  ⟨fun hd => mk7 fld_27_2 (Or.inl W2808) (Or.inl rfl) (Or.inr ⟨rfl, rfl, rfl, W2808⟩) (hd rfl),
  ⟨fun hd => mk7 fld_27_3 (Or.inl W2811) (Or.inl rfl) (Or.inr ⟨rfl, rfl, rfl, W2811⟩) (hd rfl),
  ⟨fun hd => mk7 fld_27_4 (Or.inl W2814) (Or.inl rfl) (Or.inr ⟨rfl, rfl, rfl, W2814⟩) (hd rfl),
  trivial⟩⟩⟩⟩⟩⟩
theorem fe_730 : eqEs ((flat code_730).filter (fun e => ndE e.2.2.1)) (fl_730_0) = true := by decide +kernel
theorem om_730 : OKm mi iT prg 730 := OKm_of (code := code_730) rfl mt_730 (Or.inl (by decide +kernel)) rfl wk_730 (by decide +kernel) (by decide +kernel) (FA_of fe_730 (fb_730_0))
def fl_731_0 : List Ent := [(1, 3, 22, .invokespecial 1, [], 0), (6, 3, 7, .putfield 7, [3, 28, 149], 0), (11, 3, 7, .putfield 13, [0, 28, 150], 0), (16, 3, 7, .putfield 17, [0, 28, 151], 0)]
theorem fb_731_0 : FB mi iT mi_731 (bpc code_731) (fl_731_0) := ⟨fun hd => mk22 (by decide) W2890 oi_w (hd rfl),
  ⟨fun hd => mk7 fld_28_0 (Or.inl W2891) (Or.inl rfl) (Or.inr ⟨rfl, rfl, rfl, W2891⟩) (hd rfl),
  ⟨fun hd => mk7 fld_28_1 (Or.inl W2893) (Or.inl rfl) (Or.inr ⟨rfl, rfl, rfl, W2893⟩) (hd rfl),
  ⟨fun hd => mk7 fld_28_2 (Or.inl W2895) (Or.inl rfl) (Or.inr ⟨rfl, rfl, rfl, W2895⟩) (hd rfl),
  trivial⟩⟩⟩⟩
theorem fe_731 : eqEs ((flat code_731).filter (fun e => ndE e.2.2.1)) (fl_731_0) = true := by decide +kernel
theorem om_731 : OKm mi iT prg 731 := OKm_of (code := code_731) rfl mt_731 (Or.inl (by decide +kernel)) rfl wk_731 (by decide +kernel) (by decide +kernel) (FA_of fe_731 (fb_731_0))
def fl_732_0 : List Ent := [(1, 3, 22, .invokespecial 1, [], 0), (6, 3, 7, .putfield 7, [3, 30, 153], 0), (11, 3, 7, .putfield 13, [0, 30, 154], 0), (16, 3, 7, .putfield 17, [0, 30, 155], 0), (22, 3, 19, .invokevirtual 20, [0, 2, 2, 30, 733], 0), (27, 3, 19, .invokevirtual 20, [0, 2, 2, 30, 733], 0), (38, 3, 7, .putfield 24, [4, 30, 156], 0)]
theorem fb_732_0 : FB mi iT mi_732 (bpc code_732) (fl_732_0) := ⟨fun hd => mk22 (by decide) W3068 oi_w (hd rfl),
  ⟨fun hd => mk7 fld_30_0 (Or.inl W3078) (Or.inl rfl) (Or.inr ⟨rfl, rfl, rfl, W3078⟩) (hd rfl),
  ⟨fun hd => mk7 fld_30_1 (Or.inl W3079) (Or.inl rfl) (Or.inr ⟨rfl, rfl, rfl, W3079⟩) (hd rfl),
  ⟨fun hd => mk7 fld_30_2 (Or.inl W3080) (Or.inl rfl) (Or.inr ⟨rfl, rfl, rfl, W3080⟩) (hd rfl),
  ⟨fun hd => mk19 mt_733 cf_733 (vf_733_30.rt (Or.inl W3069) (hd rfl)) rfl rfl (noH_nil rfl),
  ⟨fun hd => mk19 mt_733 cf_733 (vf_733_30.rt (Or.inl W3069) (hd rfl)) rfl rfl (noH_nil rfl),
  ⟨fun hd => mk7 fld_30_3 (Or.inl W3081) (Or.inl rfl) (Or.inr ⟨rfl, rfl, rfl, W3081⟩) (hd rfl),
  trivial⟩⟩⟩⟩⟩⟩⟩
theorem fe_732 : eqEs ((flat code_732).filter (fun e => ndE e.2.2.1)) (fl_732_0) = true := by decide +kernel
theorem om_732 : OKm mi iT prg 732 := OKm_of (code := code_732) rfl mt_732 (Or.inl (by decide +kernel)) rfl wk_732 (by decide +kernel) (by decide +kernel) (FA_of fe_732 (fb_732_0))
def fl_733_0 : List Ent := [(1, 3, 6, .getfield 13, [0, 30, 154], 0), (7, 3, 19, .invokevirtual 36, [0, 3, 3, 30, 734], 0), (10, 3, 18, .invokestatic 40, [0, 2, 2, 198], 0), (14, 3, 6, .getfield 17, [0, 30, 155], 0), (20, 3, 19, .invokevirtual 36, [0, 3, 3, 30, 734], 0), (23, 3, 18, .invokestatic 40, [0, 2, 2, 198], 0)]
theorem fb_733_0 : FB mi iT mi_733 (bpc code_733) (fl_733_0) := ⟨fun hd => mk6 fld_30_1 (Or.inl ⟨rfl, by decide⟩) (Or.inl W3079) (Or.inl rfl) (hd rfl),
  ⟨fun hd => mk19 mt_734 cf_734 (vf_734_30.rt (Or.inl W3073) (hd rfl)) rfl rfl (noH_nil rfl),
  ⟨fun hd => mk18 mt_198 sf_198 (Or.inr ⟨⟨_, W3077⟩, _, _, rfl⟩) rfl rfl (noH_nil rfl) (hd rfl),
  ⟨fun hd => mk6 fld_30_2 (Or.inl ⟨rfl, by decide⟩) (Or.inl W3080) (Or.inl rfl) (hd rfl),
  ⟨fun hd => mk19 mt_734 cf_734 (vf_734_30.rt (Or.inl W3073) (hd rfl)) rfl rfl (noH_nil rfl),
  ⟨fun hd => mk18 mt_198 sf_198 (Or.inr ⟨⟨_, W3077⟩, _, _, rfl⟩) rfl rfl (noH_nil rfl) (hd rfl),
  trivial⟩⟩⟩⟩⟩⟩
theorem fe_733 : eqEs ((flat code_733).filter (fun e => ndE e.2.2.1)) (fl_733_0) = true := by decide +kernel
theorem om_733 : OKm mi iT prg 733 := OKm_of (code := code_733) rfl mt_733 (Or.inl (by decide +kernel)) rfl wk_733 (by decide +kernel) (by decide +kernel) (FA_of fe_733 (fb_733_0))
def fl_734_0 : List Ent := [(6, 3, 6, .getfield 7, [3, 30, 153], 0), (9, 3, 6, .getfield 28, [0, 27, 144], 0), (16, 3, 6, .getfield 7, [3, 30, 153], 0), (19, 3, 6, .getfield 33, [0, 27, 143], 0)]
theorem fb_734_0 : FB mi iT mi_734 (bpc code_734) (fl_734_0) := ⟨fun hd => mk6 fld_30_0 (Or.inl ⟨rfl, by decide⟩) (Or.inl W3078) (Or.inl rfl) (hd rfl),
  ⟨fun hd => mk6 fld_27_1 (Or.inl ⟨rfl, by decide⟩) (Or.inr ⟨_, W2806⟩) (Or.inl rfl) (hd rfl),
  ⟨fun hd => mk6 fld_30_0 (Or.inl ⟨rfl, by decide⟩) (Or.inl W3078) (Or.inl rfl) (hd rfl),
  ⟨fun hd => mk6 fld_27_0 (Or.inl ⟨rfl, by decide⟩) (Or.inr ⟨_, W2803⟩) (Or.inl rfl) (hd rfl),
  trivial⟩⟩⟩⟩
theorem fe_734 : eqEs ((flat code_734).filter (fun e => ndE e.2.2.1)) (fl_734_0) = true := by decide +kernel
theorem om_734 : OKm mi iT prg 734 := OKm_of (code := code_734) rfl mt_734 (Or.inl (by decide +kernel)) rfl wk_734 (by decide +kernel) (by decide +kernel) (FA_of fe_734 (fb_734_0))
def fl_735_0 : List Ent := [(2, 3, 6, .getfield 24, [0, 30, 156], 0), (5, 3, 19, .invokevirtual 20, [0, 2, 2, 30, 733], 0)]
theorem fb_735_0 : FB mi iT mi_735 (bpc code_735) (fl_735_0) := ⟨fun hd => mk6 fld_30_3 (Or.inr ⟨rfl, Or.inl rfl⟩) (Or.inl W3081) (Or.inl rfl) (hd rfl),
  ⟨fun hd => mk19 mt_733 cf_733 (vf_733_30.rt (Or.inl W3069) (hd rfl)) rfl rfl (noH_nil rfl),
  trivial⟩⟩
theorem fe_735 : eqEs ((flat code_735).filter (fun e => ndE e.2.2.1)) (fl_735_0) = true := by decide +kernel
theorem om_735 : OKm mi iT prg 735 := OKm_of (code := code_735) rfl mt_735 (Or.inl (by decide +kernel)) rfl wk_735 (by decide +kernel) (by decide +kernel) (FA_of fe_735 (fb_735_0))
def fl_736_0 : List Ent := [(3, 3, 6, .getfield 24, [0, 30, 156], 0), (6, 3, 19, .invokevirtual 36, [0, 3, 3, 30, 734], 0), (13, 3, 6, .getfield 24, [0, 30, 156], 0), (16, 3, 19, .invokevirtual 36, [0, 3, 3, 30, 734], 0), (21, 3, 6, .getfield 13, [0, 30, 154], 0), (25, 3, 18, .invokestatic 40, [0, 2, 2, 198], 0), (31, 3, 6, .getfield 13, [0, 30, 154], 0), (38, 3, 6, .getfield 17, [0, 30, 155], 0), (42, 3, 18, .invokestatic 40, [0, 2, 2, 198], 0), (48, 3, 6, .getfield 17, [0, 30, 155], 0), (62, 3, 6, .getfield 7, [3, 30, 153], 0), (68, 3, 19, .invokevirtual 46, [9, 4, 4, 4, 297], 0), (79, 3, 6, .getfield 7, [3, 30, 153], 0), (98, 3, 19, .invokevirtual 46, [9, 4, 4, 4, 297], 0)]
theorem fb_736_0 : FB mi iT mi_736 (bpc code_736) (fl_736_0) := ⟨fun hd => mk6 fld_30_3 (Or.inr ⟨rfl, Or.inl rfl⟩) (Or.inl W3081) (Or.inl rfl) (hd rfl),
  ⟨fun hd => mk19 mt_734 cf_734 (vf_734_30.rt (Or.inl W3073) (hd rfl)) rfl rfl (noH_nil rfl),
  ⟨fun hd => mk6 fld_30_3 (Or.inr ⟨rfl, Or.inl rfl⟩) (Or.inl W3081) (Or.inl rfl) (hd rfl),
  ⟨fun hd => mk19 mt_734 cf_734 (vf_734_30.rt (Or.inl W3073) (hd rfl)) rfl rfl (noH_nil rfl),
  ⟨fun hd => mk6 fld_30_1 (Or.inl ⟨rfl, by decide⟩) (Or.inl W3079) (Or.inl rfl) (hd rfl),
  ⟨fun hd => mk18 mt_198 sf_198 (Or.inr ⟨⟨_, W3077⟩, _, _, rfl⟩) rfl rfl (noH_nil rfl) (hd rfl),
  ⟨fun hd => mk6 fld_30_1 (Or.inl ⟨rfl, by decide⟩) (Or.inl W3079) (Or.inl rfl) (hd rfl),
  ⟨fun hd => mk6 fld_30_2 (Or.inl ⟨rfl, by decide⟩) (Or.inl W3080) (Or.inl rfl) (hd rfl),
  ⟨fun hd => mk18 mt_198 sf_198 (Or.inr ⟨⟨_, W3077⟩, _, _, rfl⟩) rfl rfl (noH_nil rfl) (hd rfl),
  ⟨fun hd => mk6 fld_30_2 (Or.inl ⟨rfl, by decide⟩) (Or.inl W3080) (Or.inl rfl) (hd rfl),
  ⟨fun hd => mk6 fld_30_0 (Or.inl ⟨rfl, by decide⟩) (Or.inl W3078) (Or.inl rfl) (hd rfl),
  ⟨fun hd => mk19 mt_297 cf_297 (vf_297_4.rt (Or.inl W3099) (hd rfl)) rfl rfl (noH_nil rfl),
  ⟨fun hd => mk6 fld_30_0 (Or.inl ⟨rfl, by decide⟩) (Or.inl W3078) (Or.inl rfl) (hd rfl),
  ⟨fun hd => mk19 mt_297 cf_297 (vf_297_4.rt (Or.inl W3099) (hd rfl)) rfl rfl (noH_nil rfl),
  trivial⟩⟩⟩⟩⟩⟩⟩⟩⟩⟩⟩⟩⟩⟩
theorem fe_736 : eqEs ((flat code_736).filter (fun e => ndE e.2.2.1)) (fl_736_0) = true := by decide +kernel
theorem om_736 : OKm mi iT prg 736 := OKm_of (code := code_736) rfl mt_736 (Or.inl (by decide +kernel)) rfl wk_736 (by decide +kernel) (by decide +kernel) (FA_of fe_736 (fb_736_0))
def fl_737_0 : List Ent := [(1, 3, 6, .getfield 13, [0, 31, 158], 0), (5, 3, 6, .getfield 17, [0, 31, 159], 0)]
theorem fb_737_0 : FB mi iT mi_737 (bpc code_737) (fl_737_0) := ⟨fun hd => mk6 fld_31_1 (Or.inl ⟨rfl, by decide⟩) (Or.inl W3111) (Or.inl rfl) (hd rfl),
  ⟨fun hd => mk6 fld_31_2 (Or.inl ⟨rfl, by decide⟩) (Or.inl W3112) (Or.inl rfl) (hd rfl),
  trivial⟩⟩
theorem fe_737 : eqEs ((flat code_737).filter (fun e => ndE e.2.2.1)) (fl_737_0) = true := by decide +kernel
theorem om_737 : OKm mi iT prg 737 := OKm_of (code := code_737) rfl mt_737 (Or.inl (by decide +kernel)) rfl wk_737 (by decide +kernel) (by decide +kernel) (FA_of fe_737 (fb_737_0))
def fl_738_0 : List Ent := [(1, 3, 6, .getfield 13, [0, 31, 158], 0), (9, 3, 6, .getfield 17, [0, 31, 159], 0), (17, 3, 6, .getfield 17, [0, 31, 159], 0), (25, 3, 6, .getfield 13, [0, 31, 158], 0)]
theorem fb_738_0 : FB mi iT mi_738 (bpc code_738) (fl_738_0) := ⟨fun hd => mk6 fld_31_1 (Or.inl ⟨rfl, by decide⟩) (Or.inl W3111) (Or.inl rfl) (hd rfl),
  ⟨fun hd => mk6 fld_31_2 (Or.inl ⟨rfl, by decide⟩) (Or.inl W3112) (Or.inl rfl) (hd rfl),
  ⟨fun hd => mk6 fld_31_2 (Or.inl ⟨rfl, by decide⟩) (Or.inl W3112) (Or.inl rfl) (hd rfl),
  ⟨fun hd => mk6 fld_31_1 (Or.inl ⟨rfl, by decide⟩) (Or.inl W3111) (Or.inl rfl) (hd rfl),
  trivial⟩⟩⟩⟩
theorem fe_738 : eqEs ((flat code_738).filter (fun e => ndE e.2.2.1)) (fl_738_0) = true := by decide +kernel
theorem om_738 : OKm mi iT prg 738 := OKm_of (code := code_738) rfl mt_738 (Or.inl (by decide +kernel)) rfl wk_738 (by decide +kernel) (by decide +kernel) (FA_of fe_738 (fb_738_0))
def fl_739_0 : List Ent := [(1, 3, 22, .invokespecial 1, [], 0), (6, 3, 7, .putfield 7, [3, 31, 157], 0), (11, 3, 7, .putfield 13, [0, 31, 158], 0), (16, 3, 7, .putfield 17, [0, 31, 159], 0)]
theorem fb_739_0 : FB mi iT mi_739 (bpc code_739) (fl_739_0) := ⟨fun hd => mk22 (by decide) W3108 oi_w (hd rfl),
  ⟨fun hd => mk7 fld_31_0 (Or.inl W3109) (Or.inl rfl) (Or.inr ⟨rfl, rfl, rfl, W3109⟩) (hd rfl),
  ⟨fun hd => mk7 fld_31_1 (Or.inl W3111) (Or.inl rfl) (Or.inr ⟨rfl, rfl, rfl, W3111⟩) (hd rfl),
  ⟨fun hd => mk7 fld_31_2 (Or.inl W3112) (Or.inl rfl) (Or.inr ⟨rfl, rfl, rfl, W3112⟩) (hd rfl),
  trivial⟩⟩⟩⟩
theorem fe_739 : eqEs ((flat code_739).filter (fun e => ndE e.2.2.1)) (fl_739_0) = true := by decide +kernel
theorem om_739 : OKm mi iT prg 739 := OKm_of (code := code_739) rfl mt_739 (Or.inl (by decide +kernel)) rfl wk_739 (by decide +kernel) (by decide +kernel) (FA_of fe_739 (fb_739_0))
theorem fe_740 : eqEs ((flat code_740).filter (fun e => ndE e.2.2.1)) ([]) = true := by decide +kernel
theorem om_740 : OKm mi iT prg 740 := OKm_of (code := code_740) rfl mt_740 (Or.inl (by decide +kernel)) rfl wk_740 (by decide +kernel) (by decide +kernel) (FA_of fe_740 (trivial))
def fl_741_0 : List Ent := [(2, 3, 7, .putfield 3, [3, 39, 254], 0), (6, 3, 22, .invokespecial 9, [], 0), (11, 3, 12, .anewarray 15, [109], 0), (14, 3, 7, .putfield 17, [3, 39, 249], 0), (19, 3, 12, .anewarray 15, [109], 0), (22, 3, 7, .putfield 21, [3, 39, 250], 0), (27, 3, 12, .anewarray 15, [109], 0), (30, 3, 7, .putfield 24, [3, 39, 251], 0), (35, 3, 12, .anewarray 15, [109], 0), (38, 3, 7, .putfield 27, [3, 39, 252], 0), (43, 3, 7, .putfield 30, [4, 39, 253], 0), (54, 3, 6, .getfield 17, [3, 39, 249], 0), (60, 2, 12, .newarray .int, [100], 0), (62, 1, 9, .aastore, [3, 109, 100], 0), (64, 3, 6, .getfield 21, [3, 39, 250], 0), (70, 2, 12, .newarray .int, [100], 0), (72, 1, 9, .aastore, [3, 109, 100], 0), (74, 3, 6, .getfield 24, [3, 39, 251], 0), (80, 2, 12, .newarray .int, [100], 0), (82, 1, 9, .aastore, [3, 109, 100], 0), (84, 3, 6, .getfield 27, [3, 39, 252], 0), (90, 2, 12, .newarray .int, [100], 0), (92, 1, 9, .aastore, [3, 109, 100], 0), (100, 3, 6, .getfield 34, [3, 37, 195], 0), (103, 3, 19, .invokevirtual 38, [3, 1, 1, 5, 4], 0), (108, 5, 34, .invokeinterface 44 1, [0, 1, 1, 11, 87], 0), (117, 5, 34, .invokeinterface 50 1, [3, 1, 1, 11, 88], 0), (122, 3, 17, .checkcast 54, [38], 0), (129, 3, 6, .getfield 56, [3, 38, 230], 0), (134, 3, 6, .getfield 17, [3, 39, 249], 0)]
theorem fb_741_0 : FB mi iT mi_741 (bpc code_741) (fl_741_0) := ⟨fun hd => mk7 fld_39_5 (Or.inl W5123) (Or.inl rfl) (Or.inr ⟨rfl, rfl, rfl, W5123⟩) (hd rfl),
  ⟨fun hd => mk22 (by decide) W5108 oi_w (hd rfl),
  ⟨fun hd => mk12c (by decide) rfl W5109 (hd rfl),
  ⟨fun hd => mk7 fld_39_0 (Or.inl W5117) (Or.inl rfl) (Or.inr ⟨rfl, rfl, rfl, W5117⟩) (hd rfl),
  ⟨fun hd => mk12c (by decide) rfl W5109 (hd rfl),
  ⟨fun hd => mk7 fld_39_1 (Or.inl W5118) (Or.inl rfl) (Or.inr ⟨rfl, rfl, rfl, W5118⟩) (hd rfl),
  ⟨fun hd => mk12c (by decide) rfl W5109 (hd rfl),
  ⟨fun hd => mk7 fld_39_2 (Or.inl W5120) (Or.inl rfl) (Or.inr ⟨rfl, rfl, rfl, W5120⟩) (hd rfl),
  ⟨fun hd => mk12c (by decide) rfl W5109 (hd rfl),
  ⟨fun hd => mk7 fld_39_3 (Or.inl W5121) (Or.inl rfl) (Or.inr ⟨rfl, rfl, rfl, W5121⟩) (hd rfl),
  ⟨fun hd => mk7 fld_39_4 (Or.inl W5122) (Or.inl rfl) (Or.inr ⟨rfl, rfl, rfl, W5122⟩) (hd rfl),
  ⟨fun hd => mk6 fld_39_0 (Or.inl ⟨rfl, by decide⟩) (Or.inl W5117) (Or.inl rfl) (hd rfl),
  ⟨fun hd => mk12a (at_ := .int) (by decide) rfl W239 (hd rfl),
  ⟨fun hd => ⟨_, _, _, rfl, rfl, hd rfl, Or.inr (Or.inr (Or.inr (Or.inr ⟨rfl, rfl, by decide, _, rfl, (Or.inr ⟨rfl, rfl⟩), by decide⟩)))⟩,
  ⟨fun hd => mk6 fld_39_1 (Or.inl ⟨rfl, by decide⟩) (Or.inl W5118) (Or.inl rfl) (hd rfl),
  ⟨fun hd => mk12a (at_ := .int) (by decide) rfl W239 (hd rfl),
  ⟨fun hd => ⟨_, _, _, rfl, rfl, hd rfl, Or.inr (Or.inr (Or.inr (Or.inr ⟨rfl, rfl, by decide, _, rfl, (Or.inr ⟨rfl, rfl⟩), by decide⟩)))⟩,
  ⟨fun hd => mk6 fld_39_2 (Or.inl ⟨rfl, by decide⟩) (Or.inl W5120) (Or.inl rfl) (hd rfl),
  ⟨fun hd => mk12a (at_ := .int) (by decide) rfl W239 (hd rfl),
  ⟨fun hd => ⟨_, _, _, rfl, rfl, hd rfl, Or.inr (Or.inr (Or.inr (Or.inr ⟨rfl, rfl, by decide, _, rfl, (Or.inr ⟨rfl, rfl⟩), by decide⟩)))⟩,
  ⟨fun hd => mk6 fld_39_3 (Or.inl ⟨rfl, by decide⟩) (Or.inl W5121) (Or.inl rfl) (hd rfl),
  ⟨fun hd => mk12a (at_ := .int) (by decide) rfl W239 (hd rfl),
  ⟨fun hd => ⟨_, _, _, rfl, rfl, hd rfl, Or.inr (Or.inr (Or.inr (Or.inr ⟨rfl, rfl, by decide, _, rfl, (Or.inr ⟨rfl, rfl⟩), by decide⟩)))⟩,
  ⟨fun hd => mk6 fld_37_1 (Or.inl ⟨rfl, by decide⟩) (Or.inr ⟨_, W4282⟩) (Or.inl rfl) (hd rfl),
  ⟨fun hd => mk19 mt_4 cf_4 (vf_4_5.rt (Or.inl W5110) (hd rfl)) rfl rfl (noH_nil rfl),
  ⟨fun hd => mk34 mt_87 cf_87 (ff_87_11.rt W5112 (hd rfl)) rfl rfl,
  ⟨fun hd => mk34 mt_88 cf_88 (ff_88_11.rt W5114 (hd rfl)) rfl rfl,
  ⟨fun hd => mk17 kx_38 W5115 (hd rfl),
  ⟨fun hd => mk6 fld_38_18 (Or.inl ⟨rfl, by decide⟩) (Or.inl W4417) (Or.inl rfl) (hd rfl),
  ⟨fun hd => mk6 fld_39_0 (Or.inl ⟨rfl, by decide⟩) (Or.inl W5117) (Or.inl rfl) (hd rfl),
  trivial⟩⟩⟩⟩⟩⟩⟩⟩⟩⟩⟩⟩⟩⟩⟩⟩⟩⟩⟩⟩⟩⟩⟩⟩⟩⟩⟩⟩⟩⟩
def fl_741_1 : List Ent := [(139, 3, 6, .getfield 58, [0, 38, 216], 0), (146, 3, 26, .invokestatic 62, [0, 100], 0), (151, 3, 6, .getfield 68, [3, 38, 223], 0), (156, 3, 6, .getfield 21, [3, 39, 250], 0), (161, 3, 6, .getfield 58, [0, 38, 216], 0), (168, 3, 26, .invokestatic 62, [0, 100], 0)]
theorem fb_741_1 : FB mi iT mi_741 (bpc code_741) (fl_741_1) := ⟨fun hd => mk6 fld_38_4 (Or.inl ⟨rfl, by decide⟩) (Or.inl W4382) (Or.inl rfl) (hd rfl),
  ⟨fun hd => ⟨_, _, _, rfl, rfl, by decide, W5116, ac_w, hd rfl, Or.inl ⟨rfl, Or.inl rfl⟩⟩,
  ⟨fun hd => mk6 fld_38_11 (Or.inl ⟨rfl, by decide⟩) (Or.inl W4400) (Or.inl rfl) (hd rfl),
  ⟨fun hd => mk6 fld_39_1 (Or.inl ⟨rfl, by decide⟩) (Or.inl W5118) (Or.inl rfl) (hd rfl),
  ⟨fun hd => mk6 fld_38_4 (Or.inl ⟨rfl, by decide⟩) (Or.inl W4382) (Or.inl rfl) (hd rfl),
  ⟨fun hd => ⟨_, _, _, rfl, rfl, by decide, W5116, ac_w, hd rfl, Or.inl ⟨rfl, Or.inl rfl⟩⟩,
  trivial⟩⟩⟩⟩⟩⟩
theorem fe_741 : eqEs ((flat code_741).filter (fun e => ndE e.2.2.1)) (fl_741_0 ++ (fl_741_1)) = true := by decide +kernel
theorem om_741 : OKm mi iT prg 741 := OKm_of (code := code_741) rfl mt_741 (Or.inl (by decide +kernel)) rfl wk_741 (by decide +kernel) (by decide +kernel) (FA_of fe_741 (FB_app fb_741_0 (fb_741_1)))
def fl_742_0 : List Ent := [(1, 3, 6, .getfield 3, [3, 39, 254], 0), (4, 3, 6, .getfield 34, [3, 37, 195], 0), (7, 3, 19, .invokevirtual 38, [3, 1, 1, 5, 4], 0), (12, 5, 34, .invokeinterface 44 1, [0, 1, 1, 11, 87], 0), (21, 5, 34, .invokeinterface 50 1, [3, 1, 1, 11, 88], 0), (26, 3, 17, .checkcast 54, [38], 0), (34, 3, 6, .getfield 58, [0, 38, 216], 0), (37, 3, 19, .invokevirtual 146, [9, 2, 2, 39, 743], 0), (69, 3, 6, .getfield 3, [3, 39, 254], 0), (72, 3, 6, .getfield 150, [3, 37, 202], 0), (87, 3, 18, .invokestatic 153, [0, 1, 1, 381], 0), (111, 3, 19, .invokevirtual 157, [9, 3, 3, 39, 745], 0), (127, 3, 6, .getfield 3, [3, 39, 254], 0), (130, 3, 6, .getfield 34, [3, 37, 195], 0), (133, 3, 19, .invokevirtual 38, [3, 1, 1, 5, 4], 0), (138, 5, 34, .invokeinterface 44 1, [0, 1, 1, 11, 87], 0), (147, 5, 34, .invokeinterface 50 1, [3, 1, 1, 11, 88], 0), (152, 3, 17, .checkcast 54, [38], 0), (158, 3, 6, .getfield 30, [0, 39, 253], 0), (165, 3, 6, .getfield 17, [3, 39, 249], 0), (170, 3, 6, .getfield 58, [0, 38, 216], 0), (177, 3, 6, .getfield 56, [3, 38, 230], 0), (183, 3, 26, .invokestatic 62, [0, 100], 0), (187, 3, 6, .getfield 21, [3, 39, 250], 0), (192, 3, 6, .getfield 58, [0, 38, 216], 0), (199, 3, 6, .getfield 68, [3, 38, 223], 0), (205, 3, 26, .invokestatic 62, [0, 100], 0)]
theorem fb_742_0 : FB mi iT mi_742 (bpc code_742) (fl_742_0) := ⟨fun hd => mk6 fld_39_5 (Or.inl ⟨rfl, by decide⟩) (Or.inl W5123) (Or.inl rfl) (hd rfl),
  ⟨fun hd => mk6 fld_37_1 (Or.inl ⟨rfl, by decide⟩) (Or.inr ⟨_, W4282⟩) (Or.inl rfl) (hd rfl),
  ⟨fun hd => mk19 mt_4 cf_4 (vf_4_5.rt (Or.inl W5110) (hd rfl)) rfl rfl (noH_nil rfl),
  ⟨fun hd => mk34 mt_87 cf_87 (ff_87_11.rt W5112 (hd rfl)) rfl rfl,
  ⟨fun hd => mk34 mt_88 cf_88 (ff_88_11.rt W5114 (hd rfl)) rfl rfl,
  ⟨fun hd => mk17 kx_38 W5115 (hd rfl),
  ⟨fun hd => mk6 fld_38_4 (Or.inl ⟨rfl, by decide⟩) (Or.inl W4382) (Or.inl rfl) (hd rfl),
  ⟨fun hd => mk19 mt_743 cf_743 (vf_743_39.rt (Or.inl W5141) (hd rfl)) rfl rfl (noH_nil rfl),
  ⟨fun hd => mk6 fld_39_5 (Or.inl ⟨rfl, by decide⟩) (Or.inl W5123) (Or.inl rfl) (hd rfl),
  ⟨fun hd => mk6 fld_37_8 (Or.inl ⟨rfl, by decide⟩) (Or.inr ⟨_, W4296⟩) (Or.inl rfl) (hd rfl),
  ⟨fun hd => mk18 mt_381 sf_381 (Or.inr ⟨⟨_, W5163⟩, _, _, rfl⟩) rfl rfl (noH_nil rfl) (hd rfl),
  ⟨fun hd => mk19 mt_745 cf_745 (vf_745_39.rt (Or.inl W5164) (hd rfl)) rfl rfl (noH_nil rfl),
  ⟨fun hd => mk6 fld_39_5 (Or.inl ⟨rfl, by decide⟩) (Or.inl W5123) (Or.inl rfl) (hd rfl),
  ⟨fun hd => mk6 fld_37_1 (Or.inl ⟨rfl, by decide⟩) (Or.inr ⟨_, W4282⟩) (Or.inl rfl) (hd rfl),
  ⟨fun hd => mk19 mt_4 cf_4 (vf_4_5.rt (Or.inl W5110) (hd rfl)) rfl rfl (noH_nil rfl),
  ⟨fun hd => mk34 mt_87 cf_87 (ff_87_11.rt W5112 (hd rfl)) rfl rfl,
  ⟨fun hd => mk34 mt_88 cf_88 (ff_88_11.rt W5114 (hd rfl)) rfl rfl,
  ⟨fun hd => mk17 kx_38 W5115 (hd rfl),
  ⟨fun hd => mk6 fld_39_4 (Or.inr ⟨rfl, Or.inl rfl⟩) (Or.inl W5122) (Or.inl rfl) (hd rfl),
  ⟨fun hd => mk6 fld_39_0 (Or.inl ⟨rfl, by decide⟩) (Or.inl W5117) (Or.inl rfl) (hd rfl),
  ⟨fun hd => mk6 fld_38_4 (Or.inl ⟨rfl, by decide⟩) (Or.inl W4382) (Or.inl rfl) (hd rfl),
  ⟨fun hd => mk6 fld_38_18 (Or.inl ⟨rfl, by decide⟩) (Or.inl W4417) (Or.inl rfl) (hd rfl),
  ⟨fun hd => ⟨_, _, _, rfl, rfl, by decide, W5116, ac_w, hd rfl, Or.inl ⟨rfl, Or.inl rfl⟩⟩,
  ⟨fun hd => mk6 fld_39_1 (Or.inl ⟨rfl, by decide⟩) (Or.inl W5118) (Or.inl rfl) (hd rfl),
  ⟨fun hd => mk6 fld_38_4 (Or.inl ⟨rfl, by decide⟩) (Or.inl W4382) (Or.inl rfl) (hd rfl),
  ⟨fun hd => mk6 fld_38_11 (Or.inl ⟨rfl, by decide⟩) (Or.inl W4400) (Or.inl rfl) (hd rfl),
  ⟨fun hd => ⟨_, _, _, rfl, rfl, by decide, W5116, ac_w, hd rfl, Or.inl ⟨rfl, Or.inl rfl⟩⟩,
  trivial⟩⟩⟩⟩⟩⟩⟩⟩⟩⟩⟩⟩⟩⟩⟩⟩⟩⟩⟩⟩⟩⟩⟩⟩⟩⟩⟩
theorem fe_742 : eqEs ((flat code_742).filter (fun e => ndE e.2.2.1)) (fl_742_0) = true := by decide +kernel
theorem om_742 : OKm mi iT prg 742 := OKm_of (code := code_742) rfl mt_742 (Or.inl (by decide +kernel)) rfl wk_742 (by decide +kernel) (by decide +kernel) (FA_of fe_742 (fb_742_0))
def fl_743_0 : List Ent := [(2, 2, 12, .newarray .int, [100], 0), (7, 2, 12, .newarray .int, [100], 0), (13, 3, 13, .getstatic 74, [57], 0), (20, 1, 10, .arraylength, [100], 0), (52, 3, 18, .invokestatic 77, [0, 1, 1, 425], 0), (57, 3, 18, .invokestatic 81, [0, 2, 2, 379], 0), (78, 3, 19, .invokevirtual 85, [0, 3, 3, 39, 744], 0), (82, 3, 18, .invokestatic 88, [0, 2, 2, 74], 0), (85, 1, 9, .iastore, [0, 100], 0), (102, 3, 19, .invokevirtual 85, [0, 3, 3, 39, 744], 0), (106, 3, 18, .invokestatic 88, [0, 2, 2, 74], 0), (126, 3, 13, .getstatic 74, [57], 0), (143, 3, 19, .invokevirtual 85, [0, 3, 3, 39, 744], 0), (147, 1, 9, .iastore, [0, 100], 0), (160, 3, 18, .invokestatic 77, [0, 1, 1, 425], 0), (165, 3, 18, .invokestatic 81, [0, 2, 2, 379], 0), (186, 3, 19, .invokevirtual 85, [0, 3, 3, 39, 744], 0), (190, 3, 18, .invokestatic 93, [0, 2, 2, 67], 0), (193, 1, 9, .iastore, [0, 100], 0), (201, 3, 6, .getfield 24, [3, 39, 251], 0), (217, 1, 9, .iastore, [0, 100], 0), (219, 3, 6, .getfield 27, [3, 39, 252], 0), (227, 1, 9, .iastore, [0, 100], 0)]
theorem fb_743_0 : FB mi iT mi_743 (bpc code_743) (fl_743_0) := ⟨fun hd => mk12a (at_ := .int) (by decide) rfl W239 (hd rfl),
  ⟨fun hd => mk12a (at_ := .int) (by decide) rfl W239 (hd rfl),
  ⟨fun hd => mk13s (by decide) rfl (Or.inr ⟨_, W5145⟩) (Or.inl rfl) (hd rfl),
  ⟨fun hd => mk10 (by decide) rfl (hd rfl),
  ⟨fun hd => mk18 mt_425 sf_425 (Or.inr ⟨⟨_, W5147⟩, _, _, rfl⟩) rfl rfl (noH_nil rfl) (hd rfl),
  ⟨fun hd => mk18 mt_379 sf_379 (Or.inr ⟨⟨_, W5155⟩, _, _, rfl⟩) rfl rfl (noH_nil rfl) (hd rfl),
  ⟨fun hd => mk19 mt_744 cf_744 (vf_744_39.rt (Or.inl W5156) (hd rfl)) rfl rfl (noH_nil rfl),
  ⟨fun hd => mk18 mt_74 sf_74 (Or.inl W5161) rfl rfl (noH_nil rfl) (hd rfl),
  ⟨fun hd => ⟨_, _, _, rfl, rfl, hd rfl, Or.inl ⟨rfl, rfl, rfl⟩⟩,
  ⟨fun hd => mk19 mt_744 cf_744 (vf_744_39.rt (Or.inl W5156) (hd rfl)) rfl rfl (noH_nil rfl),
  ⟨fun hd => mk18 mt_74 sf_74 (Or.inl W5161) rfl rfl (noH_nil rfl) (hd rfl),
  ⟨fun hd => mk13s (by decide) rfl (Or.inr ⟨_, W5145⟩) (Or.inl rfl) (hd rfl),
  ⟨fun hd => mk19 mt_744 cf_744 (vf_744_39.rt (Or.inl W5156) (hd rfl)) rfl rfl (noH_nil rfl),
  ⟨fun hd => ⟨_, _, _, rfl, rfl, hd rfl, Or.inl ⟨rfl, rfl, rfl⟩⟩,
  ⟨fun hd => mk18 mt_425 sf_425 (Or.inr ⟨⟨_, W5147⟩, _, _, rfl⟩) rfl rfl (noH_nil rfl) (hd rfl),
  ⟨fun hd => mk18 mt_379 sf_379 (Or.inr ⟨⟨_, W5155⟩, _, _, rfl⟩) rfl rfl (noH_nil rfl) (hd rfl),
  ⟨fun hd => mk19 mt_744 cf_744 (vf_744_39.rt (Or.inl W5156) (hd rfl)) rfl rfl (noH_nil rfl),
  ⟨fun hd => mk18 mt_67 sf_67 (Or.inl W5162) rfl rfl (noH_nil rfl) (hd rfl),
  ⟨fun hd => ⟨_, _, _, rfl, rfl, hd rfl, Or.inl ⟨rfl, rfl, rfl⟩⟩,
  ⟨fun hd => mk6 fld_39_2 (Or.inl ⟨rfl, by decide⟩) (Or.inl W5120) (Or.inl rfl) (hd rfl),
  ⟨fun hd => ⟨_, _, _, rfl, rfl, hd rfl, Or.inl ⟨rfl, rfl, rfl⟩⟩,
  ⟨fun hd => mk6 fld_39_3 (Or.inl ⟨rfl, by decide⟩) (Or.inl W5121) (Or.inl rfl) (hd rfl),
  ⟨fun hd => ⟨_, _, _, rfl, rfl, hd rfl, Or.inl ⟨rfl, rfl, rfl⟩⟩,
  trivial⟩⟩⟩⟩⟩⟩⟩⟩⟩⟩⟩⟩⟩⟩⟩⟩⟩⟩⟩⟩⟩⟩⟩
theorem fe_743 : eqEs ((flat code_743).filter (fun e => ndE e.2.2.1)) (fl_743_0) = true := by decide +kernel
theorem om_743 : OKm mi iT prg 743 := OKm_of (code := code_743) rfl mt_743 (Or.inl (by decide +kernel)) rfl wk_743 (by decide +kernel) (by decide +kernel) (FA_of fe_743 (fb_743_0))
def fl_744_0 : List Ent := [(1, 3, 6, .getfield 17, [3, 39, 249], 0), (10, 3, 18, .invokestatic 70, [0, 2, 2, 400], 0)]
theorem fb_744_0 : FB mi iT mi_744 (bpc code_744) (fl_744_0) := ⟨fun hd => mk6 fld_39_0 (Or.inl ⟨rfl, by decide⟩) (Or.inl W5117) (Or.inl rfl) (hd rfl),
  ⟨fun hd => mk18 mt_400 sf_400 (Or.inr ⟨⟨_, W5160⟩, _, _, rfl⟩) rfl rfl (noH_nil rfl) (hd rfl),
  trivial⟩⟩
theorem fe_744 : eqEs ((flat code_744).filter (fun e => ndE e.2.2.1)) (fl_744_0) = true := by decide +kernel
theorem om_744 : OKm mi iT prg 744 := OKm_of (code := code_744) rfl mt_744 (Or.inl (by decide +kernel)) rfl wk_744 (by decide +kernel) (by decide +kernel) (FA_of fe_744 (fb_744_0))
def fl_745_0 : List Ent := [(6, 3, 6, .getfield 3, [3, 39, 254], 0), (9, 3, 6, .getfield 34, [3, 37, 195], 0), (12, 3, 19, .invokevirtual 38, [3, 1, 1, 5, 4], 0), (19, 5, 34, .invokeinterface 44 1, [0, 1, 1, 11, 87], 0), (29, 5, 34, .invokeinterface 50 1, [3, 1, 1, 11, 88], 0), (34, 3, 17, .checkcast 54, [38], 0), (51, 3, 18, .invokestatic 103, [0, 1, 1, 427], 0), (63, 3, 19, .invokevirtual 106, [0, 3, 3, 39, 746], 0), (79, 3, 6, .getfield 24, [3, 39, 251], 0), (84, 3, 6, .getfield 58, [0, 38, 216], 0), (92, 3, 6, .getfield 24, [3, 39, 251], 0), (108, 3, 6, .getfield 58, [0, 38, 216], 0), (134, 3, 6, .getfield 17, [3, 39, 249], 0), (142, 3, 18, .invokestatic 93, [0, 2, 2, 67], 0), (148, 3, 6, .getfield 17, [3, 39, 249], 0), (160, 1, 9, .iastore, [0, 100], 0), (162, 3, 6, .getfield 27, [3, 39, 252], 0), (173, 1, 9, .iastore, [0, 100], 0), (199, 3, 6, .getfield 21, [3, 39, 250], 0), (209, 1, 9, .iastore, [0, 100], 0), (211, 3, 6, .getfield 30, [0, 39, 253], 0), (218, 3, 6, .getfield 3, [3, 39, 254], 0), (222, 3, 6, .getfield 110, [0, 37, 200], 0), (228, 3, 7, .putfield 110, [0, 37, 200], 0), (232, 3, 6, .getfield 3, [3, 39, 254], 0), (236, 3, 6, .getfield 113, [0, 37, 201], 0), (244, 3, 7, .putfield 113, [0, 37, 201], 0), (248, 3, 6, .getfield 17, [3, 39, 249], 0), (260, 3, 6, .getfield 30, [0, 39, 253], 0), (268, 3, 6, .getfield 3, [3, 39, 254], 0)]
theorem fb_745_0 : FB mi iT mi_745 (bpc code_745) (fl_745_0) := ⟨fun hd => mk6 fld_39_5 (Or.inl ⟨rfl, by decide⟩) (Or.inl W5123) (Or.inl rfl) (hd rfl),
  ⟨fun hd => mk6 fld_37_1 (Or.inl ⟨rfl, by decide⟩) (Or.inr ⟨_, W4282⟩) (Or.inl rfl) (hd rfl),
  ⟨fun hd => mk19 mt_4 cf_4 (vf_4_5.rt (Or.inl W5110) (hd rfl)) rfl rfl (noH_nil rfl),
  ⟨fun hd => mk34 mt_87 cf_87 (ff_87_11.rt W5112 (hd rfl)) rfl rfl,
  ⟨fun hd => mk34 mt_88 cf_88 (ff_88_11.rt W5114 (hd rfl)) rfl rfl,
  ⟨fun hd => mk17 kx_38 W5115 (hd rfl),
  ⟨fun hd => mk18 mt_427 sf_427 (Or.inr ⟨⟨_, W5168⟩, _, _, rfl⟩) rfl rfl (noH_nil rfl) (hd rfl),
  ⟨fun hd => mk19 mt_746 cf_746 (vf_746_39.rt (Or.inl W5171) (hd rfl)) rfl rfl (noH_nil rfl),
  ⟨fun hd => mk6 fld_39_2 (Or.inl ⟨rfl, by decide⟩) (Or.inl W5120) (Or.inl rfl) (hd rfl),
  ⟨fun hd => mk6 fld_38_4 (Or.inl ⟨rfl, by decide⟩) (Or.inl W4382) (Or.inl rfl) (hd rfl),
  ⟨fun hd => mk6 fld_39_2 (Or.inl ⟨rfl, by decide⟩) (Or.inl W5120) (Or.inl rfl) (hd rfl),
  ⟨fun hd => mk6 fld_38_4 (Or.inl ⟨rfl, by decide⟩) (Or.inl W4382) (Or.inl rfl) (hd rfl),
  ⟨fun hd => mk6 fld_39_0 (Or.inl ⟨rfl, by decide⟩) (Or.inl W5117) (Or.inl rfl) (hd rfl),
  ⟨fun hd => mk18 mt_67 sf_67 (Or.inl W5162) rfl rfl (noH_nil rfl) (hd rfl),
  ⟨fun hd => mk6 fld_39_0 (Or.inl ⟨rfl, by decide⟩) (Or.inl W5117) (Or.inl rfl) (hd rfl),
  ⟨fun hd => ⟨_, _, _, rfl, rfl, hd rfl, Or.inl ⟨rfl, rfl, rfl⟩⟩,
  ⟨fun hd => mk6 fld_39_3 (Or.inl ⟨rfl, by decide⟩) (Or.inl W5121) (Or.inl rfl) (hd rfl),
  ⟨fun hd => ⟨_, _, _, rfl, rfl, hd rfl, Or.inl ⟨rfl, rfl, rfl⟩⟩,
  ⟨fun hd => mk6 fld_39_1 (Or.inl ⟨rfl, by decide⟩) (Or.inl W5118) (Or.inl rfl) (hd rfl),
  ⟨fun hd => ⟨_, _, _, rfl, rfl, hd rfl, Or.inl ⟨rfl, rfl, rfl⟩⟩,
  ⟨fun hd => mk6 fld_39_4 (Or.inr ⟨rfl, Or.inl rfl⟩) (Or.inl W5122) (Or.inl rfl) (hd rfl),
  ⟨fun hd => mk6 fld_39_5 (Or.inl ⟨rfl, by decide⟩) (Or.inl W5123) (Or.inl rfl) (hd rfl),
  ⟨fun hd => mk6 fld_37_6 (Or.inl ⟨rfl, by decide⟩) (Or.inr ⟨_, W4292⟩) (Or.inl rfl) (hd rfl),
  ⟨fun hd => mk7 fld_37_6 (Or.inr ⟨_, W4292⟩) (Or.inl rfl) (Or.inl rfl) (hd rfl),
  ⟨fun hd => mk6 fld_39_5 (Or.inl ⟨rfl, by decide⟩) (Or.inl W5123) (Or.inl rfl) (hd rfl),
  ⟨fun hd => mk6 fld_37_7 (Or.inl ⟨rfl, by decide⟩) (Or.inr ⟨_, W4294⟩) (Or.inl rfl) (hd rfl),
  ⟨fun hd => mk7 fld_37_7 (Or.inr ⟨_, W4294⟩) (Or.inl rfl) (Or.inl rfl) (hd rfl),
  ⟨fun hd => mk6 fld_39_0 (Or.inl ⟨rfl, by decide⟩) (Or.inl W5117) (Or.inl rfl) (hd rfl),
  ⟨fun hd => mk6 fld_39_4 (Or.inr ⟨rfl, Or.inl rfl⟩) (Or.inl W5122) (Or.inl rfl) (hd rfl),
  ⟨fun hd => mk6 fld_39_5 (Or.inl ⟨rfl, by decide⟩) (Or.inl W5123) (Or.inl rfl) (hd rfl),
  trivial⟩⟩⟩⟩⟩⟩⟩⟩⟩⟩⟩⟩⟩⟩⟩⟩⟩⟩⟩⟩⟩⟩⟩⟩⟩⟩⟩⟩⟩⟩
def fl_745_1 : List Ent := [(271, 3, 6, .getfield 34, [3, 37, 195], 0), (275, 3, 19, .invokevirtual 116, [3, 2, 2, 5, 6], 0), (278, 3, 17, .checkcast 54, [38], 0), (283, 3, 19, .invokevirtual 120, [9, 3, 3, 39, 747], 0), (287, 3, 6, .getfield 17, [3, 39, 249], 0), (304, 3, 6, .getfield 21, [3, 39, 250], 0), (314, 1, 9, .iastore, [0, 100], 0)]
theorem fb_745_1 : FB mi iT mi_745 (bpc code_745) (fl_745_1) := ⟨fun hd => mk6 fld_37_1 (Or.inl ⟨rfl, by decide⟩) (Or.inr ⟨_, W4282⟩) (Or.inl rfl) (hd rfl),
  ⟨fun hd => mk19 mt_6 cf_6 (vf_6_5.rt (Or.inl W5176) (hd rfl)) rfl rfl (noH_nil rfl),
  ⟨fun hd => mk17 kx_38 W5115 (hd rfl),
  ⟨fun hd => mk19 mt_747 cf_747 (vf_747_39.rt (Or.inl W5177) (hd rfl)) rfl rfl (noH_nil rfl),
  ⟨fun hd => mk6 fld_39_0 (Or.inl ⟨rfl, by decide⟩) (Or.inl W5117) (Or.inl rfl) (hd rfl),
  ⟨fun hd => mk6 fld_39_1 (Or.inl ⟨rfl, by decide⟩) (Or.inl W5118) (Or.inl rfl) (hd rfl),
  ⟨fun hd => ⟨_, _, _, rfl, rfl, hd rfl, Or.inl ⟨rfl, rfl, rfl⟩⟩,
  trivial⟩⟩⟩⟩⟩⟩⟩
theorem fe_745 : eqEs ((flat code_745).filter (fun e => ndE e.2.2.1)) (fl_745_0 ++ (fl_745_1)) = true := by decide +kernel
theorem om_745 : OKm mi iT prg 745 := OKm_of (code := code_745) rfl mt_745 (Or.inl (by decide +kernel)) rfl wk_745 (by decide +kernel) (by decide +kernel) (FA_of fe_745 (FB_app fb_745_0 (fb_745_1)))
def fl_746_0 : List Ent := [(1, 3, 6, .getfield 96, [0, 38, 217], 0), (9, 3, 6, .getfield 96, [0, 38, 217], 0), (25, 3, 6, .getfield 58, [0, 38, 216], 0), (30, 3, 6, .getfield 17, [3, 39, 249], 0), (41, 3, 6, .getfield 27, [3, 39, 252], 0), (56, 3, 19, .invokevirtual 99, [0, 2, 2, 38, 691], 0), (63, 3, 6, .getfield 21, [3, 39, 250], 0), (77, 3, 6, .getfield 21, [3, 39, 250], 0), (103, 3, 18, .invokestatic 77, [0, 1, 1, 425], 0), (108, 3, 18, .invokestatic 81, [0, 2, 2, 379], 0), (115, 3, 6, .getfield 17, [3, 39, 249], 0)]
theorem fb_746_0 : FB mi iT mi_746 (bpc code_746) (fl_746_0) := ⟨fun hd => mk6 fld_38_5 (Or.inl ⟨rfl, by decide⟩) (Or.inl W4386) (Or.inl rfl) (hd rfl),
  ⟨fun hd => mk6 fld_38_5 (Or.inl ⟨rfl, by decide⟩) (Or.inl W4386) (Or.inl rfl) (hd rfl),
  ⟨fun hd => mk6 fld_38_4 (Or.inl ⟨rfl, by decide⟩) (Or.inl W4382) (Or.inl rfl) (hd rfl),
  ⟨fun hd => mk6 fld_39_0 (Or.inl ⟨rfl, by decide⟩) (Or.inl W5117) (Or.inl rfl) (hd rfl),
  ⟨fun hd => mk6 fld_39_3 (Or.inl ⟨rfl, by decide⟩) (Or.inl W5121) (Or.inl rfl) (hd rfl),
  ⟨fun hd => mk19 mt_691 cf_691 (vf_691_38.rt (Or.inl W5175) (hd rfl)) rfl rfl (noH_nil rfl),
  ⟨fun hd => mk6 fld_39_1 (Or.inl ⟨rfl, by decide⟩) (Or.inl W5118) (Or.inl rfl) (hd rfl),
  ⟨fun hd => mk6 fld_39_1 (Or.inl ⟨rfl, by decide⟩) (Or.inl W5118) (Or.inl rfl) (hd rfl),
  ⟨fun hd => mk18 mt_425 sf_425 (Or.inr ⟨⟨_, W5147⟩, _, _, rfl⟩) rfl rfl (noH_nil rfl) (hd rfl),
  ⟨fun hd => mk18 mt_379 sf_379 (Or.inr ⟨⟨_, W5155⟩, _, _, rfl⟩) rfl rfl (noH_nil rfl) (hd rfl),
  ⟨fun hd => mk6 fld_39_0 (Or.inl ⟨rfl, by decide⟩) (Or.inl W5117) (Or.inl rfl) (hd rfl),
  trivial⟩⟩⟩⟩⟩⟩⟩⟩⟩⟩⟩
theorem fe_746 : eqEs ((flat code_746).filter (fun e => ndE e.2.2.1)) (fl_746_0) = true := by decide +kernel
theorem om_746 : OKm mi iT prg 746 := OKm_of (code := code_746) rfl mt_746 (Or.inl (by decide +kernel)) rfl wk_746 (by decide +kernel) (by decide +kernel) (FA_of fe_746 (fb_746_0))
def fl_747_0 : List Ent := [(1, 3, 6, .getfield 124, [3, 38, 231], 0), (10, 3, 6, .getfield 124, [3, 38, 231], 0), (15, 1, 9, .bastore, [4, 101], 0), (17, 3, 6, .getfield 3, [3, 39, 254], 0), (23, 3, 6, .getfield 3, [3, 39, 254], 0), (26, 3, 6, .getfield 128, [0, 37, 198], 0), (35, 3, 7, .putfield 128, [0, 37, 198], 0), (39, 3, 6, .getfield 3, [3, 39, 254], 0), (42, 3, 6, .getfield 128, [0, 37, 198], 0), (50, 3, 6, .getfield 131, [3, 38, 232], 0), (55, 1, 9, .bastore, [4, 101], 0), (57, 3, 6, .getfield 3, [3, 39, 254], 0), (61, 3, 6, .getfield 134, [0, 37, 199], 0), (66, 3, 7, .putfield 134, [0, 37, 199], 0), (70, 3, 6, .getfield 17, [3, 39, 249], 0), (74, 3, 6, .getfield 58, [0, 38, 216], 0), (80, 3, 6, .getfield 137, [3, 38, 229], 0), (89, 1, 9, .iastore, [0, 100], 0), (93, 3, 19, .invokevirtual 99, [0, 2, 2, 38, 691], 0), (100, 3, 6, .getfield 140, [3, 38, 222], 0), (107, 3, 6, .getfield 143, [3, 38, 224], 0), (114, 1, 9, .iastore, [0, 100], 0)]
theorem fb_747_0 : FB mi iT mi_747 (bpc code_747) (fl_747_0) := ⟨fun hd => mk6 fld_38_19 (Or.inl ⟨rfl, by decide⟩) (Or.inl W4420) (Or.inl rfl) (hd rfl),
  ⟨fun hd => mk6 fld_38_19 (Or.inl ⟨rfl, by decide⟩) (Or.inl W4420) (Or.inl rfl) (hd rfl),
  ⟨fun hd => ⟨_, _, _, rfl, rfl, hd rfl, Or.inr (Or.inr (Or.inl ⟨rfl, rfl, rfl⟩))⟩,
  ⟨fun hd => mk6 fld_39_5 (Or.inl ⟨rfl, by decide⟩) (Or.inl W5123) (Or.inl rfl) (hd rfl),
  ⟨fun hd => mk6 fld_39_5 (Or.inl ⟨rfl, by decide⟩) (Or.inl W5123) (Or.inl rfl) (hd rfl),
  ⟨fun hd => mk6 fld_37_4 (Or.inl ⟨rfl, by decide⟩) (Or.inr ⟨_, W4287⟩) (Or.inl rfl) (hd rfl),
  ⟨fun hd => mk7 fld_37_4 (Or.inr ⟨_, W4287⟩) (Or.inl rfl) (Or.inl rfl) (hd rfl),
  ⟨fun hd => mk6 fld_39_5 (Or.inl ⟨rfl, by decide⟩) (Or.inl W5123) (Or.inl rfl) (hd rfl),
  ⟨fun hd => mk6 fld_37_4 (Or.inl ⟨rfl, by decide⟩) (Or.inr ⟨_, W4287⟩) (Or.inl rfl) (hd rfl),
  ⟨fun hd => mk6 fld_38_20 (Or.inl ⟨rfl, by decide⟩) (Or.inl W4422) (Or.inl rfl) (hd rfl),
  ⟨fun hd => ⟨_, _, _, rfl, rfl, hd rfl, Or.inr (Or.inr (Or.inl ⟨rfl, rfl, rfl⟩))⟩,
  ⟨fun hd => mk6 fld_39_5 (Or.inl ⟨rfl, by decide⟩) (Or.inl W5123) (Or.inl rfl) (hd rfl),
  ⟨fun hd => mk6 fld_37_5 (Or.inl ⟨rfl, by decide⟩) (Or.inr ⟨_, W4290⟩) (Or.inl rfl) (hd rfl),
  ⟨fun hd => mk7 fld_37_5 (Or.inr ⟨_, W4290⟩) (Or.inl rfl) (Or.inl rfl) (hd rfl),
  ⟨fun hd => mk6 fld_39_0 (Or.inl ⟨rfl, by decide⟩) (Or.inl W5117) (Or.inl rfl) (hd rfl),
  ⟨fun hd => mk6 fld_38_4 (Or.inl ⟨rfl, by decide⟩) (Or.inl W4382) (Or.inl rfl) (hd rfl),
  ⟨fun hd => mk6 fld_38_17 (Or.inl ⟨rfl, by decide⟩) (Or.inl W4414) (Or.inl rfl) (hd rfl),
  ⟨fun hd => ⟨_, _, _, rfl, rfl, hd rfl, Or.inl ⟨rfl, rfl, rfl⟩⟩,
  ⟨fun hd => mk19 mt_691 cf_691 (vf_691_38.rt (Or.inl W5175) (hd rfl)) rfl rfl (noH_nil rfl),
  ⟨fun hd => mk6 fld_38_10 (Or.inl ⟨rfl, by decide⟩) (Or.inl W4397) (Or.inl rfl) (hd rfl),
  ⟨fun hd => mk6 fld_38_12 (Or.inl ⟨rfl, by decide⟩) (Or.inl W4403) (Or.inl rfl) (hd rfl),
  ⟨fun hd => ⟨_, _, _, rfl, rfl, hd rfl, Or.inl ⟨rfl, rfl, rfl⟩⟩,
  trivial⟩⟩⟩⟩⟩⟩⟩⟩⟩⟩⟩⟩⟩⟩⟩⟩⟩⟩⟩⟩⟩⟩
theorem fe_747 : eqEs ((flat code_747).filter (fun e => ndE e.2.2.1)) (fl_747_0) = true := by decide +kernel
theorem om_747 : OKm mi iT prg 747 := OKm_of (code := code_747) rfl mt_747 (Or.inl (by decide +kernel)) rfl wk_747 (by decide +kernel) (by decide +kernel) (FA_of fe_747 (fb_747_0))
def fl_748_0 : List Ent := [(9, 3, 6, .getfield 17, [3, 39, 249], 0)]
theorem fb_748_0 : FB mi iT mi_748 (bpc code_748) (fl_748_0) := ⟨fun hd => mk6 fld_39_0 (Or.inl ⟨rfl, by decide⟩) (Or.inl W5117) (Or.inl rfl) (hd rfl),
  trivial⟩
theorem fe_748 : eqEs ((flat code_748).filter (fun e => ndE e.2.2.1)) (fl_748_0) = true := by decide +kernel
theorem om_748 : OKm mi iT prg 748 := OKm_of (code := code_748) rfl mt_748 (Or.inl (by decide +kernel)) rfl wk_748 (by decide +kernel) (by decide +kernel) (FA_of fe_748 (fb_748_0))
def fl_749_0 : List Ent := [(1, 3, 6, .getfield 19, [0, 32, 163], 0), (8, 3, 6, .getfield 23, [0, 32, 164], 0)]
theorem fb_749_0 : FB mi iT mi_749 (bpc code_749) (fl_749_0) := ⟨fun hd => mk6 fld_32_3 (Or.inr ⟨rfl, Or.inl rfl⟩) (Or.inl W3569) (Or.inl rfl) (hd rfl),
  ⟨fun hd => mk6 fld_32_4 (Or.inr ⟨rfl, Or.inl rfl⟩) (Or.inl W3572) (Or.inl rfl) (hd rfl),
  trivial⟩⟩
theorem fe_749 : eqEs ((flat code_749).filter (fun e => ndE e.2.2.1)) (fl_749_0) = true := by decide +kernel
theorem om_749 : OKm mi iT prg 749 := OKm_of (code := code_749) rfl mt_749 (Or.inl (by decide +kernel)) rfl wk_749 (by decide +kernel) (by decide +kernel) (FA_of fe_749 (fb_749_0))
def fl_750_0 : List Ent := [(1, 3, 22, .invokespecial 1, [], 0), (6, 3, 7, .putfield 7, [0, 32, 160], 0), (11, 3, 7, .putfield 13, [0, 32, 161], 0), (16, 3, 7, .putfield 16, [0, 32, 162], 0)]
theorem fb_750_0 : FB mi iT mi_750 (bpc code_750) (fl_750_0) := ⟨fun hd => mk22 (by decide) W3562 oi_w (hd rfl),
  ⟨fun hd => mk7 fld_32_0 (Or.inl W3563) (Or.inl rfl) (Or.inr ⟨rfl, rfl, rfl, W3563⟩) (hd rfl),
  ⟨fun hd => mk7 fld_32_1 (Or.inl W3565) (Or.inl rfl) (Or.inr ⟨rfl, rfl, rfl, W3565⟩) (hd rfl),
  ⟨fun hd => mk7 fld_32_2 (Or.inl W3567) (Or.inl rfl) (Or.inr ⟨rfl, rfl, rfl, W3567⟩) (hd rfl),
  trivial⟩⟩⟩⟩
theorem fe_750 : eqEs ((flat code_750).filter (fun e => ndE e.2.2.1)) (fl_750_0) = true := by decide +kernel
theorem om_750 : OKm mi iT prg 750 := OKm_of (code := code_750) rfl mt_750 (Or.inl (by decide +kernel)) rfl wk_750 (by decide +kernel) (by decide +kernel) (FA_of fe_750 (fb_750_0))
def fl_751_0 : List Ent := [(1, 3, 6, .getfield 11, [0, 33, 171], 0), (9, 3, 6, .getfield 36, [3, 33, 172], 0)]
theorem fb_751_0 : FB mi iT mi_751 (bpc code_751) (fl_751_0) := ⟨fun hd => mk6 fld_33_5 (Or.inl ⟨rfl, by decide⟩) (Or.inl W3679) (Or.inl rfl) (hd rfl),
  ⟨fun hd => mk6 fld_33_6 (Or.inl ⟨rfl, by decide⟩) (Or.inl W3682) (Or.inl rfl) (hd rfl),
  trivial⟩⟩
theorem fe_751 : eqEs ((flat code_751).filter (fun e => ndE e.2.2.1)) (fl_751_0) = true := by decide +kernel
theorem om_751 : OKm mi iT prg 751 := OKm_of (code := code_751) rfl mt_751 (Or.inl (by decide +kernel)) rfl wk_751 (by decide +kernel) (by decide +kernel) (FA_of fe_751 (fb_751_0))
def fl_752_0 : List Ent := [(1, 55, 5, .tableswitch 119 0 9 #[55, 60, 65, 70, 75, 80, 85, 104, 109, 114], [14, 0, 1, 1, 2, 2, 3, 3, 4, 4, 5, 5, 6, 6, 7, 7, 11, 8, 12, 9, 13], 0), (57, 3, 6, .getfield 15, [0, 33, 166], 0), (62, 3, 6, .getfield 18, [0, 33, 167], 0), (67, 3, 6, .getfield 21, [0, 33, 168], 0), (72, 3, 6, .getfield 24, [0, 33, 169], 0), (77, 3, 6, .getfield 27, [0, 33, 170], 0), (82, 3, 6, .getfield 11, [0, 33, 171], 0), (87, 3, 6, .getfield 36, [3, 33, 172], 0), (98, 3, 6, .getfield 36, [3, 33, 172], 0), (101, 3, 6, .getfield 49, [0, 22, 92], 0), (106, 3, 6, .getfield 52, [0, 33, 173], 0), (111, 3, 6, .getfield 55, [0, 33, 174], 0), (116, 3, 6, .getfield 58, [0, 33, 175], 0), (122, 3, 19, .invokevirtual 61, [0, 2, 2, 33, 753], 0)]
theorem fb_752_0 : FB mi iT mi_752 (bpc code_752) (fl_752_0) := ⟨fun hd => ⟨_, _, rfl, Or.inl ⟨119, 0, 9, #[55, 60, 65, 70, 75, 80, 85, 104, 109, 114], 10, 55, (show decode prog_14_method_5_code 1 = .ok (.tableswitch 119 0 9 #[55, 60, 65, 70, 75, 80, 85, 104, 109, 114], 55) by decide +kernel), by decide, by decide +kernel⟩⟩,
  ⟨fun hd => mk6 fld_33_0 (Or.inl ⟨rfl, by decide⟩) (Or.inl W3672) (Or.inl rfl) (hd rfl),
  ⟨fun hd => mk6 fld_33_1 (Or.inl ⟨rfl, by decide⟩) (Or.inl W3673) (Or.inl rfl) (hd rfl),
  ⟨fun hd => mk6 fld_33_2 (Or.inl ⟨rfl, by decide⟩) (Or.inl W3674) (Or.inl rfl) (hd rfl),
  ⟨fun hd => mk6 fld_33_3 (Or.inl ⟨rfl, by decide⟩) (Or.inl W3675) (Or.inl rfl) (hd rfl),
  ⟨fun hd => mk6 fld_33_4 (Or.inl ⟨rfl, by decide⟩) (Or.inl W3677) (Or.inl rfl) (hd rfl),
  ⟨fun hd => mk6 fld_33_5 (Or.inl ⟨rfl, by decide⟩) (Or.inl W3679) (Or.inl rfl) (hd rfl),
  ⟨fun hd => mk6 fld_33_6 (Or.inl ⟨rfl, by decide⟩) (Or.inl W3682) (Or.inl rfl) (hd rfl),
  ⟨fun hd => mk6 fld_33_6 (Or.inl ⟨rfl, by decide⟩) (Or.inl W3682) (Or.inl rfl) (hd rfl),
  ⟨fun hd => mk6 fld_22_0 (Or.inl ⟨rfl, by decide⟩) (Or.inr ⟨_, W2235⟩) (Or.inl rfl) (hd rfl),
  ⟨fun hd => mk6 fld_33_7 (Or.inl ⟨rfl, by decide⟩) (Or.inl W3685) (Or.inl rfl) (hd rfl),
  ⟨fun hd => mk6 fld_33_8 (Or.inl ⟨rfl, by decide⟩) (Or.inl W3687) (Or.inl rfl) (hd rfl),
  ⟨fun hd => mk6 fld_33_9 (Or.inl ⟨rfl, by decide⟩) (Or.inl W3689) (Or.inl rfl) (hd rfl),
  ⟨fun hd => mk19 mt_753 cf_753 (vf_753_33.rt (Or.inl W1027) (hd rfl)) rfl rfl (noH_nil rfl),
  trivial⟩⟩⟩⟩⟩⟩⟩⟩⟩⟩⟩⟩⟩⟩
theorem fe_752 : eqEs ((flat code_752).filter (fun e => ndE e.2.2.1)) (fl_752_0) = true := by decide +kernel
theorem om_752 : OKm mi iT prg 752 := OKm_of (code := code_752) rfl mt_752 (Or.inl (by decide +kernel)) rfl wk_752 (by decide +kernel) (by decide +kernel) (FA_of fe_752 (fb_752_0))
def fl_753_0 : List Ent := [(3, 3, 6, .getfield 15, [0, 33, 166], 0), (10, 3, 6, .getfield 18, [0, 33, 167], 0), (18, 3, 6, .getfield 21, [0, 33, 168], 0), (21, 3, 18, .invokestatic 30, [0, 1, 1, 62], 0)]
theorem fb_753_0 : FB mi iT mi_753 (bpc code_753) (fl_753_0) := ⟨fun hd => mk6 fld_33_0 (Or.inl ⟨rfl, by decide⟩) (Or.inl W3672) (Or.inl rfl) (hd rfl),
  ⟨fun hd => mk6 fld_33_1 (Or.inl ⟨rfl, by decide⟩) (Or.inl W3673) (Or.inl rfl) (hd rfl),
  ⟨fun hd => mk6 fld_33_2 (Or.inl ⟨rfl, by decide⟩) (Or.inl W3674) (Or.inl rfl) (hd rfl),
  ⟨fun hd => mk18 mt_62 sf_62 (Or.inl W1031) rfl rfl (noH_nil rfl) (hd rfl),
  trivial⟩⟩⟩⟩
theorem fe_753 : eqEs ((flat code_753).filter (fun e => ndE e.2.2.1)) (fl_753_0) = true := by decide +kernel
theorem om_753 : OKm mi iT prg 753 := OKm_of (code := code_753) rfl mt_753 (Or.inl (by decide +kernel)) rfl wk_753 (by decide +kernel) (by decide +kernel) (FA_of fe_753 (fb_753_0))
def fl_754_0 : List Ent := [(1, 3, 22, .invokespecial 3, [], 0), (6, 3, 7, .putfield 11, [0, 33, 171], 0), (11, 3, 7, .putfield 15, [0, 33, 166], 0), (16, 3, 7, .putfield 18, [0, 33, 167], 0), (21, 3, 7, .putfield 21, [0, 33, 168], 0), (27, 3, 7, .putfield 24, [0, 33, 169], 0), (33, 3, 7, .putfield 27, [0, 33, 170], 0)]
theorem fb_754_0 : FB mi iT mi_754 (bpc code_754) (fl_754_0) := ⟨fun hd => mk22 (by decide) W3671 oi_w (hd rfl),
  ⟨fun hd => mk7 fld_33_5 (Or.inl W3679) (Or.inl rfl) (Or.inl rfl) (hd rfl),
  ⟨fun hd => mk7 fld_33_0 (Or.inl W3672) (Or.inl rfl) (Or.inr ⟨rfl, rfl, rfl, W3672⟩) (hd rfl),
  ⟨fun hd => mk7 fld_33_1 (Or.inl W3673) (Or.inl rfl) (Or.inr ⟨rfl, rfl, rfl, W3673⟩) (hd rfl),
  ⟨fun hd => mk7 fld_33_2 (Or.inl W3674) (Or.inl rfl) (Or.inr ⟨rfl, rfl, rfl, W3674⟩) (hd rfl),
  ⟨fun hd => mk7 fld_33_3 (Or.inl W3675) (Or.inl rfl) (Or.inr ⟨rfl, rfl, rfl, W3675⟩) (hd rfl),
  ⟨fun hd => mk7 fld_33_4 (Or.inl W3677) (Or.inl rfl) (Or.inr ⟨rfl, rfl, rfl, W3677⟩) (hd rfl),
  trivial⟩⟩⟩⟩⟩⟩⟩
theorem fe_754 : eqEs ((flat code_754).filter (fun e => ndE e.2.2.1)) (fl_754_0) = true := by decide +kernel
theorem om_754 : OKm mi iT prg 754 := OKm_of (code := code_754) rfl mt_754 (Or.inl (by decide +kernel)) rfl wk_754 (by decide +kernel) (by decide +kernel) (FA_of fe_754 (fb_754_0))
def fl_755_0 : List Ent := [(1, 3, 6, .getfield 40, [3, 22, 93], 0), (4, 3, 6, .getfield 46, [0, 16, 63], 0), (8, 3, 6, .getfield 15, [0, 33, 166], 0), (16, 3, 6, .getfield 18, [0, 33, 167], 0), (27, 3, 6, .getfield 21, [0, 33, 168], 0)]
theorem fb_755_0 : FB mi iT mi_755 (bpc code_755) (fl_755_0) := ⟨fun hd => mk6 fld_22_1 (Or.inl ⟨rfl, by decide⟩) (Or.inr ⟨_, W2243⟩) (Or.inl rfl) (hd rfl),
  ⟨fun hd => mk6 fld_16_1 (Or.inl ⟨rfl, by decide⟩) (Or.inr ⟨_, W1901⟩) (Or.inl rfl) (hd rfl),
  ⟨fun hd => mk6 fld_33_0 (Or.inl ⟨rfl, by decide⟩) (Or.inl W3672) (Or.inl rfl) (hd rfl),
  ⟨fun hd => mk6 fld_33_1 (Or.inl ⟨rfl, by decide⟩) (Or.inl W3673) (Or.inl rfl) (hd rfl),
  ⟨fun hd => mk6 fld_33_2 (Or.inl ⟨rfl, by decide⟩) (Or.inl W3674) (Or.inl rfl) (hd rfl),
  trivial⟩⟩⟩⟩⟩
theorem fe_755 : eqEs ((flat code_755).filter (fun e => ndE e.2.2.1)) (fl_755_0) = true := by decide +kernel
theorem om_755 : OKm mi iT prg 755 := OKm_of (code := code_755) rfl mt_755 (Or.inl (by decide +kernel)) rfl wk_755 (by decide +kernel) (by decide +kernel) (FA_of fe_755 (fb_755_0))
def fl_756_0 : List Ent := [(1, 43, 5, .tableswitch 71 0 6 #[43, 47, 51, 55, 59, 63, 67], [8, 0, 1, 1, 2, 2, 3, 3, 4, 4, 5, 5, 6, 6, 7], 0), (44, 3, 13, .getstatic 3, [64], 0), (48, 3, 13, .getstatic 7, [63], 0), (52, 3, 13, .getstatic 10, [62], 0), (56, 3, 13, .getstatic 13, [61], 0), (60, 3, 13, .getstatic 16, [60], 0), (64, 3, 13, .getstatic 19, [59], 0), (68, 3, 13, .getstatic 22, [58], 0), (72, 3, 13, .getstatic 25, [65], 0)]
theorem fb_756_0 : FB mi iT mi_756 (bpc code_756) (fl_756_0) := ⟨fun hd => ⟨_, _, rfl, Or.inl ⟨71, 0, 6, #[43, 47, 51, 55, 59, 63, 67], 7, 43, (show decode prog_38_method_6_code 1 = .ok (.tableswitch 71 0 6 #[43, 47, 51, 55, 59, 63, 67], 43) by decide +kernel), by decide, by decide +kernel⟩⟩,
  ⟨fun hd => mk13s (by decide) rfl (Or.inl W1611) (Or.inl rfl) (hd rfl),
  ⟨fun hd => mk13s (by decide) rfl (Or.inl W1613) (Or.inl rfl) (hd rfl),
  ⟨fun hd => mk13s (by decide) rfl (Or.inl W1615) (Or.inl rfl) (hd rfl),
  ⟨fun hd => mk13s (by decide) rfl (Or.inl W1617) (Or.inl rfl) (hd rfl),
  ⟨fun hd => mk13s (by decide) rfl (Or.inl W1619) (Or.inl rfl) (hd rfl),
  ⟨fun hd => mk13s (by decide) rfl (Or.inl W1621) (Or.inl rfl) (hd rfl),
  ⟨fun hd => mk13s (by decide) rfl (Or.inl W1623) (Or.inl rfl) (hd rfl),
  ⟨fun hd => mk13s (by decide) rfl (Or.inl W1625) (Or.inl rfl) (hd rfl),
  trivial⟩⟩⟩⟩⟩⟩⟩⟩⟩
theorem fe_756 : eqEs ((flat code_756).filter (fun e => ndE e.2.2.1)) (fl_756_0) = true := by decide +kernel
theorem om_756 : OKm mi iT prg 756 := OKm_of (code := code_756) rfl mt_756 (Or.inl (by decide +kernel)) rfl wk_756 (by decide +kernel) (by decide +kernel) (FA_of fe_756 (fb_756_0))
def fl_757_0 : List Ent := [(1, 3, 6, .getfield 47, [3, 22, 99], 0), (4, 3, 19, .invokevirtual 53, [9, 1, 1, 17, 547], 0), (8, 3, 31, .invokevirtual 59, [0, 1, 1, 64, 758, 63, 758, 62, 758, 61, 758, 60, 758, 59, 758, 58, 758, 65, 791], 0), (15, 3, 6, .getfield 47, [3, 22, 99], 0), (18, 3, 19, .invokevirtual 63, [0, 1, 1, 17, 549], 0), (28, 3, 31, .invokevirtual 66, [0, 2, 2, 64, 784, 63, 785, 62, 786, 61, 787, 60, 788, 59, 789, 58, 790, 65, 792], 0)]
theorem fb_757_0 : FB mi iT mi_757 (bpc code_757) (fl_757_0) := ⟨fun hd => mk6 fld_22_7 (Or.inl ⟨rfl, by decide⟩) (Or.inr ⟨_, W2273⟩) (Or.inl rfl) (hd rfl),
  ⟨fun hd => mk19 mt_547 cf_547 (vf_547_17.rt (Or.inl W1639) (hd rfl)) rfl rfl (noH_nil rfl),
  ⟨fun hd => mk31 ⟨pr3 mt_758 cf_758 (ev_758_64.rt (Or.inl W1640) (hd rfl)) rfl rfl, ⟨pr3 mt_758 cf_758 (ev_758_63.rt (Or.inl W1640) (hd rfl)) rfl rfl, ⟨pr3 mt_758 cf_758 (ev_758_62.rt (Or.inl W1640) (hd rfl)) rfl rfl, ⟨pr3 mt_758 cf_758 (ev_758_61.rt (Or.inl W1640) (hd rfl)) rfl rfl, ⟨pr3 mt_758 cf_758 (ev_758_60.rt (Or.inl W1640) (hd rfl)) rfl rfl, ⟨pr3 mt_758 cf_758 (ev_758_59.rt (Or.inl W1640) (hd rfl)) rfl rfl, ⟨pr3 mt_758 cf_758 (ev_758_58.rt (Or.inl W1640) (hd rfl)) rfl rfl, ⟨pr3 mt_791 cf_791 (ei_791_65_KeelHouse_RuleisOfWater__Z.rt W1640 (hd rfl)) rfl rfl, trivial⟩⟩⟩⟩⟩⟩⟩⟩,
  ⟨fun hd => mk6 fld_22_7 (Or.inl ⟨rfl, by decide⟩) (Or.inr ⟨_, W2273⟩) (Or.inl rfl) (hd rfl),
  ⟨fun hd => mk19 mt_549 cf_549 (vf_549_17.rt (Or.inl W1654) (hd rfl)) rfl rfl (noH_nil rfl),
  ⟨fun hd => mk31 ⟨pr3 mt_784 cf_784 (ei_784_64_KeelHouse_RuleisKept_LKeelHouse_Ship__Z.rt W1655 (hd rfl)) rfl rfl, ⟨pr3 mt_785 cf_785 (ei_785_63_KeelHouse_RuleisKept_LKeelHouse_Ship__Z.rt W1655 (hd rfl)) rfl rfl, ⟨pr3 mt_786 cf_786 (ei_786_62_KeelHouse_RuleisKept_LKeelHouse_Ship__Z.rt W1655 (hd rfl)) rfl rfl, ⟨pr3 mt_787 cf_787 (ei_787_61_KeelHouse_RuleisKept_LKeelHouse_Ship__Z.rt W1655 (hd rfl)) rfl rfl, ⟨pr3 mt_788 cf_788 (ei_788_60_KeelHouse_RuleisKept_LKeelHouse_Ship__Z.rt W1655 (hd rfl)) rfl rfl, ⟨pr3 mt_789 cf_789 (ei_789_59_KeelHouse_RuleisKept_LKeelHouse_Ship__Z.rt W1655 (hd rfl)) rfl rfl, ⟨pr3 mt_790 cf_790 (ei_790_58_KeelHouse_RuleisKept_LKeelHouse_Ship__Z.rt W1655 (hd rfl)) rfl rfl, ⟨pr3 mt_792 cf_792 (ei_792_65_KeelHouse_RuleisKept_LKeelHouse_Ship__Z.rt W1655 (hd rfl)) rfl rfl, trivial⟩⟩⟩⟩⟩⟩⟩⟩,
  trivial⟩⟩⟩⟩⟩⟩
theorem fe_757 : eqEs ((flat code_757).filter (fun e => ndE e.2.2.1)) (fl_757_0) = true := by decide +kernel
theorem om_757 : OKm mi iT prg 757 := OKm_of (code := code_757) rfl mt_757 (Or.inl (by decide +kernel)) rfl wk_757 (by decide +kernel) (by decide +kernel) (FA_of fe_757 (fb_757_0))
theorem fe_758 : eqEs ((flat code_758).filter (fun e => ndE e.2.2.1)) ([]) = true := by decide +kernel
theorem om_758 : OKm mi iT prg 758 := OKm_of (code := code_758) rfl mt_758 (Or.inl (by decide +kernel)) rfl wk_758 (by decide +kernel) (by decide +kernel) (FA_of fe_758 (trivial))
def fl_759_0 : List Ent := [(1, 3, 22, .invokespecial 1, [], 0), (6, 3, 7, .putfield 7, [0, 34, 176], 0), (11, 3, 7, .putfield 13, [0, 34, 177], 0), (16, 3, 7, .putfield 16, [0, 34, 178], 0), (22, 3, 7, .putfield 19, [0, 34, 179], 0)]
theorem fb_759_0 : FB mi iT mi_759 (bpc code_759) (fl_759_0) := ⟨fun hd => mk22 (by decide) W3795 oi_w (hd rfl),
  ⟨fun hd => mk7 fld_34_0 (Or.inl W3796) (Or.inl rfl) (Or.inr ⟨rfl, rfl, rfl, W3796⟩) (hd rfl),
  ⟨fun hd => mk7 fld_34_1 (Or.inl W3799) (Or.inl rfl) (Or.inr ⟨rfl, rfl, rfl, W3799⟩) (hd rfl),
  ⟨fun hd => mk7 fld_34_2 (Or.inl W3800) (Or.inl rfl) (Or.inr ⟨rfl, rfl, rfl, W3800⟩) (hd rfl),
  ⟨fun hd => mk7 fld_34_3 (Or.inl W3801) (Or.inl rfl) (Or.inr ⟨rfl, rfl, rfl, W3801⟩) (hd rfl),
  trivial⟩⟩⟩⟩⟩
theorem fe_759 : eqEs ((flat code_759).filter (fun e => ndE e.2.2.1)) (fl_759_0) = true := by decide +kernel
theorem om_759 : OKm mi iT prg 759 := OKm_of (code := code_759) rfl mt_759 (Or.inl (by decide +kernel)) rfl wk_759 (by decide +kernel) (by decide +kernel) (FA_of fe_759 (fb_759_0))
def fl_760_0 : List Ent := [(9, 3, 6, .getfield 13, [0, 34, 177], 0), (21, 3, 6, .getfield 13, [0, 34, 177], 0), (35, 3, 6, .getfield 16, [0, 34, 178], 0), (47, 3, 6, .getfield 16, [0, 34, 178], 0), (53, 3, 18, .invokestatic 22, [0, 1, 1, 70], 0), (57, 3, 18, .invokestatic 22, [0, 1, 1, 70], 0)]
theorem fb_760_0 : FB mi iT mi_760 (bpc code_760) (fl_760_0) := ⟨fun hd => mk6 fld_34_1 (Or.inl ⟨rfl, by decide⟩) (Or.inl W3799) (Or.inl rfl) (hd rfl),
  ⟨fun hd => mk6 fld_34_1 (Or.inl ⟨rfl, by decide⟩) (Or.inl W3799) (Or.inl rfl) (hd rfl),
  ⟨fun hd => mk6 fld_34_2 (Or.inl ⟨rfl, by decide⟩) (Or.inl W3800) (Or.inl rfl) (hd rfl),
  ⟨fun hd => mk6 fld_34_2 (Or.inl ⟨rfl, by decide⟩) (Or.inl W3800) (Or.inl rfl) (hd rfl),
  ⟨fun hd => mk18 mt_70 sf_70 (Or.inl W4177) rfl rfl (noH_nil rfl) (hd rfl),
  ⟨fun hd => mk18 mt_70 sf_70 (Or.inl W4177) rfl rfl (noH_nil rfl) (hd rfl),
  trivial⟩⟩⟩⟩⟩⟩
theorem fe_760 : eqEs ((flat code_760).filter (fun e => ndE e.2.2.1)) (fl_760_0) = true := by decide +kernel
theorem om_760 : OKm mi iT prg 760 := OKm_of (code := code_760) rfl mt_760 (Or.inl (by decide +kernel)) rfl wk_760 (by decide +kernel) (by decide +kernel) (FA_of fe_760 (fb_760_0))
def fl_761_0 : List Ent := [(1, 27, 5, .tableswitch 56 0 2 #[27, 32, 51], [7, 0, 1, 1, 2, 2, 6], 0), (29, 3, 6, .getfield 11, [0, 35, 186], 0), (34, 3, 6, .getfield 37, [3, 35, 187], 0), (45, 3, 6, .getfield 37, [3, 35, 187], 0), (48, 3, 6, .getfield 65, [0, 22, 92], 0), (53, 3, 6, .getfield 15, [0, 35, 188], 0), (57, 3, 15, .ldc2_w 66, [4620693217682128896], 0), (61, 3, 6, .getfield 41, [2, 35, 189], 0)]
theorem fb_761_0 : FB mi iT mi_761 (bpc code_761) (fl_761_0) := ⟨fun hd => ⟨_, _, rfl, Or.inl ⟨56, 0, 2, #[27, 32, 51], 3, 27, (show decode prog_30_method_4_code 1 = .ok (.tableswitch 56 0 2 #[27, 32, 51], 27) by decide +kernel), by decide, by decide +kernel⟩⟩,
  ⟨fun hd => mk6 fld_35_6 (Or.inl ⟨rfl, by decide⟩) (Or.inl W3843) (Or.inl rfl) (hd rfl),
  ⟨fun hd => mk6 fld_35_7 (Or.inl ⟨rfl, by decide⟩) (Or.inl W3847) (Or.inl rfl) (hd rfl),
  ⟨fun hd => mk6 fld_35_7 (Or.inl ⟨rfl, by decide⟩) (Or.inl W3847) (Or.inl rfl) (hd rfl),
  ⟨fun hd => mk6 fld_22_0 (Or.inl ⟨rfl, by decide⟩) (Or.inr ⟨_, W2234⟩) (Or.inl rfl) (hd rfl),
  ⟨fun hd => mk6 fld_35_8 (Or.inl ⟨rfl, by decide⟩) (Or.inl W3850) (Or.inl rfl) (hd rfl),
  ⟨fun hd => mk15 W1734 (hd rfl),
  ⟨fun hd => mk6 fld_35_9 (Or.inl ⟨rfl, by decide⟩) (Or.inl W3854) (Or.inl rfl) (hd rfl),
  trivial⟩⟩⟩⟩⟩⟩⟩⟩
theorem fe_761 : eqEs ((flat code_761).filter (fun e => ndE e.2.2.1)) (fl_761_0) = true := by decide +kernel
theorem om_761 : OKm mi iT prg 761 := OKm_of (code := code_761) rfl mt_761 (Or.inl (by decide +kernel)) rfl wk_761 (by decide +kernel) (by decide +kernel) (FA_of fe_761 (fb_761_0))
def fl_762_0 : List Ent := [(1, 3, 22, .invokespecial 3, [], 0), (6, 3, 7, .putfield 11, [0, 35, 186], 0), (11, 3, 7, .putfield 15, [0, 35, 188], 0), (16, 3, 7, .putfield 18, [0, 35, 180], 0), (21, 3, 7, .putfield 21, [3, 35, 181], 0), (26, 3, 7, .putfield 25, [3, 35, 182], 0), (32, 3, 7, .putfield 28, [0, 35, 183], 0), (38, 3, 7, .putfield 31, [0, 35, 184], 0), (44, 3, 7, .putfield 34, [0, 35, 185], 0)]
theorem fb_762_0 : FB mi iT mi_762 (bpc code_762) (fl_762_0) := ⟨fun hd => mk22 (by decide) W3830 oi_w (hd rfl),
  ⟨fun hd => mk7 fld_35_6 (Or.inl W3843) (Or.inl rfl) (Or.inl rfl) (hd rfl),
  ⟨fun hd => mk7 fld_35_8 (Or.inl W3850) (Or.inl rfl) (Or.inl rfl) (hd rfl),
  ⟨fun hd => mk7 fld_35_0 (Or.inl W3831) (Or.inl rfl) (Or.inr ⟨rfl, rfl, rfl, W3831⟩) (hd rfl),
  ⟨fun hd => mk7 fld_35_1 (Or.inl W3832) (Or.inl rfl) (Or.inr ⟨rfl, rfl, rfl, W3832⟩) (hd rfl),
  ⟨fun hd => mk7 fld_35_2 (Or.inl W3834) (Or.inl rfl) (Or.inr ⟨rfl, rfl, rfl, W3834⟩) (hd rfl),
  ⟨fun hd => mk7 fld_35_3 (Or.inl W3836) (Or.inl rfl) (Or.inr ⟨rfl, rfl, rfl, W3836⟩) (hd rfl),
  ⟨fun hd => mk7 fld_35_4 (Or.inl W3839) (Or.inl rfl) (Or.inr ⟨rfl, rfl, rfl, W3839⟩) (hd rfl),
  ⟨fun hd => mk7 fld_35_5 (Or.inl W3841) (Or.inl rfl) (Or.inr ⟨rfl, rfl, rfl, W3841⟩) (hd rfl),
  trivial⟩⟩⟩⟩⟩⟩⟩⟩⟩
theorem fe_762 : eqEs ((flat code_762).filter (fun e => ndE e.2.2.1)) (fl_762_0) = true := by decide +kernel
theorem om_762 : OKm mi iT prg 762 := OKm_of (code := code_762) rfl mt_762 (Or.inl (by decide +kernel)) rfl wk_762 (by decide +kernel) (by decide +kernel) (FA_of fe_762 (fb_762_0))
def fl_763_0 : List Ent := [(2, 3, 7, .putfield 11, [0, 35, 186], 0), (7, 3, 7, .putfield 37, [3, 35, 187], 0), (12, 3, 7, .putfield 15, [0, 35, 188], 0), (17, 3, 7, .putfield 41, [2, 35, 189], 0), (24, 3, 6, .getfield 45, [3, 22, 103], 0), (27, 3, 19, .invokevirtual 51, [0, 1, 1, 5, 5], 0), (34, 3, 6, .getfield 45, [3, 22, 103], 0), (38, 3, 19, .invokevirtual 57, [3, 2, 2, 5, 6], 0), (41, 3, 17, .checkcast 9, [35], 0), (44, 3, 6, .getfield 18, [0, 35, 180], 0), (48, 3, 6, .getfield 18, [0, 35, 180], 0), (61, 3, 6, .getfield 45, [3, 22, 103], 0), (66, 3, 19, .invokevirtual 61, [9, 3, 3, 5, 16], 0)]
theorem fb_763_0 : FB mi iT mi_763 (bpc code_763) (fl_763_0) := ⟨fun hd => mk7 fld_35_6 (Or.inl W3843) (Or.inl rfl) (Or.inl rfl) (hd rfl),
  ⟨fun hd => mk7 fld_35_7 (Or.inl W3847) (Or.inl rfl) (Or.inl rfl) (hd rfl),
  ⟨fun hd => mk7 fld_35_8 (Or.inl W3850) (Or.inl rfl) (Or.inl rfl) (hd rfl),
  ⟨fun hd => mk7 fld_35_9 (Or.inl W3854) (Or.inl rfl) (Or.inl rfl) (hd rfl),
  ⟨fun hd => mk6 fld_22_11 (Or.inl ⟨rfl, by decide⟩) (Or.inr ⟨_, W2291⟩) (Or.inl rfl) (hd rfl),
  ⟨fun hd => mk19 mt_5 cf_5 (vf_5_5.rt (Or.inl W3911) (hd rfl)) rfl rfl (noH_nil rfl),
  ⟨fun hd => mk6 fld_22_11 (Or.inl ⟨rfl, by decide⟩) (Or.inr ⟨_, W2291⟩) (Or.inl rfl) (hd rfl),
  ⟨fun hd => mk19 mt_6 cf_6 (vf_6_5.rt (Or.inl W3912) (hd rfl)) rfl rfl (noH_nil rfl),
  ⟨fun hd => mk17 kx_35 W3913 (hd rfl),
  ⟨fun hd => mk6 fld_35_0 (Or.inl ⟨rfl, by decide⟩) (Or.inl W3831) (Or.inl rfl) (hd rfl),
  ⟨fun hd => mk6 fld_35_0 (Or.inl ⟨rfl, by decide⟩) (Or.inl W3831) (Or.inl rfl) (hd rfl),
  ⟨fun hd => mk6 fld_22_11 (Or.inl ⟨rfl, by decide⟩) (Or.inr ⟨_, W2291⟩) (Or.inl rfl) (hd rfl),
  ⟨fun hd => mk19 mt_16 cf_16 (vf_16_5.rt (Or.inl W3914) (hd rfl)) rfl rfl (noH_nil rfl),
  trivial⟩⟩⟩⟩⟩⟩⟩⟩⟩⟩⟩⟩⟩
theorem fe_763 : eqEs ((flat code_763).filter (fun e => ndE e.2.2.1)) (fl_763_0) = true := by decide +kernel
theorem om_763 : OKm mi iT prg 763 := OKm_of (code := code_763) rfl mt_763 (Or.inl (by decide +kernel)) rfl wk_763 (by decide +kernel) (by decide +kernel) (FA_of fe_763 (fb_763_0))
def fl_764_0 : List Ent := [(2, 3, 7, .putfield 11, [0, 35, 186], 0), (7, 3, 7, .putfield 37, [3, 35, 187], 0), (12, 3, 7, .putfield 15, [0, 35, 188], 0)]
theorem fb_764_0 : FB mi iT mi_764 (bpc code_764) (fl_764_0) := ⟨fun hd => mk7 fld_35_6 (Or.inl W3843) (Or.inl rfl) (Or.inl rfl) (hd rfl),
  ⟨fun hd => mk7 fld_35_7 (Or.inl W3847) (Or.inl rfl) (Or.inl rfl) (hd rfl),
  ⟨fun hd => mk7 fld_35_8 (Or.inl W3850) (Or.inl rfl) (Or.inl rfl) (hd rfl),
  trivial⟩⟩⟩
theorem fe_764 : eqEs ((flat code_764).filter (fun e => ndE e.2.2.1)) (fl_764_0) = true := by decide +kernel
theorem om_764 : OKm mi iT prg 764 := OKm_of (code := code_764) rfl mt_764 (Or.inl (by decide +kernel)) rfl wk_764 (by decide +kernel) (by decide +kernel) (FA_of fe_764 (fb_764_0))
def fl_765_0 : List Ent := [(1, 3, 6, .getfield 33, [0, 40, 260], 0), (9, 3, 6, .getfield 9, [0, 40, 261], 0), (17, 3, 6, .getfield 15, [0, 40, 262], 0)]
theorem fb_765_0 : FB mi iT mi_765 (bpc code_765) (fl_765_0) := ⟨fun hd => mk6 fld_40_5 (Or.inl ⟨rfl, by decide⟩) (Or.inl W5448) (Or.inl rfl) (hd rfl),
  ⟨fun hd => mk6 fld_40_6 (Or.inl ⟨rfl, by decide⟩) (Or.inl W5451) (Or.inl rfl) (hd rfl),
  ⟨fun hd => mk6 fld_40_7 (Or.inl ⟨rfl, by decide⟩) (Or.inl W5454) (Or.inl rfl) (hd rfl),
  trivial⟩⟩⟩
theorem fe_765 : eqEs ((flat code_765).filter (fun e => ndE e.2.2.1)) (fl_765_0) = true := by decide +kernel
theorem om_765 : OKm mi iT prg 765 := OKm_of (code := code_765) rfl mt_765 (Or.inl (by decide +kernel)) rfl wk_765 (by decide +kernel) (by decide +kernel) (FA_of fe_765 (fb_765_0))
def fl_766_0 : List Ent := [(1, 3, 6, .getfield 33, [0, 40, 260], 0), (9, 3, 6, .getfield 9, [0, 40, 261], 0), (18, 3, 19, .invokevirtual 36, [9, 2, 2, 40, 767], 0)]
theorem fb_766_0 : FB mi iT mi_766 (bpc code_766) (fl_766_0) := ⟨fun hd => mk6 fld_40_5 (Or.inl ⟨rfl, by decide⟩) (Or.inl W5448) (Or.inl rfl) (hd rfl),
  ⟨fun hd => mk6 fld_40_6 (Or.inl ⟨rfl, by decide⟩) (Or.inl W5451) (Or.inl rfl) (hd rfl),
  ⟨fun hd => mk19 mt_767 cf_767 (vf_767_40.rt (Or.inl W5044) (hd rfl)) rfl rfl (noH_nil rfl),
  trivial⟩⟩⟩
theorem fe_766 : eqEs ((flat code_766).filter (fun e => ndE e.2.2.1)) (fl_766_0) = true := by decide +kernel
theorem om_766 : OKm mi iT prg 766 := OKm_of (code := code_766) rfl mt_766 (Or.inl (by decide +kernel)) rfl wk_766 (by decide +kernel) (by decide +kernel) (FA_of fe_766 (fb_766_0))
def fl_767_0 : List Ent := [(2, 3, 7, .putfield 33, [0, 40, 260], 0), (7, 3, 7, .putfield 9, [0, 40, 261], 0), (12, 3, 7, .putfield 15, [0, 40, 262], 0)]
theorem fb_767_0 : FB mi iT mi_767 (bpc code_767) (fl_767_0) := ⟨fun hd => mk7 fld_40_5 (Or.inl W5448) (Or.inl rfl) (Or.inl rfl) (hd rfl),
  ⟨fun hd => mk7 fld_40_6 (Or.inl W5451) (Or.inl rfl) (Or.inl rfl) (hd rfl),
  ⟨fun hd => mk7 fld_40_7 (Or.inl W5454) (Or.inl rfl) (Or.inl rfl) (hd rfl),
  trivial⟩⟩⟩
theorem fe_767 : eqEs ((flat code_767).filter (fun e => ndE e.2.2.1)) (fl_767_0) = true := by decide +kernel
theorem om_767 : OKm mi iT prg 767 := OKm_of (code := code_767) rfl mt_767 (Or.inl (by decide +kernel)) rfl wk_767 (by decide +kernel) (by decide +kernel) (FA_of fe_767 (fb_767_0))
def fl_768_0 : List Ent := [(1, 3, 22, .invokespecial 3, [], 0), (6, 3, 7, .putfield 9, [0, 40, 261], 0), (11, 3, 7, .putfield 15, [0, 40, 262], 0), (16, 3, 7, .putfield 18, [0, 40, 255], 0), (21, 3, 7, .putfield 21, [0, 40, 256], 0), (26, 3, 7, .putfield 24, [0, 40, 257], 0), (32, 3, 7, .putfield 27, [0, 40, 258], 0), (38, 3, 7, .putfield 30, [0, 40, 259], 0)]
theorem fb_768_0 : FB mi iT mi_768 (bpc code_768) (fl_768_0) := ⟨fun hd => mk22 (by decide) W5435 oi_w (hd rfl),
  ⟨fun hd => mk7 fld_40_6 (Or.inl W5451) (Or.inl rfl) (Or.inl rfl) (hd rfl),
  ⟨fun hd => mk7 fld_40_7 (Or.inl W5454) (Or.inl rfl) (Or.inl rfl) (hd rfl),
  ⟨fun hd => mk7 fld_40_0 (Or.inl W5436) (Or.inl rfl) (Or.inr ⟨rfl, rfl, rfl, W5436⟩) (hd rfl),
  ⟨fun hd => mk7 fld_40_1 (Or.inl W5438) (Or.inl rfl) (Or.inr ⟨rfl, rfl, rfl, W5438⟩) (hd rfl),
  ⟨fun hd => mk7 fld_40_2 (Or.inl W5440) (Or.inl rfl) (Or.inr ⟨rfl, rfl, rfl, W5440⟩) (hd rfl),
  ⟨fun hd => mk7 fld_40_3 (Or.inl W5443) (Or.inl rfl) (Or.inr ⟨rfl, rfl, rfl, W5443⟩) (hd rfl),
  ⟨fun hd => mk7 fld_40_4 (Or.inl W5446) (Or.inl rfl) (Or.inr ⟨rfl, rfl, rfl, W5446⟩) (hd rfl),
  trivial⟩⟩⟩⟩⟩⟩⟩⟩
theorem fe_768 : eqEs ((flat code_768).filter (fun e => ndE e.2.2.1)) (fl_768_0) = true := by decide +kernel
theorem om_768 : OKm mi iT prg 768 := OKm_of (code := code_768) rfl mt_768 (Or.inl (by decide +kernel)) rfl wk_768 (by decide +kernel) (by decide +kernel) (FA_of fe_768 (fb_768_0))
theorem fe_769 : eqEs ((flat code_769).filter (fun e => ndE e.2.2.1)) ([]) = true := by decide +kernel
theorem om_769 : OKm mi iT prg 769 := OKm_of (code := code_769) rfl mt_769 (Or.inl (by decide +kernel)) rfl wk_769 (by decide +kernel) (by decide +kernel) (FA_of fe_769 (trivial))
theorem fe_770 : eqEs ((flat code_770).filter (fun e => ndE e.2.2.1)) ([]) = true := by decide +kernel
theorem om_770 : OKm mi iT prg 770 := OKm_of (code := code_770) rfl mt_770 (Or.inl (by decide +kernel)) rfl wk_770 (by decide +kernel) (by decide +kernel) (FA_of fe_770 (trivial))
theorem fe_771 : eqEs ((flat code_771).filter (fun e => ndE e.2.2.1)) ([]) = true := by decide +kernel
theorem om_771 : OKm mi iT prg 771 := OKm_of (code := code_771) rfl mt_771 (Or.inl (by decide +kernel)) rfl wk_771 (by decide +kernel) (by decide +kernel) (FA_of fe_771 (trivial))
theorem fe_772 : eqEs ((flat code_772).filter (fun e => ndE e.2.2.1)) ([]) = true := by decide +kernel
theorem om_772 : OKm mi iT prg 772 := OKm_of (code := code_772) rfl mt_772 (Or.inl (by decide +kernel)) rfl wk_772 (by decide +kernel) (by decide +kernel) (FA_of fe_772 (trivial))
theorem fe_773 : eqEs ((flat code_773).filter (fun e => ndE e.2.2.1)) ([]) = true := by decide +kernel
theorem om_773 : OKm mi iT prg 773 := OKm_of (code := code_773) rfl mt_773 (Or.inl (by decide +kernel)) rfl wk_773 (by decide +kernel) (by decide +kernel) (FA_of fe_773 (trivial))
theorem fe_774 : eqEs ((flat code_774).filter (fun e => ndE e.2.2.1)) ([]) = true := by decide +kernel
theorem om_774 : OKm mi iT prg 774 := OKm_of (code := code_774) rfl mt_774 (Or.inl (by decide +kernel)) rfl wk_774 (by decide +kernel) (by decide +kernel) (FA_of fe_774 (trivial))
theorem fe_775 : eqEs ((flat code_775).filter (fun e => ndE e.2.2.1)) ([]) = true := by decide +kernel
theorem om_775 : OKm mi iT prg 775 := OKm_of (code := code_775) rfl mt_775 (Or.inl (by decide +kernel)) rfl wk_775 (by decide +kernel) (by decide +kernel) (FA_of fe_775 (trivial))
theorem fe_776 : eqEs ((flat code_776).filter (fun e => ndE e.2.2.1)) ([]) = true := by decide +kernel
theorem om_776 : OKm mi iT prg 776 := OKm_of (code := code_776) rfl mt_776 (Or.inl (by decide +kernel)) rfl wk_776 (by decide +kernel) (by decide +kernel) (FA_of fe_776 (trivial))
theorem fe_777 : eqEs ((flat code_777).filter (fun e => ndE e.2.2.1)) ([]) = true := by decide +kernel
theorem om_777 : OKm mi iT prg 777 := OKm_of (code := code_777) rfl mt_777 (Or.inl (by decide +kernel)) rfl wk_777 (by decide +kernel) (by decide +kernel) (FA_of fe_777 (trivial))
theorem fe_778 : eqEs ((flat code_778).filter (fun e => ndE e.2.2.1)) ([]) = true := by decide +kernel
theorem om_778 : OKm mi iT prg 778 := OKm_of (code := code_778) rfl mt_778 (Or.inl (by decide +kernel)) rfl wk_778 (by decide +kernel) (by decide +kernel) (FA_of fe_778 (trivial))
theorem fe_779 : eqEs ((flat code_779).filter (fun e => ndE e.2.2.1)) ([]) = true := by decide +kernel
theorem om_779 : OKm mi iT prg 779 := OKm_of (code := code_779) rfl mt_779 (Or.inl (by decide +kernel)) rfl wk_779 (by decide +kernel) (by decide +kernel) (FA_of fe_779 (trivial))
def fl_780_0 : List Ent := [(0, 2, 13, .ldc 7, [66], 0), (3, 3, 18, .invokestatic 9, [0, 2, 2, 207], 0)]
theorem fb_780_0 : FB mi iT mi_780 (bpc code_780) (fl_780_0) := ⟨fun hd => mk13t rfl W1835 (Or.inl ⟨hd rfl, rfl⟩),
  ⟨fun hd => mk18 mt_207 sf_207 (Or.inr ⟨⟨_, W1836⟩, _, _, rfl⟩) rfl rfl (noH_nil rfl) (hd rfl),
  trivial⟩⟩
theorem fe_780 : eqEs ((flat code_780).filter (fun e => ndE e.2.2.1)) (fl_780_0) = true := by decide +kernel
theorem om_780 : OKm mi iT prg 780 := OKm_of (code := code_780) rfl mt_780 (Or.inl (by decide +kernel)) rfl wk_780 (by decide +kernel) (by decide +kernel) (FA_of fe_780 (fb_780_0))
def fl_781_0 : List Ent := [(0, 2, 13, .ldc 15, [67], 0), (3, 3, 18, .invokestatic 9, [0, 2, 2, 207], 0)]
theorem fb_781_0 : FB mi iT mi_781 (bpc code_781) (fl_781_0) := ⟨fun hd => mk13t rfl W1891 (Or.inl ⟨hd rfl, rfl⟩),
  ⟨fun hd => mk18 mt_207 sf_207 (Or.inr ⟨⟨_, W1836⟩, _, _, rfl⟩) rfl rfl (noH_nil rfl) (hd rfl),
  trivial⟩⟩
theorem fe_781 : eqEs ((flat code_781).filter (fun e => ndE e.2.2.1)) (fl_781_0) = true := by decide +kernel
theorem om_781 : OKm mi iT prg 781 := OKm_of (code := code_781) rfl mt_781 (Or.inl (by decide +kernel)) rfl wk_781 (by decide +kernel) (by decide +kernel) (FA_of fe_781 (fb_781_0))
def fl_782_0 : List Ent := [(0, 2, 13, .ldc 7, [68], 0), (3, 3, 18, .invokestatic 9, [0, 2, 2, 207], 0)]
theorem fb_782_0 : FB mi iT mi_782 (bpc code_782) (fl_782_0) := ⟨fun hd => mk13t rfl W1880 (Or.inl ⟨hd rfl, rfl⟩),
  ⟨fun hd => mk18 mt_207 sf_207 (Or.inr ⟨⟨_, W1881⟩, _, _, rfl⟩) rfl rfl (noH_nil rfl) (hd rfl),
  trivial⟩⟩
theorem fe_782 : eqEs ((flat code_782).filter (fun e => ndE e.2.2.1)) (fl_782_0) = true := by decide +kernel
theorem om_782 : OKm mi iT prg 782 := OKm_of (code := code_782) rfl mt_782 (Or.inl (by decide +kernel)) rfl wk_782 (by decide +kernel) (by decide +kernel) (FA_of fe_782 (fb_782_0))
def fl_783_0 : List Ent := [(0, 2, 13, .ldc 15, [69], 0), (3, 3, 18, .invokestatic 9, [0, 2, 2, 207], 0)]
theorem fb_783_0 : FB mi iT mi_783 (bpc code_783) (fl_783_0) := ⟨fun hd => mk13t rfl W1895 (Or.inl ⟨hd rfl, rfl⟩),
  ⟨fun hd => mk18 mt_207 sf_207 (Or.inr ⟨⟨_, W1881⟩, _, _, rfl⟩) rfl rfl (noH_nil rfl) (hd rfl),
  trivial⟩⟩
theorem fe_783 : eqEs ((flat code_783).filter (fun e => ndE e.2.2.1)) (fl_783_0) = true := by decide +kernel
theorem om_783 : OKm mi iT prg 783 := OKm_of (code := code_783) rfl mt_783 (Or.inl (by decide +kernel)) rfl wk_783 (by decide +kernel) (by decide +kernel) (FA_of fe_783 (fb_783_0))
def fl_784_0 : List Ent := [(1, 3, 6, .getfield 7, [3, 22, 99], 0), (4, 3, 6, .getfield 13, [2, 17, 72], 0), (8, 3, 6, .getfield 19, [3, 22, 93], 0), (11, 3, 6, .getfield 23, [0, 16, 64], 0), (15, 3, 15, .ldc2_w 29, [4604930618986332160], 0)]
theorem fb_784_0 : FB mi iT mi_784 (bpc code_784) (fl_784_0) := ⟨fun hd => mk6 fld_22_7 (Or.inl ⟨rfl, by decide⟩) (Or.inr ⟨_, W2268⟩) (Or.inl rfl) (hd rfl),
  ⟨fun hd => mk6 fld_17_5 (Or.inl ⟨rfl, by decide⟩) (Or.inr ⟨_, W2000⟩) (Or.inl rfl) (hd rfl),
  ⟨fun hd => mk6 fld_22_1 (Or.inl ⟨rfl, by decide⟩) (Or.inr ⟨_, W2240⟩) (Or.inl rfl) (hd rfl),
  ⟨fun hd => mk6 fld_16_2 (Or.inl ⟨rfl, by decide⟩) (Or.inr ⟨_, W1911⟩) (Or.inl rfl) (hd rfl),
  ⟨fun hd => mk15 W1661 (hd rfl),
  trivial⟩⟩⟩⟩⟩
theorem fe_784 : eqEs ((flat code_784).filter (fun e => ndE e.2.2.1)) (fl_784_0) = true := by decide +kernel
theorem om_784 : OKm mi iT prg 784 := OKm_of (code := code_784) rfl mt_784 (Or.inl (by decide +kernel)) rfl wk_784 (by decide +kernel) (by decide +kernel) (FA_of fe_784 (fb_784_0))
def fl_785_0 : List Ent := [(1, 3, 6, .getfield 7, [3, 22, 99], 0), (4, 3, 19, .invokevirtual 13, [2, 1, 1, 17, 551], 0), (7, 3, 15, .ldc2_w 19, [4598175219545276416], 0), (15, 3, 6, .getfield 7, [3, 22, 99], 0), (18, 3, 19, .invokevirtual 21, [0, 1, 1, 17, 552], 0)]
theorem fb_785_0 : FB mi iT mi_785 (bpc code_785) (fl_785_0) := ⟨fun hd => mk6 fld_22_7 (Or.inl ⟨rfl, by decide⟩) (Or.inr ⟨_, W2269⟩) (Or.inl rfl) (hd rfl),
  ⟨fun hd => mk19 mt_551 cf_551 (vf_551_17.rt (Or.inl W1665) (hd rfl)) rfl rfl (noH_nil rfl),
  ⟨fun hd => mk15 W1666 (hd rfl),
  ⟨fun hd => mk6 fld_22_7 (Or.inl ⟨rfl, by decide⟩) (Or.inr ⟨_, W2269⟩) (Or.inl rfl) (hd rfl),
  ⟨fun hd => mk19 mt_552 cf_552 (vf_552_17.rt (Or.inl W1667) (hd rfl)) rfl rfl (noH_nil rfl),
  trivial⟩⟩⟩⟩⟩
theorem fe_785 : eqEs ((flat code_785).filter (fun e => ndE e.2.2.1)) (fl_785_0) = true := by decide +kernel
theorem om_785 : OKm mi iT prg 785 := OKm_of (code := code_785) rfl mt_785 (Or.inl (by decide +kernel)) rfl wk_785 (by decide +kernel) (by decide +kernel) (FA_of fe_785 (fb_785_0))
def fl_786_0 : List Ent := [(1, 3, 6, .getfield 7, [3, 22, 101], 0), (6, 3, 19, .invokevirtual 13, [2, 3, 3, 19, 565], 0), (10, 3, 6, .getfield 19, [0, 22, 107], 0)]
theorem fb_786_0 : FB mi iT mi_786 (bpc code_786) (fl_786_0) := ⟨fun hd => mk6 fld_22_9 (Or.inl ⟨rfl, by decide⟩) (Or.inr ⟨_, W2282⟩) (Or.inl rfl) (hd rfl),
  ⟨fun hd => mk19 mt_565 cf_565 (vf_565_19.rt (Or.inl W1671) (hd rfl)) rfl rfl (noH_nil rfl),
  ⟨fun hd => mk6 fld_22_15 (Or.inl ⟨rfl, by decide⟩) (Or.inr ⟨_, W2302⟩) (Or.inl rfl) (hd rfl),
  trivial⟩⟩⟩
theorem fe_786 : eqEs ((flat code_786).filter (fun e => ndE e.2.2.1)) (fl_786_0) = true := by decide +kernel
theorem om_786 : OKm mi iT prg 786 := OKm_of (code := code_786) rfl mt_786 (Or.inl (by decide +kernel)) rfl wk_786 (by decide +kernel) (by decide +kernel) (FA_of fe_786 (fb_786_0))
def fl_787_0 : List Ent := [(1, 3, 6, .getfield 7, [3, 22, 100], 0), (4, 3, 19, .invokevirtual 13, [0, 1, 1, 18, 556], 0)]
theorem fb_787_0 : FB mi iT mi_787 (bpc code_787) (fl_787_0) := ⟨fun hd => mk6 fld_22_8 (Or.inl ⟨rfl, by decide⟩) (Or.inr ⟨_, W2278⟩) (Or.inl rfl) (hd rfl),
  ⟨fun hd => mk19 mt_556 cf_556 (vf_556_18.rt (Or.inl W1675) (hd rfl)) rfl rfl (noH_nil rfl),
  trivial⟩⟩
theorem fe_787 : eqEs ((flat code_787).filter (fun e => ndE e.2.2.1)) (fl_787_0) = true := by decide +kernel
theorem om_787 : OKm mi iT prg 787 := OKm_of (code := code_787) rfl mt_787 (Or.inl (by decide +kernel)) rfl wk_787 (by decide +kernel) (by decide +kernel) (FA_of fe_787 (fb_787_0))
def fl_788_0 : List Ent := [(1, 3, 6, .getfield 7, [3, 22, 97], 0), (5, 3, 6, .getfield 7, [3, 22, 97], 0), (8, 3, 19, .invokevirtual 13, [0, 1, 1, 20, 525], 0), (11, 3, 19, .invokevirtual 19, [2, 2, 2, 20, 526], 0), (14, 3, 15, .ldc2_w 23, [4618441417868443648], 0)]
theorem fb_788_0 : FB mi iT mi_788 (bpc code_788) (fl_788_0) := ⟨fun hd => mk6 fld_22_5 (Or.inl ⟨rfl, by decide⟩) (Or.inr ⟨_, W2259⟩) (Or.inl rfl) (hd rfl),
  ⟨fun hd => mk6 fld_22_5 (Or.inl ⟨rfl, by decide⟩) (Or.inr ⟨_, W2259⟩) (Or.inl rfl) (hd rfl),
  ⟨fun hd => mk19 mt_525 cf_525 (vf_525_20.rt (Or.inl W1679) (hd rfl)) rfl rfl (noH_nil rfl),
  ⟨fun hd => mk19 mt_526 cf_526 (vf_526_20.rt (Or.inl W1680) (hd rfl)) rfl rfl (noH_nil rfl),
  ⟨fun hd => mk15 W1700 (hd rfl),
  trivial⟩⟩⟩⟩⟩
theorem fe_788 : eqEs ((flat code_788).filter (fun e => ndE e.2.2.1)) (fl_788_0) = true := by decide +kernel
theorem om_788 : OKm mi iT prg 788 := OKm_of (code := code_788) rfl mt_788 (Or.inl (by decide +kernel)) rfl wk_788 (by decide +kernel) (by decide +kernel) (FA_of fe_788 (fb_788_0))
def fl_789_0 : List Ent := [(1, 3, 6, .getfield 7, [3, 22, 97], 0), (4, 3, 6, .getfield 13, [3, 20, 87], 0), (7, 3, 19, .invokevirtual 19, [0, 1, 1, 13, 530], 0), (16, 3, 6, .getfield 7, [3, 22, 97], 0), (19, 3, 6, .getfield 13, [3, 20, 87], 0), (22, 3, 19, .invokevirtual 25, [0, 1, 1, 13, 541], 0)]
theorem fb_789_0 : FB mi iT mi_789 (bpc code_789) (fl_789_0) := ⟨fun hd => mk6 fld_22_5 (Or.inl ⟨rfl, by decide⟩) (Or.inr ⟨_, W2260⟩) (Or.inl rfl) (hd rfl),
  ⟨fun hd => mk6 fld_20_1 (Or.inl ⟨rfl, by decide⟩) (Or.inr ⟨_, W1973⟩) (Or.inl rfl) (hd rfl),
  ⟨fun hd => mk19 mt_530 cf_530 (vf_530_13.rt (Or.inl W1704) (hd rfl)) rfl rfl (noH_nil rfl),
  ⟨fun hd => mk6 fld_22_5 (Or.inl ⟨rfl, by decide⟩) (Or.inr ⟨_, W2260⟩) (Or.inl rfl) (hd rfl),
  ⟨fun hd => mk6 fld_20_1 (Or.inl ⟨rfl, by decide⟩) (Or.inr ⟨_, W1973⟩) (Or.inl rfl) (hd rfl),
  ⟨fun hd => mk19 mt_541 cf_541 (vf_541_13.rt (Or.inl W1705) (hd rfl)) rfl rfl (noH_nil rfl),
  trivial⟩⟩⟩⟩⟩⟩
theorem fe_789 : eqEs ((flat code_789).filter (fun e => ndE e.2.2.1)) (fl_789_0) = true := by decide +kernel
theorem om_789 : OKm mi iT prg 789 := OKm_of (code := code_789) rfl mt_789 (Or.inl (by decide +kernel)) rfl wk_789 (by decide +kernel) (by decide +kernel) (FA_of fe_789 (fb_789_0))
def fl_790_0 : List Ent := [(1, 3, 6, .getfield 7, [3, 22, 99], 0), (4, 3, 19, .invokevirtual 13, [2, 1, 1, 17, 554], 0), (7, 3, 38, .invokestatic 18, [0], 0), (11, 3, 6, .getfield 24, [3, 22, 93], 0), (14, 3, 6, .getfield 28, [0, 16, 63], 0), (18, 3, 15, .ldc2_w 34, [4630826316843712512], 0)]
theorem fb_790_0 : FB mi iT mi_790 (bpc code_790) (fl_790_0) := ⟨fun hd => mk6 fld_22_7 (Or.inl ⟨rfl, by decide⟩) (Or.inr ⟨_, W2270⟩) (Or.inl rfl) (hd rfl),
  ⟨fun hd => mk19 mt_554 cf_554 (vf_554_17.rt (Or.inl W1709) (hd rfl)) rfl rfl (noH_nil rfl),
  ⟨fun hd => ⟨0, _, _, by decide, rfl, rfl, by decide, W1710, mo_w0, hd rfl⟩,
  ⟨fun hd => mk6 fld_22_1 (Or.inl ⟨rfl, by decide⟩) (Or.inr ⟨_, W2241⟩) (Or.inl rfl) (hd rfl),
  ⟨fun hd => mk6 fld_16_1 (Or.inl ⟨rfl, by decide⟩) (Or.inr ⟨_, W1899⟩) (Or.inl rfl) (hd rfl),
  ⟨fun hd => mk15 W1711 (hd rfl),
  trivial⟩⟩⟩⟩⟩⟩
theorem fe_790 : eqEs ((flat code_790).filter (fun e => ndE e.2.2.1)) (fl_790_0) = true := by decide +kernel
theorem om_790 : OKm mi iT prg 790 := OKm_of (code := code_790) rfl mt_790 (Or.inl (by decide +kernel)) rfl wk_790 (by decide +kernel) (by decide +kernel) (FA_of fe_790 (fb_790_0))
theorem fe_791 : eqEs ((flat code_791).filter (fun e => ndE e.2.2.1)) ([]) = true := by decide +kernel
theorem om_791 : OKm mi iT prg 791 := OKm_of (code := code_791) rfl mt_791 (Or.inl (by decide +kernel)) rfl wk_791 (by decide +kernel) (by decide +kernel) (FA_of fe_791 (trivial))
def fl_792_0 : List Ent := [(1, 3, 6, .getfield 7, [0, 22, 110], 0)]
theorem fb_792_0 : FB mi iT mi_792 (bpc code_792) (fl_792_0) := ⟨fun hd => mk6 fld_22_18 (Or.inl ⟨rfl, by decide⟩) (Or.inr ⟨_, W2311⟩) (Or.inl rfl) (hd rfl),
  trivial⟩
theorem fe_792 : eqEs ((flat code_792).filter (fun e => ndE e.2.2.1)) (fl_792_0) = true := by decide +kernel
theorem om_792 : OKm mi iT prg 792 := OKm_of (code := code_792) rfl mt_792 (Or.inl (by decide +kernel)) rfl wk_792 (by decide +kernel) (by decide +kernel) (FA_of fe_792 (fb_792_0))
theorem fe_793 : eqEs ((flat code_793).filter (fun e => ndE e.2.2.1)) ([]) = true := by decide +kernel
theorem om_793 : OKm mi iT prg 793 := OKm_of (code := code_793) rfl mt_793 (Or.inl (by decide +kernel)) rfl wk_793 (by decide +kernel) (by decide +kernel) (FA_of fe_793 (trivial))
def fl_794_0 : List Ent := [(3, 3, 18, .invokestatic 7, [0, 1, 1, 70], 0)]
theorem fb_794_0 : FB mi iT mi_794 (bpc code_794) (fl_794_0) := ⟨fun hd => mk18 mt_70 sf_70 (Or.inl W1477) rfl rfl (noH_nil rfl) (hd rfl),
  trivial⟩
theorem fe_794 : eqEs ((flat code_794).filter (fun e => ndE e.2.2.1)) (fl_794_0) = true := by decide +kernel
theorem om_794 : OKm mi iT prg 794 := OKm_of (code := code_794) rfl mt_794 (Or.inl (by decide +kernel)) rfl wk_794 (by decide +kernel) (by decide +kernel) (FA_of fe_794 (fb_794_0))
theorem fe_795 : eqEs ((flat code_795).filter (fun e => ndE e.2.2.1)) ([]) = true := by decide +kernel
theorem om_795 : OKm mi iT prg 795 := OKm_of (code := code_795) rfl mt_795 (Or.inl (by decide +kernel)) rfl wk_795 (by decide +kernel) (by decide +kernel) (FA_of fe_795 (trivial))
theorem fe_796 : eqEs ((flat code_796).filter (fun e => ndE e.2.2.1)) ([]) = true := by decide +kernel
theorem om_796 : OKm mi iT prg 796 := OKm_of (code := code_796) rfl mt_796 (Or.inl (by decide +kernel)) rfl wk_796 (by decide +kernel) (by decide +kernel) (FA_of fe_796 (trivial))
theorem fe_797 : eqEs ((flat code_797).filter (fun e => ndE e.2.2.1)) ([]) = true := by decide +kernel
theorem om_797 : OKm mi iT prg 797 := OKm_of (code := code_797) rfl mt_797 (Or.inl (by decide +kernel)) rfl wk_797 (by decide +kernel) (by decide +kernel) (FA_of fe_797 (trivial))
theorem fe_798 : eqEs ((flat code_798).filter (fun e => ndE e.2.2.1)) ([]) = true := by decide +kernel
theorem om_798 : OKm mi iT prg 798 := OKm_of (code := code_798) rfl mt_798 (Or.inl (by decide +kernel)) rfl wk_798 (by decide +kernel) (by decide +kernel) (FA_of fe_798 (trivial))
theorem fe_799 : eqEs ((flat code_799).filter (fun e => ndE e.2.2.1)) ([]) = true := by decide +kernel
theorem om_799 : OKm mi iT prg 799 := OKm_of (code := code_799) rfl mt_799 (Or.inl (by decide +kernel)) rfl wk_799 (by decide +kernel) (by decide +kernel) (FA_of fe_799 (trivial))
theorem fe_800 : eqEs ((flat code_800).filter (fun e => ndE e.2.2.1)) ([]) = true := by decide +kernel
theorem om_800 : OKm mi iT prg 800 := OKm_of (code := code_800) rfl mt_800 (Or.inl (by decide +kernel)) rfl wk_800 (by decide +kernel) (by decide +kernel) (FA_of fe_800 (trivial))
theorem fe_801 : eqEs ((flat code_801).filter (fun e => ndE e.2.2.1)) ([]) = true := by decide +kernel
theorem om_801 : OKm mi iT prg 801 := OKm_of (code := code_801) rfl mt_801 (Or.inl (by decide +kernel)) rfl wk_801 (by decide +kernel) (by decide +kernel) (FA_of fe_801 (trivial))
theorem fe_802 : eqEs ((flat code_802).filter (fun e => ndE e.2.2.1)) ([]) = true := by decide +kernel
theorem om_802 : OKm mi iT prg 802 := OKm_of (code := code_802) rfl mt_802 (Or.inl (by decide +kernel)) rfl wk_802 (by decide +kernel) (by decide +kernel) (FA_of fe_802 (trivial))
theorem fe_803 : eqEs ((flat code_803).filter (fun e => ndE e.2.2.1)) ([]) = true := by decide +kernel
theorem om_803 : OKm mi iT prg 803 := OKm_of (code := code_803) rfl mt_803 (Or.inl (by decide +kernel)) rfl wk_803 (by decide +kernel) (by decide +kernel) (FA_of fe_803 (trivial))
theorem fe_804 : eqEs ((flat code_804).filter (fun e => ndE e.2.2.1)) ([]) = true := by decide +kernel
theorem om_804 : OKm mi iT prg 804 := OKm_of (code := code_804) rfl mt_804 (Or.inl (by decide +kernel)) rfl wk_804 (by decide +kernel) (by decide +kernel) (FA_of fe_804 (trivial))
theorem fe_805 : eqEs ((flat code_805).filter (fun e => ndE e.2.2.1)) ([]) = true := by decide +kernel
theorem om_805 : OKm mi iT prg 805 := OKm_of (code := code_805) rfl mt_805 (Or.inl (by decide +kernel)) rfl wk_805 (by decide +kernel) (by decide +kernel) (FA_of fe_805 (trivial))
theorem fe_806 : eqEs ((flat code_806).filter (fun e => ndE e.2.2.1)) ([]) = true := by decide +kernel
theorem om_806 : OKm mi iT prg 806 := OKm_of (code := code_806) rfl mt_806 (Or.inl (by decide +kernel)) rfl wk_806 (by decide +kernel) (by decide +kernel) (FA_of fe_806 (trivial))
theorem fe_807 : eqEs ((flat code_807).filter (fun e => ndE e.2.2.1)) ([]) = true := by decide +kernel
theorem om_807 : OKm mi iT prg 807 := OKm_of (code := code_807) rfl mt_807 (Or.inl (by decide +kernel)) rfl wk_807 (by decide +kernel) (by decide +kernel) (FA_of fe_807 (trivial))
def fl_808_0 : List Ent := [(0, 2, 13, .ldc 7, [41], 0)]
theorem fb_808_0 : FB mi iT mi_808 (bpc code_808) (fl_808_0) := ⟨fun hd => mk13t rfl W4248 (Or.inl ⟨hd rfl, rfl⟩),
  trivial⟩
theorem fe_808 : eqEs ((flat code_808).filter (fun e => ndE e.2.2.1)) (fl_808_0) = true := by decide +kernel
theorem om_808 : OKm mi iT prg 808 := OKm_of (code := code_808) rfl mt_808 (Or.inl (by decide +kernel)) rfl wk_808 (by decide +kernel) (by decide +kernel) (FA_of fe_808 (fb_808_0))
def fl_809_0 : List Ent := [(0, 2, 13, .ldc 7, [42], 0)]
theorem fb_809_0 : FB mi iT mi_809 (bpc code_809) (fl_809_0) := ⟨fun hd => mk13t rfl W4252 (Or.inl ⟨hd rfl, rfl⟩),
  trivial⟩
theorem fe_809 : eqEs ((flat code_809).filter (fun e => ndE e.2.2.1)) (fl_809_0) = true := by decide +kernel
theorem om_809 : OKm mi iT prg 809 := OKm_of (code := code_809) rfl mt_809 (Or.inl (by decide +kernel)) rfl wk_809 (by decide +kernel) (by decide +kernel) (FA_of fe_809 (fb_809_0))
theorem fe_810 : eqEs ((flat code_810).filter (fun e => ndE e.2.2.1)) ([]) = true := by decide +kernel
theorem om_810 : OKm mi iT prg 810 := OKm_of (code := code_810) rfl mt_810 (Or.inl (by decide +kernel)) rfl wk_810 (by decide +kernel) (by decide +kernel) (FA_of fe_810 (trivial))
def fl_811_0 : List Ent := [(0, 2, 13, .ldc 7, [43], 0)]
theorem fb_811_0 : FB mi iT mi_811 (bpc code_811) (fl_811_0) := ⟨fun hd => mk13t rfl W4256 (Or.inl ⟨hd rfl, rfl⟩),
  trivial⟩
theorem fe_811 : eqEs ((flat code_811).filter (fun e => ndE e.2.2.1)) (fl_811_0) = true := by decide +kernel
theorem om_811 : OKm mi iT prg 811 := OKm_of (code := code_811) rfl mt_811 (Or.inl (by decide +kernel)) rfl wk_811 (by decide +kernel) (by decide +kernel) (FA_of fe_811 (fb_811_0))
theorem fe_812 : eqEs ((flat code_812).filter (fun e => ndE e.2.2.1)) ([]) = true := by decide +kernel
theorem om_812 : OKm mi iT prg 812 := OKm_of (code := code_812) rfl mt_812 (Or.inl (by decide +kernel)) rfl wk_812 (by decide +kernel) (by decide +kernel) (FA_of fe_812 (trivial))
def fl_813_0 : List Ent := [(0, 2, 13, .ldc 7, [44], 0)]
theorem fb_813_0 : FB mi iT mi_813 (bpc code_813) (fl_813_0) := ⟨fun hd => mk13t rfl W4260 (Or.inl ⟨hd rfl, rfl⟩),
  trivial⟩
theorem fe_813 : eqEs ((flat code_813).filter (fun e => ndE e.2.2.1)) (fl_813_0) = true := by decide +kernel
theorem om_813 : OKm mi iT prg 813 := OKm_of (code := code_813) rfl mt_813 (Or.inl (by decide +kernel)) rfl wk_813 (by decide +kernel) (by decide +kernel) (FA_of fe_813 (fb_813_0))
theorem fe_814 : eqEs ((flat code_814).filter (fun e => ndE e.2.2.1)) ([]) = true := by decide +kernel
theorem om_814 : OKm mi iT prg 814 := OKm_of (code := code_814) rfl mt_814 (Or.inl (by decide +kernel)) rfl wk_814 (by decide +kernel) (by decide +kernel) (FA_of fe_814 (trivial))
def fl_815_0 : List Ent := [(0, 2, 13, .ldc 7, [45], 0)]
theorem fb_815_0 : FB mi iT mi_815 (bpc code_815) (fl_815_0) := ⟨fun hd => mk13t rfl W4264 (Or.inl ⟨hd rfl, rfl⟩),
  trivial⟩
theorem fe_815 : eqEs ((flat code_815).filter (fun e => ndE e.2.2.1)) (fl_815_0) = true := by decide +kernel
theorem om_815 : OKm mi iT prg 815 := OKm_of (code := code_815) rfl mt_815 (Or.inl (by decide +kernel)) rfl wk_815 (by decide +kernel) (by decide +kernel) (FA_of fe_815 (fb_815_0))
theorem fe_816 : eqEs ((flat code_816).filter (fun e => ndE e.2.2.1)) ([]) = true := by decide +kernel
theorem om_816 : OKm mi iT prg 816 := OKm_of (code := code_816) rfl mt_816 (Or.inl (by decide +kernel)) rfl wk_816 (by decide +kernel) (by decide +kernel) (FA_of fe_816 (trivial))
def fl_817_0 : List Ent := [(0, 2, 13, .ldc 7, [46], 0)]
theorem fb_817_0 : FB mi iT mi_817 (bpc code_817) (fl_817_0) := ⟨fun hd => mk13t rfl W4268 (Or.inl ⟨hd rfl, rfl⟩),
  trivial⟩
theorem fe_817 : eqEs ((flat code_817).filter (fun e => ndE e.2.2.1)) (fl_817_0) = true := by decide +kernel
theorem om_817 : OKm mi iT prg 817 := OKm_of (code := code_817) rfl mt_817 (Or.inl (by decide +kernel)) rfl wk_817 (by decide +kernel) (by decide +kernel) (FA_of fe_817 (fb_817_0))
theorem fe_818 : eqEs ((flat code_818).filter (fun e => ndE e.2.2.1)) ([]) = true := by decide +kernel
theorem om_818 : OKm mi iT prg 818 := OKm_of (code := code_818) rfl mt_818 (Or.inl (by decide +kernel)) rfl wk_818 (by decide +kernel) (by decide +kernel) (FA_of fe_818 (trivial))
