/-! the facts of the methods' entries (written by emit_fa.py) -/
set_option maxRecDepth 100000
def fl_1_0 : List Ent := [(1, 3, 22, .invokespecial 1, [], 0)]
theorem fb_1_0 : FB mi iT mi_1 (bpc code_1) (fl_1_0) := ⟨fun hd => mk22 (by decide) W257 oi_w (hd rfl),
  trivial⟩
theorem fe_1 : eqEs ((flat code_1).filter (fun e => ndE e.2.2.1)) (fl_1_0) = true := by decide +kernel
theorem om_1 : OKm mi iT prg 1 := OKm_of (code := code_1) rfl mt_1 (Or.inl (by decide +kernel)) rfl wk_1 (by decide +kernel) (by decide +kernel) (FA_of fe_1 (fb_1_0))
def fl_2_0 : List Ent := [(1, 3, 36, .invokespecial 1, [9, 1, 1, 5, 1], 0), (6, 3, 7, .putfield 7, [0, 5, 21], 0)]
theorem fb_2_0 : FB mi iT mi_2 (bpc code_2) (fl_2_0) := ⟨fun hd => mk36 mt_1 cf_1 (ic_1.rt (Or.inl W254) (hd rfl)) rfl rfl,
  ⟨fun hd => mk7 fld_5_0 (Or.inl W264) (Or.inl rfl) (Or.inl rfl) (hd rfl),
  trivial⟩⟩
theorem fe_2 : eqEs ((flat code_2).filter (fun e => ndE e.2.2.1)) (fl_2_0) = true := by decide +kernel
theorem om_2 : OKm mi iT prg 2 := OKm_of (code := code_2) rfl mt_2 (Or.inl (by decide +kernel)) rfl wk_2 (by decide +kernel) (by decide +kernel) (FA_of fe_2 (fb_2_0))
def fl_3_0 : List Ent := [(1, 3, 36, .invokespecial 1, [9, 1, 1, 5, 2], 0), (5, 3, 13, .getstatic 39, [1], 0), (8, 3, 7, .putfield 9, [3, 5, 22], 0)]
theorem fb_3_0 : FB mi iT mi_3 (bpc code_3) (fl_3_0) := ⟨fun hd => mk36 mt_2 cf_2 (ic_2.rt (Or.inl W251) (hd rfl)) rfl rfl,
  ⟨fun hd => mk13s (by decide) rfl (Or.inl W258) (Or.inl rfl) (hd rfl),
  ⟨fun hd => mk7 fld_5_1 (Or.inl W260) (Or.inl rfl) (Or.inl rfl) (hd rfl),
  trivial⟩⟩⟩
theorem fe_3 : eqEs ((flat code_3).filter (fun e => ndE e.2.2.1)) (fl_3_0) = true := by decide +kernel
theorem om_3 : OKm mi iT prg 3 := OKm_of (code := code_3) rfl mt_3 (Or.inl (by decide +kernel)) rfl wk_3 (by decide +kernel) (by decide +kernel) (FA_of fe_3 (fb_3_0))
def fl_4_0 : List Ent := [(0, 3, 11, .new 267, [11, 4], 0), (5, 3, 36, .invokespecial 269, [9, 2, 2, 11, 86], 0)]
theorem fb_4_0 : FB mi iT mi_4 (bpc code_4) (fl_4_0) := ⟨fun hd => mk11 nf_11 W475 (hd rfl),
  ⟨fun hd => mk36 mt_86 cf_86 (ic_86.rt (Or.inl W477) (hd rfl)) rfl rfl,
  trivial⟩⟩
theorem fe_4 : eqEs ((flat code_4).filter (fun e => ndE e.2.2.1)) (fl_4_0) = true := by decide +kernel
theorem om_4 : OKm mi iT prg 4 := OKm_of (code := code_4) rfl mt_4 (Or.inl (by decide +kernel)) rfl wk_4 (by decide +kernel) (by decide +kernel) (FA_of fe_4 (fb_4_0))
def fl_5_0 : List Ent := [(1, 3, 6, .getfield 48, [0, 5, 23], 0)]
theorem fb_5_0 : FB mi iT mi_5 (bpc code_5) (fl_5_0) := ⟨fun hd => mk6 fld_5_2 (Or.inl ⟨rfl, by decide⟩) (Or.inl W263) (Or.inl rfl) (hd rfl),
  trivial⟩
theorem fe_5 : eqEs ((flat code_5).filter (fun e => ndE e.2.2.1)) (fl_5_0) = true := by decide +kernel
theorem om_5 : OKm mi iT prg 5 := OKm_of (code := code_5) rfl mt_5 (Or.inl (by decide +kernel)) rfl wk_5 (by decide +kernel) (by decide +kernel) (FA_of fe_5 (fb_5_0))
def fl_6_0 : List Ent := [(2, 3, 6, .getfield 48, [0, 5, 23], 0), (5, 3, 18, .invokestatic 118, [0, 2, 2, 84], 0), (11, 3, 19, .invokevirtual 123, [3, 2, 2, 5, 7], 0)]
theorem fb_6_0 : FB mi iT mi_6 (bpc code_6) (fl_6_0) := ⟨fun hd => mk6 fld_5_2 (Or.inl ⟨rfl, by decide⟩) (Or.inl W263) (Or.inl rfl) (hd rfl),
  ⟨fun hd => mk18 mt_84 sf_84 (Or.inl W577) rfl rfl (noH_nil rfl) (hd rfl),
  ⟨fun hd => mk19 mt_7 cf_7 (vf_7_5.rt (Or.inl W583) (hd rfl)) rfl rfl (noH_nil rfl),
  trivial⟩⟩⟩
theorem fe_6 : eqEs ((flat code_6).filter (fun e => ndE e.2.2.1)) (fl_6_0) = true := by decide +kernel
theorem om_6 : OKm mi iT prg 6 := OKm_of (code := code_6) rfl mt_6 (Or.inl (by decide +kernel)) rfl wk_6 (by decide +kernel) (by decide +kernel) (FA_of fe_6 (fb_6_0))
def fl_7_0 : List Ent := [(1, 3, 6, .getfield 9, [3, 5, 22], 0)]
theorem fb_7_0 : FB mi iT mi_7 (bpc code_7) (fl_7_0) := ⟨fun hd => mk6 fld_5_1 (Or.inl ⟨rfl, by decide⟩) (Or.inl W260) (Or.inl rfl) (hd rfl),
  trivial⟩
theorem fe_7 : eqEs ((flat code_7).filter (fun e => ndE e.2.2.1)) (fl_7_0) = true := by decide +kernel
theorem om_7 : OKm mi iT prg 7 := OKm_of (code := code_7) rfl mt_7 (Or.inl (by decide +kernel)) rfl wk_7 (by decide +kernel) (by decide +kernel) (FA_of fe_7 (fb_7_0))
def fl_8_0 : List Ent := [(2, 3, 6, .getfield 63, [0, 5, 21], 0), (7, 3, 7, .putfield 63, [0, 5, 21], 0), (13, 3, 6, .getfield 9, [3, 5, 22], 0), (17, 3, 6, .getfield 48, [0, 5, 23], 0), (20, 3, 19, .invokevirtual 131, [9, 4, 4, 5, 9], 0)]
theorem fb_8_0 : FB mi iT mi_8 (bpc code_8) (fl_8_0) := ⟨fun hd => mk6 fld_5_0 (Or.inl ⟨rfl, by decide⟩) (Or.inl W267) (Or.inr W266) (hd rfl),
  ⟨fun hd => mk7 fld_5_0 (Or.inl W267) (Or.inr W266) (Or.inl rfl) (hd rfl),
  ⟨fun hd => mk6 fld_5_1 (Or.inl ⟨rfl, by decide⟩) (Or.inl W260) (Or.inl rfl) (hd rfl),
  ⟨fun hd => mk6 fld_5_2 (Or.inl ⟨rfl, by decide⟩) (Or.inl W263) (Or.inl rfl) (hd rfl),
  ⟨fun hd => mk19 mt_9 cf_9 (vf_9_5.rt (Or.inl W2390) (hd rfl)) rfl rfl (noH_nil rfl),
  trivial⟩⟩⟩⟩⟩
theorem fe_8 : eqEs ((flat code_8).filter (fun e => ndE e.2.2.1)) (fl_8_0) = true := by decide +kernel
theorem om_8 : OKm mi iT prg 8 := OKm_of (code := code_8) rfl mt_8 (Or.inl (by decide +kernel)) rfl wk_8 (by decide +kernel) (by decide +kernel) (FA_of fe_8 (fb_8_0))
def fl_9_0 : List Ent := [(2, 1, 10, .arraylength, [111], 0), (7, 3, 19, .invokevirtual 129, [3, 1, 1, 5, 10], 0), (14, 1, 9, .aastore, [3, 111, 22, 27, 28, 31, 33, 34, 35, 26, 32, 100, 38, 40], 0), (19, 3, 7, .putfield 48, [0, 5, 23], 0)]
theorem fb_9_0 : FB mi iT mi_9 (bpc code_9) (fl_9_0) := ⟨fun hd => mk10 (by decide) rfl (hd rfl),
  ⟨fun hd => mk19 mt_10 cf_10 (vf_10_5.rt (Or.inl W2394) (hd rfl)) rfl rfl (noH_nil rfl),
  ⟨fun hd => ⟨_, _, _, rfl, rfl, hd rfl, Or.inr (Or.inr (Or.inr (Or.inr ⟨rfl, rfl, by decide, _, rfl, as_111_L, by decide⟩)))⟩,
  ⟨fun hd => mk7 fld_5_2 (Or.inl W263) (Or.inl rfl) (Or.inl rfl) (hd rfl),
  trivial⟩⟩⟩⟩
theorem fe_9 : eqEs ((flat code_9).filter (fun e => ndE e.2.2.1)) (fl_9_0) = true := by decide +kernel
theorem om_9 : OKm mi iT prg 9 := OKm_of (code := code_9) rfl mt_9 (Or.inl (by decide +kernel)) rfl wk_9 (by decide +kernel) (by decide +kernel) (FA_of fe_9 (fb_9_0))
def fl_10_0 : List Ent := [(2, 3, 6, .getfield 48, [0, 5, 23], 0), (7, 3, 19, .invokevirtual 69, [3, 2, 2, 5, 11], 0)]
theorem fb_10_0 : FB mi iT mi_10 (bpc code_10) (fl_10_0) := ⟨fun hd => mk6 fld_5_2 (Or.inl ⟨rfl, by decide⟩) (Or.inl W263) (Or.inl rfl) (hd rfl),
  ⟨fun hd => mk19 mt_11 cf_11 (vf_11_5.rt (Or.inl W2398) (hd rfl)) rfl rfl (noH_nil rfl),
  trivial⟩⟩
theorem fe_10 : eqEs ((flat code_10).filter (fun e => ndE e.2.2.1)) (fl_10_0) = true := by decide +kernel
theorem om_10 : OKm mi iT prg 10 := OKm_of (code := code_10) rfl mt_10 (Or.inl (by decide +kernel)) rfl wk_10 (by decide +kernel) (by decide +kernel) (FA_of fe_10 (fb_10_0))
def fl_11_0 : List Ent := [(1, 3, 6, .getfield 9, [3, 5, 22], 0), (4, 1, 10, .arraylength, [111], 0), (11, 3, 6, .getfield 9, [3, 5, 22], 0), (14, 3, 13, .getstatic 39, [1], 0), (27, 3, 18, .invokestatic 73, [0, 3, 3, 65], 0), (33, 3, 6, .getfield 9, [3, 5, 22], 0), (37, 3, 18, .invokestatic 66, [3, 2, 2, 75], 0), (41, 3, 7, .putfield 9, [3, 5, 22], 0), (49, 3, 18, .invokestatic 79, [0, 2, 2, 74], 0), (52, 3, 12, .anewarray 7, [111], 0), (56, 3, 7, .putfield 9, [3, 5, 22], 0)]
theorem fb_11_0 : FB mi iT mi_11 (bpc code_11) (fl_11_0) := ⟨fun hd => mk6 fld_5_1 (Or.inl ⟨rfl, by decide⟩) (Or.inl W260) (Or.inl rfl) (hd rfl),
  ⟨fun hd => mk10 (by decide) rfl (hd rfl),
  ⟨fun hd => mk6 fld_5_1 (Or.inl ⟨rfl, by decide⟩) (Or.inl W260) (Or.inl rfl) (hd rfl),
  ⟨fun hd => mk13s (by decide) rfl (Or.inl W258) (Or.inl rfl) (hd rfl),
  ⟨fun hd => mk18 mt_65 sf_65 (Or.inl W2402) rfl rfl (noH_nil rfl) (hd rfl),
  ⟨fun hd => mk6 fld_5_1 (Or.inl ⟨rfl, by decide⟩) (Or.inl W260) (Or.inl rfl) (hd rfl),
  ⟨fun hd => mk18 mt_75 sf_75 (Or.inl W2410) rfl rfl (noH_nil rfl) (hd rfl),
  ⟨fun hd => mk7 fld_5_1 (Or.inl W260) (Or.inl rfl) (Or.inl rfl) (hd rfl),
  ⟨fun hd => mk18 mt_74 sf_74 (Or.inl W2507) rfl rfl (noH_nil rfl) (hd rfl),
  ⟨fun hd => mk12b (by decide) rfl W2508 W2501 (hd rfl),
  ⟨fun hd => mk7 fld_5_1 (Or.inl W260) (Or.inl rfl) (Or.inl rfl) (hd rfl),
  trivial⟩⟩⟩⟩⟩⟩⟩⟩⟩⟩⟩
theorem fe_11 : eqEs ((flat code_11).filter (fun e => ndE e.2.2.1)) (fl_11_0) = true := by decide +kernel
theorem om_11 : OKm mi iT prg 11 := OKm_of (code := code_11) rfl mt_11 (Or.inl (by decide +kernel)) rfl wk_11 (by decide +kernel) (by decide +kernel) (FA_of fe_11 (fb_11_0))
def fl_12_0 : List Ent := [(2, 3, 6, .getfield 48, [0, 5, 23], 0), (5, 3, 18, .invokestatic 118, [0, 2, 2, 84], 0), (10, 3, 6, .getfield 9, [3, 5, 22], 0), (21, 3, 19, .invokevirtual 144, [9, 3, 3, 5, 13], 0)]
theorem fb_12_0 : FB mi iT mi_12 (bpc code_12) (fl_12_0) := ⟨fun hd => mk6 fld_5_2 (Or.inl ⟨rfl, by decide⟩) (Or.inl W263) (Or.inl rfl) (hd rfl),
  ⟨fun hd => mk18 mt_84 sf_84 (Or.inl W577) rfl rfl (noH_nil rfl) (hd rfl),
  ⟨fun hd => mk6 fld_5_1 (Or.inl ⟨rfl, by decide⟩) (Or.inl W260) (Or.inl rfl) (hd rfl),
  ⟨fun hd => mk19 mt_13 cf_13 (vf_13_5.rt (Or.inl W2667) (hd rfl)) rfl rfl (noH_nil rfl),
  trivial⟩⟩⟩⟩
theorem fe_12 : eqEs ((flat code_12).filter (fun e => ndE e.2.2.1)) (fl_12_0) = true := by decide +kernel
theorem om_12 : OKm mi iT prg 12 := OKm_of (code := code_12) rfl mt_12 (Or.inl (by decide +kernel)) rfl wk_12 (by decide +kernel) (by decide +kernel) (FA_of fe_12 (fb_12_0))
def fl_13_0 : List Ent := [(2, 3, 6, .getfield 63, [0, 5, 21], 0), (7, 3, 7, .putfield 63, [0, 5, 21], 0), (11, 3, 6, .getfield 48, [0, 5, 23], 0), (31, 3, 26, .invokestatic 112, [3, 111], 0), (38, 3, 7, .putfield 48, [0, 5, 23], 0), (42, 1, 9, .aastore, [3, 111, 22, 27, 28, 31, 33, 34, 35, 26, 32, 100, 38, 40], 0)]
theorem fb_13_0 : FB mi iT mi_13 (bpc code_13) (fl_13_0) := ⟨fun hd => mk6 fld_5_0 (Or.inl ⟨rfl, by decide⟩) (Or.inl W267) (Or.inr W266) (hd rfl),
  ⟨fun hd => mk7 fld_5_0 (Or.inl W267) (Or.inr W266) (Or.inl rfl) (hd rfl),
  ⟨fun hd => mk6 fld_5_2 (Or.inl ⟨rfl, by decide⟩) (Or.inl W263) (Or.inl rfl) (hd rfl),
  ⟨fun hd => ⟨_, _, _, rfl, rfl, by decide, W2671, ac_w, hd rfl, Or.inr ⟨rfl, by decide, _, rfl, as_111_O⟩⟩,
  ⟨fun hd => mk7 fld_5_2 (Or.inl W263) (Or.inl rfl) (Or.inl rfl) (hd rfl),
  ⟨fun hd => ⟨_, _, _, rfl, rfl, hd rfl, Or.inr (Or.inr (Or.inr (Or.inr ⟨rfl, rfl, by decide, _, rfl, as_111_L, by decide⟩)))⟩,
  trivial⟩⟩⟩⟩⟩⟩
theorem fe_13 : eqEs ((flat code_13).filter (fun e => ndE e.2.2.1)) (fl_13_0) = true := by decide +kernel
theorem om_13 : OKm mi iT prg 13 := OKm_of (code := code_13) rfl mt_13 (Or.inl (by decide +kernel)) rfl wk_13 (by decide +kernel) (by decide +kernel) (FA_of fe_13 (fb_13_0))
def fl_14_0 : List Ent := [(1, 3, 6, .getfield 9, [3, 5, 22], 0), (6, 3, 6, .getfield 48, [0, 5, 23], 0), (50, 3, 19, .invokevirtual 93, [0, 2, 2, 31, 116], 0), (71, 3, 19, .invokevirtual 144, [9, 3, 3, 5, 13], 0)]
theorem fb_14_0 : FB mi iT mi_14 (bpc code_14) (fl_14_0) := ⟨fun hd => mk6 fld_5_1 (Or.inl ⟨rfl, by decide⟩) (Or.inl W260) (Or.inl rfl) (hd rfl),
  ⟨fun hd => mk6 fld_5_2 (Or.inl ⟨rfl, by decide⟩) (Or.inl W263) (Or.inl rfl) (hd rfl),
  ⟨fun hd => mk19 mt_116 cf_116 (vf_116_31.rt (Or.inl W2970) (hd rfl)) rfl rfl (noH_nil rfl),
  ⟨fun hd => mk19 mt_13 cf_13 (vf_13_5.rt (Or.inl W2667) (hd rfl)) rfl rfl (noH_nil rfl),
  trivial⟩⟩⟩⟩
theorem fe_14 : eqEs ((flat code_14).filter (fun e => ndE e.2.2.1)) (fl_14_0) = true := by decide +kernel
theorem om_14 : OKm mi iT prg 14 := OKm_of (code := code_14) rfl mt_14 (Or.inl (by decide +kernel)) rfl wk_14 (by decide +kernel) (by decide +kernel) (FA_of fe_14 (fb_14_0))
def fl_15_0 : List Ent := [(2, 3, 6, .getfield 63, [0, 5, 21], 0), (7, 3, 7, .putfield 63, [0, 5, 21], 0), (11, 3, 6, .getfield 9, [3, 5, 22], 0), (16, 3, 6, .getfield 48, [0, 5, 23], 0), (23, 3, 7, .putfield 48, [0, 5, 23], 0), (35, 1, 9, .aastore, [3, 111, 22, 27, 28, 31, 33, 34, 35, 26, 32, 100, 38, 40], 0)]
theorem fb_15_0 : FB mi iT mi_15 (bpc code_15) (fl_15_0) := ⟨fun hd => mk6 fld_5_0 (Or.inl ⟨rfl, by decide⟩) (Or.inl W267) (Or.inr W266) (hd rfl),
  ⟨fun hd => mk7 fld_5_0 (Or.inl W267) (Or.inr W266) (Or.inl rfl) (hd rfl),
  ⟨fun hd => mk6 fld_5_1 (Or.inl ⟨rfl, by decide⟩) (Or.inl W260) (Or.inl rfl) (hd rfl),
  ⟨fun hd => mk6 fld_5_2 (Or.inl ⟨rfl, by decide⟩) (Or.inl W263) (Or.inl rfl) (hd rfl),
  ⟨fun hd => mk7 fld_5_2 (Or.inl W263) (Or.inl rfl) (Or.inl rfl) (hd rfl),
  ⟨fun hd => ⟨_, _, _, rfl, rfl, hd rfl, Or.inr (Or.inr (Or.inr (Or.inr ⟨rfl, rfl, by decide, _, rfl, as_111_L, by decide⟩)))⟩,
  trivial⟩⟩⟩⟩⟩⟩
theorem fe_15 : eqEs ((flat code_15).filter (fun e => ndE e.2.2.1)) (fl_15_0) = true := by decide +kernel
theorem om_15 : OKm mi iT prg 15 := OKm_of (code := code_15) rfl mt_15 (Or.inl (by decide +kernel)) rfl wk_15 (by decide +kernel) (by decide +kernel) (FA_of fe_15 (fb_15_0))
def fl_16_0 : List Ent := [(2, 3, 19, .invokevirtual 135, [9, 2, 2, 5, 17], 0), (7, 3, 6, .getfield 63, [0, 5, 21], 0), (12, 3, 7, .putfield 63, [0, 5, 21], 0), (16, 3, 6, .getfield 48, [0, 5, 23], 0), (22, 3, 6, .getfield 9, [3, 5, 22], 0), (28, 1, 10, .arraylength, [111], 0), (33, 3, 19, .invokevirtual 129, [3, 1, 1, 5, 10], 0), (49, 3, 26, .invokestatic 112, [3, 111], 0), (56, 1, 9, .aastore, [3, 111, 22, 27, 28, 31, 33, 34, 35, 26, 32, 100, 38, 40], 0), (61, 3, 7, .putfield 48, [0, 5, 23], 0)]
theorem fb_16_0 : FB mi iT mi_16 (bpc code_16) (fl_16_0) := ⟨fun hd => mk19 mt_17 cf_17 (vf_17_5.rt (Or.inl W3918) (hd rfl)) rfl rfl (noH_nil rfl),
  ⟨fun hd => mk6 fld_5_0 (Or.inl ⟨rfl, by decide⟩) (Or.inl W267) (Or.inr W266) (hd rfl),
  ⟨fun hd => mk7 fld_5_0 (Or.inl W267) (Or.inr W266) (Or.inl rfl) (hd rfl),
  ⟨fun hd => mk6 fld_5_2 (Or.inl ⟨rfl, by decide⟩) (Or.inl W263) (Or.inl rfl) (hd rfl),
  ⟨fun hd => mk6 fld_5_1 (Or.inl ⟨rfl, by decide⟩) (Or.inl W260) (Or.inl rfl) (hd rfl),
  ⟨fun hd => mk10 (by decide) rfl (hd rfl),
  ⟨fun hd => mk19 mt_10 cf_10 (vf_10_5.rt (Or.inl W2394) (hd rfl)) rfl rfl (noH_nil rfl),
  ⟨fun hd => ⟨_, _, _, rfl, rfl, by decide, W2671, ac_w, hd rfl, Or.inr ⟨rfl, by decide, _, rfl, as_111_O⟩⟩,
  ⟨fun hd => ⟨_, _, _, rfl, rfl, hd rfl, Or.inr (Or.inr (Or.inr (Or.inr ⟨rfl, rfl, by decide, _, rfl, as_111_L, by decide⟩)))⟩,
  ⟨fun hd => mk7 fld_5_2 (Or.inl W263) (Or.inl rfl) (Or.inl rfl) (hd rfl),
  trivial⟩⟩⟩⟩⟩⟩⟩⟩⟩⟩
theorem fe_16 : eqEs ((flat code_16).filter (fun e => ndE e.2.2.1)) (fl_16_0) = true := by decide +kernel
theorem om_16 : OKm mi iT prg 16 := OKm_of (code := code_16) rfl mt_16 (Or.inl (by decide +kernel)) rfl wk_16 (by decide +kernel) (by decide +kernel) (FA_of fe_16 (fb_16_0))
def fl_17_0 : List Ent := [(2, 3, 6, .getfield 48, [0, 5, 23], 0)]
theorem fb_17_0 : FB mi iT mi_17 (bpc code_17) (fl_17_0) := ⟨fun hd => mk6 fld_5_2 (Or.inl ⟨rfl, by decide⟩) (Or.inl W263) (Or.inl rfl) (hd rfl),
  trivial⟩
theorem fe_17 : eqEs ((flat code_17).filter (fun e => ndE e.2.2.1)) (fl_17_0) = true := by decide +kernel
theorem om_17 : OKm mi iT prg 17 := OKm_of (code := code_17) rfl mt_17 (Or.inl (by decide +kernel)) rfl wk_17 (by decide +kernel) (by decide +kernel) (FA_of fe_17 (fb_17_0))
def fl_18_0 : List Ent := [(0, 3, 11, .new 20, [36, 4], 0), (4, 3, 36, .invokespecial 22, [9, 1, 1, 36, 109], 0), (7, 2, 13, .ldc 201, [2], 0), (9, 3, 19, .invokevirtual 25, [3, 2, 2, 36, 110], 0), (13, 3, 19, .invokevirtual 29, [3, 2, 2, 36, 111], 0), (16, 2, 13, .ldc 203, [3], 0), (18, 3, 19, .invokevirtual 25, [3, 2, 2, 36, 110], 0), (22, 3, 6, .getfield 48, [0, 5, 23], 0), (25, 3, 19, .invokevirtual 29, [3, 2, 2, 36, 111], 0), (28, 3, 19, .invokevirtual 32, [3, 1, 1, 36, 112], 0)]
theorem fb_18_0 : FB mi iT mi_18 (bpc code_18) (fl_18_0) := ⟨fun hd => mk11 nf_36 W3927 (hd rfl),
  ⟨fun hd => mk36 mt_109 cf_109 (ic_109.rt (Or.inl W3929) (hd rfl)) rfl rfl,
  ⟨fun hd => mk13t rfl W3957 (Or.inl ⟨hd rfl, rfl⟩),
  ⟨fun hd => mk19 mt_110 cf_110 (vf_110_36.rt (Or.inl W3958) (hd rfl)) rfl rfl (noH_nil rfl),
  ⟨fun hd => mk19 mt_111 cf_111 (vf_111_36.rt (Or.inl W4051) (hd rfl)) rfl rfl (noH_nil rfl),
  ⟨fun hd => mk13t rfl W4076 (Or.inl ⟨hd rfl, rfl⟩),
  ⟨fun hd => mk19 mt_110 cf_110 (vf_110_36.rt (Or.inl W3958) (hd rfl)) rfl rfl (noH_nil rfl),
  ⟨fun hd => mk6 fld_5_2 (Or.inl ⟨rfl, by decide⟩) (Or.inl W263) (Or.inl rfl) (hd rfl),
  ⟨fun hd => mk19 mt_111 cf_111 (vf_111_36.rt (Or.inl W4051) (hd rfl)) rfl rfl (noH_nil rfl),
  ⟨fun hd => mk19 mt_112 cf_112 (vf_112_36.rt (Or.inl W4077) (hd rfl)) rfl rfl (noH_nil rfl),
  trivial⟩⟩⟩⟩⟩⟩⟩⟩⟩⟩
theorem fe_18 : eqEs ((flat code_18).filter (fun e => ndE e.2.2.1)) (fl_18_0) = true := by decide +kernel
theorem om_18 : OKm mi iT prg 18 := OKm_of (code := code_18) rfl mt_18 (Or.inl (by decide +kernel)) rfl wk_18 (by decide +kernel) (by decide +kernel) (FA_of fe_18 (fb_18_0))
def fl_19_0 : List Ent := [(1, 3, 22, .invokespecial 1, [], 0)]
theorem fb_19_0 : FB mi iT mi_19 (bpc code_19) (fl_19_0) := ⟨fun hd => mk22 (by decide) W681 oi_w (hd rfl),
  trivial⟩
theorem fe_19 : eqEs ((flat code_19).filter (fun e => ndE e.2.2.1)) (fl_19_0) = true := by decide +kernel
theorem om_19 : OKm mi iT prg 19 := OKm_of (code := code_19) rfl mt_19 (Or.inl (by decide +kernel)) rfl wk_19 (by decide +kernel) (by decide +kernel) (FA_of fe_19 (fb_19_0))
def fl_20_0 : List Ent := [(1, 3, 22, .invokespecial 1, [], 0)]
theorem fb_20_0 : FB mi iT mi_20 (bpc code_20) (fl_20_0) := ⟨fun hd => mk22 (by decide) W681 oi_w (hd rfl),
  trivial⟩
theorem fe_20 : eqEs ((flat code_20).filter (fun e => ndE e.2.2.1)) (fl_20_0) = true := by decide +kernel
theorem om_20 : OKm mi iT prg 20 := OKm_of (code := code_20) rfl mt_20 (Or.inl (by decide +kernel)) rfl wk_20 (by decide +kernel) (by decide +kernel) (FA_of fe_20 (fb_20_0))
theorem fe_21 : eqEs ((flat code_21).filter (fun e => ndE e.2.2.1)) ([]) = true := by decide +kernel
theorem om_21 : OKm mi iT prg 21 := OKm_of (code := code_21) rfl mt_21 (Or.inl (by decide +kernel)) rfl wk_21 (by decide +kernel) (by decide +kernel) (FA_of fe_21 (trivial))
theorem fe_22 : eqEs ((flat code_22).filter (fun e => ndE e.2.2.1)) ([]) = true := by decide +kernel
theorem om_22 : OKm mi iT prg 22 := OKm_of (code := code_22) rfl mt_22 (Or.inl (by decide +kernel)) rfl wk_22 (by decide +kernel) (by decide +kernel) (FA_of fe_22 (trivial))
theorem fe_23 : eqEs ((flat code_23).filter (fun e => ndE e.2.2.1)) ([]) = true := by decide +kernel
theorem om_23 : OKm mi iT prg 23 := OKm_of (code := code_23) rfl mt_23 (Or.inl (by decide +kernel)) rfl wk_23 (by decide +kernel) (by decide +kernel) (FA_of fe_23 (trivial))
theorem fe_24 : eqEs ((flat code_24).filter (fun e => ndE e.2.2.1)) ([]) = true := by decide +kernel
theorem om_24 : OKm mi iT prg 24 := OKm_of (code := code_24) rfl mt_24 (Or.inl (by decide +kernel)) rfl wk_24 (by decide +kernel) (by decide +kernel) (FA_of fe_24 (trivial))
theorem fe_25 : eqEs ((flat code_25).filter (fun e => ndE e.2.2.1)) ([]) = true := by decide +kernel
theorem om_25 : OKm mi iT prg 25 := OKm_of (code := code_25) rfl mt_25 (Or.inl (by decide +kernel)) rfl wk_25 (by decide +kernel) (by decide +kernel) (FA_of fe_25 (trivial))
theorem fe_26 : eqEs ((flat code_26).filter (fun e => ndE e.2.2.1)) ([]) = true := by decide +kernel
theorem om_26 : OKm mi iT prg 26 := OKm_of (code := code_26) rfl mt_26 (Or.inl (by decide +kernel)) rfl wk_26 (by decide +kernel) (by decide +kernel) (FA_of fe_26 (trivial))
theorem fe_27 : eqEs ((flat code_27).filter (fun e => ndE e.2.2.1)) ([]) = true := by decide +kernel
theorem om_27 : OKm mi iT prg 27 := OKm_of (code := code_27) rfl mt_27 (Or.inl (by decide +kernel)) rfl wk_27 (by decide +kernel) (by decide +kernel) (FA_of fe_27 (trivial))
theorem fe_28 : eqEs ((flat code_28).filter (fun e => ndE e.2.2.1)) ([]) = true := by decide +kernel
theorem om_28 : OKm mi iT prg 28 := OKm_of (code := code_28) rfl mt_28 (Or.inl (by decide +kernel)) rfl wk_28 (by decide +kernel) (by decide +kernel) (FA_of fe_28 (trivial))
def fl_29_0 : List Ent := [(1, 3, 19, .invokevirtual 492, [0, 1, 1, 14, 30], 0), (8, 3, 6, .getfield 9, [3, 14, 55], 0), (12, 3, 18, .invokestatic 495, [0, 2, 2, 40], 0), (17, 3, 6, .getfield 9, [3, 14, 55], 0), (21, 3, 18, .invokestatic 498, [0, 2, 2, 46], 0)]
theorem fb_29_0 : FB mi iT mi_29 (bpc code_29) (fl_29_0) := ⟨fun hd => mk19 mt_30 cf_30 (vf_30_14.rt (Or.inl W1843) (hd rfl)) rfl rfl (noH_nil rfl),
  ⟨fun hd => mk6 fld_14_0 (Or.inl ⟨rfl, by decide⟩) (Or.inl W4133) (Or.inl rfl) (hd rfl),
  ⟨fun hd => mk18 mt_40 sf_40 (Or.inl W1849) rfl rfl (noH_nil rfl) (hd rfl),
  ⟨fun hd => mk6 fld_14_0 (Or.inl ⟨rfl, by decide⟩) (Or.inl W4133) (Or.inl rfl) (hd rfl),
  ⟨fun hd => mk18 mt_46 sf_46 (Or.inl W1858) rfl rfl (noH_nil rfl) (hd rfl),
  trivial⟩⟩⟩⟩⟩
theorem fe_29 : eqEs ((flat code_29).filter (fun e => ndE e.2.2.1)) (fl_29_0) = true := by decide +kernel
theorem om_29 : OKm mi iT prg 29 := OKm_of (code := code_29) rfl mt_29 (Or.inl (by decide +kernel)) rfl wk_29 (by decide +kernel) (by decide +kernel) (FA_of fe_29 (fb_29_0))
def fl_30_0 : List Ent := [(0, 3, 14, .getstatic 38, [], 1), (7, 3, 6, .getfield 15, [0, 14, 56], 0)]
theorem fb_30_0 : FB mi iT mi_30 (bpc code_30) (fl_30_0) := ⟨fun hd => mk14s (C := "java/lang/String") (n := "COMPACT_STRINGS") (d := "Z") (List.mem_of_getElem? (i := 1) rfl) (Or.inl W1847) (Or.inl rfl) (hd rfl),
  ⟨fun hd => mk6 fld_14_1 (Or.inr ⟨rfl, Or.inr rfl⟩) (Or.inl W4134) (Or.inl rfl) (hd rfl),
  trivial⟩⟩
theorem fe_30 : eqEs ((flat code_30).filter (fun e => ndE e.2.2.1)) (fl_30_0) = true := by decide +kernel
theorem om_30 : OKm mi iT prg 30 := OKm_of (code := code_30) rfl mt_30 (Or.inl (by decide +kernel)) rfl wk_30 (by decide +kernel) (by decide +kernel) (FA_of fe_30 (fb_30_0))
def fl_31_0 : List Ent := [(2, 3, 13, .getstatic 1053, [4], 0), (5, 3, 18, .invokestatic 1059, [0, 3, 3, 43], 0)]
theorem fb_31_0 : FB mi iT mi_31 (bpc code_31) (fl_31_0) := ⟨fun hd => mk13s (by decide) rfl (Or.inl W1855) (Or.inl rfl) (hd rfl),
  ⟨fun hd => mk18 mt_43 sf_43 (Or.inl W1857) rfl rfl (noH_nil rfl) (hd rfl),
  trivial⟩⟩
theorem fe_31 : eqEs ((flat code_31).filter (fun e => ndE e.2.2.1)) (fl_31_0) = true := by decide +kernel
theorem om_31 : OKm mi iT prg 31 := OKm_of (code := code_31) rfl mt_31 (Or.inl (by decide +kernel)) rfl wk_31 (by decide +kernel) (by decide +kernel) (FA_of fe_31 (fb_31_0))
def fl_32_0 : List Ent := [(8, 3, 32, .instanceof 10, [14], 0), (15, 3, 17, .checkcast 10, [14], 0), (19, 3, 14, .getstatic 38, [], 1), (26, 3, 6, .getfield 15, [0, 14, 56], 0), (30, 3, 6, .getfield 15, [0, 14, 56], 0), (37, 3, 6, .getfield 9, [3, 14, 55], 0), (41, 3, 6, .getfield 9, [3, 14, 55], 0), (44, 3, 18, .invokestatic 541, [0, 2, 2, 41], 0)]
theorem fb_32_0 : FB mi iT mi_32 (bpc code_32) (fl_32_0) := ⟨fun hd => mk32 kn_14 W3053 (hd rfl),
  ⟨fun hd => mk17 kx_14 W3053 (hd rfl),
  ⟨fun hd => mk14s (C := "java/lang/String") (n := "COMPACT_STRINGS") (d := "Z") (List.mem_of_getElem? (i := 1) rfl) (Or.inl W1847) (Or.inl rfl) (hd rfl),
  ⟨fun hd => mk6 fld_14_1 (Or.inr ⟨rfl, Or.inr rfl⟩) (Or.inl W4134) (Or.inl rfl) (hd rfl),
  ⟨fun hd => mk6 fld_14_1 (Or.inr ⟨rfl, Or.inr rfl⟩) (Or.inl W4134) (Or.inl rfl) (hd rfl),
  ⟨fun hd => mk6 fld_14_0 (Or.inl ⟨rfl, by decide⟩) (Or.inl W4133) (Or.inl rfl) (hd rfl),
  ⟨fun hd => mk6 fld_14_0 (Or.inl ⟨rfl, by decide⟩) (Or.inl W4133) (Or.inl rfl) (hd rfl),
  ⟨fun hd => mk18 mt_41 sf_41 (Or.inl W3054) rfl rfl (noH_nil rfl) (hd rfl),
  trivial⟩⟩⟩⟩⟩⟩⟩⟩
theorem fe_32 : eqEs ((flat code_32).filter (fun e => ndE e.2.2.1)) (fl_32_0) = true := by decide +kernel
theorem om_32 : OKm mi iT prg 32 := OKm_of (code := code_32) rfl mt_32 (Or.inl (by decide +kernel)) rfl wk_32 (by decide +kernel) (by decide +kernel) (FA_of fe_32 (fb_32_0))
def fl_33_0 : List Ent := [(3, 3, 13, .getstatic 1053, [4], 0), (6, 3, 18, .invokestatic 1062, [0, 4, 4, 44], 0)]
theorem fb_33_0 : FB mi iT mi_33 (bpc code_33) (fl_33_0) := ⟨fun hd => mk13s (by decide) rfl (Or.inl W1855) (Or.inl rfl) (hd rfl),
  ⟨fun hd => mk18 mt_44 sf_44 (Or.inl W4003) rfl rfl (noH_nil rfl) (hd rfl),
  trivial⟩⟩
theorem fe_33 : eqEs ((flat code_33).filter (fun e => ndE e.2.2.1)) (fl_33_0) = true := by decide +kernel
theorem om_33 : OKm mi iT prg 33 := OKm_of (code := code_33) rfl mt_33 (Or.inl (by decide +kernel)) rfl wk_33 (by decide +kernel) (by decide +kernel) (FA_of fe_33 (fb_33_0))
def fl_34_0 : List Ent := [(1, 3, 6, .getfield 9, [3, 14, 55], 0), (4, 1, 10, .arraylength, [102], 0), (6, 3, 19, .invokevirtual 335, [0, 1, 1, 14, 35], 0)]
theorem fb_34_0 : FB mi iT mi_34 (bpc code_34) (fl_34_0) := ⟨fun hd => mk6 fld_14_0 (Or.inl ⟨rfl, by decide⟩) (Or.inl W4133) (Or.inl rfl) (hd rfl),
  ⟨fun hd => mk10 (by decide) rfl (hd rfl),
  ⟨fun hd => mk19 mt_35 cf_35 (vf_35_14.rt (Or.inl W4013) (hd rfl)) rfl rfl (noH_nil rfl),
  trivial⟩⟩⟩
theorem fe_34 : eqEs ((flat code_34).filter (fun e => ndE e.2.2.1)) (fl_34_0) = true := by decide +kernel
theorem om_34 : OKm mi iT prg 34 := OKm_of (code := code_34) rfl mt_34 (Or.inl (by decide +kernel)) rfl wk_34 (by decide +kernel) (by decide +kernel) (FA_of fe_34 (fb_34_0))
def fl_35_0 : List Ent := [(0, 3, 14, .getstatic 38, [], 1), (7, 3, 6, .getfield 15, [0, 14, 56], 0)]
theorem fb_35_0 : FB mi iT mi_35 (bpc code_35) (fl_35_0) := ⟨fun hd => mk14s (C := "java/lang/String") (n := "COMPACT_STRINGS") (d := "Z") (List.mem_of_getElem? (i := 1) rfl) (Or.inl W1847) (Or.inl rfl) (hd rfl),
  ⟨fun hd => mk6 fld_14_1 (Or.inr ⟨rfl, Or.inr rfl⟩) (Or.inl W4134) (Or.inl rfl) (hd rfl),
  trivial⟩⟩
theorem fe_35 : eqEs ((flat code_35).filter (fun e => ndE e.2.2.1)) (fl_35_0) = true := by decide +kernel
theorem om_35 : OKm mi iT prg 35 := OKm_of (code := code_35) rfl mt_35 (Or.inl (by decide +kernel)) rfl wk_35 (by decide +kernel) (by decide +kernel) (FA_of fe_35 (fb_35_0))
def fl_36_0 : List Ent := [(3, 3, 13, .getstatic 1053, [4], 0), (6, 3, 18, .invokestatic 1065, [0, 4, 4, 45], 0)]
theorem fb_36_0 : FB mi iT mi_36 (bpc code_36) (fl_36_0) := ⟨fun hd => mk13s (by decide) rfl (Or.inl W1855) (Or.inl rfl) (hd rfl),
  ⟨fun hd => mk18 mt_45 sf_45 (Or.inl W4042) rfl rfl (noH_nil rfl) (hd rfl),
  trivial⟩⟩
theorem fe_36 : eqEs ((flat code_36).filter (fun e => ndE e.2.2.1)) (fl_36_0) = true := by decide +kernel
theorem om_36 : OKm mi iT prg 36 := OKm_of (code := code_36) rfl mt_36 (Or.inl (by decide +kernel)) rfl wk_36 (by decide +kernel) (by decide +kernel) (FA_of fe_36 (fb_36_0))
def fl_37_0 : List Ent := [(1, 3, 19, .invokevirtual 335, [0, 1, 1, 14, 35], 0), (9, 3, 6, .getfield 9, [3, 14, 55], 0), (18, 3, 6, .getfield 9, [3, 14, 55], 0), (21, 1, 10, .arraylength, [102], 0), (22, 3, 26, .invokestatic 212, [0, 102], 0), (29, 3, 6, .getfield 9, [3, 14, 55], 0), (36, 3, 6, .getfield 9, [3, 14, 55], 0), (39, 1, 10, .arraylength, [102], 0), (40, 3, 18, .invokestatic 106, [9, 5, 5, 42], 0)]
theorem fb_37_0 : FB mi iT mi_37 (bpc code_37) (fl_37_0) := ⟨fun hd => mk19 mt_35 cf_35 (vf_35_14.rt (Or.inl W4013) (hd rfl)) rfl rfl (noH_nil rfl),
  ⟨fun hd => mk6 fld_14_0 (Or.inl ⟨rfl, by decide⟩) (Or.inl W4133) (Or.inl rfl) (hd rfl),
  ⟨fun hd => mk6 fld_14_0 (Or.inl ⟨rfl, by decide⟩) (Or.inl W4133) (Or.inl rfl) (hd rfl),
  ⟨fun hd => mk10 (by decide) rfl (hd rfl),
  ⟨fun hd => ⟨_, _, _, rfl, rfl, by decide, W4049, ac_w, hd rfl, Or.inl ⟨rfl, Or.inr (Or.inr rfl)⟩⟩,
  ⟨fun hd => mk6 fld_14_0 (Or.inl ⟨rfl, by decide⟩) (Or.inl W4133) (Or.inl rfl) (hd rfl),
  ⟨fun hd => mk6 fld_14_0 (Or.inl ⟨rfl, by decide⟩) (Or.inl W4133) (Or.inl rfl) (hd rfl),
  ⟨fun hd => mk10 (by decide) rfl (hd rfl),
  ⟨fun hd => mk18 mt_42 sf_42 (Or.inl W4050) rfl rfl (noH_nil rfl) (hd rfl),
  trivial⟩⟩⟩⟩⟩⟩⟩⟩⟩
theorem fe_37 : eqEs ((flat code_37).filter (fun e => ndE e.2.2.1)) (fl_37_0) = true := by decide +kernel
theorem om_37 : OKm mi iT prg 37 := OKm_of (code := code_37) rfl mt_37 (Or.inl (by decide +kernel)) rfl wk_37 (by decide +kernel) (by decide +kernel) (FA_of fe_37 (fb_37_0))
def fl_38_0 : List Ent := [(3, 3, 36, .invokespecial 489, [9, 3, 3, 14, 39], 0)]
theorem fb_38_0 : FB mi iT mi_38 (bpc code_38) (fl_38_0) := ⟨fun hd => mk36 mt_39 cf_39 (ic_39.rt (Or.inl W4085) (hd rfl)) rfl rfl,
  trivial⟩
theorem fe_38 : eqEs ((flat code_38).filter (fun e => ndE e.2.2.1)) (fl_38_0) = true := by decide +kernel
theorem om_38 : OKm mi iT prg 38 := OKm_of (code := code_38) rfl mt_38 (Or.inl (by decide +kernel)) rfl wk_38 (by decide +kernel) (by decide +kernel) (FA_of fe_38 (fb_38_0))
def fl_39_0 : List Ent := [(1, 3, 22, .invokespecial 1, [], 0), (5, 3, 19, .invokevirtual 552, [3, 1, 1, 36, 107], 0), (10, 3, 19, .invokevirtual 549, [0, 1, 1, 36, 113], 0), (16, 3, 19, .invokevirtual 1047, [0, 1, 1, 36, 102], 0), (24, 3, 7, .putfield 15, [5, 14, 56], 0), (32, 3, 18, .invokestatic 54, [3, 3, 3, 78], 0), (35, 3, 7, .putfield 9, [3, 14, 55], 0), (41, 3, 14, .getstatic 38, [], 1), (48, 3, 6, .getfield 1048, [0, 36, 192], 0), (59, 3, 18, .invokestatic 1051, [3, 3, 3, 59], 0), (62, 3, 7, .putfield 9, [3, 14, 55], 0), (67, 3, 6, .getfield 9, [3, 14, 55], 0), (72, 3, 18, .invokestatic 47, [0, 2, 2, 61], 0), (75, 3, 7, .putfield 15, [5, 14, 56], 0), (81, 3, 7, .putfield 15, [5, 14, 56], 0), (91, 3, 18, .invokestatic 54, [3, 3, 3, 78], 0), (94, 3, 7, .putfield 9, [3, 14, 55], 0)]
theorem fb_39_0 : FB mi iT mi_39 (bpc code_39) (fl_39_0) := ⟨fun hd => mk22 (by decide) W4088 oi_w (hd rfl),
  ⟨fun hd => mk19 mt_107 cf_107 (vf_107_36.rt (Or.inl W4089) (hd rfl)) rfl rfl (noH_nil rfl),
  ⟨fun hd => mk19 mt_113 cf_113 (if_113_36_java_lang_AbstractStringBuilderlength__I.rt W4094 (hd rfl)) rfl rfl (noH_nil rfl),
  ⟨fun hd => mk19 mt_102 cf_102 (vf_102_36.rt (Or.inl W4102) (hd rfl)) rfl rfl (noH_nil rfl),
  ⟨fun hd => mk7 fld_14_1 (Or.inl W4134) (Or.inl rfl) (Or.inr ⟨rfl, rfl, rfl, W4134⟩) (hd rfl),
  ⟨fun hd => mk18 mt_78 sf_78 (Or.inl W4103) rfl rfl (noH_nil rfl) (hd rfl),
  ⟨fun hd => mk7 fld_14_0 (Or.inl W4133) (Or.inl rfl) (Or.inr ⟨rfl, rfl, rfl, W4133⟩) (hd rfl),
  ⟨fun hd => mk14s (C := "java/lang/String") (n := "COMPACT_STRINGS") (d := "Z") (List.mem_of_getElem? (i := 1) rfl) (Or.inl W1847) (Or.inl rfl) (hd rfl),
  ⟨fun hd => mk6 fld_36_2 (Or.inr ⟨rfl, Or.inl rfl⟩) (Or.inl W3946) (Or.inl rfl) (hd rfl),
  ⟨fun hd => mk18 mt_59 sf_59 (Or.inl W4123) rfl rfl (noH_nil rfl) (hd rfl),
  ⟨fun hd => mk7 fld_14_0 (Or.inl W4133) (Or.inl rfl) (Or.inr ⟨rfl, rfl, rfl, W4133⟩) (hd rfl),
  ⟨fun hd => mk6 fld_14_0 (Or.inl ⟨rfl, by decide⟩) (Or.inl W4133) (Or.inl rfl) (hd rfl),
  ⟨fun hd => mk18 mt_61 sf_61 (Or.inl W4130) rfl rfl (noH_nil rfl) (hd rfl),
  ⟨fun hd => mk7 fld_14_1 (Or.inl W4134) (Or.inl rfl) (Or.inr ⟨rfl, rfl, rfl, W4134⟩) (hd rfl),
  ⟨fun hd => mk7 fld_14_1 (Or.inl W4134) (Or.inl rfl) (Or.inr ⟨rfl, rfl, rfl, W4134⟩) (hd rfl),
  ⟨fun hd => mk18 mt_78 sf_78 (Or.inl W4103) rfl rfl (noH_nil rfl) (hd rfl),
  ⟨fun hd => mk7 fld_14_0 (Or.inl W4133) (Or.inl rfl) (Or.inr ⟨rfl, rfl, rfl, W4133⟩) (hd rfl),
  trivial⟩⟩⟩⟩⟩⟩⟩⟩⟩⟩⟩⟩⟩⟩⟩⟩⟩
theorem fe_39 : eqEs ((flat code_39).filter (fun e => ndE e.2.2.1)) (fl_39_0) = true := by decide +kernel
theorem om_39 : OKm mi iT prg 39 := OKm_of (code := code_39) rfl mt_39 (Or.inl (by decide +kernel)) rfl wk_39 (by decide +kernel) (by decide +kernel) (FA_of fe_39 (fb_39_0))
def fl_40_0 : List Ent := [(2, 1, 10, .arraylength, [102], 0), (3, 3, 18, .invokestatic 9, [9, 2, 2, 31], 0)]
theorem fb_40_0 : FB mi iT mi_40 (bpc code_40) (fl_40_0) := ⟨fun hd => mk10 (by decide) rfl (hd rfl),
  ⟨fun hd => mk18 mt_31 sf_31 (Or.inl W1852) rfl rfl (noH_nil rfl) (hd rfl),
  trivial⟩⟩
theorem fe_40 : eqEs ((flat code_40).filter (fun e => ndE e.2.2.1)) (fl_40_0) = true := by decide +kernel
theorem om_40 : OKm mi iT prg 40 := OKm_of (code := code_40) rfl mt_40 (Or.inl (by decide +kernel)) rfl wk_40 (by decide +kernel) (by decide +kernel) (FA_of fe_40 (fb_40_0))
def fl_41_0 : List Ent := [(1, 1, 10, .arraylength, [102], 0), (3, 1, 10, .arraylength, [102], 0), (11, 1, 10, .arraylength, [102], 0)]
theorem fb_41_0 : FB mi iT mi_41 (bpc code_41) (fl_41_0) := ⟨fun hd => mk10 (by decide) rfl (hd rfl),
  ⟨fun hd => mk10 (by decide) rfl (hd rfl),
  ⟨fun hd => mk10 (by decide) rfl (hd rfl),
  trivial⟩⟩⟩
theorem fe_41 : eqEs ((flat code_41).filter (fun e => ndE e.2.2.1)) (fl_41_0) = true := by decide +kernel
theorem om_41 : OKm mi iT prg 41 := OKm_of (code := code_41) rfl mt_41 (Or.inl (by decide +kernel)) rfl wk_41 (by decide +kernel) (by decide +kernel) (FA_of fe_41 (fb_41_0))
def fl_42_0 : List Ent := [(6, 3, 18, .invokestatic 240, [9, 5, 5, 55], 0)]
theorem fb_42_0 : FB mi iT mi_42 (bpc code_42) (fl_42_0) := ⟨fun hd => mk18 mt_55 sf_55 (Or.inl W4033) rfl rfl (noH_nil rfl) (hd rfl),
  trivial⟩
theorem fe_42 : eqEs ((flat code_42).filter (fun e => ndE e.2.2.1)) (fl_42_0) = true := by decide +kernel
theorem om_42 : OKm mi iT prg 42 := OKm_of (code := code_42) rfl mt_42 (Or.inl (by decide +kernel)) rfl wk_42 (by decide +kernel) (by decide +kernel) (FA_of fe_42 (fb_42_0))
theorem fe_43 : eqEs ((flat code_43).filter (fun e => ndE e.2.2.1)) ([]) = true := by decide +kernel
theorem om_43 : OKm mi iT prg 43 := OKm_of (code := code_43) rfl mt_43 (Or.inl (by decide +kernel)) rfl wk_43 (by decide +kernel) (by decide +kernel) (FA_of fe_43 (trivial))
theorem fe_44 : eqEs ((flat code_44).filter (fun e => ndE e.2.2.1)) ([]) = true := by decide +kernel
theorem om_44 : OKm mi iT prg 44 := OKm_of (code := code_44) rfl mt_44 (Or.inl (by decide +kernel)) rfl wk_44 (by decide +kernel) (by decide +kernel) (FA_of fe_44 (trivial))
theorem fe_45 : eqEs ((flat code_45).filter (fun e => ndE e.2.2.1)) ([]) = true := by decide +kernel
theorem om_45 : OKm mi iT prg 45 := OKm_of (code := code_45) rfl mt_45 (Or.inl (by decide +kernel)) rfl wk_45 (by decide +kernel) (by decide +kernel) (FA_of fe_45 (trivial))
def fl_46_0 : List Ent := [(2, 3, 18, .invokestatic 67, [9, 2, 2, 47], 0), (7, 3, 18, .invokestatic 71, [0, 2, 2, 49], 0)]
theorem fb_46_0 : FB mi iT mi_46 (bpc code_46) (fl_46_0) := ⟨fun hd => mk18 mt_47 sf_47 (Or.inl W1861) rfl rfl (noH_nil rfl) (hd rfl),
  ⟨fun hd => mk18 mt_49 sf_49 (Or.inl W1868) rfl rfl (noH_nil rfl) (hd rfl),
  trivial⟩⟩
theorem fe_46 : eqEs ((flat code_46).filter (fun e => ndE e.2.2.1)) (fl_46_0) = true := by decide +kernel
theorem om_46 : OKm mi iT prg 46 := OKm_of (code := code_46) rfl mt_46 (Or.inl (by decide +kernel)) rfl wk_46 (by decide +kernel) (by decide +kernel) (FA_of fe_46 (fb_46_0))
def fl_47_0 : List Ent := [(2, 3, 18, .invokestatic 48, [0, 1, 1, 48], 0), (5, 3, 18, .invokestatic 414, [9, 2, 2, 31], 0)]
theorem fb_47_0 : FB mi iT mi_47 (bpc code_47) (fl_47_0) := ⟨fun hd => mk18 mt_48 sf_48 (Or.inl W1864) rfl rfl (noH_nil rfl) (hd rfl),
  ⟨fun hd => mk18 mt_31 sf_31 (Or.inl W1867) rfl rfl (noH_nil rfl) (hd rfl),
  trivial⟩⟩
theorem fe_47 : eqEs ((flat code_47).filter (fun e => ndE e.2.2.1)) (fl_47_0) = true := by decide +kernel
theorem om_47 : OKm mi iT prg 47 := OKm_of (code := code_47) rfl mt_47 (Or.inl (by decide +kernel)) rfl wk_47 (by decide +kernel) (by decide +kernel) (FA_of fe_47 (fb_47_0))
def fl_48_0 : List Ent := [(1, 1, 10, .arraylength, [102], 0)]
theorem fb_48_0 : FB mi iT mi_48 (bpc code_48) (fl_48_0) := ⟨fun hd => mk10 (by decide) rfl (hd rfl),
  trivial⟩
theorem fe_48 : eqEs ((flat code_48).filter (fun e => ndE e.2.2.1)) (fl_48_0) = true := by decide +kernel
theorem om_48 : OKm mi iT prg 48 := OKm_of (code := code_48) rfl mt_48 (Or.inl (by decide +kernel)) rfl wk_48 (by decide +kernel) (by decide +kernel) (FA_of fe_48 (fb_48_0))
def fl_49_0 : List Ent := [(0, 3, 14, .getstatic 44, [], 1), (12, 3, 18, .invokestatic 48, [0, 1, 1, 48], 0), (42, 3, 14, .getstatic 59, [], 0), (53, 3, 14, .getstatic 63, [], 8)]
theorem fb_49_0 : FB mi iT mi_49 (bpc code_49) (fl_49_0) := ⟨fun hd => mk14s (C := "java/lang/StringUTF16") (n := "$assertionsDisabled") (d := "Z") (List.mem_of_getElem? (i := 2) rfl) (Or.inl W1871) (Or.inl rfl) (hd rfl),
  ⟨fun hd => mk18 mt_48 sf_48 (Or.inl W1864) rfl rfl (noH_nil rfl) (hd rfl),
  ⟨fun hd => mk14s (C := "java/lang/StringUTF16") (n := "HI_BYTE_SHIFT") (d := "I") (List.mem_of_getElem? (i := 3) rfl) (Or.inl W1873) (Or.inl rfl) (hd rfl),
  ⟨fun hd => mk14s (C := "java/lang/StringUTF16") (n := "LO_BYTE_SHIFT") (d := "I") (List.mem_of_getElem? (i := 4) rfl) (Or.inl W1875) (Or.inl rfl) (hd rfl),
  trivial⟩⟩⟩⟩
theorem fe_49 : eqEs ((flat code_49).filter (fun e => ndE e.2.2.1)) (fl_49_0) = true := by decide +kernel
theorem om_49 : OKm mi iT prg 49 := OKm_of (code := code_49) rfl mt_49 (Or.inl (by decide +kernel)) rfl wk_49 (by decide +kernel) (by decide +kernel) (FA_of fe_49 (fb_49_0))
def fl_50_0 : List Ent := [(1, 3, 18, .invokestatic 11, [0, 1, 1, 51], 0), (4, 2, 12, .newarray .byte, [102], 0)]
theorem fb_50_0 : FB mi iT mi_50 (bpc code_50) (fl_50_0) := ⟨fun hd => mk18 mt_51 sf_51 (Or.inl W3940) rfl rfl (noH_nil rfl) (hd rfl),
  ⟨fun hd => mk12a (at_ := .byte) (by decide) rfl W736 (hd rfl),
  trivial⟩⟩
theorem fe_50 : eqEs ((flat code_50).filter (fun e => ndE e.2.2.1)) (fl_50_0) = true := by decide +kernel
theorem om_50 : OKm mi iT prg 50 := OKm_of (code := code_50) rfl mt_50 (Or.inl (by decide +kernel)) rfl wk_50 (by decide +kernel) (by decide +kernel) (FA_of fe_50 (fb_50_0))
def fl_51_0 : List Ent := [(13, 2, 14, .ldc 20, [], 1073741823)]
theorem fb_51_0 : FB mi iT mi_51 (bpc code_51) (fl_51_0) := ⟨fun hd => mk14c W3943 (Or.inl ⟨hd rfl, rfl⟩),
  trivial⟩
theorem fe_51 : eqEs ((flat code_51).filter (fun e => ndE e.2.2.1)) (fl_51_0) = true := by decide +kernel
theorem om_51 : OKm mi iT prg 51 := OKm_of (code := code_51) rfl mt_51 (Or.inl (by decide +kernel)) rfl wk_51 (by decide +kernel) (by decide +kernel) (FA_of fe_51 (fb_51_0))
def fl_52_0 : List Ent := [(9, 3, 18, .invokestatic 96, [9, 3, 3, 53], 0), (18, 3, 18, .invokestatic 111, [9, 3, 3, 54], 0), (27, 3, 18, .invokestatic 111, [9, 3, 3, 54], 0), (37, 3, 18, .invokestatic 111, [9, 3, 3, 54], 0), (47, 3, 18, .invokestatic 111, [9, 3, 3, 54], 0), (50, 3, 14, .getstatic 44, [], 1)]
theorem fb_52_0 : FB mi iT mi_52 (bpc code_52) (fl_52_0) := ⟨fun hd => mk18 mt_53 sf_53 (Or.inl W3997) rfl rfl (noH_nil rfl) (hd rfl),
  ⟨fun hd => mk18 mt_54 sf_54 (Or.inl W4006) rfl rfl (noH_nil rfl) (hd rfl),
  ⟨fun hd => mk18 mt_54 sf_54 (Or.inl W4006) rfl rfl (noH_nil rfl) (hd rfl),
  ⟨fun hd => mk18 mt_54 sf_54 (Or.inl W4006) rfl rfl (noH_nil rfl) (hd rfl),
  ⟨fun hd => mk18 mt_54 sf_54 (Or.inl W4006) rfl rfl (noH_nil rfl) (hd rfl),
  ⟨fun hd => mk14s (C := "java/lang/StringUTF16") (n := "$assertionsDisabled") (d := "Z") (List.mem_of_getElem? (i := 2) rfl) (Or.inl W1871) (Or.inl rfl) (hd rfl),
  trivial⟩⟩⟩⟩⟩⟩
theorem fe_52 : eqEs ((flat code_52).filter (fun e => ndE e.2.2.1)) (fl_52_0) = true := by decide +kernel
theorem om_52 : OKm mi iT prg 52 := OKm_of (code := code_52) rfl mt_52 (Or.inl (by decide +kernel)) rfl wk_52 (by decide +kernel) (by decide +kernel) (FA_of fe_52 (fb_52_0))
def fl_53_0 : List Ent := [(3, 3, 18, .invokestatic 48, [0, 1, 1, 48], 0), (6, 3, 18, .invokestatic 241, [9, 3, 3, 33], 0)]
theorem fb_53_0 : FB mi iT mi_53 (bpc code_53) (fl_53_0) := ⟨fun hd => mk18 mt_48 sf_48 (Or.inl W1864) rfl rfl (noH_nil rfl) (hd rfl),
  ⟨fun hd => mk18 mt_33 sf_33 (Or.inl W4000) rfl rfl (noH_nil rfl) (hd rfl),
  trivial⟩⟩
theorem fe_53 : eqEs ((flat code_53).filter (fun e => ndE e.2.2.1)) (fl_53_0) = true := by decide +kernel
theorem om_53 : OKm mi iT prg 53 := OKm_of (code := code_53) rfl mt_53 (Or.inl (by decide +kernel)) rfl wk_53 (by decide +kernel) (by decide +kernel) (FA_of fe_53 (fb_53_0))
def fl_54_0 : List Ent := [(0, 3, 14, .getstatic 44, [], 1), (12, 3, 18, .invokestatic 48, [0, 1, 1, 48], 0), (38, 3, 14, .getstatic 59, [], 0), (43, 1, 9, .bastore, [5, 102], 0), (47, 3, 14, .getstatic 63, [], 8), (52, 1, 9, .bastore, [5, 102], 0)]
theorem fb_54_0 : FB mi iT mi_54 (bpc code_54) (fl_54_0) := ⟨fun hd => mk14s (C := "java/lang/StringUTF16") (n := "$assertionsDisabled") (d := "Z") (List.mem_of_getElem? (i := 2) rfl) (Or.inl W1871) (Or.inl rfl) (hd rfl),
  ⟨fun hd => mk18 mt_48 sf_48 (Or.inl W1864) rfl rfl (noH_nil rfl) (hd rfl),
  ⟨fun hd => mk14s (C := "java/lang/StringUTF16") (n := "HI_BYTE_SHIFT") (d := "I") (List.mem_of_getElem? (i := 3) rfl) (Or.inl W1873) (Or.inl rfl) (hd rfl),
  ⟨fun hd => ⟨_, _, _, rfl, rfl, hd rfl, Or.inr (Or.inr (Or.inr (Or.inl ⟨rfl, rfl, rfl⟩)))⟩,
  ⟨fun hd => mk14s (C := "java/lang/StringUTF16") (n := "LO_BYTE_SHIFT") (d := "I") (List.mem_of_getElem? (i := 4) rfl) (Or.inl W1875) (Or.inl rfl) (hd rfl),
  ⟨fun hd => ⟨_, _, _, rfl, rfl, hd rfl, Or.inr (Or.inr (Or.inr (Or.inl ⟨rfl, rfl, rfl⟩)))⟩,
  trivial⟩⟩⟩⟩⟩⟩
theorem fe_54 : eqEs ((flat code_54).filter (fun e => ndE e.2.2.1)) (fl_54_0) = true := by decide +kernel
theorem om_54 : OKm mi iT prg 54 := OKm_of (code := code_54) rfl mt_54 (Or.inl (by decide +kernel)) rfl wk_54 (by decide +kernel) (by decide +kernel) (FA_of fe_54 (fb_54_0))
def fl_55_0 : List Ent := [(4, 3, 18, .invokestatic 173, [9, 3, 3, 56], 0), (32, 3, 18, .invokestatic 111, [9, 3, 3, 54], 0)]
theorem fb_55_0 : FB mi iT mi_55 (bpc code_55) (fl_55_0) := ⟨fun hd => mk18 mt_56 sf_56 (Or.inl W4036) rfl rfl (noH_nil rfl) (hd rfl),
  ⟨fun hd => mk18 mt_54 sf_54 (Or.inl W4006) rfl rfl (noH_nil rfl) (hd rfl),
  trivial⟩⟩
theorem fe_55 : eqEs ((flat code_55).filter (fun e => ndE e.2.2.1)) (fl_55_0) = true := by decide +kernel
theorem om_55 : OKm mi iT prg 55 := OKm_of (code := code_55) rfl mt_55 (Or.inl (by decide +kernel)) rfl wk_55 (by decide +kernel) (by decide +kernel) (FA_of fe_55 (fb_55_0))
def fl_56_0 : List Ent := [(3, 3, 18, .invokestatic 48, [0, 1, 1, 48], 0), (6, 3, 18, .invokestatic 419, [0, 3, 3, 36], 0)]
theorem fb_56_0 : FB mi iT mi_56 (bpc code_56) (fl_56_0) := ⟨fun hd => mk18 mt_48 sf_48 (Or.inl W1864) rfl rfl (noH_nil rfl) (hd rfl),
  ⟨fun hd => mk18 mt_36 sf_36 (Or.inl W4039) rfl rfl (noH_nil rfl) (hd rfl),
  trivial⟩⟩
theorem fe_56 : eqEs ((flat code_56).filter (fun e => ndE e.2.2.1)) (fl_56_0) = true := by decide +kernel
theorem om_56 : OKm mi iT prg 56 := OKm_of (code := code_56) rfl mt_56 (Or.inl (by decide +kernel)) rfl wk_56 (by decide +kernel) (by decide +kernel) (FA_of fe_56 (fb_56_0))
def fl_57_0 : List Ent := [(3, 3, 18, .invokestatic 96, [9, 3, 3, 53], 0), (9, 3, 18, .invokestatic 393, [0, 3, 3, 58], 0), (14, 3, 14, .getstatic 44, [], 1)]
theorem fb_57_0 : FB mi iT mi_57 (bpc code_57) (fl_57_0) := ⟨fun hd => mk18 mt_53 sf_53 (Or.inl W3997) rfl rfl (noH_nil rfl) (hd rfl),
  ⟨fun hd => mk18 mt_58 sf_58 (Or.inl W4071) rfl rfl (noH_nil rfl) (hd rfl),
  ⟨fun hd => mk14s (C := "java/lang/StringUTF16") (n := "$assertionsDisabled") (d := "Z") (List.mem_of_getElem? (i := 2) rfl) (Or.inl W1871) (Or.inl rfl) (hd rfl),
  trivial⟩⟩⟩
theorem fe_57 : eqEs ((flat code_57).filter (fun e => ndE e.2.2.1)) (fl_57_0) = true := by decide +kernel
theorem om_57 : OKm mi iT prg 57 := OKm_of (code := code_57) rfl mt_57 (Or.inl (by decide +kernel)) rfl wk_57 (by decide +kernel) (by decide +kernel) (FA_of fe_57 (fb_57_0))
def fl_58_0 : List Ent := [(49, 3, 13, .getstatic 403, [5], 0), (55, 3, 18, .invokestatic 111, [9, 3, 3, 54], 0), (64, 3, 13, .getstatic 407, [6], 0), (70, 3, 18, .invokestatic 111, [9, 3, 3, 54], 0), (82, 3, 13, .getstatic 403, [5], 0), (88, 3, 18, .invokestatic 111, [9, 3, 3, 54], 0), (103, 3, 13, .getstatic 407, [6], 0), (109, 3, 18, .invokestatic 111, [9, 3, 3, 54], 0), (125, 3, 18, .invokestatic 111, [9, 3, 3, 54], 0)]
theorem fb_58_0 : FB mi iT mi_58 (bpc code_58) (fl_58_0) := ⟨fun hd => mk13s (by decide) rfl (Or.inl W4074) (Or.inl rfl) (hd rfl),
  ⟨fun hd => mk18 mt_54 sf_54 (Or.inl W4006) rfl rfl (noH_nil rfl) (hd rfl),
  ⟨fun hd => mk13s (by decide) rfl (Or.inl W4075) (Or.inl rfl) (hd rfl),
  ⟨fun hd => mk18 mt_54 sf_54 (Or.inl W4006) rfl rfl (noH_nil rfl) (hd rfl),
  ⟨fun hd => mk13s (by decide) rfl (Or.inl W4074) (Or.inl rfl) (hd rfl),
  ⟨fun hd => mk18 mt_54 sf_54 (Or.inl W4006) rfl rfl (noH_nil rfl) (hd rfl),
  ⟨fun hd => mk13s (by decide) rfl (Or.inl W4075) (Or.inl rfl) (hd rfl),
  ⟨fun hd => mk18 mt_54 sf_54 (Or.inl W4006) rfl rfl (noH_nil rfl) (hd rfl),
  ⟨fun hd => mk18 mt_54 sf_54 (Or.inl W4006) rfl rfl (noH_nil rfl) (hd rfl),
  trivial⟩⟩⟩⟩⟩⟩⟩⟩⟩
theorem fe_58 : eqEs ((flat code_58).filter (fun e => ndE e.2.2.1)) (fl_58_0) = true := by decide +kernel
theorem om_58 : OKm mi iT prg 58 := OKm_of (code := code_58) rfl mt_58 (Or.inl (by decide +kernel)) rfl wk_58 (by decide +kernel) (by decide +kernel) (FA_of fe_58 (fb_58_0))
def fl_59_0 : List Ent := [(1, 2, 12, .newarray .byte, [102], 0), (9, 3, 18, .invokestatic 123, [0, 5, 5, 60], 0), (27, 3, 18, .invokestatic 11, [0, 1, 1, 51], 0), (30, 3, 18, .invokestatic 126, [3, 3, 3, 78], 0), (39, 3, 18, .invokestatic 71, [0, 2, 2, 49], 0), (54, 3, 18, .invokestatic 123, [0, 5, 5, 60], 0)]
theorem fb_59_0 : FB mi iT mi_59 (bpc code_59) (fl_59_0) := ⟨fun hd => mk12a (at_ := .byte) (by decide) rfl W736 (hd rfl),
  ⟨fun hd => mk18 mt_60 sf_60 (Or.inl W4126) rfl rfl (noH_nil rfl) (hd rfl),
  ⟨fun hd => mk18 mt_51 sf_51 (Or.inl W3940) rfl rfl (noH_nil rfl) (hd rfl),
  ⟨fun hd => mk18 mt_78 sf_78 (Or.inl W4129) rfl rfl (noH_nil rfl) (hd rfl),
  ⟨fun hd => mk18 mt_49 sf_49 (Or.inl W1868) rfl rfl (noH_nil rfl) (hd rfl),
  ⟨fun hd => mk18 mt_60 sf_60 (Or.inl W4126) rfl rfl (noH_nil rfl) (hd rfl),
  trivial⟩⟩⟩⟩⟩⟩
theorem fe_59 : eqEs ((flat code_59).filter (fun e => ndE e.2.2.1)) (fl_59_0) = true := by decide +kernel
theorem om_59 : OKm mi iT prg 59 := OKm_of (code := code_59) rfl mt_59 (Or.inl (by decide +kernel)) rfl wk_59 (by decide +kernel) (by decide +kernel) (FA_of fe_59 (fb_59_0))
def fl_60_0 : List Ent := [(4, 3, 18, .invokestatic 173, [9, 3, 3, 56], 0), (19, 3, 18, .invokestatic 71, [0, 2, 2, 49], 0), (40, 1, 9, .bastore, [5, 102], 0)]
theorem fb_60_0 : FB mi iT mi_60 (bpc code_60) (fl_60_0) := ⟨fun hd => mk18 mt_56 sf_56 (Or.inl W4036) rfl rfl (noH_nil rfl) (hd rfl),
  ⟨fun hd => mk18 mt_49 sf_49 (Or.inl W1868) rfl rfl (noH_nil rfl) (hd rfl),
  ⟨fun hd => ⟨_, _, _, rfl, rfl, hd rfl, Or.inr (Or.inr (Or.inr (Or.inl ⟨rfl, rfl, rfl⟩)))⟩,
  trivial⟩⟩⟩
theorem fe_60 : eqEs ((flat code_60).filter (fun e => ndE e.2.2.1)) (fl_60_0) = true := by decide +kernel
theorem om_60 : OKm mi iT prg 60 := OKm_of (code := code_60) rfl mt_60 (Or.inl (by decide +kernel)) rfl wk_60 (by decide +kernel) (by decide +kernel) (FA_of fe_60 (fb_60_0))
def fl_61_0 : List Ent := [(2, 1, 10, .arraylength, [102], 0)]
theorem fb_61_0 : FB mi iT mi_61 (bpc code_61) (fl_61_0) := ⟨fun hd => mk10 (by decide) rfl (hd rfl),
  trivial⟩
theorem fe_61 : eqEs ((flat code_61).filter (fun e => ndE e.2.2.1)) (fl_61_0) = true := by decide +kernel
theorem om_61 : OKm mi iT prg 61 := OKm_of (code := code_61) rfl mt_61 (Or.inl (by decide +kernel)) rfl wk_61 (by decide +kernel) (by decide +kernel) (FA_of fe_61 (fb_61_0))
def fl_62_0 : List Ent := [(4, 3, 14, .ldc_w 265, [], 1431655765), (11, 3, 14, .ldc_w 266, [], 858993459), (18, 3, 14, .ldc_w 266, [], 858993459), (29, 3, 14, .ldc_w 267, [], 252645135)]
theorem fb_62_0 : FB mi iT mi_62 (bpc code_62) (fl_62_0) := ⟨fun hd => mk14c W1034 (Or.inr ⟨hd rfl, rfl⟩),
  ⟨fun hd => mk14c W1035 (Or.inr ⟨hd rfl, rfl⟩),
  ⟨fun hd => mk14c W1035 (Or.inr ⟨hd rfl, rfl⟩),
  ⟨fun hd => mk14c W1036 (Or.inr ⟨hd rfl, rfl⟩),
  trivial⟩⟩⟩⟩
theorem fe_62 : eqEs ((flat code_62).filter (fun e => ndE e.2.2.1)) (fl_62_0) = true := by decide +kernel
theorem om_62 : OKm mi iT prg 62 := OKm_of (code := code_62) rfl mt_62 (Or.inl (by decide +kernel)) rfl wk_62 (by decide +kernel) (by decide +kernel) (FA_of fe_62 (fb_62_0))
theorem fe_63 : eqEs ((flat code_63).filter (fun e => ndE e.2.2.1)) ([]) = true := by decide +kernel
theorem om_63 : OKm mi iT prg 63 := OKm_of (code := code_63) rfl mt_63 (Or.inl (by decide +kernel)) rfl wk_63 (by decide +kernel) (by decide +kernel) (FA_of fe_63 (trivial))
def fl_64_0 : List Ent := [(49, 3, 13, .getstatic 83, [5], 0), (55, 1, 9, .bastore, [5, 102], 0), (62, 3, 13, .getstatic 87, [6], 0), (68, 1, 9, .bastore, [5, 102], 0), (78, 3, 13, .getstatic 83, [5], 0), (84, 1, 9, .bastore, [5, 102], 0), (97, 3, 13, .getstatic 87, [6], 0), (103, 1, 9, .bastore, [5, 102], 0), (117, 1, 9, .bastore, [5, 102], 0)]
theorem fb_64_0 : FB mi iT mi_64 (bpc code_64) (fl_64_0) := ⟨fun hd => mk13s (by decide) rfl (Or.inl W4064) (Or.inl rfl) (hd rfl),
  ⟨fun hd => ⟨_, _, _, rfl, rfl, hd rfl, Or.inr (Or.inr (Or.inr (Or.inl ⟨rfl, rfl, rfl⟩)))⟩,
  ⟨fun hd => mk13s (by decide) rfl (Or.inl W4066) (Or.inl rfl) (hd rfl),
  ⟨fun hd => ⟨_, _, _, rfl, rfl, hd rfl, Or.inr (Or.inr (Or.inr (Or.inl ⟨rfl, rfl, rfl⟩)))⟩,
  ⟨fun hd => mk13s (by decide) rfl (Or.inl W4064) (Or.inl rfl) (hd rfl),
  ⟨fun hd => ⟨_, _, _, rfl, rfl, hd rfl, Or.inr (Or.inr (Or.inr (Or.inl ⟨rfl, rfl, rfl⟩)))⟩,
  ⟨fun hd => mk13s (by decide) rfl (Or.inl W4066) (Or.inl rfl) (hd rfl),
  ⟨fun hd => ⟨_, _, _, rfl, rfl, hd rfl, Or.inr (Or.inr (Or.inr (Or.inl ⟨rfl, rfl, rfl⟩)))⟩,
  ⟨fun hd => ⟨_, _, _, rfl, rfl, hd rfl, Or.inr (Or.inr (Or.inr (Or.inl ⟨rfl, rfl, rfl⟩)))⟩,
  trivial⟩⟩⟩⟩⟩⟩⟩⟩⟩
theorem fe_64 : eqEs ((flat code_64).filter (fun e => ndE e.2.2.1)) (fl_64_0) = true := by decide +kernel
theorem om_64 : OKm mi iT prg 64 := OKm_of (code := code_64) rfl mt_64 (Or.inl (by decide +kernel)) rfl wk_64 (by decide +kernel) (by decide +kernel) (FA_of fe_64 (fb_64_0))
def fl_65_0 : List Ent := [(3, 3, 18, .invokestatic 194, [0, 2, 2, 74], 0), (14, 2, 14, .ldc 200, [], 2147483639), (23, 3, 18, .invokestatic 201, [0, 2, 2, 66], 0)]
theorem fb_65_0 : FB mi iT mi_65 (bpc code_65) (fl_65_0) := ⟨fun hd => mk18 mt_74 sf_74 (Or.inl W2405) rfl rfl (noH_nil rfl) (hd rfl),
  ⟨fun hd => mk14c W2406 (Or.inl ⟨hd rfl, rfl⟩),
  ⟨fun hd => mk18 mt_66 sf_66 (Or.inl W2407) rfl rfl (noH_nil rfl) (hd rfl),
  trivial⟩⟩⟩
theorem fe_65 : eqEs ((flat code_65).filter (fun e => ndE e.2.2.1)) (fl_65_0) = true := by decide +kernel
theorem om_65 : OKm mi iT prg 65 := OKm_of (code := code_65) rfl mt_65 (Or.inl (by decide +kernel)) rfl wk_65 (by decide +kernel) (by decide +kernel) (FA_of fe_65 (fb_65_0))
def fl_66_0 : List Ent := [(50, 2, 14, .ldc 200, [], 2147483639), (55, 2, 14, .ldc 200, [], 2147483639)]
theorem fb_66_0 : FB mi iT mi_66 (bpc code_66) (fl_66_0) := ⟨fun hd => mk14c W2406 (Or.inl ⟨hd rfl, rfl⟩),
  ⟨fun hd => mk14c W2406 (Or.inl ⟨hd rfl, rfl⟩),
  trivial⟩⟩
theorem fe_66 : eqEs ((flat code_66).filter (fun e => ndE e.2.2.1)) (fl_66_0) = true := by decide +kernel
theorem om_66 : OKm mi iT prg 66 := OKm_of (code := code_66) rfl mt_66 (Or.inl (by decide +kernel)) rfl wk_66 (by decide +kernel) (by decide +kernel) (FA_of fe_66 (fb_66_0))
theorem fe_67 : eqEs ((flat code_67).filter (fun e => ndE e.2.2.1)) ([]) = true := by decide +kernel
theorem om_67 : OKm mi iT prg 67 := OKm_of (code := code_67) rfl mt_67 (Or.inl (by decide +kernel)) rfl wk_67 (by decide +kernel) (by decide +kernel) (FA_of fe_67 (trivial))
theorem fe_70 : eqEs ((flat code_70).filter (fun e => ndE e.2.2.1)) ([]) = true := by decide +kernel
theorem om_70 : OKm mi iT prg 70 := OKm_of (code := code_70) rfl mt_70 (Or.inl (by decide +kernel)) rfl wk_70 (by decide +kernel) (by decide +kernel) (FA_of fe_70 (trivial))
def fl_72_0 : List Ent := [(1, 3, 39, .invokestatic 53, [2, 1, 2, 95], 0)]
theorem fb_72_0 : FB mi iT mi_72 (bpc code_72) (fl_72_0) := ⟨fun hd => mk39 mt_95 sf_95 (Or.inl W1516) rfl rfl (hd rfl),
  trivial⟩
theorem fe_72 : eqEs ((flat code_72).filter (fun e => ndE e.2.2.1)) (fl_72_0) = true := by decide +kernel
theorem ceI_ : ceI code_72 95 := by
  intro G orc c m as M y hs h
  match as, hs, h with
  | [], _, h => exact absurd (show (none : Res) = some y from h) (by simp)
  | .inl _ :: _, _, h => exact absurd (show (none : Res) = some y from h) (by simp)
  | .inr (.inl _) :: _, _, h => exact absurd (show (none : Res) = some y from h) (by simp)
  | .inr (.inr (.inr _)) :: _, _, h => exact absurd (show (none : Res) = some y from h) (by simp)
  | .inr (.inr (.inl x)) :: w :: t, hs, _ => exact absurd hs (by rcases w with w | w | w | w <;> (simp [ab_ca]; try omega))
  | [.inr (.inr (.inl x))], _, h =>
    have h : dbD (orc c 95 0 [(0, vD x)] [] M) (fun v M1 => rD v M1) = some y := h
    unfold dbD at h
    split at h
    · next v M1 e1 =>
      replace h : rD v M1 = some y := h
      unfold rD at h
      split at h
      · next hv => cases h; exact ⟨x, v, M1, rfl, e1, rfl, hv⟩
      · exact absurd h (by simp)
    · exact absurd h (by simp)
theorem ceM_ : CeM mi prg 72 := ⟨95, prog_97_method_16_code, prog_100_method_16_code, rfl, rfl, rfl, rfl, rfl, W1518, rfl, W1514, W192, by decide, ceI_⟩
theorem om_72 : OKm mi iT prg 72 := OKm_of (code := code_72) rfl mt_72 (Or.inr ceM_) rfl wk_72 (by decide +kernel) (by decide +kernel) (FA_of fe_72 (fb_72_0))
def fl_73_0 : List Ent := [(1, 3, 27, .invokestatic 79, [], 0), (4, 3, 16, .ldc2_w 87, [9218868437227405312], 0), (11, 3, 16, .ldc2_w 322, [1023], 0)]
theorem fb_73_0 : FB mi iT mi_73 (bpc code_73) (fl_73_0) := ⟨fun hd => ⟨_, rfl, by decide, W1319, dl_w, hd rfl⟩,
  ⟨fun hd => mk16c W1526 (hd rfl),
  ⟨fun hd => mk16c W1527 (hd rfl),
  trivial⟩⟩⟩
theorem fe_73 : eqEs ((flat code_73).filter (fun e => ndE e.2.2.1)) (fl_73_0) = true := by decide +kernel
theorem om_73 : OKm mi iT prg 73 := OKm_of (code := code_73) rfl mt_73 (Or.inl (by decide +kernel)) rfl wk_73 (by decide +kernel) (by decide +kernel) (FA_of fe_73 (fb_73_0))
theorem fe_74 : eqEs ((flat code_74).filter (fun e => ndE e.2.2.1)) ([]) = true := by decide +kernel
theorem om_74 : OKm mi iT prg 74 := OKm_of (code := code_74) rfl mt_74 (Or.inl (by decide +kernel)) rfl wk_74 (by decide +kernel) (by decide +kernel) (FA_of fe_74 (trivial))
def fl_75_0 : List Ent := [(3, 3, 29, .invokevirtual 86, [111, 7], 0), (6, 3, 18, .invokestatic 300, [3, 3, 3, 76], 0)]
theorem fb_75_0 : FB mi iT mi_75 (bpc code_75) (fl_75_0) := ⟨fun hd => ⟨_, _, _, _, rfl, rfl, by decide, kx_111, rfl, W2413, gc_w, hd rfl⟩,
  ⟨fun hd => mk18 mt_76 sf_76 (Or.inl W2497) rfl rfl (noH_nil rfl) (hd rfl),
  trivial⟩⟩
theorem fe_75 : eqEs ((flat code_75).filter (fun e => ndE e.2.2.1)) (fl_75_0) = true := by decide +kernel
theorem om_75 : OKm mi iT prg 75 := OKm_of (code := code_75) rfl mt_75 (Or.inl (by decide +kernel)) rfl wk_75 (by decide +kernel) (by decide +kernel) (FA_of fe_75 (fb_75_0))
def fl_76_0 : List Ent := [(1, 2, 13, .ldc 110, [7], 0), (7, 3, 12, .anewarray 2, [111], 0), (30, 1, 10, .arraylength, [111], 0), (32, 3, 18, .invokestatic 304, [0, 2, 2, 67], 0), (35, 3, 26, .invokestatic 150, [3, 111], 0)]
theorem fb_76_0 : FB mi iT mi_76 (bpc code_76) (fl_76_0) := ⟨fun hd => mk13m rfl W2500 (hd rfl),
  ⟨fun hd => mk12b (by decide) rfl W2502 W2501 (hd rfl),
  ⟨fun hd => mk10 (by decide) rfl (hd rfl),
  ⟨fun hd => mk18 mt_67 sf_67 (Or.inl W2503) rfl rfl (noH_nil rfl) (hd rfl),
  ⟨fun hd => ⟨_, _, _, rfl, rfl, by decide, W2504, ac_w, hd rfl, Or.inr ⟨rfl, by decide, _, rfl, as_111_O⟩⟩,
  trivial⟩⟩⟩⟩⟩
theorem fe_76 : eqEs ((flat code_76).filter (fun e => ndE e.2.2.1)) (fl_76_0) = true := by decide +kernel
theorem om_76 : OKm mi iT prg 76 := OKm_of (code := code_76) rfl mt_76 (Or.inl (by decide +kernel)) rfl wk_76 (by decide +kernel) (by decide +kernel) (FA_of fe_76 (fb_76_0))
def fl_77_0 : List Ent := [(2, 1, 10, .arraylength, [102], 0), (7, 3, 33, .invokevirtual 310, [102], 0), (10, 3, 17, .checkcast 311, [102], 0), (15, 2, 12, .newarray .byte, [102], 0), (23, 1, 10, .arraylength, [102], 0), (25, 3, 18, .invokestatic 304, [0, 2, 2, 67], 0), (28, 3, 26, .invokestatic 150, [0, 102], 0)]
theorem fb_77_0 : FB mi iT mi_77 (bpc code_77) (fl_77_0) := ⟨fun hd => mk10 (by decide) rfl (hd rfl),
  ⟨fun hd => ⟨_, rfl, rfl, by decide, W3982, cl_w, hd rfl⟩,
  ⟨fun hd => mk17 kx_102 W3988 (hd rfl),
  ⟨fun hd => mk12a (at_ := .byte) (by decide) rfl W736 (hd rfl),
  ⟨fun hd => mk10 (by decide) rfl (hd rfl),
  ⟨fun hd => mk18 mt_67 sf_67 (Or.inl W2503) rfl rfl (noH_nil rfl) (hd rfl),
  ⟨fun hd => ⟨_, _, _, rfl, rfl, by decide, W2504, ac_w, hd rfl, Or.inl ⟨rfl, Or.inr (Or.inr rfl)⟩⟩,
  trivial⟩⟩⟩⟩⟩⟩⟩
theorem fe_77 : eqEs ((flat code_77).filter (fun e => ndE e.2.2.1)) (fl_77_0) = true := by decide +kernel
theorem om_77 : OKm mi iT prg 77 := OKm_of (code := code_77) rfl mt_77 (Or.inl (by decide +kernel)) rfl wk_77 (by decide +kernel) (by decide +kernel) (FA_of fe_77 (fb_77_0))
def fl_78_0 : List Ent := [(6, 1, 10, .arraylength, [102], 0), (13, 3, 18, .invokestatic 339, [3, 3, 3, 79], 0), (18, 3, 33, .invokevirtual 310, [102], 0), (21, 3, 17, .checkcast 311, [102], 0)]
theorem fb_78_0 : FB mi iT mi_78 (bpc code_78) (fl_78_0) := ⟨fun hd => mk10 (by decide) rfl (hd rfl),
  ⟨fun hd => mk18 mt_79 sf_79 (Or.inl W4106) rfl rfl (noH_nil rfl) (hd rfl),
  ⟨fun hd => ⟨_, rfl, rfl, by decide, W3982, cl_w, hd rfl⟩,
  ⟨fun hd => mk17 kx_102 W3988 (hd rfl),
  trivial⟩⟩⟩⟩
theorem fe_78 : eqEs ((flat code_78).filter (fun e => ndE e.2.2.1)) (fl_78_0) = true := by decide +kernel
theorem om_78 : OKm mi iT prg 78 := OKm_of (code := code_78) rfl mt_78 (Or.inl (by decide +kernel)) rfl wk_78 (by decide +kernel) (by decide +kernel) (FA_of fe_78 (fb_78_0))
def fl_79_0 : List Ent := [(2, 3, 18, .invokestatic 343, [9, 2, 2, 80], 0), (10, 2, 12, .newarray .byte, [102], 0), (20, 1, 10, .arraylength, [102], 0), (24, 3, 18, .invokestatic 304, [0, 2, 2, 67], 0), (27, 3, 26, .invokestatic 150, [0, 102], 0)]
theorem fb_79_0 : FB mi iT mi_79 (bpc code_79) (fl_79_0) := ⟨fun hd => mk18 mt_80 sf_80 (Or.inl W4109) rfl rfl (noH_nil rfl) (hd rfl),
  ⟨fun hd => mk12a (at_ := .byte) (by decide) rfl W736 (hd rfl),
  ⟨fun hd => mk10 (by decide) rfl (hd rfl),
  ⟨fun hd => mk18 mt_67 sf_67 (Or.inl W2503) rfl rfl (noH_nil rfl) (hd rfl),
  ⟨fun hd => ⟨_, _, _, rfl, rfl, by decide, W2504, ac_w, hd rfl, Or.inl ⟨rfl, Or.inr (Or.inr rfl)⟩⟩,
  trivial⟩⟩⟩⟩⟩
theorem fe_79 : eqEs ((flat code_79).filter (fun e => ndE e.2.2.1)) (fl_79_0) = true := by decide +kernel
theorem om_79 : OKm mi iT prg 79 := OKm_of (code := code_79) rfl mt_79 (Or.inl (by decide +kernel)) rfl wk_79 (by decide +kernel) (by decide +kernel) (FA_of fe_79 (fb_79_0))
theorem fe_80 : eqEs ((flat code_80).filter (fun e => ndE e.2.2.1)) ([]) = true := by decide +kernel
theorem om_80 : OKm mi iT prg 80 := OKm_of (code := code_80) rfl mt_80 (Or.inl (by decide +kernel)) rfl wk_80 (by decide +kernel) (by decide +kernel) (FA_of fe_80 (trivial))
theorem fe_81 : eqEs ((flat code_81).filter (fun e => ndE e.2.2.1)) ([]) = true := by decide +kernel
theorem om_81 : OKm mi iT prg 81 := OKm_of (code := code_81) rfl mt_81 (Or.inl (by decide +kernel)) rfl wk_81 (by decide +kernel) (by decide +kernel) (FA_of fe_81 (trivial))
theorem fe_82 : eqEs ((flat code_82).filter (fun e => ndE e.2.2.1)) ([]) = true := by decide +kernel
theorem om_82 : OKm mi iT prg 82 := OKm_of (code := code_82) rfl mt_82 (Or.inl (by decide +kernel)) rfl wk_82 (by decide +kernel) (by decide +kernel) (FA_of fe_82 (trivial))
theorem fe_83 : eqEs ((flat code_83).filter (fun e => ndE e.2.2.1)) ([]) = true := by decide +kernel
theorem om_83 : OKm mi iT prg 83 := OKm_of (code := code_83) rfl mt_83 (Or.inl (by decide +kernel)) rfl wk_83 (by decide +kernel) (by decide +kernel) (FA_of fe_83 (trivial))
def fl_84_0 : List Ent := [(3, 3, 18, .invokestatic 105, [0, 3, 3, 43], 0)]
theorem fb_84_0 : FB mi iT mi_84 (bpc code_84) (fl_84_0) := ⟨fun hd => mk18 mt_43 sf_43 (Or.inl W580) rfl rfl (noH_nil rfl) (hd rfl),
  trivial⟩
theorem fe_84 : eqEs ((flat code_84).filter (fun e => ndE e.2.2.1)) (fl_84_0) = true := by decide +kernel
theorem om_84 : OKm mi iT prg 84 := OKm_of (code := code_84) rfl mt_84 (Or.inl (by decide +kernel)) rfl wk_84 (by decide +kernel) (by decide +kernel) (FA_of fe_84 (fb_84_0))
theorem fe_85 : eqEs ((flat code_85).filter (fun e => ndE e.2.2.1)) ([]) = true := by decide +kernel
theorem om_85 : OKm mi iT prg 85 := OKm_of (code := code_85) rfl mt_85 (Or.inl (by decide +kernel)) rfl wk_85 (by decide +kernel) (by decide +kernel) (FA_of fe_85 (trivial))
def fl_86_0 : List Ent := [(2, 3, 7, .putfield 1, [3, 11, 46], 0), (6, 3, 22, .invokespecial 7, [], 0), (11, 3, 7, .putfield 13, [0, 11, 44], 0), (16, 3, 6, .getfield 1, [3, 11, 46], 0), (19, 3, 6, .getfield 17, [0, 5, 21], 0), (22, 3, 7, .putfield 22, [0, 11, 45], 0)]
theorem fb_86_0 : FB mi iT mi_86 (bpc code_86) (fl_86_0) := ⟨fun hd => mk7 fld_11_3 (Or.inl W484) (Or.inl rfl) (Or.inr ⟨rfl, rfl, rfl, W484⟩) (hd rfl),
  ⟨fun hd => mk22 (by decide) W480 oi_w (hd rfl),
  ⟨fun hd => mk7 fld_11_1 (Or.inl W482) (Or.inl rfl) (Or.inl rfl) (hd rfl),
  ⟨fun hd => mk6 fld_11_3 (Or.inl ⟨rfl, by decide⟩) (Or.inl W484) (Or.inl rfl) (hd rfl),
  ⟨fun hd => mk6 fld_5_0 (Or.inl ⟨rfl, by decide⟩) (Or.inl W265) (Or.inr W266) (hd rfl),
  ⟨fun hd => mk7 fld_11_2 (Or.inl W483) (Or.inl rfl) (Or.inl rfl) (hd rfl),
  trivial⟩⟩⟩⟩⟩⟩
theorem fe_86 : eqEs ((flat code_86).filter (fun e => ndE e.2.2.1)) (fl_86_0) = true := by decide +kernel
theorem om_86 : OKm mi iT prg 86 := OKm_of (code := code_86) rfl mt_86 (Or.inl (by decide +kernel)) rfl wk_86 (by decide +kernel) (by decide +kernel) (FA_of fe_86 (fb_86_0))
def fl_87_0 : List Ent := [(1, 3, 6, .getfield 25, [0, 11, 43], 0), (5, 3, 6, .getfield 1, [3, 11, 46], 0), (8, 3, 6, .getfield 28, [0, 5, 23], 0)]
theorem fb_87_0 : FB mi iT mi_87 (bpc code_87) (fl_87_0) := ⟨fun hd => mk6 fld_11_0 (Or.inl ⟨rfl, by decide⟩) (Or.inl W481) (Or.inl rfl) (hd rfl),
  ⟨fun hd => mk6 fld_11_3 (Or.inl ⟨rfl, by decide⟩) (Or.inl W484) (Or.inl rfl) (hd rfl),
  ⟨fun hd => mk6 fld_5_2 (Or.inl ⟨rfl, by decide⟩) (Or.inr ⟨_, W262⟩) (Or.inl rfl) (hd rfl),
  trivial⟩⟩⟩
theorem fe_87 : eqEs ((flat code_87).filter (fun e => ndE e.2.2.1)) (fl_87_0) = true := by decide +kernel
theorem om_87 : OKm mi iT prg 87 := OKm_of (code := code_87) rfl mt_87 (Or.inl (by decide +kernel)) rfl wk_87 (by decide +kernel) (by decide +kernel) (FA_of fe_87 (fb_87_0))
def fl_88_0 : List Ent := [(1, 3, 19, .invokevirtual 31, [9, 1, 1, 11, 89], 0), (5, 3, 6, .getfield 25, [0, 11, 43], 0), (11, 3, 6, .getfield 1, [3, 11, 46], 0), (14, 3, 6, .getfield 28, [0, 5, 23], 0), (29, 3, 6, .getfield 1, [3, 11, 46], 0), (32, 3, 6, .getfield 37, [3, 5, 22], 0), (38, 1, 10, .arraylength, [111], 0), (54, 3, 7, .putfield 25, [0, 11, 43], 0), (61, 3, 7, .putfield 13, [0, 11, 44], 0)]
theorem fb_88_0 : FB mi iT mi_88 (bpc code_88) (fl_88_0) := ⟨fun hd => mk19 mt_89 cf_89 (vf_89_11.rt (Or.inl W513) (hd rfl)) rfl rfl (noH_nil rfl),
  ⟨fun hd => mk6 fld_11_0 (Or.inl ⟨rfl, by decide⟩) (Or.inl W481) (Or.inl rfl) (hd rfl),
  ⟨fun hd => mk6 fld_11_3 (Or.inl ⟨rfl, by decide⟩) (Or.inl W484) (Or.inl rfl) (hd rfl),
  ⟨fun hd => mk6 fld_5_2 (Or.inl ⟨rfl, by decide⟩) (Or.inr ⟨_, W262⟩) (Or.inl rfl) (hd rfl),
  ⟨fun hd => mk6 fld_11_3 (Or.inl ⟨rfl, by decide⟩) (Or.inl W484) (Or.inl rfl) (hd rfl),
  ⟨fun hd => mk6 fld_5_1 (Or.inl ⟨rfl, by decide⟩) (Or.inl W261) (Or.inl rfl) (hd rfl),
  ⟨fun hd => mk10 (by decide) rfl (hd rfl),
  ⟨fun hd => mk7 fld_11_0 (Or.inl W481) (Or.inl rfl) (Or.inl rfl) (hd rfl),
  ⟨fun hd => mk7 fld_11_1 (Or.inl W482) (Or.inl rfl) (Or.inl rfl) (hd rfl),
  trivial⟩⟩⟩⟩⟩⟩⟩⟩⟩
theorem fe_88 : eqEs ((flat code_88).filter (fun e => ndE e.2.2.1)) (fl_88_0) = true := by decide +kernel
theorem om_88 : OKm mi iT prg 88 := OKm_of (code := code_88) rfl mt_88 (Or.inl (by decide +kernel)) rfl wk_88 (by decide +kernel) (by decide +kernel) (FA_of fe_88 (fb_88_0))
def fl_89_0 : List Ent := [(1, 3, 6, .getfield 1, [3, 11, 46], 0), (4, 3, 6, .getfield 17, [0, 5, 21], 0), (8, 3, 6, .getfield 22, [0, 11, 45], 0)]
theorem fb_89_0 : FB mi iT mi_89 (bpc code_89) (fl_89_0) := ⟨fun hd => mk6 fld_11_3 (Or.inl ⟨rfl, by decide⟩) (Or.inl W484) (Or.inl rfl) (hd rfl),
  ⟨fun hd => mk6 fld_5_0 (Or.inl ⟨rfl, by decide⟩) (Or.inl W265) (Or.inr W266) (hd rfl),
  ⟨fun hd => mk6 fld_11_2 (Or.inl ⟨rfl, by decide⟩) (Or.inl W483) (Or.inl rfl) (hd rfl),
  trivial⟩⟩⟩
theorem fe_89 : eqEs ((flat code_89).filter (fun e => ndE e.2.2.1)) (fl_89_0) = true := by decide +kernel
theorem om_89 : OKm mi iT prg 89 := OKm_of (code := code_89) rfl mt_89 (Or.inl (by decide +kernel)) rfl wk_89 (by decide +kernel) (by decide +kernel) (FA_of fe_89 (fb_89_0))
def fl_90_0 : List Ent := [(0, 3, 13, .getstatic 1, [8], 0)]
theorem fb_90_0 : FB mi iT mi_90 (bpc code_90) (fl_90_0) := ⟨fun hd => mk13s (by decide) rfl (Or.inl W2935) (Or.inl rfl) (hd rfl),
  trivial⟩
theorem fe_90 : eqEs ((flat code_90).filter (fun e => ndE e.2.2.1)) (fl_90_0) = true := by decide +kernel
theorem om_90 : OKm mi iT prg 90 := OKm_of (code := code_90) rfl mt_90 (Or.inl (by decide +kernel)) rfl wk_90 (by decide +kernel) (by decide +kernel) (FA_of fe_90 (fb_90_0))
def fl_91_0 : List Ent := [(1, 3, 6, .getfield 13, [3, 29, 152], 0)]
theorem fb_91_0 : FB mi iT mi_91 (bpc code_91) (fl_91_0) := ⟨fun hd => mk6 fld_29_0 (Or.inl ⟨rfl, by decide⟩) (Or.inl W2961) (Or.inl rfl) (hd rfl),
  trivial⟩
theorem fe_91 : eqEs ((flat code_91).filter (fun e => ndE e.2.2.1)) (fl_91_0) = true := by decide +kernel
theorem om_91 : OKm mi iT prg 91 := OKm_of (code := code_91) rfl mt_91 (Or.inl (by decide +kernel)) rfl wk_91 (by decide +kernel) (by decide +kernel) (FA_of fe_91 (fb_91_0))
def fl_92_0 : List Ent := [(1, 3, 6, .getfield 13, [3, 29, 152], 0), (18, 3, 6, .getfield 13, [3, 29, 152], 0)]
theorem fb_92_0 : FB mi iT mi_92 (bpc code_92) (fl_92_0) := ⟨fun hd => mk6 fld_29_0 (Or.inl ⟨rfl, by decide⟩) (Or.inl W2961) (Or.inl rfl) (hd rfl),
  ⟨fun hd => mk6 fld_29_0 (Or.inl ⟨rfl, by decide⟩) (Or.inl W2961) (Or.inl rfl) (hd rfl),
  trivial⟩⟩
theorem fe_92 : eqEs ((flat code_92).filter (fun e => ndE e.2.2.1)) (fl_92_0) = true := by decide +kernel
theorem om_92 : OKm mi iT prg 92 := OKm_of (code := code_92) rfl mt_92 (Or.inl (by decide +kernel)) rfl wk_92 (by decide +kernel) (by decide +kernel) (FA_of fe_92 (fb_92_0))
def fl_93_0 : List Ent := [(0, 3, 11, .new 2, [29, 1], 0), (5, 3, 18, .invokestatic 17, [3, 1, 1, 85], 0), (8, 3, 36, .invokespecial 23, [9, 2, 2, 29, 94], 0)]
theorem fb_93_0 : FB mi iT mi_93 (bpc code_93) (fl_93_0) := ⟨fun hd => mk11 nf_29 W2952 (hd rfl),
  ⟨fun hd => mk18 mt_85 sf_85 (Or.inl W2954) rfl rfl (noH_nil rfl) (hd rfl),
  ⟨fun hd => mk36 mt_94 cf_94 (ic_94.rt (Or.inl W2957) (hd rfl)) rfl rfl,
  trivial⟩⟩⟩
theorem fe_93 : eqEs ((flat code_93).filter (fun e => ndE e.2.2.1)) (fl_93_0) = true := by decide +kernel
theorem om_93 : OKm mi iT prg 93 := OKm_of (code := code_93) rfl mt_93 (Or.inl (by decide +kernel)) rfl wk_93 (by decide +kernel) (by decide +kernel) (FA_of fe_93 (fb_93_0))
def fl_94_0 : List Ent := [(1, 3, 22, .invokespecial 7, [], 0), (6, 3, 7, .putfield 13, [3, 29, 152], 0)]
theorem fb_94_0 : FB mi iT mi_94 (bpc code_94) (fl_94_0) := ⟨fun hd => mk22 (by decide) W2960 oi_w (hd rfl),
  ⟨fun hd => mk7 fld_29_0 (Or.inl W2961) (Or.inl rfl) (Or.inr ⟨rfl, rfl, rfl, W2961⟩) (hd rfl),
  trivial⟩⟩
theorem fe_94 : eqEs ((flat code_94).filter (fun e => ndE e.2.2.1)) (fl_94_0) = true := by decide +kernel
theorem om_94 : OKm mi iT prg 94 := OKm_of (code := code_94) rfl mt_94 (Or.inl (by decide +kernel)) rfl wk_94 (by decide +kernel) (by decide +kernel) (FA_of fe_94 (fb_94_0))
def fl_95_0 : List Ent := [(1, 3, 15, .ldc2_w 58, [9223372036854775808], 0), (6, 3, 18, .invokestatic 60, [2, 4, 8, 96], 0)]
theorem fb_95_0 : FB mi iT mi_95 (bpc code_95) (fl_95_0) := ⟨fun hd => mk15 W1519 (hd rfl),
  ⟨fun hd => mk18 mt_96 sf_96 (Or.inl W1520) rfl rfl (noH_nil rfl) (hd rfl),
  trivial⟩⟩
theorem fe_95 : eqEs ((flat code_95).filter (fun e => ndE e.2.2.1)) (fl_95_0) = true := by decide +kernel
theorem om_95 : OKm mi iT prg 95 := OKm_of (code := code_95) rfl mt_95 (Or.inl (by decide +kernel)) rfl wk_95 (by decide +kernel) (by decide +kernel) (FA_of fe_95 (fb_95_0))
def fl_96_0 : List Ent := [(1, 3, 18, .invokestatic 66, [0, 1, 2, 73], 0), (43, 3, 14, .getstatic 70, [], 1), (70, 3, 27, .invokestatic 77, [], 0), (75, 3, 16, .ldc2_w 85, [4503599627370495], 0), (99, 3, 16, .ldc2_w 87, [18446744073709551615], 0), (104, 3, 28, .invokestatic 89, [], 0)]
theorem fb_96_0 : FB mi iT mi_96 (bpc code_96) (fl_96_0) := ⟨fun hd => mk18 mt_73 sf_73 (Or.inl W1523) rfl rfl (noH_nil rfl) (hd rfl),
  ⟨fun hd => mk14s (C := "java/lang/StrictMath") (n := "$assertionsDisabled") (d := "Z") (List.mem_of_getElem? (i := 0) rfl) (Or.inl W1528) (Or.inl rfl) (hd rfl),
  ⟨fun hd => ⟨_, rfl, by decide, W1530, dl_w, hd rfl⟩,
  ⟨fun hd => mk16c W1531 (hd rfl),
  ⟨fun hd => mk16c W1532 (hd rfl),
  ⟨fun hd => ⟨_, rfl, by decide, W1533, ld_w, hd rfl⟩,
  trivial⟩⟩⟩⟩⟩⟩
theorem fe_96 : eqEs ((flat code_96).filter (fun e => ndE e.2.2.1)) (fl_96_0) = true := by decide +kernel
theorem om_96 : OKm mi iT prg 96 := OKm_of (code := code_96) rfl mt_96 (Or.inl (by decide +kernel)) rfl wk_96 (by decide +kernel) (by decide +kernel) (FA_of fe_96 (fb_96_0))
def fl_97_0 : List Ent := [(1, 3, 22, .invokespecial 3, [], 0), (4, 3, 14, .getstatic 18, [], 1), (12, 2, 12, .newarray .byte, [102], 0), (14, 3, 7, .putfield 15, [3, 36, 190], 0), (19, 3, 7, .putfield 22, [5, 36, 191], 0), (27, 3, 18, .invokestatic 26, [3, 1, 1, 50], 0), (30, 3, 7, .putfield 15, [3, 36, 190], 0), (35, 3, 7, .putfield 22, [5, 36, 191], 0)]
theorem fb_97_0 : FB mi iT mi_97 (bpc code_97) (fl_97_0) := ⟨fun hd => mk22 (by decide) W3935 oi_w (hd rfl),
  ⟨fun hd => mk14s (C := "java/lang/String") (n := "COMPACT_STRINGS") (d := "Z") (List.mem_of_getElem? (i := 1) rfl) (Or.inl W3936) (Or.inl rfl) (hd rfl),
  ⟨fun hd => mk12a (at_ := .byte) (by decide) rfl W736 (hd rfl),
  ⟨fun hd => mk7 fld_36_0 (Or.inl W3944) (Or.inl rfl) (Or.inl rfl) (hd rfl),
  ⟨fun hd => mk7 fld_36_1 (Or.inl W3945) (Or.inl rfl) (Or.inl rfl) (hd rfl),
  ⟨fun hd => mk18 mt_50 sf_50 (Or.inl W3937) rfl rfl (noH_nil rfl) (hd rfl),
  ⟨fun hd => mk7 fld_36_0 (Or.inl W3944) (Or.inl rfl) (Or.inl rfl) (hd rfl),
  ⟨fun hd => mk7 fld_36_1 (Or.inl W3945) (Or.inl rfl) (Or.inl rfl) (hd rfl),
  trivial⟩⟩⟩⟩⟩⟩⟩⟩
theorem fe_97 : eqEs ((flat code_97).filter (fun e => ndE e.2.2.1)) (fl_97_0) = true := by decide +kernel
theorem om_97 : OKm mi iT prg 97 := OKm_of (code := code_97) rfl mt_97 (Or.inl (by decide +kernel)) rfl wk_97 (by decide +kernel) (by decide +kernel) (FA_of fe_97 (fb_97_0))
def fl_98_0 : List Ent := [(5, 3, 19, .invokevirtual 204, [3, 1, 1, 36, 99], 0), (10, 3, 19, .invokevirtual 32, [0, 1, 1, 14, 34], 0), (16, 3, 6, .getfield 79, [0, 36, 193], 0), (21, 3, 19, .invokevirtual 100, [9, 2, 2, 36, 100], 0), (26, 3, 6, .getfield 79, [0, 36, 193], 0), (30, 3, 19, .invokevirtual 208, [9, 3, 3, 36, 103], 0), (35, 3, 6, .getfield 79, [0, 36, 193], 0), (40, 3, 7, .putfield 79, [0, 36, 193], 0)]
theorem fb_98_0 : FB mi iT mi_98 (bpc code_98) (fl_98_0) := ⟨fun hd => mk19 mt_99 cf_99 (pf_99_36.rt W3965 (hd rfl)) rfl rfl (noH_nil rfl),
  ⟨fun hd => mk19 mt_34 cf_34 (vf_34_14.rt (Or.inl W4009) (hd rfl)) rfl rfl (noH_nil rfl),
  ⟨fun hd => mk6 fld_36_3 (Or.inl ⟨rfl, by decide⟩) (Or.inl W3947) (Or.inl rfl) (hd rfl),
  ⟨fun hd => mk19 mt_100 cf_100 (pf_100_36.rt W3969 (hd rfl)) rfl rfl (noH_nil rfl),
  ⟨fun hd => mk6 fld_36_3 (Or.inl ⟨rfl, by decide⟩) (Or.inl W3947) (Or.inl rfl) (hd rfl),
  ⟨fun hd => mk19 mt_103 cf_103 (pf_103_36.rt W4017 (hd rfl)) rfl rfl (noH_nil rfl),
  ⟨fun hd => mk6 fld_36_3 (Or.inl ⟨rfl, by decide⟩) (Or.inl W3947) (Or.inl rfl) (hd rfl),
  ⟨fun hd => mk7 fld_36_3 (Or.inl W3947) (Or.inl rfl) (Or.inl rfl) (hd rfl),
  trivial⟩⟩⟩⟩⟩⟩⟩⟩
theorem fe_98 : eqEs ((flat code_98).filter (fun e => ndE e.2.2.1)) (fl_98_0) = true := by decide +kernel
theorem om_98 : OKm mi iT prg 98 := OKm_of (code := code_98) rfl mt_98 (Or.inl (by decide +kernel)) rfl wk_98 (by decide +kernel) (by decide +kernel) (FA_of fe_98 (fb_98_0))
def fl_99_0 : List Ent := [(2, 3, 6, .getfield 79, [0, 36, 193], 0), (7, 3, 19, .invokevirtual 100, [9, 2, 2, 36, 100], 0), (11, 3, 6, .getfield 79, [0, 36, 193], 0), (16, 3, 6, .getfield 15, [3, 36, 190], 0), (21, 3, 19, .invokevirtual 83, [0, 1, 1, 36, 102], 0), (34, 1, 9, .bastore, [5, 102], 0), (42, 1, 9, .bastore, [5, 102], 0), (50, 1, 9, .bastore, [5, 102], 0), (58, 1, 9, .bastore, [5, 102], 0), (72, 3, 18, .invokestatic 226, [0, 6, 6, 52], 0), (78, 3, 7, .putfield 79, [0, 36, 193], 0)]
theorem fb_99_0 : FB mi iT mi_99 (bpc code_99) (fl_99_0) := ⟨fun hd => mk6 fld_36_3 (Or.inl ⟨rfl, by decide⟩) (Or.inl W3947) (Or.inl rfl) (hd rfl),
  ⟨fun hd => mk19 mt_100 cf_100 (pf_100_36.rt W3969 (hd rfl)) rfl rfl (noH_nil rfl),
  ⟨fun hd => mk6 fld_36_3 (Or.inl ⟨rfl, by decide⟩) (Or.inl W3947) (Or.inl rfl) (hd rfl),
  ⟨fun hd => mk6 fld_36_0 (Or.inl ⟨rfl, by decide⟩) (Or.inl W3944) (Or.inl rfl) (hd rfl),
  ⟨fun hd => mk19 mt_102 cf_102 (vf_102_36.rt (Or.inl W3989) (hd rfl)) rfl rfl (noH_nil rfl),
  ⟨fun hd => ⟨_, _, _, rfl, rfl, hd rfl, Or.inr (Or.inr (Or.inr (Or.inl ⟨rfl, rfl, rfl⟩)))⟩,
  ⟨fun hd => ⟨_, _, _, rfl, rfl, hd rfl, Or.inr (Or.inr (Or.inr (Or.inl ⟨rfl, rfl, rfl⟩)))⟩,
  ⟨fun hd => ⟨_, _, _, rfl, rfl, hd rfl, Or.inr (Or.inr (Or.inr (Or.inl ⟨rfl, rfl, rfl⟩)))⟩,
  ⟨fun hd => ⟨_, _, _, rfl, rfl, hd rfl, Or.inr (Or.inr (Or.inr (Or.inl ⟨rfl, rfl, rfl⟩)))⟩,
  ⟨fun hd => mk18 mt_52 sf_52 (Or.inl W3994) rfl rfl (noH_nil rfl) (hd rfl),
  ⟨fun hd => mk7 fld_36_3 (Or.inl W3947) (Or.inl rfl) (Or.inl rfl) (hd rfl),
  trivial⟩⟩⟩⟩⟩⟩⟩⟩⟩⟩⟩
theorem fe_99 : eqEs ((flat code_99).filter (fun e => ndE e.2.2.1)) (fl_99_0) = true := by decide +kernel
theorem om_99 : OKm mi iT prg 99 := OKm_of (code := code_99) rfl mt_99 (Or.inl (by decide +kernel)) rfl wk_99 (by decide +kernel) (by decide +kernel) (FA_of fe_99 (fb_99_0))
def fl_100_0 : List Ent := [(1, 3, 6, .getfield 15, [3, 36, 190], 0), (4, 1, 10, .arraylength, [102], 0), (6, 3, 6, .getfield 22, [0, 36, 191], 0), (19, 3, 6, .getfield 15, [3, 36, 190], 0), (24, 3, 19, .invokevirtual 104, [0, 2, 2, 36, 101], 0), (28, 3, 6, .getfield 22, [0, 36, 191], 0), (32, 3, 18, .invokestatic 108, [3, 2, 2, 77], 0), (35, 3, 7, .putfield 15, [3, 36, 190], 0)]
theorem fb_100_0 : FB mi iT mi_100 (bpc code_100) (fl_100_0) := ⟨fun hd => mk6 fld_36_0 (Or.inl ⟨rfl, by decide⟩) (Or.inl W3944) (Or.inl rfl) (hd rfl),
  ⟨fun hd => mk10 (by decide) rfl (hd rfl),
  ⟨fun hd => mk6 fld_36_1 (Or.inr ⟨rfl, Or.inr rfl⟩) (Or.inl W3945) (Or.inl rfl) (hd rfl),
  ⟨fun hd => mk6 fld_36_0 (Or.inl ⟨rfl, by decide⟩) (Or.inl W3944) (Or.inl rfl) (hd rfl),
  ⟨fun hd => mk19 mt_101 cf_101 (pf_101_36.rt W3973 (hd rfl)) rfl rfl (noH_nil rfl),
  ⟨fun hd => mk6 fld_36_1 (Or.inr ⟨rfl, Or.inr rfl⟩) (Or.inl W3945) (Or.inl rfl) (hd rfl),
  ⟨fun hd => mk18 mt_77 sf_77 (Or.inl W3979) rfl rfl (noH_nil rfl) (hd rfl),
  ⟨fun hd => mk7 fld_36_0 (Or.inl W3944) (Or.inl rfl) (Or.inl rfl) (hd rfl),
  trivial⟩⟩⟩⟩⟩⟩⟩⟩
theorem fe_100 : eqEs ((flat code_100).filter (fun e => ndE e.2.2.1)) (fl_100_0) = true := by decide +kernel
theorem om_100 : OKm mi iT prg 100 := OKm_of (code := code_100) rfl mt_100 (Or.inl (by decide +kernel)) rfl wk_100 (by decide +kernel) (by decide +kernel) (FA_of fe_100 (fb_100_0))
def fl_101_0 : List Ent := [(1, 3, 6, .getfield 15, [3, 36, 190], 0), (4, 1, 10, .arraylength, [102], 0), (8, 3, 6, .getfield 22, [0, 36, 191], 0), (24, 3, 6, .getfield 22, [0, 36, 191], 0), (29, 3, 18, .invokestatic 114, [0, 3, 3, 65], 0), (36, 2, 14, .ldc 39, [], 2147483647), (54, 3, 6, .getfield 22, [0, 36, 191], 0)]
theorem fb_101_0 : FB mi iT mi_101 (bpc code_101) (fl_101_0) := ⟨fun hd => mk6 fld_36_0 (Or.inl ⟨rfl, by decide⟩) (Or.inl W3944) (Or.inl rfl) (hd rfl),
  ⟨fun hd => mk10 (by decide) rfl (hd rfl),
  ⟨fun hd => mk6 fld_36_1 (Or.inr ⟨rfl, Or.inr rfl⟩) (Or.inl W3945) (Or.inl rfl) (hd rfl),
  ⟨fun hd => mk6 fld_36_1 (Or.inr ⟨rfl, Or.inr rfl⟩) (Or.inl W3945) (Or.inl rfl) (hd rfl),
  ⟨fun hd => mk18 mt_65 sf_65 (Or.inl W3977) rfl rfl (noH_nil rfl) (hd rfl),
  ⟨fun hd => mk14c W3978 (Or.inl ⟨hd rfl, rfl⟩),
  ⟨fun hd => mk6 fld_36_1 (Or.inr ⟨rfl, Or.inr rfl⟩) (Or.inl W3945) (Or.inl rfl) (hd rfl),
  trivial⟩⟩⟩⟩⟩⟩⟩
theorem fe_101 : eqEs ((flat code_101).filter (fun e => ndE e.2.2.1)) (fl_101_0) = true := by decide +kernel
theorem om_101 : OKm mi iT prg 101 := OKm_of (code := code_101) rfl mt_101 (Or.inl (by decide +kernel)) rfl wk_101 (by decide +kernel) (by decide +kernel) (FA_of fe_101 (fb_101_0))
def fl_102_0 : List Ent := [(0, 3, 14, .getstatic 18, [], 1), (7, 3, 6, .getfield 22, [0, 36, 191], 0)]
theorem fb_102_0 : FB mi iT mi_102 (bpc code_102) (fl_102_0) := ⟨fun hd => mk14s (C := "java/lang/String") (n := "COMPACT_STRINGS") (d := "Z") (List.mem_of_getElem? (i := 1) rfl) (Or.inl W3936) (Or.inl rfl) (hd rfl),
  ⟨fun hd => mk6 fld_36_1 (Or.inr ⟨rfl, Or.inr rfl⟩) (Or.inl W3945) (Or.inl rfl) (hd rfl),
  trivial⟩⟩
theorem fe_102 : eqEs ((flat code_102).filter (fun e => ndE e.2.2.1)) (fl_102_0) = true := by decide +kernel
theorem om_102 : OKm mi iT prg 102 := OKm_of (code := code_102) rfl mt_102 (Or.inl (by decide +kernel)) rfl wk_102 (by decide +kernel) (by decide +kernel) (FA_of fe_102 (fb_102_0))
def fl_103_0 : List Ent := [(2, 3, 19, .invokevirtual 397, [9, 2, 2, 36, 104], 0), (7, 3, 6, .getfield 15, [3, 36, 190], 0), (12, 3, 6, .getfield 22, [0, 36, 191], 0), (15, 3, 19, .invokevirtual 399, [9, 4, 4, 14, 37], 0)]
theorem fb_103_0 : FB mi iT mi_103 (bpc code_103) (fl_103_0) := ⟨fun hd => mk19 mt_104 cf_104 (pf_104_36.rt W4021 (hd rfl)) rfl rfl (noH_nil rfl),
  ⟨fun hd => mk6 fld_36_0 (Or.inl ⟨rfl, by decide⟩) (Or.inl W3944) (Or.inl rfl) (hd rfl),
  ⟨fun hd => mk6 fld_36_1 (Or.inr ⟨rfl, Or.inr rfl⟩) (Or.inl W3945) (Or.inl rfl) (hd rfl),
  ⟨fun hd => mk19 mt_37 cf_37 (vf_37_14.rt (Or.inl W4045) (hd rfl)) rfl rfl (noH_nil rfl),
  trivial⟩⟩⟩⟩
theorem fe_103 : eqEs ((flat code_103).filter (fun e => ndE e.2.2.1)) (fl_103_0) = true := by decide +kernel
theorem om_103 : OKm mi iT prg 103 := OKm_of (code := code_103) rfl mt_103 (Or.inl (by decide +kernel)) rfl wk_103 (by decide +kernel) (by decide +kernel) (FA_of fe_103 (fb_103_0))
def fl_104_0 : List Ent := [(0, 3, 14, .getstatic 18, [], 1), (7, 3, 6, .getfield 22, [0, 36, 191], 0), (11, 3, 19, .invokevirtual 40, [0, 1, 1, 14, 35], 0), (18, 3, 19, .invokevirtual 195, [9, 1, 1, 36, 105], 0)]
theorem fb_104_0 : FB mi iT mi_104 (bpc code_104) (fl_104_0) := ⟨fun hd => mk14s (C := "java/lang/String") (n := "COMPACT_STRINGS") (d := "Z") (List.mem_of_getElem? (i := 1) rfl) (Or.inl W3936) (Or.inl rfl) (hd rfl),
  ⟨fun hd => mk6 fld_36_1 (Or.inr ⟨rfl, Or.inr rfl⟩) (Or.inl W3945) (Or.inl rfl) (hd rfl),
  ⟨fun hd => mk19 mt_35 cf_35 (vf_35_14.rt (Or.inl W4025) (hd rfl)) rfl rfl (noH_nil rfl),
  ⟨fun hd => mk19 mt_105 cf_105 (pf_105_36.rt W4026 (hd rfl)) rfl rfl (noH_nil rfl),
  trivial⟩⟩⟩⟩
theorem fe_104 : eqEs ((flat code_104).filter (fun e => ndE e.2.2.1)) (fl_104_0) = true := by decide +kernel
theorem om_104 : OKm mi iT prg 104 := OKm_of (code := code_104) rfl mt_104 (Or.inl (by decide +kernel)) rfl wk_104 (by decide +kernel) (by decide +kernel) (FA_of fe_104 (fb_104_0))
def fl_105_0 : List Ent := [(1, 3, 19, .invokevirtual 83, [0, 1, 1, 36, 102], 0), (9, 3, 6, .getfield 15, [3, 36, 190], 0), (12, 1, 10, .arraylength, [102], 0), (13, 3, 18, .invokestatic 26, [3, 1, 1, 50], 0), (18, 3, 6, .getfield 15, [3, 36, 190], 0), (25, 3, 6, .getfield 79, [0, 36, 193], 0), (28, 3, 18, .invokestatic 125, [9, 5, 5, 42], 0), (33, 3, 7, .putfield 15, [3, 36, 190], 0), (38, 3, 7, .putfield 22, [5, 36, 191], 0)]
theorem fb_105_0 : FB mi iT mi_105 (bpc code_105) (fl_105_0) := ⟨fun hd => mk19 mt_102 cf_102 (vf_102_36.rt (Or.inl W3989) (hd rfl)) rfl rfl (noH_nil rfl),
  ⟨fun hd => mk6 fld_36_0 (Or.inl ⟨rfl, by decide⟩) (Or.inl W3944) (Or.inl rfl) (hd rfl),
  ⟨fun hd => mk10 (by decide) rfl (hd rfl),
  ⟨fun hd => mk18 mt_50 sf_50 (Or.inl W3937) rfl rfl (noH_nil rfl) (hd rfl),
  ⟨fun hd => mk6 fld_36_0 (Or.inl ⟨rfl, by decide⟩) (Or.inl W3944) (Or.inl rfl) (hd rfl),
  ⟨fun hd => mk6 fld_36_3 (Or.inl ⟨rfl, by decide⟩) (Or.inl W3947) (Or.inl rfl) (hd rfl),
  ⟨fun hd => mk18 mt_42 sf_42 (Or.inl W4030) rfl rfl (noH_nil rfl) (hd rfl),
  ⟨fun hd => mk7 fld_36_0 (Or.inl W3944) (Or.inl rfl) (Or.inl rfl) (hd rfl),
  ⟨fun hd => mk7 fld_36_1 (Or.inl W3945) (Or.inl rfl) (Or.inl rfl) (hd rfl),
  trivial⟩⟩⟩⟩⟩⟩⟩⟩⟩
theorem fe_105 : eqEs ((flat code_105).filter (fun e => ndE e.2.2.1)) (fl_105_0) = true := by decide +kernel
theorem om_105 : OKm mi iT prg 105 := OKm_of (code := code_105) rfl mt_105 (Or.inl (by decide +kernel)) rfl wk_105 (by decide +kernel) (by decide +kernel) (FA_of fe_105 (fb_105_0))
def fl_106_0 : List Ent := [(1, 3, 6, .getfield 79, [0, 36, 193], 0), (7, 3, 18, .invokestatic 245, [0, 1, 1, 63], 0), (14, 3, 19, .invokevirtual 100, [9, 2, 2, 36, 100], 0), (18, 3, 19, .invokevirtual 83, [0, 1, 1, 36, 102], 0), (27, 3, 6, .getfield 15, [3, 36, 190], 0), (30, 3, 18, .invokestatic 248, [0, 3, 3, 64], 0), (41, 3, 6, .getfield 15, [3, 36, 190], 0), (44, 3, 18, .invokestatic 251, [0, 4, 4, 57], 0), (50, 3, 7, .putfield 79, [0, 36, 193], 0)]
theorem fb_106_0 : FB mi iT mi_106 (bpc code_106) (fl_106_0) := ⟨fun hd => mk6 fld_36_3 (Or.inl ⟨rfl, by decide⟩) (Or.inl W3947) (Or.inl rfl) (hd rfl),
  ⟨fun hd => mk18 mt_63 sf_63 (Or.inl W4058) rfl rfl (noH_nil rfl) (hd rfl),
  ⟨fun hd => mk19 mt_100 cf_100 (pf_100_36.rt W3969 (hd rfl)) rfl rfl (noH_nil rfl),
  ⟨fun hd => mk19 mt_102 cf_102 (vf_102_36.rt (Or.inl W3989) (hd rfl)) rfl rfl (noH_nil rfl),
  ⟨fun hd => mk6 fld_36_0 (Or.inl ⟨rfl, by decide⟩) (Or.inl W3944) (Or.inl rfl) (hd rfl),
  ⟨fun hd => mk18 mt_64 sf_64 (Or.inl W4061) rfl rfl (noH_nil rfl) (hd rfl),
  ⟨fun hd => mk6 fld_36_0 (Or.inl ⟨rfl, by decide⟩) (Or.inl W3944) (Or.inl rfl) (hd rfl),
  ⟨fun hd => mk18 mt_57 sf_57 (Or.inl W4068) rfl rfl (noH_nil rfl) (hd rfl),
  ⟨fun hd => mk7 fld_36_3 (Or.inl W3947) (Or.inl rfl) (Or.inl rfl) (hd rfl),
  trivial⟩⟩⟩⟩⟩⟩⟩⟩⟩
theorem fe_106 : eqEs ((flat code_106).filter (fun e => ndE e.2.2.1)) (fl_106_0) = true := by decide +kernel
theorem om_106 : OKm mi iT prg 106 := OKm_of (code := code_106) rfl mt_106 (Or.inl (by decide +kernel)) rfl wk_106 (by decide +kernel) (by decide +kernel) (FA_of fe_106 (fb_106_0))
def fl_107_0 : List Ent := [(1, 3, 6, .getfield 15, [3, 36, 190], 0)]
theorem fb_107_0 : FB mi iT mi_107 (bpc code_107) (fl_107_0) := ⟨fun hd => mk6 fld_36_0 (Or.inl ⟨rfl, by decide⟩) (Or.inl W3944) (Or.inl rfl) (hd rfl),
  trivial⟩
theorem fe_107 : eqEs ((flat code_107).filter (fun e => ndE e.2.2.1)) (fl_107_0) = true := by decide +kernel
theorem om_107 : OKm mi iT prg 107 := OKm_of (code := code_107) rfl mt_107 (Or.inl (by decide +kernel)) rfl wk_107 (by decide +kernel) (by decide +kernel) (FA_of fe_107 (fb_107_0))
def fl_108_0 : List Ent := [(1, 3, 6, .getfield 79, [0, 36, 193], 0)]
theorem fb_108_0 : FB mi iT mi_108 (bpc code_108) (fl_108_0) := ⟨fun hd => mk6 fld_36_3 (Or.inl ⟨rfl, by decide⟩) (Or.inl W3947) (Or.inl rfl) (hd rfl),
  trivial⟩
theorem fe_108 : eqEs ((flat code_108).filter (fun e => ndE e.2.2.1)) (fl_108_0) = true := by decide +kernel
theorem om_108 : OKm mi iT prg 108 := OKm_of (code := code_108) rfl mt_108 (Or.inl (by decide +kernel)) rfl wk_108 (by decide +kernel) (by decide +kernel) (FA_of fe_108 (fb_108_0))
def fl_109_0 : List Ent := [(3, 3, 36, .invokespecial 1, [9, 2, 2, 36, 97], 0)]
theorem fb_109_0 : FB mi iT mi_109 (bpc code_109) (fl_109_0) := ⟨fun hd => mk36 mt_97 cf_97 (ic_97.rt (Or.inl W3932) (hd rfl)) rfl rfl,
  trivial⟩
theorem fe_109 : eqEs ((flat code_109).filter (fun e => ndE e.2.2.1)) (fl_109_0) = true := by decide +kernel
theorem om_109 : OKm mi iT prg 109 := OKm_of (code := code_109) rfl mt_109 (Or.inl (by decide +kernel)) rfl wk_109 (by decide +kernel) (by decide +kernel) (FA_of fe_109 (fb_109_0))
def fl_110_0 : List Ent := [(2, 3, 36, .invokespecial 29, [3, 2, 2, 36, 98], 0)]
theorem fb_110_0 : FB mi iT mi_110 (bpc code_110) (fl_110_0) := ⟨fun hd => mk36 mt_98 cf_98 (SuF.rt (q := mi_110) su_98_36 W3962 (hd rfl)) rfl rfl,
  trivial⟩
theorem fe_110 : eqEs ((flat code_110).filter (fun e => ndE e.2.2.1)) (fl_110_0) = true := by decide +kernel
theorem om_110 : OKm mi iT prg 110 := OKm_of (code := code_110) rfl mt_110 (Or.inl (by decide +kernel)) rfl wk_110 (by decide +kernel) (by decide +kernel) (FA_of fe_110 (fb_110_0))
def fl_111_0 : List Ent := [(2, 3, 36, .invokespecial 53, [3, 2, 2, 36, 106], 0)]
theorem fb_111_0 : FB mi iT mi_111 (bpc code_111) (fl_111_0) := ⟨fun hd => mk36 mt_106 cf_106 (SuF.rt (q := mi_111) su_106_36 W4055 (hd rfl)) rfl rfl,
  trivial⟩
theorem fe_111 : eqEs ((flat code_111).filter (fun e => ndE e.2.2.1)) (fl_111_0) = true := by decide +kernel
theorem om_111 : OKm mi iT prg 111 := OKm_of (code := code_111) rfl mt_111 (Or.inl (by decide +kernel)) rfl wk_111 (by decide +kernel) (by decide +kernel) (FA_of fe_111 (fb_111_0))
def fl_112_0 : List Ent := [(0, 3, 11, .new 18, [14, 4], 0), (5, 3, 36, .invokespecial 137, [9, 2, 2, 14, 38], 0)]
theorem fb_112_0 : FB mi iT mi_112 (bpc code_112) (fl_112_0) := ⟨fun hd => mk11 nf_14 W4081 (hd rfl),
  ⟨fun hd => mk36 mt_38 cf_38 (ic_38.rt (Or.inl W4082) (hd rfl)) rfl rfl,
  trivial⟩⟩
theorem fe_112 : eqEs ((flat code_112).filter (fun e => ndE e.2.2.1)) (fl_112_0) = true := by decide +kernel
theorem om_112 : OKm mi iT prg 112 := OKm_of (code := code_112) rfl mt_112 (Or.inl (by decide +kernel)) rfl wk_112 (by decide +kernel) (by decide +kernel) (FA_of fe_112 (fb_112_0))
def fl_113_0 : List Ent := [(1, 3, 36, .invokespecial 343, [0, 1, 1, 36, 108], 0)]
theorem fb_113_0 : FB mi iT mi_113 (bpc code_113) (fl_113_0) := ⟨fun hd => mk36 mt_108 cf_108 (SuF.rt (q := mi_113) su_108_36 W4100 (hd rfl)) rfl rfl,
  trivial⟩
theorem fe_113 : eqEs ((flat code_113).filter (fun e => ndE e.2.2.1)) (fl_113_0) = true := by decide +kernel
theorem om_113 : OKm mi iT prg 113 := OKm_of (code := code_113) rfl mt_113 (Or.inl (by decide +kernel)) rfl wk_113 (by decide +kernel) (by decide +kernel) (FA_of fe_113 (fb_113_0))
theorem fe_114 : eqEs ((flat code_114).filter (fun e => ndE e.2.2.1)) ([]) = true := by decide +kernel
theorem om_114 : OKm mi iT prg 114 := OKm_of (code := code_114) rfl mt_114 (Or.inl (by decide +kernel)) rfl wk_114 (by decide +kernel) (by decide +kernel) (FA_of fe_114 (trivial))
theorem fe_116 : eqEs ((flat code_116).filter (fun e => ndE e.2.2.1)) ([]) = true := by decide +kernel
theorem om_116 : OKm mi iT prg 116 := OKm_of (code := code_116) rfl mt_116 (Or.inl (by decide +kernel)) rfl wk_116 (by decide +kernel) (by decide +kernel) (FA_of fe_116 (trivial))
def fl_117_0 : List Ent := [(0, 3, 24, .new 8, [1, 13, 1], 0), (4, 3, 37, .invokespecial 235, [9, 1, 1, 182, 1, 1], 0), (8, 3, 24, .new 236, [37, 18, 2], 0), (12, 3, 37, .invokespecial 238, [9, 1, 1, 359, 2, 37], 0), (16, 3, 11, .new 14, [21, 3], 0), (20, 3, 36, .invokespecial 239, [9, 1, 1, 21, 483], 0), (30, 1, 10, .arraylength, [100], 0), (44, 288, 5, .tableswitch 5166 0 67 #[288, 381, 474, 531, 600, 700, 788, 893, 962, 1031, 1100, 1188, 1304, 1361, 1466, 1535, 1592, 1673, 1801, 1886, 1991, 2060, 2153, 2222, 2279, 2348, 2417, 2486, 2543, 2612, 2681, 2750, 2807, 2876, 2933, 3014, 3083, 3140, 3209, 3278, 3371, 3440, 3516, 3573, 3630, 3699, 3787, 3892, 3980, 4037, 4094, 4163, 4220, 4301, 4406, 4475, 4556, 4613, 4682, 4751, 4820, 4917, 4998, 5011, 5068, 5081, 5094, 5152], [437, 0, 3, 1, 9, 2, 15, 3, 21, 4, 27, 5, 35, 6, 43, 7, 49, 8, 55, 9, 61, 10, 67, 11, 75, 12, 89, 13, 95, 14, 101, 15, 107, 16, 113, 17, 119, 18, 133, 19, 145, 20, 151, 21, 157, 22, 163, 23, 169, 24, 175, 25, 181, 26, 187, 27, 193, 28, 199, 29, 205, 30, 211, 31, 217, 32, 223, 33, 229, 34, 235, 35, 241, 36, 247, 37, 253, 38, 259, 39, 265, 40, 271, 41, 277, 42, 286, 43, 292, 44, 298, 45, 304, 46, 312, 47, 318, 48, 327, 49, 333, 50, 339, 51, 345, 52, 351, 53, 357, 54, 363, 55, 369, 56, 375, 57, 381, 58, 387, 59, 393, 60, 399, 61, 411, 62, 417, 63, 419, 64, 425, 65, 427, 66, 429, 67, 435], 0), (358, 3, 18, .invokestatic 240, [0, 6, 6, 118], 0), (388, 3, 23, .invokevirtual 245, [0, 5, 5, 361, 2, 37, 0], 0), (394, 3, 23, .invokevirtual 246, [0, 1, 1, 360, 2, 37, 0], 0), (410, 3, 6, .getfield 13, [1, 21, 89], 0), (451, 3, 18, .invokestatic 250, [0, 6, 6, 119], 0), (481, 3, 23, .invokevirtual 252, [0, 5, 5, 365, 2, 37, 0], 0), (487, 3, 23, .invokevirtual 246, [0, 1, 1, 360, 2, 37, 0], 0), (503, 3, 6, .getfield 13, [1, 21, 89], 0), (526, 3, 18, .invokestatic 253, [0, 3, 3, 120], 0), (538, 3, 23, .invokevirtual 256, [0, 2, 2, 367, 2, 37, 0], 0), (544, 3, 23, .invokevirtual 246, [0, 1, 1, 360, 2, 37, 0], 0), (560, 3, 6, .getfield 13, [1, 21, 89], 0), (589, 3, 18, .invokestatic 257, [0, 4, 4, 121], 0), (607, 3, 23, .invokevirtual 260, [0, 3, 3, 368, 2, 37, 0], 0), (613, 3, 23, .invokevirtual 246, [0, 1, 1, 360, 2, 37, 0], 0), (629, 3, 6, .getfield 13, [1, 21, 89], 0), (664, 3, 18, .invokestatic 261, [0, 5, 5, 122], 0), (688, 3, 23, .invokevirtual 264, [2, 4, 4, 370, 2, 37, 0], 0), (694, 3, 23, .invokevirtual 246, [0, 1, 1, 360, 2, 37, 0], 0), (710, 3, 6, .getfield 40, [2, 21, 90], 0), (720, 3, 6, .getfield 40, [2, 21, 90], 0), (724, 3, 6, .getfield 40, [2, 21, 90], 0)]
theorem fb_117_0 : FB mi iT mi_117 (bpc code_117) (fl_117_0) := ⟨fun hd => mk24 nf_1 W203 (hd rfl),
  ⟨fun hd => mk37 mt_182 cf_182 (ic_182.rt (Or.inl W205) (hd rfl)) rfl rfl,
  ⟨fun hd => mk24 nf_37 W4273 (hd rfl),
  ⟨fun hd => mk37 mt_359 cf_359 (ic_359.rt (Or.inl W4275) (hd rfl)) rfl rfl,
  ⟨fun hd => mk11 nf_21 W1741 (hd rfl),
  ⟨fun hd => mk36 mt_483 cf_483 (ic_483.rt (Or.inr ⟨_, W1743⟩) (hd rfl)) rfl rfl,
  ⟨fun hd => mk10 (by decide) rfl (hd rfl),
  ⟨fun hd => ⟨_, _, rfl, Or.inl ⟨5166, 0, 67, #[288, 381, 474, 531, 600, 700, 788, 893, 962, 1031, 1100, 1188, 1304, 1361, 1466, 1535, 1592, 1673, 1801, 1886, 1991, 2060, 2153, 2222, 2279, 2348, 2417, 2486, 2543, 2612, 2681, 2750, 2807, 2876, 2933, 3014, 3083, 3140, 3209, 3278, 3371, 3440, 3516, 3573, 3630, 3699, 3787, 3892, 3980, 4037, 4094, 4163, 4220, 4301, 4406, 4475, 4556, 4613, 4682, 4751, 4820, 4917, 4998, 5011, 5068, 5081, 5094, 5152], 68, 288, (show decode code 44 = .ok (.tableswitch 5166 0 67 #[288, 381, 474, 531, 600, 700, 788, 893, 962, 1031, 1100, 1188, 1304, 1361, 1466, 1535, 1592, 1673, 1801, 1886, 1991, 2060, 2153, 2222, 2279, 2348, 2417, 2486, 2543, 2612, 2681, 2750, 2807, 2876, 2933, 3014, 3083, 3140, 3209, 3278, 3371, 3440, 3516, 3573, 3630, 3699, 3787, 3892, 3980, 4037, 4094, 4163, 4220, 4301, 4406, 4475, 4556, 4613, 4682, 4751, 4820, 4917, 4998, 5011, 5068, 5081, 5094, 5152], 288) by decide +kernel), by decide, by decide +kernel⟩⟩,
  ⟨fun hd => mk18 mt_118 sf_118 (Or.inl W1757) rfl rfl (noH_nil rfl) (hd rfl),
  ⟨fun hd => mk23 mt_361 cf_361 (vf_361_37.rt (Or.inl W4349) (hd rfl)) rfl rfl (fun i E b a1 _ => absurd a1 (by simp)),
  ⟨fun hd => mk23 mt_360 cf_360 (vf_360_37.rt (Or.inl W4345) (hd rfl)) rfl rfl (fun i E b a1 _ => absurd a1 (by simp)),
  ⟨fun hd => mk6 fld_21_0 (Or.inl ⟨rfl, by decide⟩) (Or.inr ⟨_, W1747⟩) (Or.inl rfl) (hd rfl),
  ⟨fun hd => mk18 mt_119 sf_119 (Or.inl W2509) rfl rfl (noH_nil rfl) (hd rfl),
  ⟨fun hd => mk23 mt_365 cf_365 (vf_365_37.rt (Or.inl W4538) (hd rfl)) rfl rfl (fun i E b a1 _ => absurd a1 (by simp)),
  ⟨fun hd => mk23 mt_360 cf_360 (vf_360_37.rt (Or.inl W4345) (hd rfl)) rfl rfl (fun i E b a1 _ => absurd a1 (by simp)),
  ⟨fun hd => mk6 fld_21_0 (Or.inl ⟨rfl, by decide⟩) (Or.inr ⟨_, W1747⟩) (Or.inl rfl) (hd rfl),
  ⟨fun hd => mk18 mt_120 sf_120 (Or.inl W2563) rfl rfl (noH_nil rfl) (hd rfl),
  ⟨fun hd => mk23 mt_367 cf_367 (vf_367_37.rt (Or.inl W4547) (hd rfl)) rfl rfl (fun i E b a1 _ => absurd a1 (by simp)),
  ⟨fun hd => mk23 mt_360 cf_360 (vf_360_37.rt (Or.inl W4345) (hd rfl)) rfl rfl (fun i E b a1 _ => absurd a1 (by simp)),
  ⟨fun hd => mk6 fld_21_0 (Or.inl ⟨rfl, by decide⟩) (Or.inr ⟨_, W1747⟩) (Or.inl rfl) (hd rfl),
  ⟨fun hd => mk18 mt_121 sf_121 (Or.inl W2576) rfl rfl (noH_nil rfl) (hd rfl),
  ⟨fun hd => mk23 mt_368 cf_368 (vf_368_37.rt (Or.inl W4558) (hd rfl)) rfl rfl (fun i E b a1 _ => absurd a1 (by simp)),
  ⟨fun hd => mk23 mt_360 cf_360 (vf_360_37.rt (Or.inl W4345) (hd rfl)) rfl rfl (fun i E b a1 _ => absurd a1 (by simp)),
  ⟨fun hd => mk6 fld_21_0 (Or.inl ⟨rfl, by decide⟩) (Or.inr ⟨_, W1747⟩) (Or.inl rfl) (hd rfl),
  ⟨fun hd => mk18 mt_122 sf_122 (Or.inl W2583) rfl rfl (noH_nil rfl) (hd rfl),
  ⟨fun hd => mk23 mt_370 cf_370 (vf_370_37.rt (Or.inl W4566) (hd rfl)) rfl rfl (fun i E b a1 _ => absurd a1 (by simp)),
  ⟨fun hd => mk23 mt_360 cf_360 (vf_360_37.rt (Or.inl W4345) (hd rfl)) rfl rfl (fun i E b a1 _ => absurd a1 (by simp)),
  ⟨fun hd => mk6 fld_21_1 (Or.inl ⟨rfl, by decide⟩) (Or.inr ⟨_, W1748⟩) (Or.inl rfl) (hd rfl),
  ⟨fun hd => mk6 fld_21_1 (Or.inl ⟨rfl, by decide⟩) (Or.inr ⟨_, W1748⟩) (Or.inl rfl) (hd rfl),
  ⟨fun hd => mk6 fld_21_1 (Or.inl ⟨rfl, by decide⟩) (Or.inr ⟨_, W1748⟩) (Or.inl rfl) (hd rfl),
  trivial⟩⟩⟩⟩⟩⟩⟩⟩⟩⟩⟩⟩⟩⟩⟩⟩⟩⟩⟩⟩⟩⟩⟩⟩⟩⟩⟩⟩⟩⟩
def fl_117_1 : List Ent := [(758, 3, 18, .invokestatic 265, [0, 4, 4, 123], 0), (776, 3, 23, .invokevirtual 267, [2, 3, 3, 371, 2, 37, 0], 0), (782, 3, 23, .invokevirtual 246, [0, 1, 1, 360, 2, 37, 0], 0), (798, 3, 6, .getfield 40, [2, 21, 90], 0), (808, 3, 6, .getfield 40, [2, 21, 90], 0), (812, 3, 6, .getfield 40, [2, 21, 90], 0), (864, 3, 18, .invokestatic 268, [0, 7, 7, 124], 0), (900, 3, 23, .invokevirtual 271, [0, 6, 6, 372, 2, 37, 0], 0), (906, 3, 23, .invokevirtual 246, [0, 1, 1, 360, 2, 37, 0], 0), (922, 3, 6, .getfield 13, [1, 21, 89], 0), (951, 3, 18, .invokestatic 272, [0, 4, 4, 125], 0), (969, 3, 23, .invokevirtual 274, [0, 3, 3, 374, 2, 37, 0], 0), (975, 3, 23, .invokevirtual 246, [0, 1, 1, 360, 2, 37, 0], 0), (991, 3, 6, .getfield 13, [1, 21, 89], 0), (1020, 3, 18, .invokestatic 275, [0, 4, 4, 126], 0), (1038, 3, 23, .invokevirtual 277, [0, 3, 3, 375, 2, 37, 0], 0), (1044, 3, 23, .invokevirtual 246, [0, 1, 1, 360, 2, 37, 0], 0), (1060, 3, 6, .getfield 13, [1, 21, 89], 0), (1089, 3, 18, .invokestatic 278, [0, 4, 4, 127], 0), (1107, 3, 23, .invokevirtual 280, [0, 3, 3, 376, 2, 37, 0], 0), (1113, 3, 23, .invokevirtual 246, [0, 1, 1, 360, 2, 37, 0], 0), (1129, 3, 6, .getfield 13, [1, 21, 89], 0), (1158, 3, 18, .invokestatic 281, [0, 4, 4, 128], 0), (1176, 3, 23, .invokevirtual 283, [2, 3, 3, 377, 2, 37, 0], 0), (1182, 3, 23, .invokevirtual 246, [0, 1, 1, 360, 2, 37, 0], 0), (1198, 3, 6, .getfield 40, [2, 21, 90], 0), (1208, 3, 6, .getfield 40, [2, 21, 90], 0), (1212, 3, 6, .getfield 40, [2, 21, 90], 0), (1260, 3, 18, .invokestatic 284, [0, 5, 5, 129], 0), (1292, 3, 23, .invokevirtual 287, [2, 4, 4, 378, 2, 37, 0], 0)]
theorem fb_117_1 : FB mi iT mi_117 (bpc code_117) (fl_117_1) := ⟨fun hd => mk18 mt_123 sf_123 (Or.inl W2607) rfl rfl (noH_nil rfl) (hd rfl),
  ⟨fun hd => mk23 mt_371 cf_371 (vf_371_37.rt (Or.inl W4626) (hd rfl)) rfl rfl (fun i E b a1 _ => absurd a1 (by simp)),
  ⟨fun hd => mk23 mt_360 cf_360 (vf_360_37.rt (Or.inl W4345) (hd rfl)) rfl rfl (fun i E b a1 _ => absurd a1 (by simp)),
  ⟨fun hd => mk6 fld_21_1 (Or.inl ⟨rfl, by decide⟩) (Or.inr ⟨_, W1748⟩) (Or.inl rfl) (hd rfl),
  ⟨fun hd => mk6 fld_21_1 (Or.inl ⟨rfl, by decide⟩) (Or.inr ⟨_, W1748⟩) (Or.inl rfl) (hd rfl),
  ⟨fun hd => mk6 fld_21_1 (Or.inl ⟨rfl, by decide⟩) (Or.inr ⟨_, W1748⟩) (Or.inl rfl) (hd rfl),
  ⟨fun hd => mk18 mt_124 sf_124 (Or.inl W2616) rfl rfl (noH_nil rfl) (hd rfl),
  ⟨fun hd => mk23 mt_372 cf_372 (vf_372_37.rt (Or.inl W4638) (hd rfl)) rfl rfl (fun i E b a1 _ => absurd a1 (by simp)),
  ⟨fun hd => mk23 mt_360 cf_360 (vf_360_37.rt (Or.inl W4345) (hd rfl)) rfl rfl (fun i E b a1 _ => absurd a1 (by simp)),
  ⟨fun hd => mk6 fld_21_0 (Or.inl ⟨rfl, by decide⟩) (Or.inr ⟨_, W1747⟩) (Or.inl rfl) (hd rfl),
  ⟨fun hd => mk18 mt_125 sf_125 (Or.inl W2656) rfl rfl (noH_nil rfl) (hd rfl),
  ⟨fun hd => mk23 mt_374 cf_374 (vf_374_37.rt (Or.inl W4650) (hd rfl)) rfl rfl (fun i E b a1 _ => absurd a1 (by simp)),
  ⟨fun hd => mk23 mt_360 cf_360 (vf_360_37.rt (Or.inl W4345) (hd rfl)) rfl rfl (fun i E b a1 _ => absurd a1 (by simp)),
  ⟨fun hd => mk6 fld_21_0 (Or.inl ⟨rfl, by decide⟩) (Or.inr ⟨_, W1747⟩) (Or.inl rfl) (hd rfl),
  ⟨fun hd => mk18 mt_126 sf_126 (Or.inl W2672) rfl rfl (noH_nil rfl) (hd rfl),
  ⟨fun hd => mk23 mt_375 cf_375 (vf_375_37.rt (Or.inl W4655) (hd rfl)) rfl rfl (fun i E b a1 _ => absurd a1 (by simp)),
  ⟨fun hd => mk23 mt_360 cf_360 (vf_360_37.rt (Or.inl W4345) (hd rfl)) rfl rfl (fun i E b a1 _ => absurd a1 (by simp)),
  ⟨fun hd => mk6 fld_21_0 (Or.inl ⟨rfl, by decide⟩) (Or.inr ⟨_, W1747⟩) (Or.inl rfl) (hd rfl),
  ⟨fun hd => mk18 mt_127 sf_127 (Or.inl W2687) rfl rfl (noH_nil rfl) (hd rfl),
  ⟨fun hd => mk23 mt_376 cf_376 (vf_376_37.rt (Or.inl W4660) (hd rfl)) rfl rfl (fun i E b a1 _ => absurd a1 (by simp)),
  ⟨fun hd => mk23 mt_360 cf_360 (vf_360_37.rt (Or.inl W4345) (hd rfl)) rfl rfl (fun i E b a1 _ => absurd a1 (by simp)),
  ⟨fun hd => mk6 fld_21_0 (Or.inl ⟨rfl, by decide⟩) (Or.inr ⟨_, W1747⟩) (Or.inl rfl) (hd rfl),
  ⟨fun hd => mk18 mt_128 sf_128 (Or.inl W2695) rfl rfl (noH_nil rfl) (hd rfl),
  ⟨fun hd => mk23 mt_377 cf_377 (vf_377_37.rt (Or.inl W4664) (hd rfl)) rfl rfl (fun i E b a1 _ => absurd a1 (by simp)),
  ⟨fun hd => mk23 mt_360 cf_360 (vf_360_37.rt (Or.inl W4345) (hd rfl)) rfl rfl (fun i E b a1 _ => absurd a1 (by simp)),
  ⟨fun hd => mk6 fld_21_1 (Or.inl ⟨rfl, by decide⟩) (Or.inr ⟨_, W1748⟩) (Or.inl rfl) (hd rfl),
  ⟨fun hd => mk6 fld_21_1 (Or.inl ⟨rfl, by decide⟩) (Or.inr ⟨_, W1748⟩) (Or.inl rfl) (hd rfl),
  ⟨fun hd => mk6 fld_21_1 (Or.inl ⟨rfl, by decide⟩) (Or.inr ⟨_, W1748⟩) (Or.inl rfl) (hd rfl),
  ⟨fun hd => mk18 mt_129 sf_129 (Or.inl W2702) rfl rfl (noH_nil rfl) (hd rfl),
  ⟨fun hd => mk23 mt_378 cf_378 (vf_378_37.rt (Or.inl W4775) (hd rfl)) rfl rfl (fun i E b a1 _ => absurd a1 (by simp)),
  trivial⟩⟩⟩⟩⟩⟩⟩⟩⟩⟩⟩⟩⟩⟩⟩⟩⟩⟩⟩⟩⟩⟩⟩⟩⟩⟩⟩⟩⟩⟩
def fl_117_2 : List Ent := [(1298, 3, 23, .invokevirtual 246, [0, 1, 1, 360, 2, 37, 0], 0), (1314, 3, 6, .getfield 40, [2, 21, 90], 0), (1324, 3, 6, .getfield 40, [2, 21, 90], 0), (1328, 3, 6, .getfield 40, [2, 21, 90], 0), (1356, 3, 18, .invokestatic 288, [0, 3, 3, 130], 0), (1368, 3, 23, .invokevirtual 290, [0, 2, 2, 380, 2, 37, 0], 0), (1374, 3, 23, .invokevirtual 246, [0, 1, 1, 360, 2, 37, 0], 0), (1390, 3, 6, .getfield 13, [1, 21, 89], 0), (1437, 3, 18, .invokestatic 291, [0, 7, 7, 131], 0), (1473, 3, 23, .invokevirtual 293, [0, 6, 6, 382, 2, 37, 0], 0), (1479, 3, 23, .invokevirtual 246, [0, 1, 1, 360, 2, 37, 0], 0), (1495, 3, 6, .getfield 13, [1, 21, 89], 0), (1524, 3, 18, .invokestatic 294, [0, 4, 4, 132], 0), (1542, 3, 23, .invokevirtual 296, [0, 3, 3, 383, 2, 37, 0], 0), (1548, 3, 23, .invokevirtual 246, [0, 1, 1, 360, 2, 37, 0], 0), (1564, 3, 6, .getfield 13, [1, 21, 89], 0), (1587, 3, 18, .invokestatic 297, [0, 3, 3, 133], 0), (1599, 3, 23, .invokevirtual 299, [0, 2, 2, 384, 2, 37, 0], 0), (1605, 3, 23, .invokevirtual 246, [0, 1, 1, 360, 2, 37, 0], 0), (1621, 3, 6, .getfield 13, [1, 21, 89], 0), (1656, 3, 18, .invokestatic 300, [0, 5, 5, 134], 0), (1680, 3, 23, .invokevirtual 302, [0, 4, 4, 385, 2, 37, 0], 0), (1686, 3, 23, .invokevirtual 246, [0, 1, 1, 360, 2, 37, 0], 0), (1702, 3, 6, .getfield 13, [1, 21, 89], 0), (1751, 3, 18, .invokestatic 303, [0, 6, 6, 135], 0), (1789, 3, 23, .invokevirtual 306, [2, 5, 5, 387, 2, 37, 0], 0), (1795, 3, 23, .invokevirtual 246, [0, 1, 1, 360, 2, 37, 0], 0), (1811, 3, 6, .getfield 40, [2, 21, 90], 0), (1821, 3, 6, .getfield 40, [2, 21, 90], 0), (1825, 3, 6, .getfield 40, [2, 21, 90], 0)]
theorem fb_117_2 : FB mi iT mi_117 (bpc code_117) (fl_117_2) := ⟨fun hd => mk23 mt_360 cf_360 (vf_360_37.rt (Or.inl W4345) (hd rfl)) rfl rfl (fun i E b a1 _ => absurd a1 (by simp)),
  ⟨fun hd => mk6 fld_21_1 (Or.inl ⟨rfl, by decide⟩) (Or.inr ⟨_, W1748⟩) (Or.inl rfl) (hd rfl),
  ⟨fun hd => mk6 fld_21_1 (Or.inl ⟨rfl, by decide⟩) (Or.inr ⟨_, W1748⟩) (Or.inl rfl) (hd rfl),
  ⟨fun hd => mk6 fld_21_1 (Or.inl ⟨rfl, by decide⟩) (Or.inr ⟨_, W1748⟩) (Or.inl rfl) (hd rfl),
  ⟨fun hd => mk18 mt_130 sf_130 (Or.inl W2711) rfl rfl (noH_nil rfl) (hd rfl),
  ⟨fun hd => mk23 mt_380 cf_380 (vf_380_37.rt (Or.inl W4799) (hd rfl)) rfl rfl (fun i E b a1 _ => absurd a1 (by simp)),
  ⟨fun hd => mk23 mt_360 cf_360 (vf_360_37.rt (Or.inl W4345) (hd rfl)) rfl rfl (fun i E b a1 _ => absurd a1 (by simp)),
  ⟨fun hd => mk6 fld_21_0 (Or.inl ⟨rfl, by decide⟩) (Or.inr ⟨_, W1747⟩) (Or.inl rfl) (hd rfl),
  ⟨fun hd => mk18 mt_131 sf_131 (Or.inl W2718) rfl rfl (noH_nil rfl) (hd rfl),
  ⟨fun hd => mk23 mt_382 cf_382 (vf_382_37.rt (Or.inl W4811) (hd rfl)) rfl rfl (fun i E b a1 _ => absurd a1 (by simp)),
  ⟨fun hd => mk23 mt_360 cf_360 (vf_360_37.rt (Or.inl W4345) (hd rfl)) rfl rfl (fun i E b a1 _ => absurd a1 (by simp)),
  ⟨fun hd => mk6 fld_21_0 (Or.inl ⟨rfl, by decide⟩) (Or.inr ⟨_, W1747⟩) (Or.inl rfl) (hd rfl),
  ⟨fun hd => mk18 mt_132 sf_132 (Or.inl W2725) rfl rfl (noH_nil rfl) (hd rfl),
  ⟨fun hd => mk23 mt_383 cf_383 (vf_383_37.rt (Or.inl W4815) (hd rfl)) rfl rfl (fun i E b a1 _ => absurd a1 (by simp)),
  ⟨fun hd => mk23 mt_360 cf_360 (vf_360_37.rt (Or.inl W4345) (hd rfl)) rfl rfl (fun i E b a1 _ => absurd a1 (by simp)),
  ⟨fun hd => mk6 fld_21_0 (Or.inl ⟨rfl, by decide⟩) (Or.inr ⟨_, W1747⟩) (Or.inl rfl) (hd rfl),
  ⟨fun hd => mk18 mt_133 sf_133 (Or.inl W2732) rfl rfl (noH_nil rfl) (hd rfl),
  ⟨fun hd => mk23 mt_384 cf_384 (vf_384_37.rt (Or.inl W4819) (hd rfl)) rfl rfl (fun i E b a1 _ => absurd a1 (by simp)),
  ⟨fun hd => mk23 mt_360 cf_360 (vf_360_37.rt (Or.inl W4345) (hd rfl)) rfl rfl (fun i E b a1 _ => absurd a1 (by simp)),
  ⟨fun hd => mk6 fld_21_0 (Or.inl ⟨rfl, by decide⟩) (Or.inr ⟨_, W1747⟩) (Or.inl rfl) (hd rfl),
  ⟨fun hd => mk18 mt_134 sf_134 (Or.inl W2751) rfl rfl (noH_nil rfl) (hd rfl),
  ⟨fun hd => mk23 mt_385 cf_385 (vf_385_37.rt (Or.inl W4863) (hd rfl)) rfl rfl (fun i E b a1 _ => absurd a1 (by simp)),
  ⟨fun hd => mk23 mt_360 cf_360 (vf_360_37.rt (Or.inl W4345) (hd rfl)) rfl rfl (fun i E b a1 _ => absurd a1 (by simp)),
  ⟨fun hd => mk6 fld_21_0 (Or.inl ⟨rfl, by decide⟩) (Or.inr ⟨_, W1747⟩) (Or.inl rfl) (hd rfl),
  ⟨fun hd => mk18 mt_135 sf_135 (Or.inl W2758) rfl rfl (noH_nil rfl) (hd rfl),
  ⟨fun hd => mk23 mt_387 cf_387 (vf_387_37.rt (Or.inl W4871) (hd rfl)) rfl rfl (fun i E b a1 _ => absurd a1 (by simp)),
  ⟨fun hd => mk23 mt_360 cf_360 (vf_360_37.rt (Or.inl W4345) (hd rfl)) rfl rfl (fun i E b a1 _ => absurd a1 (by simp)),
  ⟨fun hd => mk6 fld_21_1 (Or.inl ⟨rfl, by decide⟩) (Or.inr ⟨_, W1748⟩) (Or.inl rfl) (hd rfl),
  ⟨fun hd => mk6 fld_21_1 (Or.inl ⟨rfl, by decide⟩) (Or.inr ⟨_, W1748⟩) (Or.inl rfl) (hd rfl),
  ⟨fun hd => mk6 fld_21_1 (Or.inl ⟨rfl, by decide⟩) (Or.inr ⟨_, W1748⟩) (Or.inl rfl) (hd rfl),
  trivial⟩⟩⟩⟩⟩⟩⟩⟩⟩⟩⟩⟩⟩⟩⟩⟩⟩⟩⟩⟩⟩⟩⟩⟩⟩⟩⟩⟩⟩⟩
def fl_117_3 : List Ent := [(1867, 3, 18, .invokestatic 307, [0, 4, 4, 136], 0), (1893, 3, 23, .invokevirtual 310, [0, 3, 3, 388, 2, 37, 0], 0), (1899, 3, 23, .invokevirtual 246, [0, 1, 1, 360, 2, 37, 0], 0), (1915, 3, 6, .getfield 13, [1, 21, 89], 0), (1962, 3, 18, .invokestatic 311, [0, 7, 7, 137], 0), (1998, 3, 23, .invokevirtual 313, [0, 6, 6, 389, 2, 37, 0], 0), (2004, 3, 23, .invokevirtual 246, [0, 1, 1, 360, 2, 37, 0], 0), (2020, 3, 6, .getfield 13, [1, 21, 89], 0), (2049, 3, 18, .invokestatic 314, [0, 4, 4, 138], 0), (2067, 3, 23, .invokevirtual 316, [0, 3, 3, 390, 2, 37, 0], 0), (2073, 3, 23, .invokevirtual 246, [0, 1, 1, 360, 2, 37, 0], 0), (2089, 3, 6, .getfield 13, [1, 21, 89], 0), (2130, 3, 18, .invokestatic 317, [0, 6, 6, 139], 0), (2160, 3, 23, .invokevirtual 319, [0, 5, 5, 393, 2, 37, 0], 0), (2166, 3, 23, .invokevirtual 246, [0, 1, 1, 360, 2, 37, 0], 0), (2182, 3, 6, .getfield 13, [1, 21, 89], 0), (2211, 3, 18, .invokestatic 320, [0, 4, 4, 140], 0), (2229, 3, 23, .invokevirtual 322, [0, 3, 3, 402, 2, 37, 0], 0), (2235, 3, 23, .invokevirtual 246, [0, 1, 1, 360, 2, 37, 0], 0), (2251, 3, 6, .getfield 13, [1, 21, 89], 0), (2274, 3, 18, .invokestatic 323, [0, 3, 3, 141], 0), (2286, 3, 23, .invokevirtual 325, [0, 2, 2, 403, 2, 37, 0], 0), (2292, 3, 23, .invokevirtual 246, [0, 1, 1, 360, 2, 37, 0], 0), (2308, 3, 6, .getfield 13, [1, 21, 89], 0), (2337, 3, 18, .invokestatic 326, [0, 4, 4, 142], 0), (2355, 3, 23, .invokevirtual 328, [0, 3, 3, 404, 2, 37, 0], 0), (2361, 3, 23, .invokevirtual 246, [0, 1, 1, 360, 2, 37, 0], 0), (2377, 3, 6, .getfield 13, [1, 21, 89], 0), (2406, 3, 18, .invokestatic 329, [0, 4, 4, 143], 0), (2424, 3, 23, .invokevirtual 331, [0, 3, 3, 406, 2, 37, 0], 0)]
theorem fb_117_3 : FB mi iT mi_117 (bpc code_117) (fl_117_3) := ⟨fun hd => mk18 mt_136 sf_136 (Or.inl W2778) rfl rfl (noH_nil rfl) (hd rfl),
  ⟨fun hd => mk23 mt_388 cf_388 (vf_388_37.rt (Or.inl W4879) (hd rfl)) rfl rfl (fun i E b a1 _ => absurd a1 (by simp)),
  ⟨fun hd => mk23 mt_360 cf_360 (vf_360_37.rt (Or.inl W4345) (hd rfl)) rfl rfl (fun i E b a1 _ => absurd a1 (by simp)),
  ⟨fun hd => mk6 fld_21_0 (Or.inl ⟨rfl, by decide⟩) (Or.inr ⟨_, W1747⟩) (Or.inl rfl) (hd rfl),
  ⟨fun hd => mk18 mt_137 sf_137 (Or.inl W2785) rfl rfl (noH_nil rfl) (hd rfl),
  ⟨fun hd => mk23 mt_389 cf_389 (vf_389_37.rt (Or.inl W4887) (hd rfl)) rfl rfl (fun i E b a1 _ => absurd a1 (by simp)),
  ⟨fun hd => mk23 mt_360 cf_360 (vf_360_37.rt (Or.inl W4345) (hd rfl)) rfl rfl (fun i E b a1 _ => absurd a1 (by simp)),
  ⟨fun hd => mk6 fld_21_0 (Or.inl ⟨rfl, by decide⟩) (Or.inr ⟨_, W1747⟩) (Or.inl rfl) (hd rfl),
  ⟨fun hd => mk18 mt_138 sf_138 (Or.inl W2831) rfl rfl (noH_nil rfl) (hd rfl),
  ⟨fun hd => mk23 mt_390 cf_390 (vf_390_37.rt (Or.inl W4891) (hd rfl)) rfl rfl (fun i E b a1 _ => absurd a1 (by simp)),
  ⟨fun hd => mk23 mt_360 cf_360 (vf_360_37.rt (Or.inl W4345) (hd rfl)) rfl rfl (fun i E b a1 _ => absurd a1 (by simp)),
  ⟨fun hd => mk6 fld_21_0 (Or.inl ⟨rfl, by decide⟩) (Or.inr ⟨_, W1747⟩) (Or.inl rfl) (hd rfl),
  ⟨fun hd => mk18 mt_139 sf_139 (Or.inl W2904) rfl rfl (noH_nil rfl) (hd rfl),
  ⟨fun hd => mk23 mt_393 cf_393 (vf_393_37.rt (Or.inl W4904) (hd rfl)) rfl rfl (fun i E b a1 _ => absurd a1 (by simp)),
  ⟨fun hd => mk23 mt_360 cf_360 (vf_360_37.rt (Or.inl W4345) (hd rfl)) rfl rfl (fun i E b a1 _ => absurd a1 (by simp)),
  ⟨fun hd => mk6 fld_21_0 (Or.inl ⟨rfl, by decide⟩) (Or.inr ⟨_, W1747⟩) (Or.inl rfl) (hd rfl),
  ⟨fun hd => mk18 mt_140 sf_140 (Or.inl W3121) rfl rfl (noH_nil rfl) (hd rfl),
  ⟨fun hd => mk23 mt_402 cf_402 (vf_402_37.rt (Or.inl W4948) (hd rfl)) rfl rfl (fun i E b a1 _ => absurd a1 (by simp)),
  ⟨fun hd => mk23 mt_360 cf_360 (vf_360_37.rt (Or.inl W4345) (hd rfl)) rfl rfl (fun i E b a1 _ => absurd a1 (by simp)),
  ⟨fun hd => mk6 fld_21_0 (Or.inl ⟨rfl, by decide⟩) (Or.inr ⟨_, W1747⟩) (Or.inl rfl) (hd rfl),
  ⟨fun hd => mk18 mt_141 sf_141 (Or.inl W3128) rfl rfl (noH_nil rfl) (hd rfl),
  ⟨fun hd => mk23 mt_403 cf_403 (vf_403_37.rt (Or.inl W4953) (hd rfl)) rfl rfl (fun i E b a1 _ => absurd a1 (by simp)),
  ⟨fun hd => mk23 mt_360 cf_360 (vf_360_37.rt (Or.inl W4345) (hd rfl)) rfl rfl (fun i E b a1 _ => absurd a1 (by simp)),
  ⟨fun hd => mk6 fld_21_0 (Or.inl ⟨rfl, by decide⟩) (Or.inr ⟨_, W1747⟩) (Or.inl rfl) (hd rfl),
  ⟨fun hd => mk18 mt_142 sf_142 (Or.inl W3139) rfl rfl (noH_nil rfl) (hd rfl),
  ⟨fun hd => mk23 mt_404 cf_404 (vf_404_37.rt (Or.inl W4957) (hd rfl)) rfl rfl (fun i E b a1 _ => absurd a1 (by simp)),
  ⟨fun hd => mk23 mt_360 cf_360 (vf_360_37.rt (Or.inl W4345) (hd rfl)) rfl rfl (fun i E b a1 _ => absurd a1 (by simp)),
  ⟨fun hd => mk6 fld_21_0 (Or.inl ⟨rfl, by decide⟩) (Or.inr ⟨_, W1747⟩) (Or.inl rfl) (hd rfl),
  ⟨fun hd => mk18 mt_143 sf_143 (Or.inl W3146) rfl rfl (noH_nil rfl) (hd rfl),
  ⟨fun hd => mk23 mt_406 cf_406 (vf_406_37.rt (Or.inl W4970) (hd rfl)) rfl rfl (fun i E b a1 _ => absurd a1 (by simp)),
  trivial⟩⟩⟩⟩⟩⟩⟩⟩⟩⟩⟩⟩⟩⟩⟩⟩⟩⟩⟩⟩⟩⟩⟩⟩⟩⟩⟩⟩⟩⟩
def fl_117_4 : List Ent := [(2430, 3, 23, .invokevirtual 246, [0, 1, 1, 360, 2, 37, 0], 0), (2446, 3, 6, .getfield 13, [1, 21, 89], 0), (2475, 3, 18, .invokestatic 332, [0, 4, 4, 144], 0), (2493, 3, 23, .invokevirtual 334, [0, 3, 3, 407, 2, 37, 0], 0), (2499, 3, 23, .invokevirtual 246, [0, 1, 1, 360, 2, 37, 0], 0), (2515, 3, 6, .getfield 13, [1, 21, 89], 0), (2538, 3, 18, .invokestatic 335, [0, 3, 3, 145], 0), (2550, 3, 23, .invokevirtual 337, [0, 2, 2, 409, 2, 37, 0], 0), (2556, 3, 23, .invokevirtual 246, [0, 1, 1, 360, 2, 37, 0], 0), (2572, 3, 6, .getfield 13, [1, 21, 89], 0), (2601, 3, 18, .invokestatic 338, [0, 4, 4, 146], 0), (2619, 3, 23, .invokevirtual 340, [0, 3, 3, 413, 2, 37, 0], 0), (2625, 3, 23, .invokevirtual 246, [0, 1, 1, 360, 2, 37, 0], 0), (2641, 3, 6, .getfield 13, [1, 21, 89], 0), (2670, 3, 18, .invokestatic 341, [0, 4, 4, 147], 0), (2688, 3, 23, .invokevirtual 343, [0, 3, 3, 415, 2, 37, 0], 0), (2694, 3, 23, .invokevirtual 246, [0, 1, 1, 360, 2, 37, 0], 0), (2710, 3, 6, .getfield 13, [1, 21, 89], 0), (2739, 3, 18, .invokestatic 344, [0, 4, 4, 148], 0), (2757, 3, 23, .invokevirtual 346, [0, 3, 3, 417, 2, 37, 0], 0), (2763, 3, 23, .invokevirtual 246, [0, 1, 1, 360, 2, 37, 0], 0), (2779, 3, 6, .getfield 13, [1, 21, 89], 0), (2802, 3, 18, .invokestatic 347, [0, 3, 3, 149], 0), (2814, 3, 23, .invokevirtual 349, [0, 2, 2, 419, 2, 37, 0], 0), (2820, 3, 23, .invokevirtual 246, [0, 1, 1, 360, 2, 37, 0], 0), (2836, 3, 6, .getfield 13, [1, 21, 89], 0), (2865, 3, 18, .invokestatic 350, [0, 4, 4, 150], 0), (2883, 3, 23, .invokevirtual 352, [0, 3, 3, 421, 2, 37, 0], 0), (2889, 3, 23, .invokevirtual 246, [0, 1, 1, 360, 2, 37, 0], 0), (2905, 3, 6, .getfield 13, [1, 21, 89], 0)]
theorem fb_117_4 : FB mi iT mi_117 (bpc code_117) (fl_117_4) := ⟨fun hd => mk23 mt_360 cf_360 (vf_360_37.rt (Or.inl W4345) (hd rfl)) rfl rfl (fun i E b a1 _ => absurd a1 (by simp)),
  ⟨fun hd => mk6 fld_21_0 (Or.inl ⟨rfl, by decide⟩) (Or.inr ⟨_, W1747⟩) (Or.inl rfl) (hd rfl),
  ⟨fun hd => mk18 mt_144 sf_144 (Or.inl W3158) rfl rfl (noH_nil rfl) (hd rfl),
  ⟨fun hd => mk23 mt_407 cf_407 (vf_407_37.rt (Or.inl W4974) (hd rfl)) rfl rfl (fun i E b a1 _ => absurd a1 (by simp)),
  ⟨fun hd => mk23 mt_360 cf_360 (vf_360_37.rt (Or.inl W4345) (hd rfl)) rfl rfl (fun i E b a1 _ => absurd a1 (by simp)),
  ⟨fun hd => mk6 fld_21_0 (Or.inl ⟨rfl, by decide⟩) (Or.inr ⟨_, W1747⟩) (Or.inl rfl) (hd rfl),
  ⟨fun hd => mk18 mt_145 sf_145 (Or.inl W3196) rfl rfl (noH_nil rfl) (hd rfl),
  ⟨fun hd => mk23 mt_409 cf_409 (vf_409_37.rt (Or.inl W5004) (hd rfl)) rfl rfl (fun i E b a1 _ => absurd a1 (by simp)),
  ⟨fun hd => mk23 mt_360 cf_360 (vf_360_37.rt (Or.inl W4345) (hd rfl)) rfl rfl (fun i E b a1 _ => absurd a1 (by simp)),
  ⟨fun hd => mk6 fld_21_0 (Or.inl ⟨rfl, by decide⟩) (Or.inr ⟨_, W1747⟩) (Or.inl rfl) (hd rfl),
  ⟨fun hd => mk18 mt_146 sf_146 (Or.inl W3266) rfl rfl (noH_nil rfl) (hd rfl),
  ⟨fun hd => mk23 mt_413 cf_413 (vf_413_37.rt (Or.inl W5052) (hd rfl)) rfl rfl (fun i E b a1 _ => absurd a1 (by simp)),
  ⟨fun hd => mk23 mt_360 cf_360 (vf_360_37.rt (Or.inl W4345) (hd rfl)) rfl rfl (fun i E b a1 _ => absurd a1 (by simp)),
  ⟨fun hd => mk6 fld_21_0 (Or.inl ⟨rfl, by decide⟩) (Or.inr ⟨_, W1747⟩) (Or.inl rfl) (hd rfl),
  ⟨fun hd => mk18 mt_147 sf_147 (Or.inl W3291) rfl rfl (noH_nil rfl) (hd rfl),
  ⟨fun hd => mk23 mt_415 cf_415 (vf_415_37.rt (Or.inl W5061) (hd rfl)) rfl rfl (fun i E b a1 _ => absurd a1 (by simp)),
  ⟨fun hd => mk23 mt_360 cf_360 (vf_360_37.rt (Or.inl W4345) (hd rfl)) rfl rfl (fun i E b a1 _ => absurd a1 (by simp)),
  ⟨fun hd => mk6 fld_21_0 (Or.inl ⟨rfl, by decide⟩) (Or.inr ⟨_, W1747⟩) (Or.inl rfl) (hd rfl),
  ⟨fun hd => mk18 mt_148 sf_148 (Or.inl W3298) rfl rfl (noH_nil rfl) (hd rfl),
  ⟨fun hd => mk23 mt_417 cf_417 (vf_417_37.rt (Or.inl W5070) (hd rfl)) rfl rfl (fun i E b a1 _ => absurd a1 (by simp)),
  ⟨fun hd => mk23 mt_360 cf_360 (vf_360_37.rt (Or.inl W4345) (hd rfl)) rfl rfl (fun i E b a1 _ => absurd a1 (by simp)),
  ⟨fun hd => mk6 fld_21_0 (Or.inl ⟨rfl, by decide⟩) (Or.inr ⟨_, W1747⟩) (Or.inl rfl) (hd rfl),
  ⟨fun hd => mk18 mt_149 sf_149 (Or.inl W3305) rfl rfl (noH_nil rfl) (hd rfl),
  ⟨fun hd => mk23 mt_419 cf_419 (vf_419_37.rt (Or.inl W5079) (hd rfl)) rfl rfl (fun i E b a1 _ => absurd a1 (by simp)),
  ⟨fun hd => mk23 mt_360 cf_360 (vf_360_37.rt (Or.inl W4345) (hd rfl)) rfl rfl (fun i E b a1 _ => absurd a1 (by simp)),
  ⟨fun hd => mk6 fld_21_0 (Or.inl ⟨rfl, by decide⟩) (Or.inr ⟨_, W1747⟩) (Or.inl rfl) (hd rfl),
  ⟨fun hd => mk18 mt_150 sf_150 (Or.inl W3315) rfl rfl (noH_nil rfl) (hd rfl),
  ⟨fun hd => mk23 mt_421 cf_421 (vf_421_37.rt (Or.inl W5086) (hd rfl)) rfl rfl (fun i E b a1 _ => absurd a1 (by simp)),
  ⟨fun hd => mk23 mt_360 cf_360 (vf_360_37.rt (Or.inl W4345) (hd rfl)) rfl rfl (fun i E b a1 _ => absurd a1 (by simp)),
  ⟨fun hd => mk6 fld_21_0 (Or.inl ⟨rfl, by decide⟩) (Or.inr ⟨_, W1747⟩) (Or.inl rfl) (hd rfl),
  trivial⟩⟩⟩⟩⟩⟩⟩⟩⟩⟩⟩⟩⟩⟩⟩⟩⟩⟩⟩⟩⟩⟩⟩⟩⟩⟩⟩⟩⟩⟩
def fl_117_5 : List Ent := [(2928, 3, 18, .invokestatic 353, [0, 3, 3, 151], 0), (2940, 3, 23, .invokevirtual 355, [0, 2, 2, 422, 2, 37, 0], 0), (2946, 3, 23, .invokevirtual 246, [0, 1, 1, 360, 2, 37, 0], 0), (2962, 3, 6, .getfield 13, [1, 21, 89], 0), (2997, 3, 18, .invokestatic 356, [0, 5, 5, 152], 0), (3021, 3, 23, .invokevirtual 358, [0, 4, 4, 429, 2, 37, 0], 0), (3027, 3, 23, .invokevirtual 246, [0, 1, 1, 360, 2, 37, 0], 0), (3043, 3, 6, .getfield 13, [1, 21, 89], 0), (3072, 3, 18, .invokestatic 359, [0, 4, 4, 153], 0), (3090, 3, 23, .invokevirtual 361, [0, 3, 3, 430, 2, 37, 0], 0), (3096, 3, 23, .invokevirtual 246, [0, 1, 1, 360, 2, 37, 0], 0), (3112, 3, 6, .getfield 13, [1, 21, 89], 0), (3135, 3, 18, .invokestatic 362, [0, 3, 3, 154], 0), (3147, 3, 23, .invokevirtual 364, [0, 2, 2, 432, 2, 37, 0], 0), (3153, 3, 23, .invokevirtual 246, [0, 1, 1, 360, 2, 37, 0], 0), (3169, 3, 6, .getfield 13, [1, 21, 89], 0), (3198, 3, 18, .invokestatic 365, [0, 4, 4, 155], 0), (3216, 3, 23, .invokevirtual 367, [0, 3, 3, 434, 2, 37, 0], 0), (3222, 3, 23, .invokevirtual 246, [0, 1, 1, 360, 2, 37, 0], 0), (3238, 3, 6, .getfield 13, [1, 21, 89], 0), (3267, 3, 18, .invokestatic 368, [0, 4, 4, 156], 0), (3285, 3, 23, .invokevirtual 370, [0, 3, 3, 435, 2, 37, 0], 0), (3291, 3, 23, .invokevirtual 246, [0, 1, 1, 360, 2, 37, 0], 0), (3307, 3, 6, .getfield 13, [1, 21, 89], 0), (3348, 3, 18, .invokestatic 371, [0, 6, 6, 157], 0), (3378, 3, 23, .invokevirtual 373, [0, 5, 5, 436, 2, 37, 0], 0), (3384, 3, 23, .invokevirtual 246, [0, 1, 1, 360, 2, 37, 0], 0), (3400, 3, 6, .getfield 13, [1, 21, 89], 0), (3429, 3, 18, .invokestatic 374, [0, 4, 4, 158], 0), (3447, 3, 23, .invokevirtual 376, [0, 3, 3, 437, 2, 37, 0], 0)]
theorem fb_117_5 : FB mi iT mi_117 (bpc code_117) (fl_117_5) := ⟨fun hd => mk18 mt_151 sf_151 (Or.inl W3322) rfl rfl (noH_nil rfl) (hd rfl),
  ⟨fun hd => mk23 mt_422 cf_422 (vf_422_37.rt (Or.inl W5090) (hd rfl)) rfl rfl (fun i E b a1 _ => absurd a1 (by simp)),
  ⟨fun hd => mk23 mt_360 cf_360 (vf_360_37.rt (Or.inl W4345) (hd rfl)) rfl rfl (fun i E b a1 _ => absurd a1 (by simp)),
  ⟨fun hd => mk6 fld_21_0 (Or.inl ⟨rfl, by decide⟩) (Or.inr ⟨_, W1747⟩) (Or.inl rfl) (hd rfl),
  ⟨fun hd => mk18 mt_152 sf_152 (Or.inl W3480) rfl rfl (noH_nil rfl) (hd rfl),
  ⟨fun hd => mk23 mt_429 cf_429 (vf_429_37.rt (Or.inl W5252) (hd rfl)) rfl rfl (fun i E b a1 _ => absurd a1 (by simp)),
  ⟨fun hd => mk23 mt_360 cf_360 (vf_360_37.rt (Or.inl W4345) (hd rfl)) rfl rfl (fun i E b a1 _ => absurd a1 (by simp)),
  ⟨fun hd => mk6 fld_21_0 (Or.inl ⟨rfl, by decide⟩) (Or.inr ⟨_, W1747⟩) (Or.inl rfl) (hd rfl),
  ⟨fun hd => mk18 mt_153 sf_153 (Or.inl W3495) rfl rfl (noH_nil rfl) (hd rfl),
  ⟨fun hd => mk23 mt_430 cf_430 (vf_430_37.rt (Or.inl W5271) (hd rfl)) rfl rfl (fun i E b a1 _ => absurd a1 (by simp)),
  ⟨fun hd => mk23 mt_360 cf_360 (vf_360_37.rt (Or.inl W4345) (hd rfl)) rfl rfl (fun i E b a1 _ => absurd a1 (by simp)),
  ⟨fun hd => mk6 fld_21_0 (Or.inl ⟨rfl, by decide⟩) (Or.inr ⟨_, W1747⟩) (Or.inl rfl) (hd rfl),
  ⟨fun hd => mk18 mt_154 sf_154 (Or.inl W3502) rfl rfl (noH_nil rfl) (hd rfl),
  ⟨fun hd => mk23 mt_432 cf_432 (vf_432_37.rt (Or.inl W5292) (hd rfl)) rfl rfl (fun i E b a1 _ => absurd a1 (by simp)),
  ⟨fun hd => mk23 mt_360 cf_360 (vf_360_37.rt (Or.inl W4345) (hd rfl)) rfl rfl (fun i E b a1 _ => absurd a1 (by simp)),
  ⟨fun hd => mk6 fld_21_0 (Or.inl ⟨rfl, by decide⟩) (Or.inr ⟨_, W1747⟩) (Or.inl rfl) (hd rfl),
  ⟨fun hd => mk18 mt_155 sf_155 (Or.inl W3509) rfl rfl (noH_nil rfl) (hd rfl),
  ⟨fun hd => mk23 mt_434 cf_434 (vf_434_37.rt (Or.inl W5300) (hd rfl)) rfl rfl (fun i E b a1 _ => absurd a1 (by simp)),
  ⟨fun hd => mk23 mt_360 cf_360 (vf_360_37.rt (Or.inl W4345) (hd rfl)) rfl rfl (fun i E b a1 _ => absurd a1 (by simp)),
  ⟨fun hd => mk6 fld_21_0 (Or.inl ⟨rfl, by decide⟩) (Or.inr ⟨_, W1747⟩) (Or.inl rfl) (hd rfl),
  ⟨fun hd => mk18 mt_156 sf_156 (Or.inl W3540) rfl rfl (noH_nil rfl) (hd rfl),
  ⟨fun hd => mk23 mt_435 cf_435 (vf_435_37.rt (Or.inl W5308) (hd rfl)) rfl rfl (fun i E b a1 _ => absurd a1 (by simp)),
  ⟨fun hd => mk23 mt_360 cf_360 (vf_360_37.rt (Or.inl W4345) (hd rfl)) rfl rfl (fun i E b a1 _ => absurd a1 (by simp)),
  ⟨fun hd => mk6 fld_21_0 (Or.inl ⟨rfl, by decide⟩) (Or.inr ⟨_, W1747⟩) (Or.inl rfl) (hd rfl),
  ⟨fun hd => mk18 mt_157 sf_157 (Or.inl W3547) rfl rfl (noH_nil rfl) (hd rfl),
  ⟨fun hd => mk23 mt_436 cf_436 (vf_436_37.rt (Or.inl W5312) (hd rfl)) rfl rfl (fun i E b a1 _ => absurd a1 (by simp)),
  ⟨fun hd => mk23 mt_360 cf_360 (vf_360_37.rt (Or.inl W4345) (hd rfl)) rfl rfl (fun i E b a1 _ => absurd a1 (by simp)),
  ⟨fun hd => mk6 fld_21_0 (Or.inl ⟨rfl, by decide⟩) (Or.inr ⟨_, W1747⟩) (Or.inl rfl) (hd rfl),
  ⟨fun hd => mk18 mt_158 sf_158 (Or.inl W3590) rfl rfl (noH_nil rfl) (hd rfl),
  ⟨fun hd => mk23 mt_437 cf_437 (vf_437_37.rt (Or.inl W5316) (hd rfl)) rfl rfl (fun i E b a1 _ => absurd a1 (by simp)),
  trivial⟩⟩⟩⟩⟩⟩⟩⟩⟩⟩⟩⟩⟩⟩⟩⟩⟩⟩⟩⟩⟩⟩⟩⟩⟩⟩⟩⟩⟩⟩
def fl_117_6 : List Ent := [(3453, 3, 23, .invokevirtual 246, [0, 1, 1, 360, 2, 37, 0], 0), (3469, 3, 6, .getfield 13, [1, 21, 89], 0), (3498, 3, 18, .invokestatic 377, [0, 4, 4, 159], 0), (3516, 3, 23, .invokevirtual 379, [0, 3, 3, 438, 2, 37, 0], 0), (3522, 3, 23, .invokevirtual 246, [0, 1, 1, 360, 2, 37, 0], 0), (3538, 3, 6, .getfield 13, [1, 21, 89], 0), (3568, 3, 18, .invokestatic 380, [0, 3, 3, 160], 0), (3580, 3, 23, .invokevirtual 382, [0, 2, 2, 439, 2, 37, 0], 0), (3586, 3, 23, .invokevirtual 246, [0, 1, 1, 360, 2, 37, 0], 0), (3602, 3, 6, .getfield 13, [1, 21, 89], 0), (3625, 3, 18, .invokestatic 383, [0, 3, 3, 161], 0), (3637, 3, 23, .invokevirtual 385, [0, 2, 2, 440, 2, 37, 0], 0), (3643, 3, 23, .invokevirtual 246, [0, 1, 1, 360, 2, 37, 0], 0), (3659, 3, 6, .getfield 13, [1, 21, 89], 0), (3688, 3, 18, .invokestatic 386, [0, 4, 4, 162], 0), (3706, 3, 23, .invokevirtual 388, [0, 3, 3, 441, 2, 37, 0], 0), (3712, 3, 23, .invokevirtual 246, [0, 1, 1, 360, 2, 37, 0], 0), (3728, 3, 6, .getfield 13, [1, 21, 89], 0), (3757, 3, 18, .invokestatic 389, [0, 4, 4, 163], 0), (3775, 3, 23, .invokevirtual 391, [2, 3, 3, 442, 2, 37, 0], 0), (3781, 3, 23, .invokevirtual 246, [0, 1, 1, 360, 2, 37, 0], 0), (3797, 3, 6, .getfield 40, [2, 21, 90], 0), (3807, 3, 6, .getfield 40, [2, 21, 90], 0), (3811, 3, 6, .getfield 40, [2, 21, 90], 0), (3863, 3, 18, .invokestatic 392, [0, 7, 7, 164], 0), (3899, 3, 23, .invokevirtual 394, [0, 6, 6, 443, 2, 37, 0], 0), (3905, 3, 23, .invokevirtual 246, [0, 1, 1, 360, 2, 37, 0], 0), (3921, 3, 6, .getfield 13, [1, 21, 89], 0), (3956, 3, 18, .invokestatic 395, [0, 5, 5, 165], 0), (3980, 3, 23, .invokevirtual 397, [0, 4, 4, 444, 2, 37, 0], 0)]
theorem fb_117_6 : FB mi iT mi_117 (bpc code_117) (fl_117_6) := ⟨fun hd => mk23 mt_360 cf_360 (vf_360_37.rt (Or.inl W4345) (hd rfl)) rfl rfl (fun i E b a1 _ => absurd a1 (by simp)),
  ⟨fun hd => mk6 fld_21_0 (Or.inl ⟨rfl, by decide⟩) (Or.inr ⟨_, W1747⟩) (Or.inl rfl) (hd rfl),
  ⟨fun hd => mk18 mt_159 sf_159 (Or.inl W3603) rfl rfl (noH_nil rfl) (hd rfl),
  ⟨fun hd => mk23 mt_438 cf_438 (vf_438_37.rt (Or.inl W5321) (hd rfl)) rfl rfl (fun i E b a1 _ => absurd a1 (by simp)),
  ⟨fun hd => mk23 mt_360 cf_360 (vf_360_37.rt (Or.inl W4345) (hd rfl)) rfl rfl (fun i E b a1 _ => absurd a1 (by simp)),
  ⟨fun hd => mk6 fld_21_0 (Or.inl ⟨rfl, by decide⟩) (Or.inr ⟨_, W1747⟩) (Or.inl rfl) (hd rfl),
  ⟨fun hd => mk18 mt_160 sf_160 (Or.inl W3611) rfl rfl (noH_nil rfl) (hd rfl),
  ⟨fun hd => mk23 mt_439 cf_439 (vf_439_37.rt (Or.inl W5325) (hd rfl)) rfl rfl (fun i E b a1 _ => absurd a1 (by simp)),
  ⟨fun hd => mk23 mt_360 cf_360 (vf_360_37.rt (Or.inl W4345) (hd rfl)) rfl rfl (fun i E b a1 _ => absurd a1 (by simp)),
  ⟨fun hd => mk6 fld_21_0 (Or.inl ⟨rfl, by decide⟩) (Or.inr ⟨_, W1747⟩) (Or.inl rfl) (hd rfl),
  ⟨fun hd => mk18 mt_161 sf_161 (Or.inl W3629) rfl rfl (noH_nil rfl) (hd rfl),
  ⟨fun hd => mk23 mt_440 cf_440 (vf_440_37.rt (Or.inl W5329) (hd rfl)) rfl rfl (fun i E b a1 _ => absurd a1 (by simp)),
  ⟨fun hd => mk23 mt_360 cf_360 (vf_360_37.rt (Or.inl W4345) (hd rfl)) rfl rfl (fun i E b a1 _ => absurd a1 (by simp)),
  ⟨fun hd => mk6 fld_21_0 (Or.inl ⟨rfl, by decide⟩) (Or.inr ⟨_, W1747⟩) (Or.inl rfl) (hd rfl),
  ⟨fun hd => mk18 mt_162 sf_162 (Or.inl W3642) rfl rfl (noH_nil rfl) (hd rfl),
  ⟨fun hd => mk23 mt_441 cf_441 (vf_441_37.rt (Or.inl W5342) (hd rfl)) rfl rfl (fun i E b a1 _ => absurd a1 (by simp)),
  ⟨fun hd => mk23 mt_360 cf_360 (vf_360_37.rt (Or.inl W4345) (hd rfl)) rfl rfl (fun i E b a1 _ => absurd a1 (by simp)),
  ⟨fun hd => mk6 fld_21_0 (Or.inl ⟨rfl, by decide⟩) (Or.inr ⟨_, W1747⟩) (Or.inl rfl) (hd rfl),
  ⟨fun hd => mk18 mt_163 sf_163 (Or.inl W3649) rfl rfl (noH_nil rfl) (hd rfl),
  ⟨fun hd => mk23 mt_442 cf_442 (vf_442_37.rt (Or.inl W5362) (hd rfl)) rfl rfl (fun i E b a1 _ => absurd a1 (by simp)),
  ⟨fun hd => mk23 mt_360 cf_360 (vf_360_37.rt (Or.inl W4345) (hd rfl)) rfl rfl (fun i E b a1 _ => absurd a1 (by simp)),
  ⟨fun hd => mk6 fld_21_1 (Or.inl ⟨rfl, by decide⟩) (Or.inr ⟨_, W1748⟩) (Or.inl rfl) (hd rfl),
  ⟨fun hd => mk6 fld_21_1 (Or.inl ⟨rfl, by decide⟩) (Or.inr ⟨_, W1748⟩) (Or.inl rfl) (hd rfl),
  ⟨fun hd => mk6 fld_21_1 (Or.inl ⟨rfl, by decide⟩) (Or.inr ⟨_, W1748⟩) (Or.inl rfl) (hd rfl),
  ⟨fun hd => mk18 mt_164 sf_164 (Or.inl W3656) rfl rfl (noH_nil rfl) (hd rfl),
  ⟨fun hd => mk23 mt_443 cf_443 (vf_443_37.rt (Or.inl W5368) (hd rfl)) rfl rfl (fun i E b a1 _ => absurd a1 (by simp)),
  ⟨fun hd => mk23 mt_360 cf_360 (vf_360_37.rt (Or.inl W4345) (hd rfl)) rfl rfl (fun i E b a1 _ => absurd a1 (by simp)),
  ⟨fun hd => mk6 fld_21_0 (Or.inl ⟨rfl, by decide⟩) (Or.inr ⟨_, W1747⟩) (Or.inl rfl) (hd rfl),
  ⟨fun hd => mk18 mt_165 sf_165 (Or.inl W3712) rfl rfl (noH_nil rfl) (hd rfl),
  ⟨fun hd => mk23 mt_444 cf_444 (vf_444_37.rt (Or.inl W5372) (hd rfl)) rfl rfl (fun i E b a1 _ => absurd a1 (by simp)),
  trivial⟩⟩⟩⟩⟩⟩⟩⟩⟩⟩⟩⟩⟩⟩⟩⟩⟩⟩⟩⟩⟩⟩⟩⟩⟩⟩⟩⟩⟩⟩
def fl_117_7 : List Ent := [(3986, 3, 23, .invokevirtual 246, [0, 1, 1, 360, 2, 37, 0], 0), (4002, 3, 6, .getfield 13, [1, 21, 89], 0), (4032, 3, 18, .invokestatic 398, [0, 3, 3, 166], 0), (4044, 3, 23, .invokevirtual 400, [0, 2, 2, 448, 2, 37, 0], 0), (4050, 3, 23, .invokevirtual 246, [0, 1, 1, 360, 2, 37, 0], 0), (4066, 3, 6, .getfield 13, [1, 21, 89], 0), (4089, 3, 18, .invokestatic 401, [0, 3, 3, 167], 0), (4101, 3, 23, .invokevirtual 403, [0, 2, 2, 450, 2, 37, 0], 0), (4107, 3, 23, .invokevirtual 246, [0, 1, 1, 360, 2, 37, 0], 0), (4123, 3, 6, .getfield 13, [1, 21, 89], 0), (4152, 3, 18, .invokestatic 404, [0, 4, 4, 168], 0), (4170, 3, 23, .invokevirtual 406, [0, 3, 3, 451, 2, 37, 0], 0), (4176, 3, 23, .invokevirtual 246, [0, 1, 1, 360, 2, 37, 0], 0), (4192, 3, 6, .getfield 13, [1, 21, 89], 0), (4215, 3, 18, .invokestatic 407, [0, 3, 3, 169], 0), (4227, 3, 23, .invokevirtual 409, [0, 2, 2, 453, 2, 37, 0], 0), (4233, 3, 23, .invokevirtual 246, [0, 1, 1, 360, 2, 37, 0], 0), (4249, 3, 6, .getfield 13, [1, 21, 89], 0), (4284, 3, 18, .invokestatic 410, [0, 5, 5, 170], 0), (4308, 3, 23, .invokevirtual 412, [0, 4, 4, 454, 2, 37, 0], 0), (4314, 3, 23, .invokevirtual 246, [0, 1, 1, 360, 2, 37, 0], 0), (4330, 3, 6, .getfield 13, [1, 21, 89], 0), (4377, 3, 18, .invokestatic 413, [0, 7, 7, 171], 0), (4413, 3, 23, .invokevirtual 415, [0, 6, 6, 455, 2, 37, 0], 0), (4419, 3, 23, .invokevirtual 246, [0, 1, 1, 360, 2, 37, 0], 0), (4435, 3, 6, .getfield 13, [1, 21, 89], 0), (4464, 3, 18, .invokestatic 416, [0, 4, 4, 172], 0), (4482, 3, 23, .invokevirtual 418, [0, 3, 3, 457, 2, 37, 0], 0), (4488, 3, 23, .invokevirtual 246, [0, 1, 1, 360, 2, 37, 0], 0), (4504, 3, 6, .getfield 13, [1, 21, 89], 0)]
theorem fb_117_7 : FB mi iT mi_117 (bpc code_117) (fl_117_7) := ⟨fun hd => mk23 mt_360 cf_360 (vf_360_37.rt (Or.inl W4345) (hd rfl)) rfl rfl (fun i E b a1 _ => absurd a1 (by simp)),
  ⟨fun hd => mk6 fld_21_0 (Or.inl ⟨rfl, by decide⟩) (Or.inr ⟨_, W1747⟩) (Or.inl rfl) (hd rfl),
  ⟨fun hd => mk18 mt_166 sf_166 (Or.inl W3735) rfl rfl (noH_nil rfl) (hd rfl),
  ⟨fun hd => mk23 mt_448 cf_448 (vf_448_37.rt (Or.inl W5388) (hd rfl)) rfl rfl (fun i E b a1 _ => absurd a1 (by simp)),
  ⟨fun hd => mk23 mt_360 cf_360 (vf_360_37.rt (Or.inl W4345) (hd rfl)) rfl rfl (fun i E b a1 _ => absurd a1 (by simp)),
  ⟨fun hd => mk6 fld_21_0 (Or.inl ⟨rfl, by decide⟩) (Or.inr ⟨_, W1747⟩) (Or.inl rfl) (hd rfl),
  ⟨fun hd => mk18 mt_167 sf_167 (Or.inl W3752) rfl rfl (noH_nil rfl) (hd rfl),
  ⟨fun hd => mk23 mt_450 cf_450 (vf_450_37.rt (Or.inl W5402) (hd rfl)) rfl rfl (fun i E b a1 _ => absurd a1 (by simp)),
  ⟨fun hd => mk23 mt_360 cf_360 (vf_360_37.rt (Or.inl W4345) (hd rfl)) rfl rfl (fun i E b a1 _ => absurd a1 (by simp)),
  ⟨fun hd => mk6 fld_21_0 (Or.inl ⟨rfl, by decide⟩) (Or.inr ⟨_, W1747⟩) (Or.inl rfl) (hd rfl),
  ⟨fun hd => mk18 mt_168 sf_168 (Or.inl W3759) rfl rfl (noH_nil rfl) (hd rfl),
  ⟨fun hd => mk23 mt_451 cf_451 (vf_451_37.rt (Or.inl W5406) (hd rfl)) rfl rfl (fun i E b a1 _ => absurd a1 (by simp)),
  ⟨fun hd => mk23 mt_360 cf_360 (vf_360_37.rt (Or.inl W4345) (hd rfl)) rfl rfl (fun i E b a1 _ => absurd a1 (by simp)),
  ⟨fun hd => mk6 fld_21_0 (Or.inl ⟨rfl, by decide⟩) (Or.inr ⟨_, W1747⟩) (Or.inl rfl) (hd rfl),
  ⟨fun hd => mk18 mt_169 sf_169 (Or.inl W3766) rfl rfl (noH_nil rfl) (hd rfl),
  ⟨fun hd => mk23 mt_453 cf_453 (vf_453_37.rt (Or.inl W5414) (hd rfl)) rfl rfl (fun i E b a1 _ => absurd a1 (by simp)),
  ⟨fun hd => mk23 mt_360 cf_360 (vf_360_37.rt (Or.inl W4345) (hd rfl)) rfl rfl (fun i E b a1 _ => absurd a1 (by simp)),
  ⟨fun hd => mk6 fld_21_0 (Or.inl ⟨rfl, by decide⟩) (Or.inr ⟨_, W1747⟩) (Or.inl rfl) (hd rfl),
  ⟨fun hd => mk18 mt_170 sf_170 (Or.inl W3783) rfl rfl (noH_nil rfl) (hd rfl),
  ⟨fun hd => mk23 mt_454 cf_454 (vf_454_37.rt (Or.inl W5418) (hd rfl)) rfl rfl (fun i E b a1 _ => absurd a1 (by simp)),
  ⟨fun hd => mk23 mt_360 cf_360 (vf_360_37.rt (Or.inl W4345) (hd rfl)) rfl rfl (fun i E b a1 _ => absurd a1 (by simp)),
  ⟨fun hd => mk6 fld_21_0 (Or.inl ⟨rfl, by decide⟩) (Or.inr ⟨_, W1747⟩) (Or.inl rfl) (hd rfl),
  ⟨fun hd => mk18 mt_171 sf_171 (Or.inl W3812) rfl rfl (noH_nil rfl) (hd rfl),
  ⟨fun hd => mk23 mt_455 cf_455 (vf_455_37.rt (Or.inl W5422) (hd rfl)) rfl rfl (fun i E b a1 _ => absurd a1 (by simp)),
  ⟨fun hd => mk23 mt_360 cf_360 (vf_360_37.rt (Or.inl W4345) (hd rfl)) rfl rfl (fun i E b a1 _ => absurd a1 (by simp)),
  ⟨fun hd => mk6 fld_21_0 (Or.inl ⟨rfl, by decide⟩) (Or.inr ⟨_, W1747⟩) (Or.inl rfl) (hd rfl),
  ⟨fun hd => mk18 mt_172 sf_172 (Or.inl W3878) rfl rfl (noH_nil rfl) (hd rfl),
  ⟨fun hd => mk23 mt_457 cf_457 (vf_457_37.rt (Or.inl W5477) (hd rfl)) rfl rfl (fun i E b a1 _ => absurd a1 (by simp)),
  ⟨fun hd => mk23 mt_360 cf_360 (vf_360_37.rt (Or.inl W4345) (hd rfl)) rfl rfl (fun i E b a1 _ => absurd a1 (by simp)),
  ⟨fun hd => mk6 fld_21_0 (Or.inl ⟨rfl, by decide⟩) (Or.inr ⟨_, W1747⟩) (Or.inl rfl) (hd rfl),
  trivial⟩⟩⟩⟩⟩⟩⟩⟩⟩⟩⟩⟩⟩⟩⟩⟩⟩⟩⟩⟩⟩⟩⟩⟩⟩⟩⟩⟩⟩⟩
def fl_117_8 : List Ent := [(4539, 3, 18, .invokestatic 419, [0, 5, 5, 173], 0), (4563, 3, 23, .invokevirtual 421, [0, 4, 4, 458, 2, 37, 0], 0), (4569, 3, 23, .invokevirtual 246, [0, 1, 1, 360, 2, 37, 0], 0), (4585, 3, 6, .getfield 13, [1, 21, 89], 0), (4608, 3, 18, .invokestatic 422, [0, 3, 3, 174], 0), (4620, 3, 23, .invokevirtual 424, [0, 2, 2, 462, 2, 37, 0], 0), (4626, 3, 23, .invokevirtual 246, [0, 1, 1, 360, 2, 37, 0], 0), (4642, 3, 6, .getfield 13, [1, 21, 89], 0), (4671, 3, 18, .invokestatic 425, [0, 4, 4, 175], 0), (4689, 3, 23, .invokevirtual 427, [0, 3, 3, 463, 2, 37, 0], 0), (4695, 3, 23, .invokevirtual 246, [0, 1, 1, 360, 2, 37, 0], 0), (4711, 3, 6, .getfield 13, [1, 21, 89], 0), (4740, 3, 18, .invokestatic 428, [0, 4, 4, 176], 0), (4758, 3, 23, .invokevirtual 430, [0, 3, 3, 465, 2, 37, 0], 0), (4764, 3, 23, .invokevirtual 246, [0, 1, 1, 360, 2, 37, 0], 0), (4780, 3, 6, .getfield 13, [1, 21, 89], 0), (4809, 3, 18, .invokestatic 431, [0, 4, 4, 177], 0), (4827, 3, 23, .invokevirtual 433, [0, 3, 3, 466, 2, 37, 0], 0), (4833, 3, 23, .invokevirtual 246, [0, 1, 1, 360, 2, 37, 0], 0), (4849, 3, 6, .getfield 13, [1, 21, 89], 0), (4892, 3, 18, .invokestatic 434, [0, 5, 5, 178], 0), (4924, 3, 23, .invokevirtual 436, [0, 4, 4, 468, 2, 37, 0], 0), (4930, 3, 23, .invokevirtual 246, [0, 1, 1, 360, 2, 37, 0], 0), (4946, 3, 6, .getfield 13, [1, 21, 89], 0), (4981, 3, 18, .invokestatic 437, [0, 5, 5, 179], 0), (5005, 3, 23, .invokevirtual 439, [0, 4, 4, 470, 2, 37, 0], 0), (5011, 3, 23, .invokevirtual 246, [0, 1, 1, 360, 2, 37, 0], 0), (5027, 3, 6, .getfield 13, [1, 21, 89], 0), (5043, 3, 23, .invokevirtual 440, [0, 1, 1, 183, 1, 1, 0], 0), (5047, 3, 23, .invokevirtual 443, [0, 1, 1, 472, 2, 37, 0], 0)]
theorem fb_117_8 : FB mi iT mi_117 (bpc code_117) (fl_117_8) := ⟨fun hd => mk18 mt_173 sf_173 (Or.inl W3887) rfl rfl (noH_nil rfl) (hd rfl),
  ⟨fun hd => mk23 mt_458 cf_458 (vf_458_37.rt (Or.inl W5481) (hd rfl)) rfl rfl (fun i E b a1 _ => absurd a1 (by simp)),
  ⟨fun hd => mk23 mt_360 cf_360 (vf_360_37.rt (Or.inl W4345) (hd rfl)) rfl rfl (fun i E b a1 _ => absurd a1 (by simp)),
  ⟨fun hd => mk6 fld_21_0 (Or.inl ⟨rfl, by decide⟩) (Or.inr ⟨_, W1747⟩) (Or.inl rfl) (hd rfl),
  ⟨fun hd => mk18 mt_174 sf_174 (Or.inl W4141) rfl rfl (noH_nil rfl) (hd rfl),
  ⟨fun hd => mk23 mt_462 cf_462 (vf_462_37.rt (Or.inl W5504) (hd rfl)) rfl rfl (fun i E b a1 _ => absurd a1 (by simp)),
  ⟨fun hd => mk23 mt_360 cf_360 (vf_360_37.rt (Or.inl W4345) (hd rfl)) rfl rfl (fun i E b a1 _ => absurd a1 (by simp)),
  ⟨fun hd => mk6 fld_21_0 (Or.inl ⟨rfl, by decide⟩) (Or.inr ⟨_, W1747⟩) (Or.inl rfl) (hd rfl),
  ⟨fun hd => mk18 mt_175 sf_175 (Or.inl W4159) rfl rfl (noH_nil rfl) (hd rfl),
  ⟨fun hd => mk23 mt_463 cf_463 (vf_463_37.rt (Or.inl W5509) (hd rfl)) rfl rfl (fun i E b a1 _ => absurd a1 (by simp)),
  ⟨fun hd => mk23 mt_360 cf_360 (vf_360_37.rt (Or.inl W4345) (hd rfl)) rfl rfl (fun i E b a1 _ => absurd a1 (by simp)),
  ⟨fun hd => mk6 fld_21_0 (Or.inl ⟨rfl, by decide⟩) (Or.inr ⟨_, W1747⟩) (Or.inl rfl) (hd rfl),
  ⟨fun hd => mk18 mt_176 sf_176 (Or.inl W4179) rfl rfl (noH_nil rfl) (hd rfl),
  ⟨fun hd => mk23 mt_465 cf_465 (vf_465_37.rt (Or.inl W5518) (hd rfl)) rfl rfl (fun i E b a1 _ => absurd a1 (by simp)),
  ⟨fun hd => mk23 mt_360 cf_360 (vf_360_37.rt (Or.inl W4345) (hd rfl)) rfl rfl (fun i E b a1 _ => absurd a1 (by simp)),
  ⟨fun hd => mk6 fld_21_0 (Or.inl ⟨rfl, by decide⟩) (Or.inr ⟨_, W1747⟩) (Or.inl rfl) (hd rfl),
  ⟨fun hd => mk18 mt_177 sf_177 (Or.inl W4186) rfl rfl (noH_nil rfl) (hd rfl),
  ⟨fun hd => mk23 mt_466 cf_466 (vf_466_37.rt (Or.inl W5530) (hd rfl)) rfl rfl (fun i E b a1 _ => absurd a1 (by simp)),
  ⟨fun hd => mk23 mt_360 cf_360 (vf_360_37.rt (Or.inl W4345) (hd rfl)) rfl rfl (fun i E b a1 _ => absurd a1 (by simp)),
  ⟨fun hd => mk6 fld_21_0 (Or.inl ⟨rfl, by decide⟩) (Or.inr ⟨_, W1747⟩) (Or.inl rfl) (hd rfl),
  ⟨fun hd => mk18 mt_178 sf_178 (Or.inl W4193) rfl rfl (noH_nil rfl) (hd rfl),
  ⟨fun hd => mk23 mt_468 cf_468 (vf_468_37.rt (Or.inl W5538) (hd rfl)) rfl rfl (fun i E b a1 _ => absurd a1 (by simp)),
  ⟨fun hd => mk23 mt_360 cf_360 (vf_360_37.rt (Or.inl W4345) (hd rfl)) rfl rfl (fun i E b a1 _ => absurd a1 (by simp)),
  ⟨fun hd => mk6 fld_21_0 (Or.inl ⟨rfl, by decide⟩) (Or.inr ⟨_, W1747⟩) (Or.inl rfl) (hd rfl),
  ⟨fun hd => mk18 mt_179 sf_179 (Or.inl W4212) rfl rfl (noH_nil rfl) (hd rfl),
  ⟨fun hd => mk23 mt_470 cf_470 (vf_470_37.rt (Or.inl W5548) (hd rfl)) rfl rfl (fun i E b a1 _ => absurd a1 (by simp)),
  ⟨fun hd => mk23 mt_360 cf_360 (vf_360_37.rt (Or.inl W4345) (hd rfl)) rfl rfl (fun i E b a1 _ => absurd a1 (by simp)),
  ⟨fun hd => mk6 fld_21_0 (Or.inl ⟨rfl, by decide⟩) (Or.inr ⟨_, W1747⟩) (Or.inl rfl) (hd rfl),
  ⟨fun hd => mk23 mt_183 cf_183 (vf_183_1.rt (Or.inl W440) (hd rfl)) rfl rfl (fun i E b a1 _ => absurd a1 (by simp)),
  ⟨fun hd => mk23 mt_472 cf_472 (vf_472_37.rt (Or.inl W5556) (hd rfl)) rfl rfl (fun i E b a1 _ => absurd a1 (by simp)),
  trivial⟩⟩⟩⟩⟩⟩⟩⟩⟩⟩⟩⟩⟩⟩⟩⟩⟩⟩⟩⟩⟩⟩⟩⟩⟩⟩⟩⟩⟩⟩
def fl_117_9 : List Ent := [(5063, 3, 18, .invokestatic 444, [0, 3, 3, 180], 0), (5075, 3, 23, .invokevirtual 446, [0, 2, 2, 473, 2, 37, 0], 0), (5081, 3, 23, .invokevirtual 246, [0, 1, 1, 360, 2, 37, 0], 0), (5097, 3, 6, .getfield 13, [1, 21, 89], 0), (5113, 3, 23, .invokevirtual 447, [0, 1, 1, 184, 1, 1, 0], 0), (5117, 3, 23, .invokevirtual 451, [0, 1, 1, 477, 2, 37, 0], 0), (5126, 3, 23, .invokevirtual 452, [0, 1, 1, 186, 1, 1, 0], 0), (5130, 3, 23, .invokevirtual 455, [0, 1, 1, 480, 2, 37, 0], 0), (5146, 3, 18, .invokestatic 456, [0, 3, 3, 181], 0), (5158, 3, 23, .invokevirtual 458, [3, 2, 2, 481, 2, 37, 0], 0), (5164, 3, 23, .invokevirtual 246, [0, 1, 1, 360, 2, 37, 0], 0), (5180, 3, 6, .getfield 231, [3, 21, 91], 0), (5185, 3, 19, .invokevirtual 459, [0, 2, 2, 14, 32], 0), (5197, 3, 23, .invokevirtual 465, [1, 1, 1, 187, 1, 1, 0], 0), (5201, 3, 23, .invokevirtual 469, [1, 1, 1, 482, 2, 37, 0], 0)]
theorem fb_117_9 : FB mi iT mi_117 (bpc code_117) (fl_117_9) := ⟨fun hd => mk18 mt_180 sf_180 (Or.inl W4219) rfl rfl (noH_nil rfl) (hd rfl),
  ⟨fun hd => mk23 mt_473 cf_473 (vf_473_37.rt (Or.inl W5560) (hd rfl)) rfl rfl (fun i E b a1 _ => absurd a1 (by simp)),
  ⟨fun hd => mk23 mt_360 cf_360 (vf_360_37.rt (Or.inl W4345) (hd rfl)) rfl rfl (fun i E b a1 _ => absurd a1 (by simp)),
  ⟨fun hd => mk6 fld_21_0 (Or.inl ⟨rfl, by decide⟩) (Or.inr ⟨_, W1747⟩) (Or.inl rfl) (hd rfl),
  ⟨fun hd => mk23 mt_184 cf_184 (vf_184_1.rt (Or.inl W444) (hd rfl)) rfl rfl (fun i E b a1 _ => absurd a1 (by simp)),
  ⟨fun hd => mk23 mt_477 cf_477 (vf_477_37.rt (Or.inl W5576) (hd rfl)) rfl rfl (fun i E b a1 _ => absurd a1 (by simp)),
  ⟨fun hd => mk23 mt_186 cf_186 (vf_186_1.rt (Or.inl W664) (hd rfl)) rfl rfl (fun i E b a1 _ => absurd a1 (by simp)),
  ⟨fun hd => mk23 mt_480 cf_480 (vf_480_37.rt (Or.inl W5594) (hd rfl)) rfl rfl (fun i E b a1 _ => absurd a1 (by simp)),
  ⟨fun hd => mk18 mt_181 sf_181 (Or.inl W4226) rfl rfl (noH_nil rfl) (hd rfl),
  ⟨fun hd => mk23 mt_481 cf_481 (vf_481_37.rt (Or.inl W5598) (hd rfl)) rfl rfl (fun i E b a1 _ => absurd a1 (by simp)),
  ⟨fun hd => mk23 mt_360 cf_360 (vf_360_37.rt (Or.inl W4345) (hd rfl)) rfl rfl (fun i E b a1 _ => absurd a1 (by simp)),
  ⟨fun hd => mk6 fld_21_2 (Or.inl ⟨rfl, by decide⟩) (Or.inr ⟨_, W1749⟩) (Or.inl rfl) (hd rfl),
  ⟨fun hd => mk19 mt_32 cf_32 (vf_32_14.rt (Or.inl W5626) (hd rfl)) rfl rfl (noH_nil rfl),
  ⟨fun hd => mk23 mt_187 cf_187 (vf_187_1.rt (Or.inl W909) (hd rfl)) rfl rfl (fun i E b a1 _ => absurd a1 (by simp)),
  ⟨fun hd => mk23 mt_482 cf_482 (vf_482_37.rt (Or.inl W5620) (hd rfl)) rfl rfl (fun i E b a1 _ => absurd a1 (by simp)),
  trivial⟩⟩⟩⟩⟩⟩⟩⟩⟩⟩⟩⟩⟩⟩⟩
theorem fe_117 : eqEs ((flat code_117).filter (fun e => ndE e.2.2.1)) (fl_117_0 ++ (fl_117_1 ++ (fl_117_2 ++ (fl_117_3 ++ (fl_117_4 ++ (fl_117_5 ++ (fl_117_6 ++ (fl_117_7 ++ (fl_117_8 ++ (fl_117_9)))))))))) = true := by decide +kernel
theorem om_117 : OKm mi iT prg 117 := OKm_of (code := code_117) rfl mt_117 (Or.inl (by decide +kernel)) rfl wk_117 (by decide +kernel) (by decide +kernel) (FA_of fe_117 (FB_app fb_117_0 (FB_app fb_117_1 (FB_app fb_117_2 (FB_app fb_117_3 (FB_app fb_117_4 (FB_app fb_117_5 (FB_app fb_117_6 (FB_app fb_117_7 (FB_app fb_117_8 (fb_117_9)))))))))))
def fl_118_0 : List Ent := [(8, 3, 23, .invokevirtual 7, [0, 5, 5, 202, 1, 1, 6, 1, 1, 2, 2], 0), (12, 3, 7, .putfield 13, [1, 21, 89], 0)]
theorem fb_118_0 : FB mi iT mi_118 (bpc code_118) (fl_118_0) := ⟨fun hd => mk23 mt_202 cf_202 (vf_202_1.rt (Or.inl W1762) (hd rfl)) rfl rfl (hnd_prs _ ⟨(⟨[], ⟨0, 15, 18, 19⟩, [⟨0, 15, 22, 21⟩], "java/lang/IllegalArgumentException", 2, rfl, fun _ h => absurd h List.not_mem_nil, by decide, by decide, W1760, W1774, Or.inl ⟨(show decode method_2_code 18 = .ok (.astore 6, 2) by decide +kernel), rfl⟩, by decide, rfl⟩ : Hnd mi_118 iT.2 8 1 6 20), ⟨(⟨[⟨0, 15, 18, 19⟩], ⟨0, 15, 22, 21⟩, [], "java/lang/IllegalStateException", 2, rfl, List.forall_mem_cons.mpr ⟨Or.inr ⟨by decide, "java/lang/IllegalArgumentException", W1760, by decide⟩, fun _ h => absurd h List.not_mem_nil⟩, by decide, by decide, W1761, W1798, Or.inl ⟨(show decode method_2_code 22 = .ok (.astore 6, 2) by decide +kernel), rfl⟩, by decide, rfl⟩ : Hnd mi_118 iT.2 8 2 6 24), trivial⟩⟩),
  ⟨fun hd => mk7 fld_21_0 (Or.inr ⟨_, W1747⟩) (Or.inl rfl) (Or.inl rfl) (hd rfl),
  trivial⟩⟩
theorem fe_118 : eqEs ((flat code_118).filter (fun e => ndE e.2.2.1)) (fl_118_0) = true := by decide +kernel
theorem om_118 : OKm mi iT prg 118 := OKm_of (code := code_118) rfl mt_118 (Or.inl (by decide +kernel)) rfl wk_118 (by decide +kernel) (by decide +kernel) (FA_of fe_118 (fb_118_0))
def fl_119_0 : List Ent := [(8, 3, 23, .invokevirtual 23, [0, 5, 5, 208, 1, 1, 6, 3, 1, 1, 2, 2, 3], 0), (12, 3, 7, .putfield 13, [1, 21, 89], 0)]
theorem fb_119_0 : FB mi iT mi_119 (bpc code_119) (fl_119_0) := ⟨fun hd => mk23 mt_208 cf_208 (vf_208_1.rt (Or.inl W2531) (hd rfl)) rfl rfl (hnd_prs _ ⟨(⟨[], ⟨0, 15, 18, 26⟩, [⟨0, 15, 22, 19⟩, ⟨0, 15, 26, 21⟩], "java/lang/IndexOutOfBoundsException", 2, rfl, fun _ h => absurd h List.not_mem_nil, by decide, by decide, W2512, W2544, Or.inl ⟨(show decode method_3_code 18 = .ok (.astore 6, 2) by decide +kernel), rfl⟩, by decide, rfl⟩ : Hnd mi_119 iT.2 8 3 6 20), ⟨(⟨[⟨0, 15, 18, 26⟩], ⟨0, 15, 22, 19⟩, [⟨0, 15, 26, 21⟩], "java/lang/IllegalArgumentException", 2, rfl, List.forall_mem_cons.mpr ⟨Or.inr ⟨by decide, "java/lang/IndexOutOfBoundsException", W2512, by decide⟩, fun _ h => absurd h List.not_mem_nil⟩, by decide, by decide, W1760, W1774, Or.inl ⟨(show decode method_3_code 22 = .ok (.astore 6, 2) by decide +kernel), rfl⟩, by decide, rfl⟩ : Hnd mi_119 iT.2 8 1 6 24), ⟨(⟨[⟨0, 15, 18, 26⟩, ⟨0, 15, 22, 19⟩], ⟨0, 15, 26, 21⟩, [], "java/lang/IllegalStateException", 2, rfl, List.forall_mem_cons.mpr ⟨Or.inr ⟨by decide, "java/lang/IndexOutOfBoundsException", W2512, by decide⟩, List.forall_mem_cons.mpr ⟨Or.inr ⟨by decide, "java/lang/IllegalArgumentException", W1760, by decide⟩, fun _ h => absurd h List.not_mem_nil⟩⟩, by decide, by decide, W1761, W1798, Or.inl ⟨(show decode method_3_code 26 = .ok (.astore 6, 2) by decide +kernel), rfl⟩, by decide, rfl⟩ : Hnd mi_119 iT.2 8 2 6 28), trivial⟩⟩⟩),
  ⟨fun hd => mk7 fld_21_0 (Or.inr ⟨_, W1747⟩) (Or.inl rfl) (Or.inl rfl) (hd rfl),
  trivial⟩⟩
theorem fe_119 : eqEs ((flat code_119).filter (fun e => ndE e.2.2.1)) (fl_119_0) = true := by decide +kernel
theorem om_119 : OKm mi iT prg 119 := OKm_of (code := code_119) rfl mt_119 (Or.inl (by decide +kernel)) rfl wk_119 (by decide +kernel) (by decide +kernel) (FA_of fe_119 (fb_119_0))
def fl_120_0 : List Ent := [(3, 3, 23, .invokevirtual 28, [0, 2, 2, 211, 1, 1, 3, 3, 1, 2, 2], 0), (7, 3, 7, .putfield 13, [1, 21, 89], 0)]
theorem fb_120_0 : FB mi iT mi_120 (bpc code_120) (fl_120_0) := ⟨fun hd => mk23 mt_211 cf_211 (vf_211_1.rt (Or.inl W2566) (hd rfl)) rfl rfl (hnd_prs _ ⟨(⟨[], ⟨0, 10, 13, 26⟩, [⟨0, 10, 16, 21⟩], "java/lang/IndexOutOfBoundsException", 1, rfl, fun _ h => absurd h List.not_mem_nil, by decide, by decide, W2512, W2544, Or.inr ⟨3, rfl, (show decode method_4_code 13 = .ok (.astore_n 3, 1) by decide +kernel), rfl⟩, by decide, rfl⟩ : Hnd mi_120 iT.2 3 3 3 14), ⟨(⟨[⟨0, 10, 13, 26⟩], ⟨0, 10, 16, 21⟩, [], "java/lang/IllegalStateException", 1, rfl, List.forall_mem_cons.mpr ⟨Or.inr ⟨by decide, "java/lang/IndexOutOfBoundsException", W2512, by decide⟩, fun _ h => absurd h List.not_mem_nil⟩, by decide, by decide, W1761, W1798, Or.inr ⟨3, rfl, (show decode method_4_code 16 = .ok (.astore_n 3, 1) by decide +kernel), rfl⟩, by decide, rfl⟩ : Hnd mi_120 iT.2 3 2 3 17), trivial⟩⟩),
  ⟨fun hd => mk7 fld_21_0 (Or.inr ⟨_, W1747⟩) (Or.inl rfl) (Or.inl rfl) (hd rfl),
  trivial⟩⟩
theorem fe_120 : eqEs ((flat code_120).filter (fun e => ndE e.2.2.1)) (fl_120_0) = true := by decide +kernel
theorem om_120 : OKm mi iT prg 120 := OKm_of (code := code_120) rfl mt_120 (Or.inl (by decide +kernel)) rfl wk_120 (by decide +kernel) (by decide +kernel) (FA_of fe_120 (fb_120_0))
def fl_121_0 : List Ent := [(4, 3, 23, .invokevirtual 32, [0, 3, 3, 212, 1, 1, 4, 3, 1, 1, 2], 0), (8, 3, 7, .putfield 13, [1, 21, 89], 0)]
theorem fb_121_0 : FB mi iT mi_121 (bpc code_121) (fl_121_0) := ⟨fun hd => mk23 mt_212 cf_212 (vf_212_1.rt (Or.inl W2579) (hd rfl)) rfl rfl (hnd_prs _ ⟨(⟨[], ⟨0, 11, 14, 26⟩, [⟨0, 11, 18, 19⟩], "java/lang/IndexOutOfBoundsException", 2, rfl, fun _ h => absurd h List.not_mem_nil, by decide, by decide, W2512, W2544, Or.inl ⟨(show decode method_5_code 14 = .ok (.astore 4, 2) by decide +kernel), rfl⟩, by decide, rfl⟩ : Hnd mi_121 iT.2 4 3 4 16), ⟨(⟨[⟨0, 11, 14, 26⟩], ⟨0, 11, 18, 19⟩, [], "java/lang/IllegalArgumentException", 2, rfl, List.forall_mem_cons.mpr ⟨Or.inr ⟨by decide, "java/lang/IndexOutOfBoundsException", W2512, by decide⟩, fun _ h => absurd h List.not_mem_nil⟩, by decide, by decide, W1760, W1774, Or.inl ⟨(show decode method_5_code 18 = .ok (.astore 4, 2) by decide +kernel), rfl⟩, by decide, rfl⟩ : Hnd mi_121 iT.2 4 1 4 20), trivial⟩⟩),
  ⟨fun hd => mk7 fld_21_0 (Or.inr ⟨_, W1747⟩) (Or.inl rfl) (Or.inl rfl) (hd rfl),
  trivial⟩⟩
theorem fe_121 : eqEs ((flat code_121).filter (fun e => ndE e.2.2.1)) (fl_121_0) = true := by decide +kernel
theorem om_121 : OKm mi iT prg 121 := OKm_of (code := code_121) rfl mt_121 (Or.inl (by decide +kernel)) rfl wk_121 (by decide +kernel) (by decide +kernel) (FA_of fe_121 (fb_121_0))
def fl_122_0 : List Ent := [(6, 3, 23, .invokevirtual 36, [2, 4, 4, 213, 1, 1, 5, 3, 1, 1, 2], 0), (9, 3, 7, .putfield 40, [2, 21, 90], 0)]
theorem fb_122_0 : FB mi iT mi_122 (bpc code_122) (fl_122_0) := ⟨fun hd => mk23 mt_213 cf_213 (vf_213_1.rt (Or.inl W2586) (hd rfl)) rfl rfl (hnd_prs _ ⟨(⟨[], ⟨0, 12, 15, 26⟩, [⟨0, 12, 19, 19⟩], "java/lang/IndexOutOfBoundsException", 2, rfl, fun _ h => absurd h List.not_mem_nil, by decide, by decide, W2512, W2544, Or.inl ⟨(show decode method_6_code 15 = .ok (.astore 5, 2) by decide +kernel), rfl⟩, by decide, rfl⟩ : Hnd mi_122 iT.2 6 3 5 17), ⟨(⟨[⟨0, 12, 15, 26⟩], ⟨0, 12, 19, 19⟩, [], "java/lang/IllegalArgumentException", 2, rfl, List.forall_mem_cons.mpr ⟨Or.inr ⟨by decide, "java/lang/IndexOutOfBoundsException", W2512, by decide⟩, fun _ h => absurd h List.not_mem_nil⟩, by decide, by decide, W1760, W1774, Or.inl ⟨(show decode method_6_code 19 = .ok (.astore 5, 2) by decide +kernel), rfl⟩, by decide, rfl⟩ : Hnd mi_122 iT.2 6 1 5 21), trivial⟩⟩),
  ⟨fun hd => mk7 fld_21_1 (Or.inr ⟨_, W1748⟩) (Or.inl rfl) (Or.inl rfl) (hd rfl),
  trivial⟩⟩
theorem fe_122 : eqEs ((flat code_122).filter (fun e => ndE e.2.2.1)) (fl_122_0) = true := by decide +kernel
theorem om_122 : OKm mi iT prg 122 := OKm_of (code := code_122) rfl mt_122 (Or.inl (by decide +kernel)) rfl wk_122 (by decide +kernel) (by decide +kernel) (FA_of fe_122 (fb_122_0))
def fl_123_0 : List Ent := [(4, 3, 23, .invokevirtual 44, [2, 3, 3, 215, 1, 1, 4, 3, 1, 1, 2], 0), (7, 3, 7, .putfield 40, [2, 21, 90], 0)]
theorem fb_123_0 : FB mi iT mi_123 (bpc code_123) (fl_123_0) := ⟨fun hd => mk23 mt_215 cf_215 (vf_215_1.rt (Or.inl W2610) (hd rfl)) rfl rfl (hnd_prs _ ⟨(⟨[], ⟨0, 10, 13, 26⟩, [⟨0, 10, 17, 19⟩], "java/lang/IndexOutOfBoundsException", 2, rfl, fun _ h => absurd h List.not_mem_nil, by decide, by decide, W2512, W2544, Or.inl ⟨(show decode method_7_code 13 = .ok (.astore 4, 2) by decide +kernel), rfl⟩, by decide, rfl⟩ : Hnd mi_123 iT.2 4 3 4 15), ⟨(⟨[⟨0, 10, 13, 26⟩], ⟨0, 10, 17, 19⟩, [], "java/lang/IllegalArgumentException", 2, rfl, List.forall_mem_cons.mpr ⟨Or.inr ⟨by decide, "java/lang/IndexOutOfBoundsException", W2512, by decide⟩, fun _ h => absurd h List.not_mem_nil⟩, by decide, by decide, W1760, W1774, Or.inl ⟨(show decode method_7_code 17 = .ok (.astore 4, 2) by decide +kernel), rfl⟩, by decide, rfl⟩ : Hnd mi_123 iT.2 4 1 4 19), trivial⟩⟩),
  ⟨fun hd => mk7 fld_21_1 (Or.inr ⟨_, W1748⟩) (Or.inl rfl) (Or.inl rfl) (hd rfl),
  trivial⟩⟩
theorem fe_123 : eqEs ((flat code_123).filter (fun e => ndE e.2.2.1)) (fl_123_0) = true := by decide +kernel
theorem om_123 : OKm mi iT prg 123 := OKm_of (code := code_123) rfl mt_123 (Or.inl (by decide +kernel)) rfl wk_123 (by decide +kernel) (by decide +kernel) (FA_of fe_123 (fb_123_0))
def fl_124_0 : List Ent := [(10, 3, 23, .invokevirtual 48, [0, 6, 6, 216, 1, 1, 7, 3, 1, 1, 2, 2, 3], 0), (14, 3, 7, .putfield 13, [1, 21, 89], 0)]
theorem fb_124_0 : FB mi iT mi_124 (bpc code_124) (fl_124_0) := ⟨fun hd => mk23 mt_216 cf_216 (vf_216_1.rt (Or.inl W2619) (hd rfl)) rfl rfl (hnd_prs _ ⟨(⟨[], ⟨0, 17, 20, 26⟩, [⟨0, 17, 24, 19⟩, ⟨0, 17, 28, 21⟩], "java/lang/IndexOutOfBoundsException", 2, rfl, fun _ h => absurd h List.not_mem_nil, by decide, by decide, W2512, W2544, Or.inl ⟨(show decode method_8_code 20 = .ok (.astore 7, 2) by decide +kernel), rfl⟩, by decide, rfl⟩ : Hnd mi_124 iT.2 10 3 7 22), ⟨(⟨[⟨0, 17, 20, 26⟩], ⟨0, 17, 24, 19⟩, [⟨0, 17, 28, 21⟩], "java/lang/IllegalArgumentException", 2, rfl, List.forall_mem_cons.mpr ⟨Or.inr ⟨by decide, "java/lang/IndexOutOfBoundsException", W2512, by decide⟩, fun _ h => absurd h List.not_mem_nil⟩, by decide, by decide, W1760, W1774, Or.inl ⟨(show decode method_8_code 24 = .ok (.astore 7, 2) by decide +kernel), rfl⟩, by decide, rfl⟩ : Hnd mi_124 iT.2 10 1 7 26), ⟨(⟨[⟨0, 17, 20, 26⟩, ⟨0, 17, 24, 19⟩], ⟨0, 17, 28, 21⟩, [], "java/lang/IllegalStateException", 2, rfl, List.forall_mem_cons.mpr ⟨Or.inr ⟨by decide, "java/lang/IndexOutOfBoundsException", W2512, by decide⟩, List.forall_mem_cons.mpr ⟨Or.inr ⟨by decide, "java/lang/IllegalArgumentException", W1760, by decide⟩, fun _ h => absurd h List.not_mem_nil⟩⟩, by decide, by decide, W1761, W1798, Or.inl ⟨(show decode method_8_code 28 = .ok (.astore 7, 2) by decide +kernel), rfl⟩, by decide, rfl⟩ : Hnd mi_124 iT.2 10 2 7 30), trivial⟩⟩⟩),
  ⟨fun hd => mk7 fld_21_0 (Or.inr ⟨_, W1747⟩) (Or.inl rfl) (Or.inl rfl) (hd rfl),
  trivial⟩⟩
theorem fe_124 : eqEs ((flat code_124).filter (fun e => ndE e.2.2.1)) (fl_124_0) = true := by decide +kernel
theorem om_124 : OKm mi iT prg 124 := OKm_of (code := code_124) rfl mt_124 (Or.inl (by decide +kernel)) rfl wk_124 (by decide +kernel) (by decide +kernel) (FA_of fe_124 (fb_124_0))
def fl_125_0 : List Ent := [(4, 3, 23, .invokevirtual 52, [0, 3, 3, 217, 1, 1, 4, 3, 1, 2, 2], 0), (8, 3, 7, .putfield 13, [1, 21, 89], 0)]
theorem fb_125_0 : FB mi iT mi_125 (bpc code_125) (fl_125_0) := ⟨fun hd => mk23 mt_217 cf_217 (vf_217_1.rt (Or.inl W2659) (hd rfl)) rfl rfl (hnd_prs _ ⟨(⟨[], ⟨0, 11, 14, 26⟩, [⟨0, 11, 18, 21⟩], "java/lang/IndexOutOfBoundsException", 2, rfl, fun _ h => absurd h List.not_mem_nil, by decide, by decide, W2512, W2544, Or.inl ⟨(show decode method_9_code 14 = .ok (.astore 4, 2) by decide +kernel), rfl⟩, by decide, rfl⟩ : Hnd mi_125 iT.2 4 3 4 16), ⟨(⟨[⟨0, 11, 14, 26⟩], ⟨0, 11, 18, 21⟩, [], "java/lang/IllegalStateException", 2, rfl, List.forall_mem_cons.mpr ⟨Or.inr ⟨by decide, "java/lang/IndexOutOfBoundsException", W2512, by decide⟩, fun _ h => absurd h List.not_mem_nil⟩, by decide, by decide, W1761, W1798, Or.inl ⟨(show decode method_9_code 18 = .ok (.astore 4, 2) by decide +kernel), rfl⟩, by decide, rfl⟩ : Hnd mi_125 iT.2 4 2 4 20), trivial⟩⟩),
  ⟨fun hd => mk7 fld_21_0 (Or.inr ⟨_, W1747⟩) (Or.inl rfl) (Or.inl rfl) (hd rfl),
  trivial⟩⟩
theorem fe_125 : eqEs ((flat code_125).filter (fun e => ndE e.2.2.1)) (fl_125_0) = true := by decide +kernel
theorem om_125 : OKm mi iT prg 125 := OKm_of (code := code_125) rfl mt_125 (Or.inl (by decide +kernel)) rfl wk_125 (by decide +kernel) (by decide +kernel) (FA_of fe_125 (fb_125_0))
def fl_126_0 : List Ent := [(4, 3, 23, .invokevirtual 55, [0, 3, 3, 218, 1, 1, 4, 3, 1, 1, 2, 2, 3], 0), (8, 3, 7, .putfield 13, [1, 21, 89], 0)]
theorem fb_126_0 : FB mi iT mi_126 (bpc code_126) (fl_126_0) := ⟨fun hd => mk23 mt_218 cf_218 (vf_218_1.rt (Or.inl W2675) (hd rfl)) rfl rfl (hnd_prs _ ⟨(⟨[], ⟨0, 11, 14, 26⟩, [⟨0, 11, 18, 19⟩, ⟨0, 11, 22, 21⟩], "java/lang/IndexOutOfBoundsException", 2, rfl, fun _ h => absurd h List.not_mem_nil, by decide, by decide, W2512, W2544, Or.inl ⟨(show decode method_10_code 14 = .ok (.astore 4, 2) by decide +kernel), rfl⟩, by decide, rfl⟩ : Hnd mi_126 iT.2 4 3 4 16), ⟨(⟨[⟨0, 11, 14, 26⟩], ⟨0, 11, 18, 19⟩, [⟨0, 11, 22, 21⟩], "java/lang/IllegalArgumentException", 2, rfl, List.forall_mem_cons.mpr ⟨Or.inr ⟨by decide, "java/lang/IndexOutOfBoundsException", W2512, by decide⟩, fun _ h => absurd h List.not_mem_nil⟩, by decide, by decide, W1760, W1774, Or.inl ⟨(show decode method_10_code 18 = .ok (.astore 4, 2) by decide +kernel), rfl⟩, by decide, rfl⟩ : Hnd mi_126 iT.2 4 1 4 20), ⟨(⟨[⟨0, 11, 14, 26⟩, ⟨0, 11, 18, 19⟩], ⟨0, 11, 22, 21⟩, [], "java/lang/IllegalStateException", 2, rfl, List.forall_mem_cons.mpr ⟨Or.inr ⟨by decide, "java/lang/IndexOutOfBoundsException", W2512, by decide⟩, List.forall_mem_cons.mpr ⟨Or.inr ⟨by decide, "java/lang/IllegalArgumentException", W1760, by decide⟩, fun _ h => absurd h List.not_mem_nil⟩⟩, by decide, by decide, W1761, W1798, Or.inl ⟨(show decode method_10_code 22 = .ok (.astore 4, 2) by decide +kernel), rfl⟩, by decide, rfl⟩ : Hnd mi_126 iT.2 4 2 4 24), trivial⟩⟩⟩),
  ⟨fun hd => mk7 fld_21_0 (Or.inr ⟨_, W1747⟩) (Or.inl rfl) (Or.inl rfl) (hd rfl),
  trivial⟩⟩
theorem fe_126 : eqEs ((flat code_126).filter (fun e => ndE e.2.2.1)) (fl_126_0) = true := by decide +kernel
theorem om_126 : OKm mi iT prg 126 := OKm_of (code := code_126) rfl mt_126 (Or.inl (by decide +kernel)) rfl wk_126 (by decide +kernel) (by decide +kernel) (FA_of fe_126 (fb_126_0))
def fl_127_0 : List Ent := [(4, 3, 23, .invokevirtual 58, [0, 3, 3, 220, 1, 1, 4, 3, 1, 1, 2, 2, 3], 0), (8, 3, 7, .putfield 13, [1, 21, 89], 0)]
theorem fb_127_0 : FB mi iT mi_127 (bpc code_127) (fl_127_0) := ⟨fun hd => mk23 mt_220 cf_220 (vf_220_1.rt (Or.inl W2690) (hd rfl)) rfl rfl (hnd_prs _ ⟨(⟨[], ⟨0, 11, 14, 26⟩, [⟨0, 11, 18, 19⟩, ⟨0, 11, 22, 21⟩], "java/lang/IndexOutOfBoundsException", 2, rfl, fun _ h => absurd h List.not_mem_nil, by decide, by decide, W2512, W2544, Or.inl ⟨(show decode method_11_code 14 = .ok (.astore 4, 2) by decide +kernel), rfl⟩, by decide, rfl⟩ : Hnd mi_127 iT.2 4 3 4 16), ⟨(⟨[⟨0, 11, 14, 26⟩], ⟨0, 11, 18, 19⟩, [⟨0, 11, 22, 21⟩], "java/lang/IllegalArgumentException", 2, rfl, List.forall_mem_cons.mpr ⟨Or.inr ⟨by decide, "java/lang/IndexOutOfBoundsException", W2512, by decide⟩, fun _ h => absurd h List.not_mem_nil⟩, by decide, by decide, W1760, W1774, Or.inl ⟨(show decode method_11_code 18 = .ok (.astore 4, 2) by decide +kernel), rfl⟩, by decide, rfl⟩ : Hnd mi_127 iT.2 4 1 4 20), ⟨(⟨[⟨0, 11, 14, 26⟩, ⟨0, 11, 18, 19⟩], ⟨0, 11, 22, 21⟩, [], "java/lang/IllegalStateException", 2, rfl, List.forall_mem_cons.mpr ⟨Or.inr ⟨by decide, "java/lang/IndexOutOfBoundsException", W2512, by decide⟩, List.forall_mem_cons.mpr ⟨Or.inr ⟨by decide, "java/lang/IllegalArgumentException", W1760, by decide⟩, fun _ h => absurd h List.not_mem_nil⟩⟩, by decide, by decide, W1761, W1798, Or.inl ⟨(show decode method_11_code 22 = .ok (.astore 4, 2) by decide +kernel), rfl⟩, by decide, rfl⟩ : Hnd mi_127 iT.2 4 2 4 24), trivial⟩⟩⟩),
  ⟨fun hd => mk7 fld_21_0 (Or.inr ⟨_, W1747⟩) (Or.inl rfl) (Or.inl rfl) (hd rfl),
  trivial⟩⟩
theorem fe_127 : eqEs ((flat code_127).filter (fun e => ndE e.2.2.1)) (fl_127_0) = true := by decide +kernel
theorem om_127 : OKm mi iT prg 127 := OKm_of (code := code_127) rfl mt_127 (Or.inl (by decide +kernel)) rfl wk_127 (by decide +kernel) (by decide +kernel) (FA_of fe_127 (fb_127_0))
def fl_128_0 : List Ent := [(4, 3, 23, .invokevirtual 61, [2, 3, 3, 221, 1, 1, 4, 3, 1, 1, 2], 0), (7, 3, 7, .putfield 40, [2, 21, 90], 0)]
theorem fb_128_0 : FB mi iT mi_128 (bpc code_128) (fl_128_0) := ⟨fun hd => mk23 mt_221 cf_221 (vf_221_1.rt (Or.inl W2698) (hd rfl)) rfl rfl (hnd_prs _ ⟨(⟨[], ⟨0, 10, 13, 26⟩, [⟨0, 10, 17, 19⟩], "java/lang/IndexOutOfBoundsException", 2, rfl, fun _ h => absurd h List.not_mem_nil, by decide, by decide, W2512, W2544, Or.inl ⟨(show decode method_12_code 13 = .ok (.astore 4, 2) by decide +kernel), rfl⟩, by decide, rfl⟩ : Hnd mi_128 iT.2 4 3 4 15), ⟨(⟨[⟨0, 10, 13, 26⟩], ⟨0, 10, 17, 19⟩, [], "java/lang/IllegalArgumentException", 2, rfl, List.forall_mem_cons.mpr ⟨Or.inr ⟨by decide, "java/lang/IndexOutOfBoundsException", W2512, by decide⟩, fun _ h => absurd h List.not_mem_nil⟩, by decide, by decide, W1760, W1774, Or.inl ⟨(show decode method_12_code 17 = .ok (.astore 4, 2) by decide +kernel), rfl⟩, by decide, rfl⟩ : Hnd mi_128 iT.2 4 1 4 19), trivial⟩⟩),
  ⟨fun hd => mk7 fld_21_1 (Or.inr ⟨_, W1748⟩) (Or.inl rfl) (Or.inl rfl) (hd rfl),
  trivial⟩⟩
theorem fe_128 : eqEs ((flat code_128).filter (fun e => ndE e.2.2.1)) (fl_128_0) = true := by decide +kernel
theorem om_128 : OKm mi iT prg 128 := OKm_of (code := code_128) rfl mt_128 (Or.inl (by decide +kernel)) rfl wk_128 (by decide +kernel) (by decide +kernel) (FA_of fe_128 (fb_128_0))
def fl_129_0 : List Ent := [(6, 3, 23, .invokevirtual 64, [2, 4, 4, 222, 1, 1, 5, 3, 1, 1, 2], 0), (9, 3, 7, .putfield 40, [2, 21, 90], 0)]
theorem fb_129_0 : FB mi iT mi_129 (bpc code_129) (fl_129_0) := ⟨fun hd => mk23 mt_222 cf_222 (vf_222_1.rt (Or.inl W2705) (hd rfl)) rfl rfl (hnd_prs _ ⟨(⟨[], ⟨0, 12, 15, 26⟩, [⟨0, 12, 19, 19⟩], "java/lang/IndexOutOfBoundsException", 2, rfl, fun _ h => absurd h List.not_mem_nil, by decide, by decide, W2512, W2544, Or.inl ⟨(show decode method_13_code 15 = .ok (.astore 5, 2) by decide +kernel), rfl⟩, by decide, rfl⟩ : Hnd mi_129 iT.2 6 3 5 17), ⟨(⟨[⟨0, 12, 15, 26⟩], ⟨0, 12, 19, 19⟩, [], "java/lang/IllegalArgumentException", 2, rfl, List.forall_mem_cons.mpr ⟨Or.inr ⟨by decide, "java/lang/IndexOutOfBoundsException", W2512, by decide⟩, fun _ h => absurd h List.not_mem_nil⟩, by decide, by decide, W1760, W1774, Or.inl ⟨(show decode method_13_code 19 = .ok (.astore 5, 2) by decide +kernel), rfl⟩, by decide, rfl⟩ : Hnd mi_129 iT.2 6 1 5 21), trivial⟩⟩),
  ⟨fun hd => mk7 fld_21_1 (Or.inr ⟨_, W1748⟩) (Or.inl rfl) (Or.inl rfl) (hd rfl),
  trivial⟩⟩
theorem fe_129 : eqEs ((flat code_129).filter (fun e => ndE e.2.2.1)) (fl_129_0) = true := by decide +kernel
theorem om_129 : OKm mi iT prg 129 := OKm_of (code := code_129) rfl mt_129 (Or.inl (by decide +kernel)) rfl wk_129 (by decide +kernel) (by decide +kernel) (FA_of fe_129 (fb_129_0))
def fl_130_0 : List Ent := [(3, 3, 23, .invokevirtual 68, [0, 2, 2, 223, 1, 1, 3, 3, 1], 0), (7, 3, 7, .putfield 13, [1, 21, 89], 0)]
theorem fb_130_0 : FB mi iT mi_130 (bpc code_130) (fl_130_0) := ⟨fun hd => mk23 mt_223 cf_223 (vf_223_1.rt (Or.inl W2714) (hd rfl)) rfl rfl (hnd_prs _ ⟨(⟨[], ⟨0, 10, 13, 26⟩, [], "java/lang/IndexOutOfBoundsException", 1, rfl, fun _ h => absurd h List.not_mem_nil, by decide, by decide, W2512, W2544, Or.inr ⟨3, rfl, (show decode method_14_code 13 = .ok (.astore_n 3, 1) by decide +kernel), rfl⟩, by decide, rfl⟩ : Hnd mi_130 iT.2 3 3 3 14), trivial⟩),
  ⟨fun hd => mk7 fld_21_0 (Or.inr ⟨_, W1747⟩) (Or.inl rfl) (Or.inl rfl) (hd rfl),
  trivial⟩⟩
theorem fe_130 : eqEs ((flat code_130).filter (fun e => ndE e.2.2.1)) (fl_130_0) = true := by decide +kernel
theorem om_130 : OKm mi iT prg 130 := OKm_of (code := code_130) rfl mt_130 (Or.inl (by decide +kernel)) rfl wk_130 (by decide +kernel) (by decide +kernel) (FA_of fe_130 (fb_130_0))
def fl_131_0 : List Ent := [(10, 3, 23, .invokevirtual 71, [0, 6, 6, 224, 1, 1, 7, 3, 1, 1, 2, 2, 3], 0), (14, 3, 7, .putfield 13, [1, 21, 89], 0)]
theorem fb_131_0 : FB mi iT mi_131 (bpc code_131) (fl_131_0) := ⟨fun hd => mk23 mt_224 cf_224 (vf_224_1.rt (Or.inl W2721) (hd rfl)) rfl rfl (hnd_prs _ ⟨(⟨[], ⟨0, 17, 20, 26⟩, [⟨0, 17, 24, 19⟩, ⟨0, 17, 28, 21⟩], "java/lang/IndexOutOfBoundsException", 2, rfl, fun _ h => absurd h List.not_mem_nil, by decide, by decide, W2512, W2544, Or.inl ⟨(show decode method_15_code 20 = .ok (.astore 7, 2) by decide +kernel), rfl⟩, by decide, rfl⟩ : Hnd mi_131 iT.2 10 3 7 22), ⟨(⟨[⟨0, 17, 20, 26⟩], ⟨0, 17, 24, 19⟩, [⟨0, 17, 28, 21⟩], "java/lang/IllegalArgumentException", 2, rfl, List.forall_mem_cons.mpr ⟨Or.inr ⟨by decide, "java/lang/IndexOutOfBoundsException", W2512, by decide⟩, fun _ h => absurd h List.not_mem_nil⟩, by decide, by decide, W1760, W1774, Or.inl ⟨(show decode method_15_code 24 = .ok (.astore 7, 2) by decide +kernel), rfl⟩, by decide, rfl⟩ : Hnd mi_131 iT.2 10 1 7 26), ⟨(⟨[⟨0, 17, 20, 26⟩, ⟨0, 17, 24, 19⟩], ⟨0, 17, 28, 21⟩, [], "java/lang/IllegalStateException", 2, rfl, List.forall_mem_cons.mpr ⟨Or.inr ⟨by decide, "java/lang/IndexOutOfBoundsException", W2512, by decide⟩, List.forall_mem_cons.mpr ⟨Or.inr ⟨by decide, "java/lang/IllegalArgumentException", W1760, by decide⟩, fun _ h => absurd h List.not_mem_nil⟩⟩, by decide, by decide, W1761, W1798, Or.inl ⟨(show decode method_15_code 28 = .ok (.astore 7, 2) by decide +kernel), rfl⟩, by decide, rfl⟩ : Hnd mi_131 iT.2 10 2 7 30), trivial⟩⟩⟩),
  ⟨fun hd => mk7 fld_21_0 (Or.inr ⟨_, W1747⟩) (Or.inl rfl) (Or.inl rfl) (hd rfl),
  trivial⟩⟩
theorem fe_131 : eqEs ((flat code_131).filter (fun e => ndE e.2.2.1)) (fl_131_0) = true := by decide +kernel
theorem om_131 : OKm mi iT prg 131 := OKm_of (code := code_131) rfl mt_131 (Or.inl (by decide +kernel)) rfl wk_131 (by decide +kernel) (by decide +kernel) (FA_of fe_131 (fb_131_0))
def fl_132_0 : List Ent := [(4, 3, 23, .invokevirtual 74, [0, 3, 3, 225, 1, 1, 4, 3, 1, 1, 2], 0), (8, 3, 7, .putfield 13, [1, 21, 89], 0)]
theorem fb_132_0 : FB mi iT mi_132 (bpc code_132) (fl_132_0) := ⟨fun hd => mk23 mt_225 cf_225 (vf_225_1.rt (Or.inl W2728) (hd rfl)) rfl rfl (hnd_prs _ ⟨(⟨[], ⟨0, 11, 14, 26⟩, [⟨0, 11, 18, 19⟩], "java/lang/IndexOutOfBoundsException", 2, rfl, fun _ h => absurd h List.not_mem_nil, by decide, by decide, W2512, W2544, Or.inl ⟨(show decode method_16_code 14 = .ok (.astore 4, 2) by decide +kernel), rfl⟩, by decide, rfl⟩ : Hnd mi_132 iT.2 4 3 4 16), ⟨(⟨[⟨0, 11, 14, 26⟩], ⟨0, 11, 18, 19⟩, [], "java/lang/IllegalArgumentException", 2, rfl, List.forall_mem_cons.mpr ⟨Or.inr ⟨by decide, "java/lang/IndexOutOfBoundsException", W2512, by decide⟩, fun _ h => absurd h List.not_mem_nil⟩, by decide, by decide, W1760, W1774, Or.inl ⟨(show decode method_16_code 18 = .ok (.astore 4, 2) by decide +kernel), rfl⟩, by decide, rfl⟩ : Hnd mi_132 iT.2 4 1 4 20), trivial⟩⟩),
  ⟨fun hd => mk7 fld_21_0 (Or.inr ⟨_, W1747⟩) (Or.inl rfl) (Or.inl rfl) (hd rfl),
  trivial⟩⟩
theorem fe_132 : eqEs ((flat code_132).filter (fun e => ndE e.2.2.1)) (fl_132_0) = true := by decide +kernel
theorem om_132 : OKm mi iT prg 132 := OKm_of (code := code_132) rfl mt_132 (Or.inl (by decide +kernel)) rfl wk_132 (by decide +kernel) (by decide +kernel) (FA_of fe_132 (fb_132_0))
def fl_133_0 : List Ent := [(3, 3, 23, .invokevirtual 77, [0, 2, 2, 226, 1, 1, 3, 3, 1, 2, 2], 0), (7, 3, 7, .putfield 13, [1, 21, 89], 0)]
theorem fb_133_0 : FB mi iT mi_133 (bpc code_133) (fl_133_0) := ⟨fun hd => mk23 mt_226 cf_226 (vf_226_1.rt (Or.inl W2735) (hd rfl)) rfl rfl (hnd_prs _ ⟨(⟨[], ⟨0, 10, 13, 26⟩, [⟨0, 10, 16, 21⟩], "java/lang/IndexOutOfBoundsException", 1, rfl, fun _ h => absurd h List.not_mem_nil, by decide, by decide, W2512, W2544, Or.inr ⟨3, rfl, (show decode method_17_code 13 = .ok (.astore_n 3, 1) by decide +kernel), rfl⟩, by decide, rfl⟩ : Hnd mi_133 iT.2 3 3 3 14), ⟨(⟨[⟨0, 10, 13, 26⟩], ⟨0, 10, 16, 21⟩, [], "java/lang/IllegalStateException", 1, rfl, List.forall_mem_cons.mpr ⟨Or.inr ⟨by decide, "java/lang/IndexOutOfBoundsException", W2512, by decide⟩, fun _ h => absurd h List.not_mem_nil⟩, by decide, by decide, W1761, W1798, Or.inr ⟨3, rfl, (show decode method_17_code 16 = .ok (.astore_n 3, 1) by decide +kernel), rfl⟩, by decide, rfl⟩ : Hnd mi_133 iT.2 3 2 3 17), trivial⟩⟩),
  ⟨fun hd => mk7 fld_21_0 (Or.inr ⟨_, W1747⟩) (Or.inl rfl) (Or.inl rfl) (hd rfl),
  trivial⟩⟩
theorem fe_133 : eqEs ((flat code_133).filter (fun e => ndE e.2.2.1)) (fl_133_0) = true := by decide +kernel
theorem om_133 : OKm mi iT prg 133 := OKm_of (code := code_133) rfl mt_133 (Or.inl (by decide +kernel)) rfl wk_133 (by decide +kernel) (by decide +kernel) (FA_of fe_133 (fb_133_0))
def fl_134_0 : List Ent := [(6, 3, 23, .invokevirtual 80, [0, 4, 4, 227, 1, 1, 5, 3, 1, 1, 2], 0), (10, 3, 7, .putfield 13, [1, 21, 89], 0)]
theorem fb_134_0 : FB mi iT mi_134 (bpc code_134) (fl_134_0) := ⟨fun hd => mk23 mt_227 cf_227 (vf_227_1.rt (Or.inl W2754) (hd rfl)) rfl rfl (hnd_prs _ ⟨(⟨[], ⟨0, 13, 16, 26⟩, [⟨0, 13, 20, 19⟩], "java/lang/IndexOutOfBoundsException", 2, rfl, fun _ h => absurd h List.not_mem_nil, by decide, by decide, W2512, W2544, Or.inl ⟨(show decode method_18_code 16 = .ok (.astore 5, 2) by decide +kernel), rfl⟩, by decide, rfl⟩ : Hnd mi_134 iT.2 6 3 5 18), ⟨(⟨[⟨0, 13, 16, 26⟩], ⟨0, 13, 20, 19⟩, [], "java/lang/IllegalArgumentException", 2, rfl, List.forall_mem_cons.mpr ⟨Or.inr ⟨by decide, "java/lang/IndexOutOfBoundsException", W2512, by decide⟩, fun _ h => absurd h List.not_mem_nil⟩, by decide, by decide, W1760, W1774, Or.inl ⟨(show decode method_18_code 20 = .ok (.astore 5, 2) by decide +kernel), rfl⟩, by decide, rfl⟩ : Hnd mi_134 iT.2 6 1 5 22), trivial⟩⟩),
  ⟨fun hd => mk7 fld_21_0 (Or.inr ⟨_, W1747⟩) (Or.inl rfl) (Or.inl rfl) (hd rfl),
  trivial⟩⟩
theorem fe_134 : eqEs ((flat code_134).filter (fun e => ndE e.2.2.1)) (fl_134_0) = true := by decide +kernel
theorem om_134 : OKm mi iT prg 134 := OKm_of (code := code_134) rfl mt_134 (Or.inl (by decide +kernel)) rfl wk_134 (by decide +kernel) (by decide +kernel) (FA_of fe_134 (fb_134_0))
def fl_135_0 : List Ent := [(8, 3, 23, .invokevirtual 84, [2, 5, 5, 228, 1, 1, 6, 3, 1, 1, 2], 0), (11, 3, 7, .putfield 40, [2, 21, 90], 0)]
theorem fb_135_0 : FB mi iT mi_135 (bpc code_135) (fl_135_0) := ⟨fun hd => mk23 mt_228 cf_228 (vf_228_1.rt (Or.inl W2761) (hd rfl)) rfl rfl (hnd_prs _ ⟨(⟨[], ⟨0, 14, 17, 26⟩, [⟨0, 14, 21, 19⟩], "java/lang/IndexOutOfBoundsException", 2, rfl, fun _ h => absurd h List.not_mem_nil, by decide, by decide, W2512, W2544, Or.inl ⟨(show decode method_19_code 17 = .ok (.astore 6, 2) by decide +kernel), rfl⟩, by decide, rfl⟩ : Hnd mi_135 iT.2 8 3 6 19), ⟨(⟨[⟨0, 14, 17, 26⟩], ⟨0, 14, 21, 19⟩, [], "java/lang/IllegalArgumentException", 2, rfl, List.forall_mem_cons.mpr ⟨Or.inr ⟨by decide, "java/lang/IndexOutOfBoundsException", W2512, by decide⟩, fun _ h => absurd h List.not_mem_nil⟩, by decide, by decide, W1760, W1774, Or.inl ⟨(show decode method_19_code 21 = .ok (.astore 6, 2) by decide +kernel), rfl⟩, by decide, rfl⟩ : Hnd mi_135 iT.2 8 1 6 23), trivial⟩⟩),
  ⟨fun hd => mk7 fld_21_1 (Or.inr ⟨_, W1748⟩) (Or.inl rfl) (Or.inl rfl) (hd rfl),
  trivial⟩⟩
theorem fe_135 : eqEs ((flat code_135).filter (fun e => ndE e.2.2.1)) (fl_135_0) = true := by decide +kernel
theorem om_135 : OKm mi iT prg 135 := OKm_of (code := code_135) rfl mt_135 (Or.inl (by decide +kernel)) rfl wk_135 (by decide +kernel) (by decide +kernel) (FA_of fe_135 (fb_135_0))
def fl_136_0 : List Ent := [(4, 3, 23, .invokevirtual 88, [0, 3, 3, 229, 1, 1, 4, 3, 1], 0), (8, 3, 7, .putfield 13, [1, 21, 89], 0)]
theorem fb_136_0 : FB mi iT mi_136 (bpc code_136) (fl_136_0) := ⟨fun hd => mk23 mt_229 cf_229 (vf_229_1.rt (Or.inl W2781) (hd rfl)) rfl rfl (hnd_prs _ ⟨(⟨[], ⟨0, 11, 14, 26⟩, [], "java/lang/IndexOutOfBoundsException", 2, rfl, fun _ h => absurd h List.not_mem_nil, by decide, by decide, W2512, W2544, Or.inl ⟨(show decode method_20_code 14 = .ok (.astore 4, 2) by decide +kernel), rfl⟩, by decide, rfl⟩ : Hnd mi_136 iT.2 4 3 4 16), trivial⟩),
  ⟨fun hd => mk7 fld_21_0 (Or.inr ⟨_, W1747⟩) (Or.inl rfl) (Or.inl rfl) (hd rfl),
  trivial⟩⟩
theorem fe_136 : eqEs ((flat code_136).filter (fun e => ndE e.2.2.1)) (fl_136_0) = true := by decide +kernel
theorem om_136 : OKm mi iT prg 136 := OKm_of (code := code_136) rfl mt_136 (Or.inl (by decide +kernel)) rfl wk_136 (by decide +kernel) (by decide +kernel) (FA_of fe_136 (fb_136_0))
def fl_137_0 : List Ent := [(10, 3, 23, .invokevirtual 92, [0, 6, 6, 230, 1, 1, 7, 1, 1, 2, 2], 0), (14, 3, 7, .putfield 13, [1, 21, 89], 0)]
theorem fb_137_0 : FB mi iT mi_137 (bpc code_137) (fl_137_0) := ⟨fun hd => mk23 mt_230 cf_230 (vf_230_1.rt (Or.inl W2788) (hd rfl)) rfl rfl (hnd_prs _ ⟨(⟨[], ⟨0, 17, 20, 19⟩, [⟨0, 17, 24, 21⟩], "java/lang/IllegalArgumentException", 2, rfl, fun _ h => absurd h List.not_mem_nil, by decide, by decide, W1760, W1774, Or.inl ⟨(show decode method_21_code 20 = .ok (.astore 7, 2) by decide +kernel), rfl⟩, by decide, rfl⟩ : Hnd mi_137 iT.2 10 1 7 22), ⟨(⟨[⟨0, 17, 20, 19⟩], ⟨0, 17, 24, 21⟩, [], "java/lang/IllegalStateException", 2, rfl, List.forall_mem_cons.mpr ⟨Or.inr ⟨by decide, "java/lang/IllegalArgumentException", W1760, by decide⟩, fun _ h => absurd h List.not_mem_nil⟩, by decide, by decide, W1761, W1798, Or.inl ⟨(show decode method_21_code 24 = .ok (.astore 7, 2) by decide +kernel), rfl⟩, by decide, rfl⟩ : Hnd mi_137 iT.2 10 2 7 26), trivial⟩⟩),
  ⟨fun hd => mk7 fld_21_0 (Or.inr ⟨_, W1747⟩) (Or.inl rfl) (Or.inl rfl) (hd rfl),
  trivial⟩⟩
theorem fe_137 : eqEs ((flat code_137).filter (fun e => ndE e.2.2.1)) (fl_137_0) = true := by decide +kernel
theorem om_137 : OKm mi iT prg 137 := OKm_of (code := code_137) rfl mt_137 (Or.inl (by decide +kernel)) rfl wk_137 (by decide +kernel) (by decide +kernel) (FA_of fe_137 (fb_137_0))
def fl_138_0 : List Ent := [(4, 3, 23, .invokevirtual 95, [0, 3, 3, 231, 1, 1, 4, 3, 1, 1, 2, 2, 3], 0), (8, 3, 7, .putfield 13, [1, 21, 89], 0)]
theorem fb_138_0 : FB mi iT mi_138 (bpc code_138) (fl_138_0) := ⟨fun hd => mk23 mt_231 cf_231 (vf_231_1.rt (Or.inl W2834) (hd rfl)) rfl rfl (hnd_prs _ ⟨(⟨[], ⟨0, 11, 14, 26⟩, [⟨0, 11, 18, 19⟩, ⟨0, 11, 22, 21⟩], "java/lang/IndexOutOfBoundsException", 2, rfl, fun _ h => absurd h List.not_mem_nil, by decide, by decide, W2512, W2544, Or.inl ⟨(show decode method_22_code 14 = .ok (.astore 4, 2) by decide +kernel), rfl⟩, by decide, rfl⟩ : Hnd mi_138 iT.2 4 3 4 16), ⟨(⟨[⟨0, 11, 14, 26⟩], ⟨0, 11, 18, 19⟩, [⟨0, 11, 22, 21⟩], "java/lang/IllegalArgumentException", 2, rfl, List.forall_mem_cons.mpr ⟨Or.inr ⟨by decide, "java/lang/IndexOutOfBoundsException", W2512, by decide⟩, fun _ h => absurd h List.not_mem_nil⟩, by decide, by decide, W1760, W1774, Or.inl ⟨(show decode method_22_code 18 = .ok (.astore 4, 2) by decide +kernel), rfl⟩, by decide, rfl⟩ : Hnd mi_138 iT.2 4 1 4 20), ⟨(⟨[⟨0, 11, 14, 26⟩, ⟨0, 11, 18, 19⟩], ⟨0, 11, 22, 21⟩, [], "java/lang/IllegalStateException", 2, rfl, List.forall_mem_cons.mpr ⟨Or.inr ⟨by decide, "java/lang/IndexOutOfBoundsException", W2512, by decide⟩, List.forall_mem_cons.mpr ⟨Or.inr ⟨by decide, "java/lang/IllegalArgumentException", W1760, by decide⟩, fun _ h => absurd h List.not_mem_nil⟩⟩, by decide, by decide, W1761, W1798, Or.inl ⟨(show decode method_22_code 22 = .ok (.astore 4, 2) by decide +kernel), rfl⟩, by decide, rfl⟩ : Hnd mi_138 iT.2 4 2 4 24), trivial⟩⟩⟩),
  ⟨fun hd => mk7 fld_21_0 (Or.inr ⟨_, W1747⟩) (Or.inl rfl) (Or.inl rfl) (hd rfl),
  trivial⟩⟩
theorem fe_138 : eqEs ((flat code_138).filter (fun e => ndE e.2.2.1)) (fl_138_0) = true := by decide +kernel
theorem om_138 : OKm mi iT prg 138 := OKm_of (code := code_138) rfl mt_138 (Or.inl (by decide +kernel)) rfl wk_138 (by decide +kernel) (by decide +kernel) (FA_of fe_138 (fb_138_0))
def fl_139_0 : List Ent := [(8, 3, 23, .invokevirtual 98, [0, 5, 5, 232, 1, 1, 6, 3, 1, 1, 2, 2, 3], 0), (12, 3, 7, .putfield 13, [1, 21, 89], 0)]
theorem fb_139_0 : FB mi iT mi_139 (bpc code_139) (fl_139_0) := ⟨fun hd => mk23 mt_232 cf_232 (vf_232_1.rt (Or.inl W2907) (hd rfl)) rfl rfl (hnd_prs _ ⟨(⟨[], ⟨0, 15, 18, 26⟩, [⟨0, 15, 22, 19⟩, ⟨0, 15, 26, 21⟩], "java/lang/IndexOutOfBoundsException", 2, rfl, fun _ h => absurd h List.not_mem_nil, by decide, by decide, W2512, W2544, Or.inl ⟨(show decode method_23_code 18 = .ok (.astore 6, 2) by decide +kernel), rfl⟩, by decide, rfl⟩ : Hnd mi_139 iT.2 8 3 6 20), ⟨(⟨[⟨0, 15, 18, 26⟩], ⟨0, 15, 22, 19⟩, [⟨0, 15, 26, 21⟩], "java/lang/IllegalArgumentException", 2, rfl, List.forall_mem_cons.mpr ⟨Or.inr ⟨by decide, "java/lang/IndexOutOfBoundsException", W2512, by decide⟩, fun _ h => absurd h List.not_mem_nil⟩, by decide, by decide, W1760, W1774, Or.inl ⟨(show decode method_23_code 22 = .ok (.astore 6, 2) by decide +kernel), rfl⟩, by decide, rfl⟩ : Hnd mi_139 iT.2 8 1 6 24), ⟨(⟨[⟨0, 15, 18, 26⟩, ⟨0, 15, 22, 19⟩], ⟨0, 15, 26, 21⟩, [], "java/lang/IllegalStateException", 2, rfl, List.forall_mem_cons.mpr ⟨Or.inr ⟨by decide, "java/lang/IndexOutOfBoundsException", W2512, by decide⟩, List.forall_mem_cons.mpr ⟨Or.inr ⟨by decide, "java/lang/IllegalArgumentException", W1760, by decide⟩, fun _ h => absurd h List.not_mem_nil⟩⟩, by decide, by decide, W1761, W1798, Or.inl ⟨(show decode method_23_code 26 = .ok (.astore 6, 2) by decide +kernel), rfl⟩, by decide, rfl⟩ : Hnd mi_139 iT.2 8 2 6 28), trivial⟩⟩⟩),
  ⟨fun hd => mk7 fld_21_0 (Or.inr ⟨_, W1747⟩) (Or.inl rfl) (Or.inl rfl) (hd rfl),
  trivial⟩⟩
theorem fe_139 : eqEs ((flat code_139).filter (fun e => ndE e.2.2.1)) (fl_139_0) = true := by decide +kernel
theorem om_139 : OKm mi iT prg 139 := OKm_of (code := code_139) rfl mt_139 (Or.inl (by decide +kernel)) rfl wk_139 (by decide +kernel) (by decide +kernel) (FA_of fe_139 (fb_139_0))
def fl_140_0 : List Ent := [(4, 3, 23, .invokevirtual 101, [0, 3, 3, 234, 1, 1, 4, 3, 1], 0), (8, 3, 7, .putfield 13, [1, 21, 89], 0)]
theorem fb_140_0 : FB mi iT mi_140 (bpc code_140) (fl_140_0) := ⟨fun hd => mk23 mt_234 cf_234 (vf_234_1.rt (Or.inl W3124) (hd rfl)) rfl rfl (hnd_prs _ ⟨(⟨[], ⟨0, 11, 14, 26⟩, [], "java/lang/IndexOutOfBoundsException", 2, rfl, fun _ h => absurd h List.not_mem_nil, by decide, by decide, W2512, W2544, Or.inl ⟨(show decode method_24_code 14 = .ok (.astore 4, 2) by decide +kernel), rfl⟩, by decide, rfl⟩ : Hnd mi_140 iT.2 4 3 4 16), trivial⟩),
  ⟨fun hd => mk7 fld_21_0 (Or.inr ⟨_, W1747⟩) (Or.inl rfl) (Or.inl rfl) (hd rfl),
  trivial⟩⟩
theorem fe_140 : eqEs ((flat code_140).filter (fun e => ndE e.2.2.1)) (fl_140_0) = true := by decide +kernel
theorem om_140 : OKm mi iT prg 140 := OKm_of (code := code_140) rfl mt_140 (Or.inl (by decide +kernel)) rfl wk_140 (by decide +kernel) (by decide +kernel) (FA_of fe_140 (fb_140_0))
def fl_141_0 : List Ent := [(3, 3, 23, .invokevirtual 104, [0, 2, 2, 235, 1, 1, 3, 3, 1], 0), (7, 3, 7, .putfield 13, [1, 21, 89], 0)]
theorem fb_141_0 : FB mi iT mi_141 (bpc code_141) (fl_141_0) := ⟨fun hd => mk23 mt_235 cf_235 (vf_235_1.rt (Or.inl W3131) (hd rfl)) rfl rfl (hnd_prs _ ⟨(⟨[], ⟨0, 10, 13, 26⟩, [], "java/lang/IndexOutOfBoundsException", 1, rfl, fun _ h => absurd h List.not_mem_nil, by decide, by decide, W2512, W2544, Or.inr ⟨3, rfl, (show decode method_25_code 13 = .ok (.astore_n 3, 1) by decide +kernel), rfl⟩, by decide, rfl⟩ : Hnd mi_141 iT.2 3 3 3 14), trivial⟩),
  ⟨fun hd => mk7 fld_21_0 (Or.inr ⟨_, W1747⟩) (Or.inl rfl) (Or.inl rfl) (hd rfl),
  trivial⟩⟩
theorem fe_141 : eqEs ((flat code_141).filter (fun e => ndE e.2.2.1)) (fl_141_0) = true := by decide +kernel
theorem om_141 : OKm mi iT prg 141 := OKm_of (code := code_141) rfl mt_141 (Or.inl (by decide +kernel)) rfl wk_141 (by decide +kernel) (by decide +kernel) (FA_of fe_141 (fb_141_0))
def fl_142_0 : List Ent := [(4, 3, 23, .invokevirtual 107, [0, 3, 3, 236, 1, 1, 4, 3, 1, 1, 2], 0), (8, 3, 7, .putfield 13, [1, 21, 89], 0)]
theorem fb_142_0 : FB mi iT mi_142 (bpc code_142) (fl_142_0) := ⟨fun hd => mk23 mt_236 cf_236 (vf_236_1.rt (Or.inl W3142) (hd rfl)) rfl rfl (hnd_prs _ ⟨(⟨[], ⟨0, 11, 14, 26⟩, [⟨0, 11, 18, 19⟩], "java/lang/IndexOutOfBoundsException", 2, rfl, fun _ h => absurd h List.not_mem_nil, by decide, by decide, W2512, W2544, Or.inl ⟨(show decode method_26_code 14 = .ok (.astore 4, 2) by decide +kernel), rfl⟩, by decide, rfl⟩ : Hnd mi_142 iT.2 4 3 4 16), ⟨(⟨[⟨0, 11, 14, 26⟩], ⟨0, 11, 18, 19⟩, [], "java/lang/IllegalArgumentException", 2, rfl, List.forall_mem_cons.mpr ⟨Or.inr ⟨by decide, "java/lang/IndexOutOfBoundsException", W2512, by decide⟩, fun _ h => absurd h List.not_mem_nil⟩, by decide, by decide, W1760, W1774, Or.inl ⟨(show decode method_26_code 18 = .ok (.astore 4, 2) by decide +kernel), rfl⟩, by decide, rfl⟩ : Hnd mi_142 iT.2 4 1 4 20), trivial⟩⟩),
  ⟨fun hd => mk7 fld_21_0 (Or.inr ⟨_, W1747⟩) (Or.inl rfl) (Or.inl rfl) (hd rfl),
  trivial⟩⟩
theorem fe_142 : eqEs ((flat code_142).filter (fun e => ndE e.2.2.1)) (fl_142_0) = true := by decide +kernel
theorem om_142 : OKm mi iT prg 142 := OKm_of (code := code_142) rfl mt_142 (Or.inl (by decide +kernel)) rfl wk_142 (by decide +kernel) (by decide +kernel) (FA_of fe_142 (fb_142_0))
def fl_143_0 : List Ent := [(4, 3, 23, .invokevirtual 110, [0, 3, 3, 237, 1, 1, 4, 3, 1], 0), (8, 3, 7, .putfield 13, [1, 21, 89], 0)]
theorem fb_143_0 : FB mi iT mi_143 (bpc code_143) (fl_143_0) := ⟨fun hd => mk23 mt_237 cf_237 (vf_237_1.rt (Or.inl W3149) (hd rfl)) rfl rfl (hnd_prs _ ⟨(⟨[], ⟨0, 11, 14, 26⟩, [], "java/lang/IndexOutOfBoundsException", 2, rfl, fun _ h => absurd h List.not_mem_nil, by decide, by decide, W2512, W2544, Or.inl ⟨(show decode method_27_code 14 = .ok (.astore 4, 2) by decide +kernel), rfl⟩, by decide, rfl⟩ : Hnd mi_143 iT.2 4 3 4 16), trivial⟩),
  ⟨fun hd => mk7 fld_21_0 (Or.inr ⟨_, W1747⟩) (Or.inl rfl) (Or.inl rfl) (hd rfl),
  trivial⟩⟩
theorem fe_143 : eqEs ((flat code_143).filter (fun e => ndE e.2.2.1)) (fl_143_0) = true := by decide +kernel
theorem om_143 : OKm mi iT prg 143 := OKm_of (code := code_143) rfl mt_143 (Or.inl (by decide +kernel)) rfl wk_143 (by decide +kernel) (by decide +kernel) (FA_of fe_143 (fb_143_0))
def fl_144_0 : List Ent := [(4, 3, 23, .invokevirtual 113, [0, 3, 3, 238, 1, 1, 4, 3, 1, 2, 2], 0), (8, 3, 7, .putfield 13, [1, 21, 89], 0)]
theorem fb_144_0 : FB mi iT mi_144 (bpc code_144) (fl_144_0) := ⟨fun hd => mk23 mt_238 cf_238 (vf_238_1.rt (Or.inl W3161) (hd rfl)) rfl rfl (hnd_prs _ ⟨(⟨[], ⟨0, 11, 14, 26⟩, [⟨0, 11, 18, 21⟩], "java/lang/IndexOutOfBoundsException", 2, rfl, fun _ h => absurd h List.not_mem_nil, by decide, by decide, W2512, W2544, Or.inl ⟨(show decode method_28_code 14 = .ok (.astore 4, 2) by decide +kernel), rfl⟩, by decide, rfl⟩ : Hnd mi_144 iT.2 4 3 4 16), ⟨(⟨[⟨0, 11, 14, 26⟩], ⟨0, 11, 18, 21⟩, [], "java/lang/IllegalStateException", 2, rfl, List.forall_mem_cons.mpr ⟨Or.inr ⟨by decide, "java/lang/IndexOutOfBoundsException", W2512, by decide⟩, fun _ h => absurd h List.not_mem_nil⟩, by decide, by decide, W1761, W1798, Or.inl ⟨(show decode method_28_code 18 = .ok (.astore 4, 2) by decide +kernel), rfl⟩, by decide, rfl⟩ : Hnd mi_144 iT.2 4 2 4 20), trivial⟩⟩),
  ⟨fun hd => mk7 fld_21_0 (Or.inr ⟨_, W1747⟩) (Or.inl rfl) (Or.inl rfl) (hd rfl),
  trivial⟩⟩
theorem fe_144 : eqEs ((flat code_144).filter (fun e => ndE e.2.2.1)) (fl_144_0) = true := by decide +kernel
theorem om_144 : OKm mi iT prg 144 := OKm_of (code := code_144) rfl mt_144 (Or.inl (by decide +kernel)) rfl wk_144 (by decide +kernel) (by decide +kernel) (FA_of fe_144 (fb_144_0))
def fl_145_0 : List Ent := [(3, 3, 23, .invokevirtual 116, [0, 2, 2, 239, 1, 1, 3, 3, 1, 2, 2], 0), (7, 3, 7, .putfield 13, [1, 21, 89], 0)]
theorem fb_145_0 : FB mi iT mi_145 (bpc code_145) (fl_145_0) := ⟨fun hd => mk23 mt_239 cf_239 (vf_239_1.rt (Or.inl W3199) (hd rfl)) rfl rfl (hnd_prs _ ⟨(⟨[], ⟨0, 10, 13, 26⟩, [⟨0, 10, 16, 21⟩], "java/lang/IndexOutOfBoundsException", 1, rfl, fun _ h => absurd h List.not_mem_nil, by decide, by decide, W2512, W2544, Or.inr ⟨3, rfl, (show decode method_29_code 13 = .ok (.astore_n 3, 1) by decide +kernel), rfl⟩, by decide, rfl⟩ : Hnd mi_145 iT.2 3 3 3 14), ⟨(⟨[⟨0, 10, 13, 26⟩], ⟨0, 10, 16, 21⟩, [], "java/lang/IllegalStateException", 1, rfl, List.forall_mem_cons.mpr ⟨Or.inr ⟨by decide, "java/lang/IndexOutOfBoundsException", W2512, by decide⟩, fun _ h => absurd h List.not_mem_nil⟩, by decide, by decide, W1761, W1798, Or.inr ⟨3, rfl, (show decode method_29_code 16 = .ok (.astore_n 3, 1) by decide +kernel), rfl⟩, by decide, rfl⟩ : Hnd mi_145 iT.2 3 2 3 17), trivial⟩⟩),
  ⟨fun hd => mk7 fld_21_0 (Or.inr ⟨_, W1747⟩) (Or.inl rfl) (Or.inl rfl) (hd rfl),
  trivial⟩⟩
theorem fe_145 : eqEs ((flat code_145).filter (fun e => ndE e.2.2.1)) (fl_145_0) = true := by decide +kernel
theorem om_145 : OKm mi iT prg 145 := OKm_of (code := code_145) rfl mt_145 (Or.inl (by decide +kernel)) rfl wk_145 (by decide +kernel) (by decide +kernel) (FA_of fe_145 (fb_145_0))
def fl_146_0 : List Ent := [(4, 3, 23, .invokevirtual 119, [0, 3, 3, 241, 1, 1, 4, 3, 1, 2, 2], 0), (8, 3, 7, .putfield 13, [1, 21, 89], 0)]
theorem fb_146_0 : FB mi iT mi_146 (bpc code_146) (fl_146_0) := ⟨fun hd => mk23 mt_241 cf_241 (vf_241_1.rt (Or.inl W3269) (hd rfl)) rfl rfl (hnd_prs _ ⟨(⟨[], ⟨0, 11, 14, 26⟩, [⟨0, 11, 18, 21⟩], "java/lang/IndexOutOfBoundsException", 2, rfl, fun _ h => absurd h List.not_mem_nil, by decide, by decide, W2512, W2544, Or.inl ⟨(show decode method_30_code 14 = .ok (.astore 4, 2) by decide +kernel), rfl⟩, by decide, rfl⟩ : Hnd mi_146 iT.2 4 3 4 16), ⟨(⟨[⟨0, 11, 14, 26⟩], ⟨0, 11, 18, 21⟩, [], "java/lang/IllegalStateException", 2, rfl, List.forall_mem_cons.mpr ⟨Or.inr ⟨by decide, "java/lang/IndexOutOfBoundsException", W2512, by decide⟩, fun _ h => absurd h List.not_mem_nil⟩, by decide, by decide, W1761, W1798, Or.inl ⟨(show decode method_30_code 18 = .ok (.astore 4, 2) by decide +kernel), rfl⟩, by decide, rfl⟩ : Hnd mi_146 iT.2 4 2 4 20), trivial⟩⟩),
  ⟨fun hd => mk7 fld_21_0 (Or.inr ⟨_, W1747⟩) (Or.inl rfl) (Or.inl rfl) (hd rfl),
  trivial⟩⟩
theorem fe_146 : eqEs ((flat code_146).filter (fun e => ndE e.2.2.1)) (fl_146_0) = true := by decide +kernel
theorem om_146 : OKm mi iT prg 146 := OKm_of (code := code_146) rfl mt_146 (Or.inl (by decide +kernel)) rfl wk_146 (by decide +kernel) (by decide +kernel) (FA_of fe_146 (fb_146_0))
def fl_147_0 : List Ent := [(4, 3, 23, .invokevirtual 122, [0, 3, 3, 242, 1, 1, 4, 3, 1, 1, 2], 0), (8, 3, 7, .putfield 13, [1, 21, 89], 0)]
theorem fb_147_0 : FB mi iT mi_147 (bpc code_147) (fl_147_0) := ⟨fun hd => mk23 mt_242 cf_242 (vf_242_1.rt (Or.inl W3294) (hd rfl)) rfl rfl (hnd_prs _ ⟨(⟨[], ⟨0, 11, 14, 26⟩, [⟨0, 11, 18, 19⟩], "java/lang/IndexOutOfBoundsException", 2, rfl, fun _ h => absurd h List.not_mem_nil, by decide, by decide, W2512, W2544, Or.inl ⟨(show decode method_31_code 14 = .ok (.astore 4, 2) by decide +kernel), rfl⟩, by decide, rfl⟩ : Hnd mi_147 iT.2 4 3 4 16), ⟨(⟨[⟨0, 11, 14, 26⟩], ⟨0, 11, 18, 19⟩, [], "java/lang/IllegalArgumentException", 2, rfl, List.forall_mem_cons.mpr ⟨Or.inr ⟨by decide, "java/lang/IndexOutOfBoundsException", W2512, by decide⟩, fun _ h => absurd h List.not_mem_nil⟩, by decide, by decide, W1760, W1774, Or.inl ⟨(show decode method_31_code 18 = .ok (.astore 4, 2) by decide +kernel), rfl⟩, by decide, rfl⟩ : Hnd mi_147 iT.2 4 1 4 20), trivial⟩⟩),
  ⟨fun hd => mk7 fld_21_0 (Or.inr ⟨_, W1747⟩) (Or.inl rfl) (Or.inl rfl) (hd rfl),
  trivial⟩⟩
theorem fe_147 : eqEs ((flat code_147).filter (fun e => ndE e.2.2.1)) (fl_147_0) = true := by decide +kernel
theorem om_147 : OKm mi iT prg 147 := OKm_of (code := code_147) rfl mt_147 (Or.inl (by decide +kernel)) rfl wk_147 (by decide +kernel) (by decide +kernel) (FA_of fe_147 (fb_147_0))
def fl_148_0 : List Ent := [(4, 3, 23, .invokevirtual 125, [0, 3, 3, 243, 1, 1, 4, 3, 1, 1, 2], 0), (8, 3, 7, .putfield 13, [1, 21, 89], 0)]
theorem fb_148_0 : FB mi iT mi_148 (bpc code_148) (fl_148_0) := ⟨fun hd => mk23 mt_243 cf_243 (vf_243_1.rt (Or.inl W3301) (hd rfl)) rfl rfl (hnd_prs _ ⟨(⟨[], ⟨0, 11, 14, 26⟩, [⟨0, 11, 18, 19⟩], "java/lang/IndexOutOfBoundsException", 2, rfl, fun _ h => absurd h List.not_mem_nil, by decide, by decide, W2512, W2544, Or.inl ⟨(show decode method_32_code 14 = .ok (.astore 4, 2) by decide +kernel), rfl⟩, by decide, rfl⟩ : Hnd mi_148 iT.2 4 3 4 16), ⟨(⟨[⟨0, 11, 14, 26⟩], ⟨0, 11, 18, 19⟩, [], "java/lang/IllegalArgumentException", 2, rfl, List.forall_mem_cons.mpr ⟨Or.inr ⟨by decide, "java/lang/IndexOutOfBoundsException", W2512, by decide⟩, fun _ h => absurd h List.not_mem_nil⟩, by decide, by decide, W1760, W1774, Or.inl ⟨(show decode method_32_code 18 = .ok (.astore 4, 2) by decide +kernel), rfl⟩, by decide, rfl⟩ : Hnd mi_148 iT.2 4 1 4 20), trivial⟩⟩),
  ⟨fun hd => mk7 fld_21_0 (Or.inr ⟨_, W1747⟩) (Or.inl rfl) (Or.inl rfl) (hd rfl),
  trivial⟩⟩
theorem fe_148 : eqEs ((flat code_148).filter (fun e => ndE e.2.2.1)) (fl_148_0) = true := by decide +kernel
theorem om_148 : OKm mi iT prg 148 := OKm_of (code := code_148) rfl mt_148 (Or.inl (by decide +kernel)) rfl wk_148 (by decide +kernel) (by decide +kernel) (FA_of fe_148 (fb_148_0))
def fl_149_0 : List Ent := [(3, 3, 23, .invokevirtual 128, [0, 2, 2, 244, 1, 1, 3, 3, 1, 2, 2], 0), (7, 3, 7, .putfield 13, [1, 21, 89], 0)]
theorem fb_149_0 : FB mi iT mi_149 (bpc code_149) (fl_149_0) := ⟨fun hd => mk23 mt_244 cf_244 (vf_244_1.rt (Or.inl W3308) (hd rfl)) rfl rfl (hnd_prs _ ⟨(⟨[], ⟨0, 10, 13, 26⟩, [⟨0, 10, 16, 21⟩], "java/lang/IndexOutOfBoundsException", 1, rfl, fun _ h => absurd h List.not_mem_nil, by decide, by decide, W2512, W2544, Or.inr ⟨3, rfl, (show decode method_33_code 13 = .ok (.astore_n 3, 1) by decide +kernel), rfl⟩, by decide, rfl⟩ : Hnd mi_149 iT.2 3 3 3 14), ⟨(⟨[⟨0, 10, 13, 26⟩], ⟨0, 10, 16, 21⟩, [], "java/lang/IllegalStateException", 1, rfl, List.forall_mem_cons.mpr ⟨Or.inr ⟨by decide, "java/lang/IndexOutOfBoundsException", W2512, by decide⟩, fun _ h => absurd h List.not_mem_nil⟩, by decide, by decide, W1761, W1798, Or.inr ⟨3, rfl, (show decode method_33_code 16 = .ok (.astore_n 3, 1) by decide +kernel), rfl⟩, by decide, rfl⟩ : Hnd mi_149 iT.2 3 2 3 17), trivial⟩⟩),
  ⟨fun hd => mk7 fld_21_0 (Or.inr ⟨_, W1747⟩) (Or.inl rfl) (Or.inl rfl) (hd rfl),
  trivial⟩⟩
theorem fe_149 : eqEs ((flat code_149).filter (fun e => ndE e.2.2.1)) (fl_149_0) = true := by decide +kernel
theorem om_149 : OKm mi iT prg 149 := OKm_of (code := code_149) rfl mt_149 (Or.inl (by decide +kernel)) rfl wk_149 (by decide +kernel) (by decide +kernel) (FA_of fe_149 (fb_149_0))
def fl_150_0 : List Ent := [(4, 3, 23, .invokevirtual 131, [0, 3, 3, 246, 1, 1, 4, 3, 1, 1, 2], 0), (8, 3, 7, .putfield 13, [1, 21, 89], 0)]
theorem fb_150_0 : FB mi iT mi_150 (bpc code_150) (fl_150_0) := ⟨fun hd => mk23 mt_246 cf_246 (vf_246_1.rt (Or.inl W3318) (hd rfl)) rfl rfl (hnd_prs _ ⟨(⟨[], ⟨0, 11, 14, 26⟩, [⟨0, 11, 18, 19⟩], "java/lang/IndexOutOfBoundsException", 2, rfl, fun _ h => absurd h List.not_mem_nil, by decide, by decide, W2512, W2544, Or.inl ⟨(show decode method_34_code 14 = .ok (.astore 4, 2) by decide +kernel), rfl⟩, by decide, rfl⟩ : Hnd mi_150 iT.2 4 3 4 16), ⟨(⟨[⟨0, 11, 14, 26⟩], ⟨0, 11, 18, 19⟩, [], "java/lang/IllegalArgumentException", 2, rfl, List.forall_mem_cons.mpr ⟨Or.inr ⟨by decide, "java/lang/IndexOutOfBoundsException", W2512, by decide⟩, fun _ h => absurd h List.not_mem_nil⟩, by decide, by decide, W1760, W1774, Or.inl ⟨(show decode method_34_code 18 = .ok (.astore 4, 2) by decide +kernel), rfl⟩, by decide, rfl⟩ : Hnd mi_150 iT.2 4 1 4 20), trivial⟩⟩),
  ⟨fun hd => mk7 fld_21_0 (Or.inr ⟨_, W1747⟩) (Or.inl rfl) (Or.inl rfl) (hd rfl),
  trivial⟩⟩
theorem fe_150 : eqEs ((flat code_150).filter (fun e => ndE e.2.2.1)) (fl_150_0) = true := by decide +kernel
theorem om_150 : OKm mi iT prg 150 := OKm_of (code := code_150) rfl mt_150 (Or.inl (by decide +kernel)) rfl wk_150 (by decide +kernel) (by decide +kernel) (FA_of fe_150 (fb_150_0))
def fl_151_0 : List Ent := [(3, 3, 23, .invokevirtual 134, [0, 2, 2, 247, 1, 1, 3, 1, 1, 2, 2], 0), (7, 3, 7, .putfield 13, [1, 21, 89], 0)]
theorem fb_151_0 : FB mi iT mi_151 (bpc code_151) (fl_151_0) := ⟨fun hd => mk23 mt_247 cf_247 (vf_247_1.rt (Or.inl W3325) (hd rfl)) rfl rfl (hnd_prs _ ⟨(⟨[], ⟨0, 10, 13, 19⟩, [⟨0, 10, 16, 21⟩], "java/lang/IllegalArgumentException", 1, rfl, fun _ h => absurd h List.not_mem_nil, by decide, by decide, W1760, W1774, Or.inr ⟨3, rfl, (show decode method_35_code 13 = .ok (.astore_n 3, 1) by decide +kernel), rfl⟩, by decide, rfl⟩ : Hnd mi_151 iT.2 3 1 3 14), ⟨(⟨[⟨0, 10, 13, 19⟩], ⟨0, 10, 16, 21⟩, [], "java/lang/IllegalStateException", 1, rfl, List.forall_mem_cons.mpr ⟨Or.inr ⟨by decide, "java/lang/IllegalArgumentException", W1760, by decide⟩, fun _ h => absurd h List.not_mem_nil⟩, by decide, by decide, W1761, W1798, Or.inr ⟨3, rfl, (show decode method_35_code 16 = .ok (.astore_n 3, 1) by decide +kernel), rfl⟩, by decide, rfl⟩ : Hnd mi_151 iT.2 3 2 3 17), trivial⟩⟩),
  ⟨fun hd => mk7 fld_21_0 (Or.inr ⟨_, W1747⟩) (Or.inl rfl) (Or.inl rfl) (hd rfl),
  trivial⟩⟩
theorem fe_151 : eqEs ((flat code_151).filter (fun e => ndE e.2.2.1)) (fl_151_0) = true := by decide +kernel
theorem om_151 : OKm mi iT prg 151 := OKm_of (code := code_151) rfl mt_151 (Or.inl (by decide +kernel)) rfl wk_151 (by decide +kernel) (by decide +kernel) (FA_of fe_151 (fb_151_0))
def fl_152_0 : List Ent := [(6, 3, 23, .invokevirtual 137, [0, 4, 4, 250, 1, 1, 5, 3, 1, 1, 2, 2, 3], 0), (10, 3, 7, .putfield 13, [1, 21, 89], 0)]
theorem fb_152_0 : FB mi iT mi_152 (bpc code_152) (fl_152_0) := ⟨fun hd => mk23 mt_250 cf_250 (vf_250_1.rt (Or.inl W3483) (hd rfl)) rfl rfl (hnd_prs _ ⟨(⟨[], ⟨0, 13, 16, 26⟩, [⟨0, 13, 20, 19⟩, ⟨0, 13, 24, 21⟩], "java/lang/IndexOutOfBoundsException", 2, rfl, fun _ h => absurd h List.not_mem_nil, by decide, by decide, W2512, W2544, Or.inl ⟨(show decode method_36_code 16 = .ok (.astore 5, 2) by decide +kernel), rfl⟩, by decide, rfl⟩ : Hnd mi_152 iT.2 6 3 5 18), ⟨(⟨[⟨0, 13, 16, 26⟩], ⟨0, 13, 20, 19⟩, [⟨0, 13, 24, 21⟩], "java/lang/IllegalArgumentException", 2, rfl, List.forall_mem_cons.mpr ⟨Or.inr ⟨by decide, "java/lang/IndexOutOfBoundsException", W2512, by decide⟩, fun _ h => absurd h List.not_mem_nil⟩, by decide, by decide, W1760, W1774, Or.inl ⟨(show decode method_36_code 20 = .ok (.astore 5, 2) by decide +kernel), rfl⟩, by decide, rfl⟩ : Hnd mi_152 iT.2 6 1 5 22), ⟨(⟨[⟨0, 13, 16, 26⟩, ⟨0, 13, 20, 19⟩], ⟨0, 13, 24, 21⟩, [], "java/lang/IllegalStateException", 2, rfl, List.forall_mem_cons.mpr ⟨Or.inr ⟨by decide, "java/lang/IndexOutOfBoundsException", W2512, by decide⟩, List.forall_mem_cons.mpr ⟨Or.inr ⟨by decide, "java/lang/IllegalArgumentException", W1760, by decide⟩, fun _ h => absurd h List.not_mem_nil⟩⟩, by decide, by decide, W1761, W1798, Or.inl ⟨(show decode method_36_code 24 = .ok (.astore 5, 2) by decide +kernel), rfl⟩, by decide, rfl⟩ : Hnd mi_152 iT.2 6 2 5 26), trivial⟩⟩⟩),
  ⟨fun hd => mk7 fld_21_0 (Or.inr ⟨_, W1747⟩) (Or.inl rfl) (Or.inl rfl) (hd rfl),
  trivial⟩⟩
theorem fe_152 : eqEs ((flat code_152).filter (fun e => ndE e.2.2.1)) (fl_152_0) = true := by decide +kernel
theorem om_152 : OKm mi iT prg 152 := OKm_of (code := code_152) rfl mt_152 (Or.inl (by decide +kernel)) rfl wk_152 (by decide +kernel) (by decide +kernel) (FA_of fe_152 (fb_152_0))
def fl_153_0 : List Ent := [(4, 3, 23, .invokevirtual 140, [0, 3, 3, 251, 1, 1, 4, 3, 1, 1, 2, 2, 3], 0), (8, 3, 7, .putfield 13, [1, 21, 89], 0)]
theorem fb_153_0 : FB mi iT mi_153 (bpc code_153) (fl_153_0) := ⟨fun hd => mk23 mt_251 cf_251 (vf_251_1.rt (Or.inl W3498) (hd rfl)) rfl rfl (hnd_prs _ ⟨(⟨[], ⟨0, 11, 14, 26⟩, [⟨0, 11, 18, 19⟩, ⟨0, 11, 22, 21⟩], "java/lang/IndexOutOfBoundsException", 2, rfl, fun _ h => absurd h List.not_mem_nil, by decide, by decide, W2512, W2544, Or.inl ⟨(show decode method_37_code 14 = .ok (.astore 4, 2) by decide +kernel), rfl⟩, by decide, rfl⟩ : Hnd mi_153 iT.2 4 3 4 16), ⟨(⟨[⟨0, 11, 14, 26⟩], ⟨0, 11, 18, 19⟩, [⟨0, 11, 22, 21⟩], "java/lang/IllegalArgumentException", 2, rfl, List.forall_mem_cons.mpr ⟨Or.inr ⟨by decide, "java/lang/IndexOutOfBoundsException", W2512, by decide⟩, fun _ h => absurd h List.not_mem_nil⟩, by decide, by decide, W1760, W1774, Or.inl ⟨(show decode method_37_code 18 = .ok (.astore 4, 2) by decide +kernel), rfl⟩, by decide, rfl⟩ : Hnd mi_153 iT.2 4 1 4 20), ⟨(⟨[⟨0, 11, 14, 26⟩, ⟨0, 11, 18, 19⟩], ⟨0, 11, 22, 21⟩, [], "java/lang/IllegalStateException", 2, rfl, List.forall_mem_cons.mpr ⟨Or.inr ⟨by decide, "java/lang/IndexOutOfBoundsException", W2512, by decide⟩, List.forall_mem_cons.mpr ⟨Or.inr ⟨by decide, "java/lang/IllegalArgumentException", W1760, by decide⟩, fun _ h => absurd h List.not_mem_nil⟩⟩, by decide, by decide, W1761, W1798, Or.inl ⟨(show decode method_37_code 22 = .ok (.astore 4, 2) by decide +kernel), rfl⟩, by decide, rfl⟩ : Hnd mi_153 iT.2 4 2 4 24), trivial⟩⟩⟩),
  ⟨fun hd => mk7 fld_21_0 (Or.inr ⟨_, W1747⟩) (Or.inl rfl) (Or.inl rfl) (hd rfl),
  trivial⟩⟩
theorem fe_153 : eqEs ((flat code_153).filter (fun e => ndE e.2.2.1)) (fl_153_0) = true := by decide +kernel
theorem om_153 : OKm mi iT prg 153 := OKm_of (code := code_153) rfl mt_153 (Or.inl (by decide +kernel)) rfl wk_153 (by decide +kernel) (by decide +kernel) (FA_of fe_153 (fb_153_0))
def fl_154_0 : List Ent := [(3, 3, 23, .invokevirtual 143, [0, 2, 2, 252, 1, 1, 3, 1, 1], 0), (7, 3, 7, .putfield 13, [1, 21, 89], 0)]
theorem fb_154_0 : FB mi iT mi_154 (bpc code_154) (fl_154_0) := ⟨fun hd => mk23 mt_252 cf_252 (vf_252_1.rt (Or.inl W3505) (hd rfl)) rfl rfl (hnd_prs _ ⟨(⟨[], ⟨0, 10, 13, 19⟩, [], "java/lang/IllegalArgumentException", 1, rfl, fun _ h => absurd h List.not_mem_nil, by decide, by decide, W1760, W1774, Or.inr ⟨3, rfl, (show decode method_38_code 13 = .ok (.astore_n 3, 1) by decide +kernel), rfl⟩, by decide, rfl⟩ : Hnd mi_154 iT.2 3 1 3 14), trivial⟩),
  ⟨fun hd => mk7 fld_21_0 (Or.inr ⟨_, W1747⟩) (Or.inl rfl) (Or.inl rfl) (hd rfl),
  trivial⟩⟩
theorem fe_154 : eqEs ((flat code_154).filter (fun e => ndE e.2.2.1)) (fl_154_0) = true := by decide +kernel
theorem om_154 : OKm mi iT prg 154 := OKm_of (code := code_154) rfl mt_154 (Or.inl (by decide +kernel)) rfl wk_154 (by decide +kernel) (by decide +kernel) (FA_of fe_154 (fb_154_0))
def fl_155_0 : List Ent := [(4, 3, 23, .invokevirtual 146, [0, 3, 3, 253, 1, 1, 4, 3, 1, 1, 2, 2, 3], 0), (8, 3, 7, .putfield 13, [1, 21, 89], 0)]
theorem fb_155_0 : FB mi iT mi_155 (bpc code_155) (fl_155_0) := ⟨fun hd => mk23 mt_253 cf_253 (vf_253_1.rt (Or.inl W3512) (hd rfl)) rfl rfl (hnd_prs _ ⟨(⟨[], ⟨0, 11, 14, 26⟩, [⟨0, 11, 18, 19⟩, ⟨0, 11, 22, 21⟩], "java/lang/IndexOutOfBoundsException", 2, rfl, fun _ h => absurd h List.not_mem_nil, by decide, by decide, W2512, W2544, Or.inl ⟨(show decode method_39_code 14 = .ok (.astore 4, 2) by decide +kernel), rfl⟩, by decide, rfl⟩ : Hnd mi_155 iT.2 4 3 4 16), ⟨(⟨[⟨0, 11, 14, 26⟩], ⟨0, 11, 18, 19⟩, [⟨0, 11, 22, 21⟩], "java/lang/IllegalArgumentException", 2, rfl, List.forall_mem_cons.mpr ⟨Or.inr ⟨by decide, "java/lang/IndexOutOfBoundsException", W2512, by decide⟩, fun _ h => absurd h List.not_mem_nil⟩, by decide, by decide, W1760, W1774, Or.inl ⟨(show decode method_39_code 18 = .ok (.astore 4, 2) by decide +kernel), rfl⟩, by decide, rfl⟩ : Hnd mi_155 iT.2 4 1 4 20), ⟨(⟨[⟨0, 11, 14, 26⟩, ⟨0, 11, 18, 19⟩], ⟨0, 11, 22, 21⟩, [], "java/lang/IllegalStateException", 2, rfl, List.forall_mem_cons.mpr ⟨Or.inr ⟨by decide, "java/lang/IndexOutOfBoundsException", W2512, by decide⟩, List.forall_mem_cons.mpr ⟨Or.inr ⟨by decide, "java/lang/IllegalArgumentException", W1760, by decide⟩, fun _ h => absurd h List.not_mem_nil⟩⟩, by decide, by decide, W1761, W1798, Or.inl ⟨(show decode method_39_code 22 = .ok (.astore 4, 2) by decide +kernel), rfl⟩, by decide, rfl⟩ : Hnd mi_155 iT.2 4 2 4 24), trivial⟩⟩⟩),
  ⟨fun hd => mk7 fld_21_0 (Or.inr ⟨_, W1747⟩) (Or.inl rfl) (Or.inl rfl) (hd rfl),
  trivial⟩⟩
theorem fe_155 : eqEs ((flat code_155).filter (fun e => ndE e.2.2.1)) (fl_155_0) = true := by decide +kernel
theorem om_155 : OKm mi iT prg 155 := OKm_of (code := code_155) rfl mt_155 (Or.inl (by decide +kernel)) rfl wk_155 (by decide +kernel) (by decide +kernel) (FA_of fe_155 (fb_155_0))
def fl_156_0 : List Ent := [(4, 3, 23, .invokevirtual 149, [0, 3, 3, 254, 1, 1, 4, 3, 1, 1, 2, 2, 3], 0), (8, 3, 7, .putfield 13, [1, 21, 89], 0)]
theorem fb_156_0 : FB mi iT mi_156 (bpc code_156) (fl_156_0) := ⟨fun hd => mk23 mt_254 cf_254 (vf_254_1.rt (Or.inl W3543) (hd rfl)) rfl rfl (hnd_prs _ ⟨(⟨[], ⟨0, 11, 14, 26⟩, [⟨0, 11, 18, 19⟩, ⟨0, 11, 22, 21⟩], "java/lang/IndexOutOfBoundsException", 2, rfl, fun _ h => absurd h List.not_mem_nil, by decide, by decide, W2512, W2544, Or.inl ⟨(show decode method_40_code 14 = .ok (.astore 4, 2) by decide +kernel), rfl⟩, by decide, rfl⟩ : Hnd mi_156 iT.2 4 3 4 16), ⟨(⟨[⟨0, 11, 14, 26⟩], ⟨0, 11, 18, 19⟩, [⟨0, 11, 22, 21⟩], "java/lang/IllegalArgumentException", 2, rfl, List.forall_mem_cons.mpr ⟨Or.inr ⟨by decide, "java/lang/IndexOutOfBoundsException", W2512, by decide⟩, fun _ h => absurd h List.not_mem_nil⟩, by decide, by decide, W1760, W1774, Or.inl ⟨(show decode method_40_code 18 = .ok (.astore 4, 2) by decide +kernel), rfl⟩, by decide, rfl⟩ : Hnd mi_156 iT.2 4 1 4 20), ⟨(⟨[⟨0, 11, 14, 26⟩, ⟨0, 11, 18, 19⟩], ⟨0, 11, 22, 21⟩, [], "java/lang/IllegalStateException", 2, rfl, List.forall_mem_cons.mpr ⟨Or.inr ⟨by decide, "java/lang/IndexOutOfBoundsException", W2512, by decide⟩, List.forall_mem_cons.mpr ⟨Or.inr ⟨by decide, "java/lang/IllegalArgumentException", W1760, by decide⟩, fun _ h => absurd h List.not_mem_nil⟩⟩, by decide, by decide, W1761, W1798, Or.inl ⟨(show decode method_40_code 22 = .ok (.astore 4, 2) by decide +kernel), rfl⟩, by decide, rfl⟩ : Hnd mi_156 iT.2 4 2 4 24), trivial⟩⟩⟩),
  ⟨fun hd => mk7 fld_21_0 (Or.inr ⟨_, W1747⟩) (Or.inl rfl) (Or.inl rfl) (hd rfl),
  trivial⟩⟩
theorem fe_156 : eqEs ((flat code_156).filter (fun e => ndE e.2.2.1)) (fl_156_0) = true := by decide +kernel
theorem om_156 : OKm mi iT prg 156 := OKm_of (code := code_156) rfl mt_156 (Or.inl (by decide +kernel)) rfl wk_156 (by decide +kernel) (by decide +kernel) (FA_of fe_156 (fb_156_0))
def fl_157_0 : List Ent := [(8, 3, 23, .invokevirtual 152, [0, 5, 5, 255, 1, 1, 6, 3, 1, 1, 2, 2, 3], 0), (12, 3, 7, .putfield 13, [1, 21, 89], 0)]
theorem fb_157_0 : FB mi iT mi_157 (bpc code_157) (fl_157_0) := ⟨fun hd => mk23 mt_255 cf_255 (vf_255_1.rt (Or.inl W3550) (hd rfl)) rfl rfl (hnd_prs _ ⟨(⟨[], ⟨0, 15, 18, 26⟩, [⟨0, 15, 22, 19⟩, ⟨0, 15, 26, 21⟩], "java/lang/IndexOutOfBoundsException", 2, rfl, fun _ h => absurd h List.not_mem_nil, by decide, by decide, W2512, W2544, Or.inl ⟨(show decode method_41_code 18 = .ok (.astore 6, 2) by decide +kernel), rfl⟩, by decide, rfl⟩ : Hnd mi_157 iT.2 8 3 6 20), ⟨(⟨[⟨0, 15, 18, 26⟩], ⟨0, 15, 22, 19⟩, [⟨0, 15, 26, 21⟩], "java/lang/IllegalArgumentException", 2, rfl, List.forall_mem_cons.mpr ⟨Or.inr ⟨by decide, "java/lang/IndexOutOfBoundsException", W2512, by decide⟩, fun _ h => absurd h List.not_mem_nil⟩, by decide, by decide, W1760, W1774, Or.inl ⟨(show decode method_41_code 22 = .ok (.astore 6, 2) by decide +kernel), rfl⟩, by decide, rfl⟩ : Hnd mi_157 iT.2 8 1 6 24), ⟨(⟨[⟨0, 15, 18, 26⟩, ⟨0, 15, 22, 19⟩], ⟨0, 15, 26, 21⟩, [], "java/lang/IllegalStateException", 2, rfl, List.forall_mem_cons.mpr ⟨Or.inr ⟨by decide, "java/lang/IndexOutOfBoundsException", W2512, by decide⟩, List.forall_mem_cons.mpr ⟨Or.inr ⟨by decide, "java/lang/IllegalArgumentException", W1760, by decide⟩, fun _ h => absurd h List.not_mem_nil⟩⟩, by decide, by decide, W1761, W1798, Or.inl ⟨(show decode method_41_code 26 = .ok (.astore 6, 2) by decide +kernel), rfl⟩, by decide, rfl⟩ : Hnd mi_157 iT.2 8 2 6 28), trivial⟩⟩⟩),
  ⟨fun hd => mk7 fld_21_0 (Or.inr ⟨_, W1747⟩) (Or.inl rfl) (Or.inl rfl) (hd rfl),
  trivial⟩⟩
theorem fe_157 : eqEs ((flat code_157).filter (fun e => ndE e.2.2.1)) (fl_157_0) = true := by decide +kernel
theorem om_157 : OKm mi iT prg 157 := OKm_of (code := code_157) rfl mt_157 (Or.inl (by decide +kernel)) rfl wk_157 (by decide +kernel) (by decide +kernel) (FA_of fe_157 (fb_157_0))
def fl_158_0 : List Ent := [(4, 3, 23, .invokevirtual 155, [0, 3, 3, 256, 1, 1, 4, 3, 1, 1, 2, 2, 3], 0), (8, 3, 7, .putfield 13, [1, 21, 89], 0)]
theorem fb_158_0 : FB mi iT mi_158 (bpc code_158) (fl_158_0) := ⟨fun hd => mk23 mt_256 cf_256 (vf_256_1.rt (Or.inl W3593) (hd rfl)) rfl rfl (hnd_prs _ ⟨(⟨[], ⟨0, 11, 14, 26⟩, [⟨0, 11, 18, 19⟩, ⟨0, 11, 22, 21⟩], "java/lang/IndexOutOfBoundsException", 2, rfl, fun _ h => absurd h List.not_mem_nil, by decide, by decide, W2512, W2544, Or.inl ⟨(show decode method_42_code 14 = .ok (.astore 4, 2) by decide +kernel), rfl⟩, by decide, rfl⟩ : Hnd mi_158 iT.2 4 3 4 16), ⟨(⟨[⟨0, 11, 14, 26⟩], ⟨0, 11, 18, 19⟩, [⟨0, 11, 22, 21⟩], "java/lang/IllegalArgumentException", 2, rfl, List.forall_mem_cons.mpr ⟨Or.inr ⟨by decide, "java/lang/IndexOutOfBoundsException", W2512, by decide⟩, fun _ h => absurd h List.not_mem_nil⟩, by decide, by decide, W1760, W1774, Or.inl ⟨(show decode method_42_code 18 = .ok (.astore 4, 2) by decide +kernel), rfl⟩, by decide, rfl⟩ : Hnd mi_158 iT.2 4 1 4 20), ⟨(⟨[⟨0, 11, 14, 26⟩, ⟨0, 11, 18, 19⟩], ⟨0, 11, 22, 21⟩, [], "java/lang/IllegalStateException", 2, rfl, List.forall_mem_cons.mpr ⟨Or.inr ⟨by decide, "java/lang/IndexOutOfBoundsException", W2512, by decide⟩, List.forall_mem_cons.mpr ⟨Or.inr ⟨by decide, "java/lang/IllegalArgumentException", W1760, by decide⟩, fun _ h => absurd h List.not_mem_nil⟩⟩, by decide, by decide, W1761, W1798, Or.inl ⟨(show decode method_42_code 22 = .ok (.astore 4, 2) by decide +kernel), rfl⟩, by decide, rfl⟩ : Hnd mi_158 iT.2 4 2 4 24), trivial⟩⟩⟩),
  ⟨fun hd => mk7 fld_21_0 (Or.inr ⟨_, W1747⟩) (Or.inl rfl) (Or.inl rfl) (hd rfl),
  trivial⟩⟩
theorem fe_158 : eqEs ((flat code_158).filter (fun e => ndE e.2.2.1)) (fl_158_0) = true := by decide +kernel
theorem om_158 : OKm mi iT prg 158 := OKm_of (code := code_158) rfl mt_158 (Or.inl (by decide +kernel)) rfl wk_158 (by decide +kernel) (by decide +kernel) (FA_of fe_158 (fb_158_0))
