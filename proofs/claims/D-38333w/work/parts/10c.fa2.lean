/-! the facts of the methods' entries (written by emit_fa.py) -/
set_option maxRecDepth 100000
def fl_159_0 : List Ent := [(4, 3, 23, .invokevirtual 158, [0, 3, 3, 257, 1, 1, 4, 3, 4, 2, 5], 0), (15, 3, 7, .putfield 13, [1, 21, 89], 0)]
theorem fb_159_0 : FB mi iT mi_159 (bpc code_159) (fl_159_0) := ⟨fun hd => mk23 mt_257 cf_257 (vf_257_1.rt (Or.inl W3606) (hd rfl)) rfl rfl (hnd_prs _ ⟨(⟨[], ⟨0, 18, 21, 26⟩, [⟨0, 18, 25, 21⟩], "java/lang/IndexOutOfBoundsException", 2, rfl, fun _ h => absurd h List.not_mem_nil, by decide, by decide, W2512, W2544, Or.inl ⟨(show decode method_43_code 21 = .ok (.astore 4, 2) by decide +kernel), rfl⟩, by decide, rfl⟩ : Hnd mi_159 iT.2 4 3 4 23), ⟨(⟨[⟨0, 18, 21, 26⟩], ⟨0, 18, 25, 21⟩, [], "java/lang/IllegalStateException", 2, rfl, List.forall_mem_cons.mpr ⟨Or.inr ⟨by decide, "java/lang/IndexOutOfBoundsException", W2512, by decide⟩, fun _ h => absurd h List.not_mem_nil⟩, by decide, by decide, W1761, W1798, Or.inl ⟨(show decode method_43_code 25 = .ok (.astore 4, 2) by decide +kernel), rfl⟩, by decide, rfl⟩ : Hnd mi_159 iT.2 4 2 4 27), trivial⟩⟩),
  ⟨fun hd => mk7 fld_21_0 (Or.inr ⟨_, W1747⟩) (Or.inl rfl) (Or.inl rfl) (hd rfl),
  trivial⟩⟩
theorem fe_159 : eqEs ((flat code_159).filter (fun e => ndE e.2.2.1)) (fl_159_0) = true := by decide +kernel
theorem om_159 : OKm mi iT prg 159 := OKm_of (code := code_159) rfl mt_159 (Or.inl (by decide +kernel)) rfl wk_159 (by decide +kernel) (by decide +kernel) (FA_of fe_159 (fb_159_0))
def fl_160_0 : List Ent := [(3, 3, 23, .invokevirtual 162, [0, 2, 2, 258, 1, 1, 3, 3, 1, 2, 2], 0), (7, 3, 7, .putfield 13, [1, 21, 89], 0)]
theorem fb_160_0 : FB mi iT mi_160 (bpc code_160) (fl_160_0) := ⟨fun hd => mk23 mt_258 cf_258 (vf_258_1.rt (Or.inl W3614) (hd rfl)) rfl rfl (hnd_prs _ ⟨(⟨[], ⟨0, 10, 13, 26⟩, [⟨0, 10, 16, 21⟩], "java/lang/IndexOutOfBoundsException", 1, rfl, fun _ h => absurd h List.not_mem_nil, by decide, by decide, W2512, W2544, Or.inr ⟨3, rfl, (show decode method_44_code 13 = .ok (.astore_n 3, 1) by decide +kernel), rfl⟩, by decide, rfl⟩ : Hnd mi_160 iT.2 3 3 3 14), ⟨(⟨[⟨0, 10, 13, 26⟩], ⟨0, 10, 16, 21⟩, [], "java/lang/IllegalStateException", 1, rfl, List.forall_mem_cons.mpr ⟨Or.inr ⟨by decide, "java/lang/IndexOutOfBoundsException", W2512, by decide⟩, fun _ h => absurd h List.not_mem_nil⟩, by decide, by decide, W1761, W1798, Or.inr ⟨3, rfl, (show decode method_44_code 16 = .ok (.astore_n 3, 1) by decide +kernel), rfl⟩, by decide, rfl⟩ : Hnd mi_160 iT.2 3 2 3 17), trivial⟩⟩),
  ⟨fun hd => mk7 fld_21_0 (Or.inr ⟨_, W1747⟩) (Or.inl rfl) (Or.inl rfl) (hd rfl),
  trivial⟩⟩
theorem fe_160 : eqEs ((flat code_160).filter (fun e => ndE e.2.2.1)) (fl_160_0) = true := by decide +kernel
theorem om_160 : OKm mi iT prg 160 := OKm_of (code := code_160) rfl mt_160 (Or.inl (by decide +kernel)) rfl wk_160 (by decide +kernel) (by decide +kernel) (FA_of fe_160 (fb_160_0))
def fl_161_0 : List Ent := [(3, 3, 23, .invokevirtual 165, [0, 2, 2, 259, 1, 1, 3, 3, 1, 2, 2], 0), (7, 3, 7, .putfield 13, [1, 21, 89], 0)]
theorem fb_161_0 : FB mi iT mi_161 (bpc code_161) (fl_161_0) := ⟨fun hd => mk23 mt_259 cf_259 (vf_259_1.rt (Or.inl W3632) (hd rfl)) rfl rfl (hnd_prs _ ⟨(⟨[], ⟨0, 10, 13, 26⟩, [⟨0, 10, 16, 21⟩], "java/lang/IndexOutOfBoundsException", 1, rfl, fun _ h => absurd h List.not_mem_nil, by decide, by decide, W2512, W2544, Or.inr ⟨3, rfl, (show decode method_45_code 13 = .ok (.astore_n 3, 1) by decide +kernel), rfl⟩, by decide, rfl⟩ : Hnd mi_161 iT.2 3 3 3 14), ⟨(⟨[⟨0, 10, 13, 26⟩], ⟨0, 10, 16, 21⟩, [], "java/lang/IllegalStateException", 1, rfl, List.forall_mem_cons.mpr ⟨Or.inr ⟨by decide, "java/lang/IndexOutOfBoundsException", W2512, by decide⟩, fun _ h => absurd h List.not_mem_nil⟩, by decide, by decide, W1761, W1798, Or.inr ⟨3, rfl, (show decode method_45_code 16 = .ok (.astore_n 3, 1) by decide +kernel), rfl⟩, by decide, rfl⟩ : Hnd mi_161 iT.2 3 2 3 17), trivial⟩⟩),
  ⟨fun hd => mk7 fld_21_0 (Or.inr ⟨_, W1747⟩) (Or.inl rfl) (Or.inl rfl) (hd rfl),
  trivial⟩⟩
theorem fe_161 : eqEs ((flat code_161).filter (fun e => ndE e.2.2.1)) (fl_161_0) = true := by decide +kernel
theorem om_161 : OKm mi iT prg 161 := OKm_of (code := code_161) rfl mt_161 (Or.inl (by decide +kernel)) rfl wk_161 (by decide +kernel) (by decide +kernel) (FA_of fe_161 (fb_161_0))
def fl_162_0 : List Ent := [(4, 3, 23, .invokevirtual 168, [0, 3, 3, 260, 1, 1, 4, 3, 1, 1, 2], 0), (8, 3, 7, .putfield 13, [1, 21, 89], 0)]
theorem fb_162_0 : FB mi iT mi_162 (bpc code_162) (fl_162_0) := ⟨fun hd => mk23 mt_260 cf_260 (vf_260_1.rt (Or.inl W3645) (hd rfl)) rfl rfl (hnd_prs _ ⟨(⟨[], ⟨0, 11, 14, 26⟩, [⟨0, 11, 18, 19⟩], "java/lang/IndexOutOfBoundsException", 2, rfl, fun _ h => absurd h List.not_mem_nil, by decide, by decide, W2512, W2544, Or.inl ⟨(show decode method_46_code 14 = .ok (.astore 4, 2) by decide +kernel), rfl⟩, by decide, rfl⟩ : Hnd mi_162 iT.2 4 3 4 16), ⟨(⟨[⟨0, 11, 14, 26⟩], ⟨0, 11, 18, 19⟩, [], "java/lang/IllegalArgumentException", 2, rfl, List.forall_mem_cons.mpr ⟨Or.inr ⟨by decide, "java/lang/IndexOutOfBoundsException", W2512, by decide⟩, fun _ h => absurd h List.not_mem_nil⟩, by decide, by decide, W1760, W1774, Or.inl ⟨(show decode method_46_code 18 = .ok (.astore 4, 2) by decide +kernel), rfl⟩, by decide, rfl⟩ : Hnd mi_162 iT.2 4 1 4 20), trivial⟩⟩),
  ⟨fun hd => mk7 fld_21_0 (Or.inr ⟨_, W1747⟩) (Or.inl rfl) (Or.inl rfl) (hd rfl),
  trivial⟩⟩
theorem fe_162 : eqEs ((flat code_162).filter (fun e => ndE e.2.2.1)) (fl_162_0) = true := by decide +kernel
theorem om_162 : OKm mi iT prg 162 := OKm_of (code := code_162) rfl mt_162 (Or.inl (by decide +kernel)) rfl wk_162 (by decide +kernel) (by decide +kernel) (FA_of fe_162 (fb_162_0))
def fl_163_0 : List Ent := [(4, 3, 23, .invokevirtual 171, [2, 3, 3, 261, 1, 1, 4, 3, 1, 1, 2], 0), (7, 3, 7, .putfield 40, [2, 21, 90], 0)]
theorem fb_163_0 : FB mi iT mi_163 (bpc code_163) (fl_163_0) := ⟨fun hd => mk23 mt_261 cf_261 (vf_261_1.rt (Or.inl W3652) (hd rfl)) rfl rfl (hnd_prs _ ⟨(⟨[], ⟨0, 10, 13, 26⟩, [⟨0, 10, 17, 19⟩], "java/lang/IndexOutOfBoundsException", 2, rfl, fun _ h => absurd h List.not_mem_nil, by decide, by decide, W2512, W2544, Or.inl ⟨(show decode method_47_code 13 = .ok (.astore 4, 2) by decide +kernel), rfl⟩, by decide, rfl⟩ : Hnd mi_163 iT.2 4 3 4 15), ⟨(⟨[⟨0, 10, 13, 26⟩], ⟨0, 10, 17, 19⟩, [], "java/lang/IllegalArgumentException", 2, rfl, List.forall_mem_cons.mpr ⟨Or.inr ⟨by decide, "java/lang/IndexOutOfBoundsException", W2512, by decide⟩, fun _ h => absurd h List.not_mem_nil⟩, by decide, by decide, W1760, W1774, Or.inl ⟨(show decode method_47_code 17 = .ok (.astore 4, 2) by decide +kernel), rfl⟩, by decide, rfl⟩ : Hnd mi_163 iT.2 4 1 4 19), trivial⟩⟩),
  ⟨fun hd => mk7 fld_21_1 (Or.inr ⟨_, W1748⟩) (Or.inl rfl) (Or.inl rfl) (hd rfl),
  trivial⟩⟩
theorem fe_163 : eqEs ((flat code_163).filter (fun e => ndE e.2.2.1)) (fl_163_0) = true := by decide +kernel
theorem om_163 : OKm mi iT prg 163 := OKm_of (code := code_163) rfl mt_163 (Or.inl (by decide +kernel)) rfl wk_163 (by decide +kernel) (by decide +kernel) (FA_of fe_163 (fb_163_0))
def fl_164_0 : List Ent := [(10, 3, 23, .invokevirtual 174, [0, 6, 6, 262, 1, 1, 7, 1, 1, 2, 2], 0), (14, 3, 7, .putfield 13, [1, 21, 89], 0)]
theorem fb_164_0 : FB mi iT mi_164 (bpc code_164) (fl_164_0) := ⟨fun hd => mk23 mt_262 cf_262 (vf_262_1.rt (Or.inl W3659) (hd rfl)) rfl rfl (hnd_prs _ ⟨(⟨[], ⟨0, 17, 20, 19⟩, [⟨0, 17, 24, 21⟩], "java/lang/IllegalArgumentException", 2, rfl, fun _ h => absurd h List.not_mem_nil, by decide, by decide, W1760, W1774, Or.inl ⟨(show decode method_48_code 20 = .ok (.astore 7, 2) by decide +kernel), rfl⟩, by decide, rfl⟩ : Hnd mi_164 iT.2 10 1 7 22), ⟨(⟨[⟨0, 17, 20, 19⟩], ⟨0, 17, 24, 21⟩, [], "java/lang/IllegalStateException", 2, rfl, List.forall_mem_cons.mpr ⟨Or.inr ⟨by decide, "java/lang/IllegalArgumentException", W1760, by decide⟩, fun _ h => absurd h List.not_mem_nil⟩, by decide, by decide, W1761, W1798, Or.inl ⟨(show decode method_48_code 24 = .ok (.astore 7, 2) by decide +kernel), rfl⟩, by decide, rfl⟩ : Hnd mi_164 iT.2 10 2 7 26), trivial⟩⟩),
  ⟨fun hd => mk7 fld_21_0 (Or.inr ⟨_, W1747⟩) (Or.inl rfl) (Or.inl rfl) (hd rfl),
  trivial⟩⟩
theorem fe_164 : eqEs ((flat code_164).filter (fun e => ndE e.2.2.1)) (fl_164_0) = true := by decide +kernel
theorem om_164 : OKm mi iT prg 164 := OKm_of (code := code_164) rfl mt_164 (Or.inl (by decide +kernel)) rfl wk_164 (by decide +kernel) (by decide +kernel) (FA_of fe_164 (fb_164_0))
def fl_165_0 : List Ent := [(6, 3, 23, .invokevirtual 177, [0, 4, 4, 263, 1, 1, 5, 3, 4, 1, 5, 2, 6], 0), (17, 3, 7, .putfield 13, [1, 21, 89], 0)]
theorem fb_165_0 : FB mi iT mi_165 (bpc code_165) (fl_165_0) := ⟨fun hd => mk23 mt_263 cf_263 (vf_263_1.rt (Or.inl W3715) (hd rfl)) rfl rfl (hnd_prs _ ⟨(⟨[], ⟨0, 20, 23, 26⟩, [⟨0, 20, 27, 19⟩, ⟨0, 20, 31, 21⟩], "java/lang/IndexOutOfBoundsException", 2, rfl, fun _ h => absurd h List.not_mem_nil, by decide, by decide, W2512, W2544, Or.inl ⟨(show decode method_49_code 23 = .ok (.astore 5, 2) by decide +kernel), rfl⟩, by decide, rfl⟩ : Hnd mi_165 iT.2 6 3 5 25), ⟨(⟨[⟨0, 20, 23, 26⟩], ⟨0, 20, 27, 19⟩, [⟨0, 20, 31, 21⟩], "java/lang/IllegalArgumentException", 2, rfl, List.forall_mem_cons.mpr ⟨Or.inr ⟨by decide, "java/lang/IndexOutOfBoundsException", W2512, by decide⟩, fun _ h => absurd h List.not_mem_nil⟩, by decide, by decide, W1760, W1774, Or.inl ⟨(show decode method_49_code 27 = .ok (.astore 5, 2) by decide +kernel), rfl⟩, by decide, rfl⟩ : Hnd mi_165 iT.2 6 1 5 29), ⟨(⟨[⟨0, 20, 23, 26⟩, ⟨0, 20, 27, 19⟩], ⟨0, 20, 31, 21⟩, [], "java/lang/IllegalStateException", 2, rfl, List.forall_mem_cons.mpr ⟨Or.inr ⟨by decide, "java/lang/IndexOutOfBoundsException", W2512, by decide⟩, List.forall_mem_cons.mpr ⟨Or.inr ⟨by decide, "java/lang/IllegalArgumentException", W1760, by decide⟩, fun _ h => absurd h List.not_mem_nil⟩⟩, by decide, by decide, W1761, W1798, Or.inl ⟨(show decode method_49_code 31 = .ok (.astore 5, 2) by decide +kernel), rfl⟩, by decide, rfl⟩ : Hnd mi_165 iT.2 6 2 5 33), trivial⟩⟩⟩),
  ⟨fun hd => mk7 fld_21_0 (Or.inr ⟨_, W1747⟩) (Or.inl rfl) (Or.inl rfl) (hd rfl),
  trivial⟩⟩
theorem fe_165 : eqEs ((flat code_165).filter (fun e => ndE e.2.2.1)) (fl_165_0) = true := by decide +kernel
theorem om_165 : OKm mi iT prg 165 := OKm_of (code := code_165) rfl mt_165 (Or.inl (by decide +kernel)) rfl wk_165 (by decide +kernel) (by decide +kernel) (FA_of fe_165 (fb_165_0))
def fl_166_0 : List Ent := [(3, 3, 23, .invokevirtual 181, [0, 2, 2, 264, 1, 1, 3, 3, 1, 2, 2], 0), (7, 3, 7, .putfield 13, [1, 21, 89], 0)]
theorem fb_166_0 : FB mi iT mi_166 (bpc code_166) (fl_166_0) := ⟨fun hd => mk23 mt_264 cf_264 (vf_264_1.rt (Or.inl W3738) (hd rfl)) rfl rfl (hnd_prs _ ⟨(⟨[], ⟨0, 10, 13, 26⟩, [⟨0, 10, 16, 21⟩], "java/lang/IndexOutOfBoundsException", 1, rfl, fun _ h => absurd h List.not_mem_nil, by decide, by decide, W2512, W2544, Or.inr ⟨3, rfl, (show decode method_50_code 13 = .ok (.astore_n 3, 1) by decide +kernel), rfl⟩, by decide, rfl⟩ : Hnd mi_166 iT.2 3 3 3 14), ⟨(⟨[⟨0, 10, 13, 26⟩], ⟨0, 10, 16, 21⟩, [], "java/lang/IllegalStateException", 1, rfl, List.forall_mem_cons.mpr ⟨Or.inr ⟨by decide, "java/lang/IndexOutOfBoundsException", W2512, by decide⟩, fun _ h => absurd h List.not_mem_nil⟩, by decide, by decide, W1761, W1798, Or.inr ⟨3, rfl, (show decode method_50_code 16 = .ok (.astore_n 3, 1) by decide +kernel), rfl⟩, by decide, rfl⟩ : Hnd mi_166 iT.2 3 2 3 17), trivial⟩⟩),
  ⟨fun hd => mk7 fld_21_0 (Or.inr ⟨_, W1747⟩) (Or.inl rfl) (Or.inl rfl) (hd rfl),
  trivial⟩⟩
theorem fe_166 : eqEs ((flat code_166).filter (fun e => ndE e.2.2.1)) (fl_166_0) = true := by decide +kernel
theorem om_166 : OKm mi iT prg 166 := OKm_of (code := code_166) rfl mt_166 (Or.inl (by decide +kernel)) rfl wk_166 (by decide +kernel) (by decide +kernel) (FA_of fe_166 (fb_166_0))
def fl_167_0 : List Ent := [(3, 3, 23, .invokevirtual 184, [0, 2, 2, 265, 1, 1, 3, 3, 1], 0), (7, 3, 7, .putfield 13, [1, 21, 89], 0)]
theorem fb_167_0 : FB mi iT mi_167 (bpc code_167) (fl_167_0) := ⟨fun hd => mk23 mt_265 cf_265 (vf_265_1.rt (Or.inl W3755) (hd rfl)) rfl rfl (hnd_prs _ ⟨(⟨[], ⟨0, 10, 13, 26⟩, [], "java/lang/IndexOutOfBoundsException", 1, rfl, fun _ h => absurd h List.not_mem_nil, by decide, by decide, W2512, W2544, Or.inr ⟨3, rfl, (show decode method_51_code 13 = .ok (.astore_n 3, 1) by decide +kernel), rfl⟩, by decide, rfl⟩ : Hnd mi_167 iT.2 3 3 3 14), trivial⟩),
  ⟨fun hd => mk7 fld_21_0 (Or.inr ⟨_, W1747⟩) (Or.inl rfl) (Or.inl rfl) (hd rfl),
  trivial⟩⟩
theorem fe_167 : eqEs ((flat code_167).filter (fun e => ndE e.2.2.1)) (fl_167_0) = true := by decide +kernel
theorem om_167 : OKm mi iT prg 167 := OKm_of (code := code_167) rfl mt_167 (Or.inl (by decide +kernel)) rfl wk_167 (by decide +kernel) (by decide +kernel) (FA_of fe_167 (fb_167_0))
def fl_168_0 : List Ent := [(4, 3, 23, .invokevirtual 187, [0, 3, 3, 266, 1, 1, 4, 3, 1, 1, 2], 0), (8, 3, 7, .putfield 13, [1, 21, 89], 0)]
theorem fb_168_0 : FB mi iT mi_168 (bpc code_168) (fl_168_0) := ⟨fun hd => mk23 mt_266 cf_266 (vf_266_1.rt (Or.inl W3762) (hd rfl)) rfl rfl (hnd_prs _ ⟨(⟨[], ⟨0, 11, 14, 26⟩, [⟨0, 11, 18, 19⟩], "java/lang/IndexOutOfBoundsException", 2, rfl, fun _ h => absurd h List.not_mem_nil, by decide, by decide, W2512, W2544, Or.inl ⟨(show decode method_52_code 14 = .ok (.astore 4, 2) by decide +kernel), rfl⟩, by decide, rfl⟩ : Hnd mi_168 iT.2 4 3 4 16), ⟨(⟨[⟨0, 11, 14, 26⟩], ⟨0, 11, 18, 19⟩, [], "java/lang/IllegalArgumentException", 2, rfl, List.forall_mem_cons.mpr ⟨Or.inr ⟨by decide, "java/lang/IndexOutOfBoundsException", W2512, by decide⟩, fun _ h => absurd h List.not_mem_nil⟩, by decide, by decide, W1760, W1774, Or.inl ⟨(show decode method_52_code 18 = .ok (.astore 4, 2) by decide +kernel), rfl⟩, by decide, rfl⟩ : Hnd mi_168 iT.2 4 1 4 20), trivial⟩⟩),
  ⟨fun hd => mk7 fld_21_0 (Or.inr ⟨_, W1747⟩) (Or.inl rfl) (Or.inl rfl) (hd rfl),
  trivial⟩⟩
theorem fe_168 : eqEs ((flat code_168).filter (fun e => ndE e.2.2.1)) (fl_168_0) = true := by decide +kernel
theorem om_168 : OKm mi iT prg 168 := OKm_of (code := code_168) rfl mt_168 (Or.inl (by decide +kernel)) rfl wk_168 (by decide +kernel) (by decide +kernel) (FA_of fe_168 (fb_168_0))
def fl_169_0 : List Ent := [(3, 3, 23, .invokevirtual 190, [0, 2, 2, 267, 1, 1, 3, 3, 1], 0), (7, 3, 7, .putfield 13, [1, 21, 89], 0)]
theorem fb_169_0 : FB mi iT mi_169 (bpc code_169) (fl_169_0) := ⟨fun hd => mk23 mt_267 cf_267 (vf_267_1.rt (Or.inl W3769) (hd rfl)) rfl rfl (hnd_prs _ ⟨(⟨[], ⟨0, 10, 13, 26⟩, [], "java/lang/IndexOutOfBoundsException", 1, rfl, fun _ h => absurd h List.not_mem_nil, by decide, by decide, W2512, W2544, Or.inr ⟨3, rfl, (show decode method_53_code 13 = .ok (.astore_n 3, 1) by decide +kernel), rfl⟩, by decide, rfl⟩ : Hnd mi_169 iT.2 3 3 3 14), trivial⟩),
  ⟨fun hd => mk7 fld_21_0 (Or.inr ⟨_, W1747⟩) (Or.inl rfl) (Or.inl rfl) (hd rfl),
  trivial⟩⟩
theorem fe_169 : eqEs ((flat code_169).filter (fun e => ndE e.2.2.1)) (fl_169_0) = true := by decide +kernel
theorem om_169 : OKm mi iT prg 169 := OKm_of (code := code_169) rfl mt_169 (Or.inl (by decide +kernel)) rfl wk_169 (by decide +kernel) (by decide +kernel) (FA_of fe_169 (fb_169_0))
def fl_170_0 : List Ent := [(6, 3, 23, .invokevirtual 193, [0, 4, 4, 268, 1, 1, 5, 1, 1, 2, 2], 0), (10, 3, 7, .putfield 13, [1, 21, 89], 0)]
theorem fb_170_0 : FB mi iT mi_170 (bpc code_170) (fl_170_0) := ⟨fun hd => mk23 mt_268 cf_268 (vf_268_1.rt (Or.inl W3786) (hd rfl)) rfl rfl (hnd_prs _ ⟨(⟨[], ⟨0, 13, 16, 19⟩, [⟨0, 13, 20, 21⟩], "java/lang/IllegalArgumentException", 2, rfl, fun _ h => absurd h List.not_mem_nil, by decide, by decide, W1760, W1774, Or.inl ⟨(show decode method_54_code 16 = .ok (.astore 5, 2) by decide +kernel), rfl⟩, by decide, rfl⟩ : Hnd mi_170 iT.2 6 1 5 18), ⟨(⟨[⟨0, 13, 16, 19⟩], ⟨0, 13, 20, 21⟩, [], "java/lang/IllegalStateException", 2, rfl, List.forall_mem_cons.mpr ⟨Or.inr ⟨by decide, "java/lang/IllegalArgumentException", W1760, by decide⟩, fun _ h => absurd h List.not_mem_nil⟩, by decide, by decide, W1761, W1798, Or.inl ⟨(show decode method_54_code 20 = .ok (.astore 5, 2) by decide +kernel), rfl⟩, by decide, rfl⟩ : Hnd mi_170 iT.2 6 2 5 22), trivial⟩⟩),
  ⟨fun hd => mk7 fld_21_0 (Or.inr ⟨_, W1747⟩) (Or.inl rfl) (Or.inl rfl) (hd rfl),
  trivial⟩⟩
theorem fe_170 : eqEs ((flat code_170).filter (fun e => ndE e.2.2.1)) (fl_170_0) = true := by decide +kernel
theorem om_170 : OKm mi iT prg 170 := OKm_of (code := code_170) rfl mt_170 (Or.inl (by decide +kernel)) rfl wk_170 (by decide +kernel) (by decide +kernel) (FA_of fe_170 (fb_170_0))
def fl_171_0 : List Ent := [(10, 3, 23, .invokevirtual 196, [0, 6, 6, 269, 1, 1, 7, 3, 1, 1, 2, 2, 3], 0), (14, 3, 7, .putfield 13, [1, 21, 89], 0)]
theorem fb_171_0 : FB mi iT mi_171 (bpc code_171) (fl_171_0) := ⟨fun hd => mk23 mt_269 cf_269 (vf_269_1.rt (Or.inl W3815) (hd rfl)) rfl rfl (hnd_prs _ ⟨(⟨[], ⟨0, 17, 20, 26⟩, [⟨0, 17, 24, 19⟩, ⟨0, 17, 28, 21⟩], "java/lang/IndexOutOfBoundsException", 2, rfl, fun _ h => absurd h List.not_mem_nil, by decide, by decide, W2512, W2544, Or.inl ⟨(show decode method_55_code 20 = .ok (.astore 7, 2) by decide +kernel), rfl⟩, by decide, rfl⟩ : Hnd mi_171 iT.2 10 3 7 22), ⟨(⟨[⟨0, 17, 20, 26⟩], ⟨0, 17, 24, 19⟩, [⟨0, 17, 28, 21⟩], "java/lang/IllegalArgumentException", 2, rfl, List.forall_mem_cons.mpr ⟨Or.inr ⟨by decide, "java/lang/IndexOutOfBoundsException", W2512, by decide⟩, fun _ h => absurd h List.not_mem_nil⟩, by decide, by decide, W1760, W1774, Or.inl ⟨(show decode method_55_code 24 = .ok (.astore 7, 2) by decide +kernel), rfl⟩, by decide, rfl⟩ : Hnd mi_171 iT.2 10 1 7 26), ⟨(⟨[⟨0, 17, 20, 26⟩, ⟨0, 17, 24, 19⟩], ⟨0, 17, 28, 21⟩, [], "java/lang/IllegalStateException", 2, rfl, List.forall_mem_cons.mpr ⟨Or.inr ⟨by decide, "java/lang/IndexOutOfBoundsException", W2512, by decide⟩, List.forall_mem_cons.mpr ⟨Or.inr ⟨by decide, "java/lang/IllegalArgumentException", W1760, by decide⟩, fun _ h => absurd h List.not_mem_nil⟩⟩, by decide, by decide, W1761, W1798, Or.inl ⟨(show decode method_55_code 28 = .ok (.astore 7, 2) by decide +kernel), rfl⟩, by decide, rfl⟩ : Hnd mi_171 iT.2 10 2 7 30), trivial⟩⟩⟩),
  ⟨fun hd => mk7 fld_21_0 (Or.inr ⟨_, W1747⟩) (Or.inl rfl) (Or.inl rfl) (hd rfl),
  trivial⟩⟩
theorem fe_171 : eqEs ((flat code_171).filter (fun e => ndE e.2.2.1)) (fl_171_0) = true := by decide +kernel
theorem om_171 : OKm mi iT prg 171 := OKm_of (code := code_171) rfl mt_171 (Or.inl (by decide +kernel)) rfl wk_171 (by decide +kernel) (by decide +kernel) (FA_of fe_171 (fb_171_0))
def fl_172_0 : List Ent := [(4, 3, 23, .invokevirtual 199, [0, 3, 3, 270, 1, 1, 4, 3, 1, 1, 2, 2, 3], 0), (8, 3, 7, .putfield 13, [1, 21, 89], 0)]
theorem fb_172_0 : FB mi iT mi_172 (bpc code_172) (fl_172_0) := ⟨fun hd => mk23 mt_270 cf_270 (vf_270_1.rt (Or.inl W3881) (hd rfl)) rfl rfl (hnd_prs _ ⟨(⟨[], ⟨0, 11, 14, 26⟩, [⟨0, 11, 18, 19⟩, ⟨0, 11, 22, 21⟩], "java/lang/IndexOutOfBoundsException", 2, rfl, fun _ h => absurd h List.not_mem_nil, by decide, by decide, W2512, W2544, Or.inl ⟨(show decode method_56_code 14 = .ok (.astore 4, 2) by decide +kernel), rfl⟩, by decide, rfl⟩ : Hnd mi_172 iT.2 4 3 4 16), ⟨(⟨[⟨0, 11, 14, 26⟩], ⟨0, 11, 18, 19⟩, [⟨0, 11, 22, 21⟩], "java/lang/IllegalArgumentException", 2, rfl, List.forall_mem_cons.mpr ⟨Or.inr ⟨by decide, "java/lang/IndexOutOfBoundsException", W2512, by decide⟩, fun _ h => absurd h List.not_mem_nil⟩, by decide, by decide, W1760, W1774, Or.inl ⟨(show decode method_56_code 18 = .ok (.astore 4, 2) by decide +kernel), rfl⟩, by decide, rfl⟩ : Hnd mi_172 iT.2 4 1 4 20), ⟨(⟨[⟨0, 11, 14, 26⟩, ⟨0, 11, 18, 19⟩], ⟨0, 11, 22, 21⟩, [], "java/lang/IllegalStateException", 2, rfl, List.forall_mem_cons.mpr ⟨Or.inr ⟨by decide, "java/lang/IndexOutOfBoundsException", W2512, by decide⟩, List.forall_mem_cons.mpr ⟨Or.inr ⟨by decide, "java/lang/IllegalArgumentException", W1760, by decide⟩, fun _ h => absurd h List.not_mem_nil⟩⟩, by decide, by decide, W1761, W1798, Or.inl ⟨(show decode method_56_code 22 = .ok (.astore 4, 2) by decide +kernel), rfl⟩, by decide, rfl⟩ : Hnd mi_172 iT.2 4 2 4 24), trivial⟩⟩⟩),
  ⟨fun hd => mk7 fld_21_0 (Or.inr ⟨_, W1747⟩) (Or.inl rfl) (Or.inl rfl) (hd rfl),
  trivial⟩⟩
theorem fe_172 : eqEs ((flat code_172).filter (fun e => ndE e.2.2.1)) (fl_172_0) = true := by decide +kernel
theorem om_172 : OKm mi iT prg 172 := OKm_of (code := code_172) rfl mt_172 (Or.inl (by decide +kernel)) rfl wk_172 (by decide +kernel) (by decide +kernel) (FA_of fe_172 (fb_172_0))
def fl_173_0 : List Ent := [(6, 3, 23, .invokevirtual 202, [0, 4, 4, 271, 1, 1, 5, 3, 1, 2, 2], 0), (10, 3, 7, .putfield 13, [1, 21, 89], 0)]
theorem fb_173_0 : FB mi iT mi_173 (bpc code_173) (fl_173_0) := ⟨fun hd => mk23 mt_271 cf_271 (vf_271_1.rt (Or.inl W3890) (hd rfl)) rfl rfl (hnd_prs _ ⟨(⟨[], ⟨0, 13, 16, 26⟩, [⟨0, 13, 20, 21⟩], "java/lang/IndexOutOfBoundsException", 2, rfl, fun _ h => absurd h List.not_mem_nil, by decide, by decide, W2512, W2544, Or.inl ⟨(show decode method_57_code 16 = .ok (.astore 5, 2) by decide +kernel), rfl⟩, by decide, rfl⟩ : Hnd mi_173 iT.2 6 3 5 18), ⟨(⟨[⟨0, 13, 16, 26⟩], ⟨0, 13, 20, 21⟩, [], "java/lang/IllegalStateException", 2, rfl, List.forall_mem_cons.mpr ⟨Or.inr ⟨by decide, "java/lang/IndexOutOfBoundsException", W2512, by decide⟩, fun _ h => absurd h List.not_mem_nil⟩, by decide, by decide, W1761, W1798, Or.inl ⟨(show decode method_57_code 20 = .ok (.astore 5, 2) by decide +kernel), rfl⟩, by decide, rfl⟩ : Hnd mi_173 iT.2 6 2 5 22), trivial⟩⟩),
  ⟨fun hd => mk7 fld_21_0 (Or.inr ⟨_, W1747⟩) (Or.inl rfl) (Or.inl rfl) (hd rfl),
  trivial⟩⟩
theorem fe_173 : eqEs ((flat code_173).filter (fun e => ndE e.2.2.1)) (fl_173_0) = true := by decide +kernel
theorem om_173 : OKm mi iT prg 173 := OKm_of (code := code_173) rfl mt_173 (Or.inl (by decide +kernel)) rfl wk_173 (by decide +kernel) (by decide +kernel) (FA_of fe_173 (fb_173_0))
def fl_174_0 : List Ent := [(3, 3, 23, .invokevirtual 205, [0, 2, 2, 272, 1, 1, 3, 3, 1, 2, 2], 0), (7, 3, 7, .putfield 13, [1, 21, 89], 0)]
theorem fb_174_0 : FB mi iT mi_174 (bpc code_174) (fl_174_0) := ⟨fun hd => mk23 mt_272 cf_272 (vf_272_1.rt (Or.inl W4144) (hd rfl)) rfl rfl (hnd_prs _ ⟨(⟨[], ⟨0, 10, 13, 26⟩, [⟨0, 10, 16, 21⟩], "java/lang/IndexOutOfBoundsException", 1, rfl, fun _ h => absurd h List.not_mem_nil, by decide, by decide, W2512, W2544, Or.inr ⟨3, rfl, (show decode method_58_code 13 = .ok (.astore_n 3, 1) by decide +kernel), rfl⟩, by decide, rfl⟩ : Hnd mi_174 iT.2 3 3 3 14), ⟨(⟨[⟨0, 10, 13, 26⟩], ⟨0, 10, 16, 21⟩, [], "java/lang/IllegalStateException", 1, rfl, List.forall_mem_cons.mpr ⟨Or.inr ⟨by decide, "java/lang/IndexOutOfBoundsException", W2512, by decide⟩, fun _ h => absurd h List.not_mem_nil⟩, by decide, by decide, W1761, W1798, Or.inr ⟨3, rfl, (show decode method_58_code 16 = .ok (.astore_n 3, 1) by decide +kernel), rfl⟩, by decide, rfl⟩ : Hnd mi_174 iT.2 3 2 3 17), trivial⟩⟩),
  ⟨fun hd => mk7 fld_21_0 (Or.inr ⟨_, W1747⟩) (Or.inl rfl) (Or.inl rfl) (hd rfl),
  trivial⟩⟩
theorem fe_174 : eqEs ((flat code_174).filter (fun e => ndE e.2.2.1)) (fl_174_0) = true := by decide +kernel
theorem om_174 : OKm mi iT prg 174 := OKm_of (code := code_174) rfl mt_174 (Or.inl (by decide +kernel)) rfl wk_174 (by decide +kernel) (by decide +kernel) (FA_of fe_174 (fb_174_0))
def fl_175_0 : List Ent := [(4, 3, 23, .invokevirtual 208, [0, 3, 3, 273, 1, 1, 4, 3, 1, 1, 2, 2, 3], 0), (8, 3, 7, .putfield 13, [1, 21, 89], 0)]
theorem fb_175_0 : FB mi iT mi_175 (bpc code_175) (fl_175_0) := ⟨fun hd => mk23 mt_273 cf_273 (vf_273_1.rt (Or.inl W4162) (hd rfl)) rfl rfl (hnd_prs _ ⟨(⟨[], ⟨0, 11, 14, 26⟩, [⟨0, 11, 18, 19⟩, ⟨0, 11, 22, 21⟩], "java/lang/IndexOutOfBoundsException", 2, rfl, fun _ h => absurd h List.not_mem_nil, by decide, by decide, W2512, W2544, Or.inl ⟨(show decode method_59_code 14 = .ok (.astore 4, 2) by decide +kernel), rfl⟩, by decide, rfl⟩ : Hnd mi_175 iT.2 4 3 4 16), ⟨(⟨[⟨0, 11, 14, 26⟩], ⟨0, 11, 18, 19⟩, [⟨0, 11, 22, 21⟩], "java/lang/IllegalArgumentException", 2, rfl, List.forall_mem_cons.mpr ⟨Or.inr ⟨by decide, "java/lang/IndexOutOfBoundsException", W2512, by decide⟩, fun _ h => absurd h List.not_mem_nil⟩, by decide, by decide, W1760, W1774, Or.inl ⟨(show decode method_59_code 18 = .ok (.astore 4, 2) by decide +kernel), rfl⟩, by decide, rfl⟩ : Hnd mi_175 iT.2 4 1 4 20), ⟨(⟨[⟨0, 11, 14, 26⟩, ⟨0, 11, 18, 19⟩], ⟨0, 11, 22, 21⟩, [], "java/lang/IllegalStateException", 2, rfl, List.forall_mem_cons.mpr ⟨Or.inr ⟨by decide, "java/lang/IndexOutOfBoundsException", W2512, by decide⟩, List.forall_mem_cons.mpr ⟨Or.inr ⟨by decide, "java/lang/IllegalArgumentException", W1760, by decide⟩, fun _ h => absurd h List.not_mem_nil⟩⟩, by decide, by decide, W1761, W1798, Or.inl ⟨(show decode method_59_code 22 = .ok (.astore 4, 2) by decide +kernel), rfl⟩, by decide, rfl⟩ : Hnd mi_175 iT.2 4 2 4 24), trivial⟩⟩⟩),
  ⟨fun hd => mk7 fld_21_0 (Or.inr ⟨_, W1747⟩) (Or.inl rfl) (Or.inl rfl) (hd rfl),
  trivial⟩⟩
theorem fe_175 : eqEs ((flat code_175).filter (fun e => ndE e.2.2.1)) (fl_175_0) = true := by decide +kernel
theorem om_175 : OKm mi iT prg 175 := OKm_of (code := code_175) rfl mt_175 (Or.inl (by decide +kernel)) rfl wk_175 (by decide +kernel) (by decide +kernel) (FA_of fe_175 (fb_175_0))
def fl_176_0 : List Ent := [(4, 3, 23, .invokevirtual 211, [0, 3, 3, 274, 1, 1, 4, 3, 1, 1, 2], 0), (8, 3, 7, .putfield 13, [1, 21, 89], 0)]
theorem fb_176_0 : FB mi iT mi_176 (bpc code_176) (fl_176_0) := ⟨fun hd => mk23 mt_274 cf_274 (vf_274_1.rt (Or.inl W4182) (hd rfl)) rfl rfl (hnd_prs _ ⟨(⟨[], ⟨0, 11, 14, 26⟩, [⟨0, 11, 18, 19⟩], "java/lang/IndexOutOfBoundsException", 2, rfl, fun _ h => absurd h List.not_mem_nil, by decide, by decide, W2512, W2544, Or.inl ⟨(show decode method_60_code 14 = .ok (.astore 4, 2) by decide +kernel), rfl⟩, by decide, rfl⟩ : Hnd mi_176 iT.2 4 3 4 16), ⟨(⟨[⟨0, 11, 14, 26⟩], ⟨0, 11, 18, 19⟩, [], "java/lang/IllegalArgumentException", 2, rfl, List.forall_mem_cons.mpr ⟨Or.inr ⟨by decide, "java/lang/IndexOutOfBoundsException", W2512, by decide⟩, fun _ h => absurd h List.not_mem_nil⟩, by decide, by decide, W1760, W1774, Or.inl ⟨(show decode method_60_code 18 = .ok (.astore 4, 2) by decide +kernel), rfl⟩, by decide, rfl⟩ : Hnd mi_176 iT.2 4 1 4 20), trivial⟩⟩),
  ⟨fun hd => mk7 fld_21_0 (Or.inr ⟨_, W1747⟩) (Or.inl rfl) (Or.inl rfl) (hd rfl),
  trivial⟩⟩
theorem fe_176 : eqEs ((flat code_176).filter (fun e => ndE e.2.2.1)) (fl_176_0) = true := by decide +kernel
theorem om_176 : OKm mi iT prg 176 := OKm_of (code := code_176) rfl mt_176 (Or.inl (by decide +kernel)) rfl wk_176 (by decide +kernel) (by decide +kernel) (FA_of fe_176 (fb_176_0))
def fl_177_0 : List Ent := [(4, 3, 23, .invokevirtual 214, [0, 3, 3, 275, 1, 1, 4, 3, 1, 1, 2], 0), (8, 3, 7, .putfield 13, [1, 21, 89], 0)]
theorem fb_177_0 : FB mi iT mi_177 (bpc code_177) (fl_177_0) := ⟨fun hd => mk23 mt_275 cf_275 (vf_275_1.rt (Or.inl W4189) (hd rfl)) rfl rfl (hnd_prs _ ⟨(⟨[], ⟨0, 11, 14, 26⟩, [⟨0, 11, 18, 19⟩], "java/lang/IndexOutOfBoundsException", 2, rfl, fun _ h => absurd h List.not_mem_nil, by decide, by decide, W2512, W2544, Or.inl ⟨(show decode method_61_code 14 = .ok (.astore 4, 2) by decide +kernel), rfl⟩, by decide, rfl⟩ : Hnd mi_177 iT.2 4 3 4 16), ⟨(⟨[⟨0, 11, 14, 26⟩], ⟨0, 11, 18, 19⟩, [], "java/lang/IllegalArgumentException", 2, rfl, List.forall_mem_cons.mpr ⟨Or.inr ⟨by decide, "java/lang/IndexOutOfBoundsException", W2512, by decide⟩, fun _ h => absurd h List.not_mem_nil⟩, by decide, by decide, W1760, W1774, Or.inl ⟨(show decode method_61_code 18 = .ok (.astore 4, 2) by decide +kernel), rfl⟩, by decide, rfl⟩ : Hnd mi_177 iT.2 4 1 4 20), trivial⟩⟩),
  ⟨fun hd => mk7 fld_21_0 (Or.inr ⟨_, W1747⟩) (Or.inl rfl) (Or.inl rfl) (hd rfl),
  trivial⟩⟩
theorem fe_177 : eqEs ((flat code_177).filter (fun e => ndE e.2.2.1)) (fl_177_0) = true := by decide +kernel
theorem om_177 : OKm mi iT prg 177 := OKm_of (code := code_177) rfl mt_177 (Or.inl (by decide +kernel)) rfl wk_177 (by decide +kernel) (by decide +kernel) (FA_of fe_177 (fb_177_0))
def fl_178_0 : List Ent := [(6, 3, 23, .invokevirtual 217, [0, 4, 4, 276, 1, 1, 5, 3, 1, 1, 2], 0), (10, 3, 7, .putfield 13, [1, 21, 89], 0)]
theorem fb_178_0 : FB mi iT mi_178 (bpc code_178) (fl_178_0) := ⟨fun hd => mk23 mt_276 cf_276 (vf_276_1.rt (Or.inl W4196) (hd rfl)) rfl rfl (hnd_prs _ ⟨(⟨[], ⟨0, 13, 16, 26⟩, [⟨0, 13, 20, 19⟩], "java/lang/IndexOutOfBoundsException", 2, rfl, fun _ h => absurd h List.not_mem_nil, by decide, by decide, W2512, W2544, Or.inl ⟨(show decode method_62_code 16 = .ok (.astore 5, 2) by decide +kernel), rfl⟩, by decide, rfl⟩ : Hnd mi_178 iT.2 6 3 5 18), ⟨(⟨[⟨0, 13, 16, 26⟩], ⟨0, 13, 20, 19⟩, [], "java/lang/IllegalArgumentException", 2, rfl, List.forall_mem_cons.mpr ⟨Or.inr ⟨by decide, "java/lang/IndexOutOfBoundsException", W2512, by decide⟩, fun _ h => absurd h List.not_mem_nil⟩, by decide, by decide, W1760, W1774, Or.inl ⟨(show decode method_62_code 20 = .ok (.astore 5, 2) by decide +kernel), rfl⟩, by decide, rfl⟩ : Hnd mi_178 iT.2 6 1 5 22), trivial⟩⟩),
  ⟨fun hd => mk7 fld_21_0 (Or.inr ⟨_, W1747⟩) (Or.inl rfl) (Or.inl rfl) (hd rfl),
  trivial⟩⟩
theorem fe_178 : eqEs ((flat code_178).filter (fun e => ndE e.2.2.1)) (fl_178_0) = true := by decide +kernel
theorem om_178 : OKm mi iT prg 178 := OKm_of (code := code_178) rfl mt_178 (Or.inl (by decide +kernel)) rfl wk_178 (by decide +kernel) (by decide +kernel) (FA_of fe_178 (fb_178_0))
def fl_179_0 : List Ent := [(6, 3, 23, .invokevirtual 221, [0, 4, 4, 277, 1, 1, 5, 3, 1, 1, 2], 0), (10, 3, 7, .putfield 13, [1, 21, 89], 0)]
theorem fb_179_0 : FB mi iT mi_179 (bpc code_179) (fl_179_0) := ⟨fun hd => mk23 mt_277 cf_277 (vf_277_1.rt (Or.inl W4215) (hd rfl)) rfl rfl (hnd_prs _ ⟨(⟨[], ⟨0, 13, 16, 26⟩, [⟨0, 13, 20, 19⟩], "java/lang/IndexOutOfBoundsException", 2, rfl, fun _ h => absurd h List.not_mem_nil, by decide, by decide, W2512, W2544, Or.inl ⟨(show decode method_63_code 16 = .ok (.astore 5, 2) by decide +kernel), rfl⟩, by decide, rfl⟩ : Hnd mi_179 iT.2 6 3 5 18), ⟨(⟨[⟨0, 13, 16, 26⟩], ⟨0, 13, 20, 19⟩, [], "java/lang/IllegalArgumentException", 2, rfl, List.forall_mem_cons.mpr ⟨Or.inr ⟨by decide, "java/lang/IndexOutOfBoundsException", W2512, by decide⟩, fun _ h => absurd h List.not_mem_nil⟩, by decide, by decide, W1760, W1774, Or.inl ⟨(show decode method_63_code 20 = .ok (.astore 5, 2) by decide +kernel), rfl⟩, by decide, rfl⟩ : Hnd mi_179 iT.2 6 1 5 22), trivial⟩⟩),
  ⟨fun hd => mk7 fld_21_0 (Or.inr ⟨_, W1747⟩) (Or.inl rfl) (Or.inl rfl) (hd rfl),
  trivial⟩⟩
theorem fe_179 : eqEs ((flat code_179).filter (fun e => ndE e.2.2.1)) (fl_179_0) = true := by decide +kernel
theorem om_179 : OKm mi iT prg 179 := OKm_of (code := code_179) rfl mt_179 (Or.inl (by decide +kernel)) rfl wk_179 (by decide +kernel) (by decide +kernel) (FA_of fe_179 (fb_179_0))
def fl_180_0 : List Ent := [(3, 3, 23, .invokevirtual 224, [0, 2, 2, 278, 1, 1, 3, 1, 1], 0), (7, 3, 7, .putfield 13, [1, 21, 89], 0)]
theorem fb_180_0 : FB mi iT mi_180 (bpc code_180) (fl_180_0) := ⟨fun hd => mk23 mt_278 cf_278 (vf_278_1.rt (Or.inl W4222) (hd rfl)) rfl rfl (hnd_prs _ ⟨(⟨[], ⟨0, 10, 13, 19⟩, [], "java/lang/IllegalArgumentException", 1, rfl, fun _ h => absurd h List.not_mem_nil, by decide, by decide, W1760, W1774, Or.inr ⟨3, rfl, (show decode method_64_code 13 = .ok (.astore_n 3, 1) by decide +kernel), rfl⟩, by decide, rfl⟩ : Hnd mi_180 iT.2 3 1 3 14), trivial⟩),
  ⟨fun hd => mk7 fld_21_0 (Or.inr ⟨_, W1747⟩) (Or.inl rfl) (Or.inl rfl) (hd rfl),
  trivial⟩⟩
theorem fe_180 : eqEs ((flat code_180).filter (fun e => ndE e.2.2.1)) (fl_180_0) = true := by decide +kernel
theorem om_180 : OKm mi iT prg 180 := OKm_of (code := code_180) rfl mt_180 (Or.inl (by decide +kernel)) rfl wk_180 (by decide +kernel) (by decide +kernel) (FA_of fe_180 (fb_180_0))
def fl_181_0 : List Ent := [(3, 3, 23, .invokevirtual 227, [3, 2, 2, 279, 1, 1, 3, 3, 1], 0), (6, 3, 7, .putfield 231, [3, 21, 91], 0)]
theorem fb_181_0 : FB mi iT mi_181 (bpc code_181) (fl_181_0) := ⟨fun hd => mk23 mt_279 cf_279 (vf_279_1.rt (Or.inl W4229) (hd rfl)) rfl rfl (hnd_prs _ ⟨(⟨[], ⟨0, 9, 12, 26⟩, [], "java/lang/IndexOutOfBoundsException", 1, rfl, fun _ h => absurd h List.not_mem_nil, by decide, by decide, W2512, W2544, Or.inr ⟨3, rfl, (show decode method_65_code 12 = .ok (.astore_n 3, 1) by decide +kernel), rfl⟩, by decide, rfl⟩ : Hnd mi_181 iT.2 3 3 3 13), trivial⟩),
  ⟨fun hd => mk7 fld_21_2 (Or.inr ⟨_, W1749⟩) (Or.inl rfl) (Or.inl rfl) (hd rfl),
  trivial⟩⟩
theorem fe_181 : eqEs ((flat code_181).filter (fun e => ndE e.2.2.1)) (fl_181_0) = true := by decide +kernel
theorem om_181 : OKm mi iT prg 181 := OKm_of (code := code_181) rfl mt_181 (Or.inl (by decide +kernel)) rfl wk_181 (by decide +kernel) (by decide +kernel) (FA_of fe_181 (fb_181_0))
def fl_182_0 : List Ent := [(1, 3, 22, .invokespecial 53, [], 0), (5, 3, 11, .new 56, [2, 1], 0), (9, 3, 36, .invokespecial 58, [9, 1, 1, 2, 280], 0), (12, 3, 7, .putfield 59, [3, 1, 1], 0), (16, 3, 11, .new 65, [3, 3], 0), (20, 3, 36, .invokespecial 67, [9, 1, 1, 3, 281], 0), (23, 3, 7, .putfield 68, [3, 1, 2], 0), (27, 3, 11, .new 72, [4, 3], 0), (31, 3, 36, .invokespecial 74, [9, 1, 1, 4, 287], 0), (34, 3, 7, .putfield 75, [3, 1, 3], 0), (38, 3, 11, .new 79, [6, 1], 0), (42, 3, 36, .invokespecial 81, [9, 1, 1, 6, 299], 0), (45, 3, 7, .putfield 82, [3, 1, 4], 0), (49, 3, 11, .new 86, [5, 3], 0), (53, 3, 36, .invokespecial 88, [9, 1, 1, 5, 3], 0), (56, 3, 7, .putfield 89, [3, 1, 5], 0), (60, 3, 11, .new 93, [7, 8], 0), (65, 3, 6, .getfield 89, [3, 1, 5], 0), (68, 3, 36, .invokespecial 95, [9, 2, 2, 7, 315], 0), (71, 3, 7, .putfield 98, [3, 1, 6], 0), (75, 3, 11, .new 102, [8, 2], 0), (80, 3, 6, .getfield 68, [3, 1, 2], 0), (83, 3, 36, .invokespecial 104, [9, 2, 2, 8, 326], 0), (86, 3, 7, .putfield 107, [3, 1, 7], 0), (90, 3, 11, .new 111, [9, 4], 0), (95, 3, 6, .getfield 82, [3, 1, 4], 0), (98, 3, 36, .invokespecial 113, [9, 2, 2, 9, 340], 0), (101, 3, 7, .putfield 116, [3, 1, 8], 0), (107, 3, 7, .putfield 120, [0, 1, 10], 0)]
theorem fb_182_0 : FB mi iT mi_182 (bpc code_182) (fl_182_0) := ⟨fun hd => mk22 (by decide) W208 oi_w (hd rfl),
  ⟨fun hd => mk11 nf_2 W211 (hd rfl),
  ⟨fun hd => mk36 mt_280 cf_280 (ic_280.rt (Or.inr ⟨_, W213⟩) (hd rfl)) rfl rfl,
  ⟨fun hd => mk7 fld_1_0 (Or.inl W400) (Or.inl rfl) (Or.inr ⟨rfl, rfl, rfl, W400⟩) (hd rfl),
  ⟨fun hd => mk11 nf_3 W221 (hd rfl),
  ⟨fun hd => mk36 mt_281 cf_281 (ic_281.rt (Or.inr ⟨_, W223⟩) (hd rfl)) rfl rfl,
  ⟨fun hd => mk7 fld_1_1 (Or.inl W401) (Or.inl rfl) (Or.inr ⟨rfl, rfl, rfl, W401⟩) (hd rfl),
  ⟨fun hd => mk11 nf_4 W240 (hd rfl),
  ⟨fun hd => mk36 mt_287 cf_287 (ic_287.rt (Or.inr ⟨_, W242⟩) (hd rfl)) rfl rfl,
  ⟨fun hd => mk7 fld_1_2 (Or.inl W402) (Or.inl rfl) (Or.inr ⟨rfl, rfl, rfl, W402⟩) (hd rfl),
  ⟨fun hd => mk11 nf_6 W288 (hd rfl),
  ⟨fun hd => mk36 mt_299 cf_299 (ic_299.rt (Or.inr ⟨_, W290⟩) (hd rfl)) rfl rfl,
  ⟨fun hd => mk7 fld_1_3 (Or.inl W403) (Or.inl rfl) (Or.inr ⟨rfl, rfl, rfl, W403⟩) (hd rfl),
  ⟨fun hd => mk11 nf_5 W301 (hd rfl),
  ⟨fun hd => mk36 mt_3 cf_3 (ic_3.rt (Or.inl W302) (hd rfl)) rfl rfl,
  ⟨fun hd => mk7 fld_1_4 (Or.inl W404) (Or.inl rfl) (Or.inr ⟨rfl, rfl, rfl, W404⟩) (hd rfl),
  ⟨fun hd => mk11 nf_7 W303 (hd rfl),
  ⟨fun hd => mk6 fld_1_4 (Or.inl ⟨rfl, by decide⟩) (Or.inl W404) (Or.inl rfl) (hd rfl),
  ⟨fun hd => mk36 mt_315 cf_315 (ic_315.rt (Or.inl W305) (hd rfl)) rfl rfl,
  ⟨fun hd => mk7 fld_1_5 (Or.inl W405) (Or.inl rfl) (Or.inr ⟨rfl, rfl, rfl, W405⟩) (hd rfl),
  ⟨fun hd => mk11 nf_8 W339 (hd rfl),
  ⟨fun hd => mk6 fld_1_1 (Or.inl ⟨rfl, by decide⟩) (Or.inl W401) (Or.inl rfl) (hd rfl),
  ⟨fun hd => mk36 mt_326 cf_326 (ic_326.rt (Or.inl W341) (hd rfl)) rfl rfl,
  ⟨fun hd => mk7 fld_1_6 (Or.inl W406) (Or.inl rfl) (Or.inr ⟨rfl, rfl, rfl, W406⟩) (hd rfl),
  ⟨fun hd => mk11 nf_9 W355 (hd rfl),
  ⟨fun hd => mk6 fld_1_3 (Or.inl ⟨rfl, by decide⟩) (Or.inl W403) (Or.inl rfl) (hd rfl),
  ⟨fun hd => mk36 mt_340 cf_340 (ic_340.rt (Or.inl W357) (hd rfl)) rfl rfl,
  ⟨fun hd => mk7 fld_1_7 (Or.inl W407) (Or.inl rfl) (Or.inr ⟨rfl, rfl, rfl, W407⟩) (hd rfl),
  ⟨fun hd => mk7 fld_1_9 (Or.inl W409) (Or.inl rfl) (Or.inl rfl) (hd rfl),
  trivial⟩⟩⟩⟩⟩⟩⟩⟩⟩⟩⟩⟩⟩⟩⟩⟩⟩⟩⟩⟩⟩⟩⟩⟩⟩⟩⟩⟩⟩
theorem fe_182 : eqEs ((flat code_182).filter (fun e => ndE e.2.2.1)) (fl_182_0) = true := by decide +kernel
theorem om_182 : OKm mi iT prg 182 := OKm_of (code := code_182) rfl mt_182 (Or.inl (by decide +kernel)) rfl wk_182 (by decide +kernel) (by decide +kernel) (FA_of fe_182 (fb_182_0))
def fl_183_0 : List Ent := [(1, 3, 6, .getfield 68, [3, 1, 2], 0), (4, 3, 6, .getfield 786, [0, 3, 17], 0)]
theorem fb_183_0 : FB mi iT mi_183 (bpc code_183) (fl_183_0) := ⟨fun hd => mk6 fld_1_1 (Or.inl ⟨rfl, by decide⟩) (Or.inl W401) (Or.inl rfl) (hd rfl),
  ⟨fun hd => mk6 fld_3_2 (Or.inl ⟨rfl, by decide⟩) (Or.inr ⟨_, W231⟩) (Or.inl rfl) (hd rfl),
  trivial⟩⟩
theorem fe_183 : eqEs ((flat code_183).filter (fun e => ndE e.2.2.1)) (fl_183_0) = true := by decide +kernel
theorem om_183 : OKm mi iT prg 183 := OKm_of (code := code_183) rfl mt_183 (Or.inl (by decide +kernel)) rfl wk_183 (by decide +kernel) (by decide +kernel) (FA_of fe_183 (fb_183_0))
def fl_184_0 : List Ent := [(1, 3, 19, .invokevirtual 820, [0, 1, 1, 1, 185], 0)]
theorem fb_184_0 : FB mi iT mi_184 (bpc code_184) (fl_184_0) := ⟨fun hd => mk19 mt_185 cf_185 (vf_185_1.rt (Or.inl W448) (hd rfl)) rfl rfl (noH_nil rfl),
  trivial⟩
theorem fe_184 : eqEs ((flat code_184).filter (fun e => ndE e.2.2.1)) (fl_184_0) = true := by decide +kernel
theorem om_184 : OKm mi iT prg 184 := OKm_of (code := code_184) rfl mt_184 (Or.inl (by decide +kernel)) rfl wk_184 (by decide +kernel) (by decide +kernel) (FA_of fe_184 (fb_184_0))
def fl_185_0 : List Ent := [(1, 3, 6, .getfield 68, [3, 1, 2], 0), (4, 3, 19, .invokevirtual 809, [0, 1, 1, 3, 282], 0), (11, 3, 6, .getfield 82, [3, 1, 4], 0), (15, 3, 6, .getfield 89, [3, 1, 5], 0), (18, 3, 19, .invokevirtual 812, [0, 2, 2, 6, 300], 0), (25, 3, 6, .getfield 75, [3, 1, 3], 0), (28, 3, 19, .invokevirtual 815, [0, 1, 1, 4, 288], 0), (35, 3, 6, .getfield 107, [3, 1, 7], 0), (39, 3, 6, .getfield 89, [3, 1, 5], 0), (42, 3, 19, .invokevirtual 816, [0, 2, 2, 8, 327], 0), (49, 3, 6, .getfield 116, [3, 1, 8], 0), (53, 3, 6, .getfield 89, [3, 1, 5], 0), (56, 3, 19, .invokevirtual 817, [0, 2, 2, 9, 341], 0), (65, 3, 6, .getfield 89, [3, 1, 5], 0), (68, 3, 19, .invokevirtual 517, [3, 1, 1, 5, 4], 0), (73, 5, 34, .invokeinterface 521 1, [0, 1, 1, 11, 87], 0), (82, 5, 34, .invokeinterface 526 1, [3, 1, 1, 11, 88], 0), (87, 3, 17, .checkcast 136, [22], 0), (92, 3, 6, .getfield 415, [3, 22, 102], 0), (95, 3, 19, .invokevirtual 818, [0, 1, 1, 12, 610], 0), (102, 3, 6, .getfield 603, [3, 22, 97], 0), (105, 3, 6, .getfield 614, [3, 20, 87], 0), (108, 3, 19, .invokevirtual 819, [0, 1, 1, 13, 529], 0)]
theorem fb_185_0 : FB mi iT mi_185 (bpc code_185) (fl_185_0) := ⟨fun hd => mk6 fld_1_1 (Or.inl ⟨rfl, by decide⟩) (Or.inl W401) (Or.inl rfl) (hd rfl),
  ⟨fun hd => mk19 mt_282 cf_282 (vf_282_3.rt (Or.inl W452) (hd rfl)) rfl rfl (noH_nil rfl),
  ⟨fun hd => mk6 fld_1_3 (Or.inl ⟨rfl, by decide⟩) (Or.inl W403) (Or.inl rfl) (hd rfl),
  ⟨fun hd => mk6 fld_1_4 (Or.inl ⟨rfl, by decide⟩) (Or.inl W404) (Or.inl rfl) (hd rfl),
  ⟨fun hd => mk19 mt_300 cf_300 (vf_300_6.rt (Or.inl W467) (hd rfl)) rfl rfl (noH_nil rfl),
  ⟨fun hd => mk6 fld_1_2 (Or.inl ⟨rfl, by decide⟩) (Or.inl W402) (Or.inl rfl) (hd rfl),
  ⟨fun hd => mk19 mt_288 cf_288 (vf_288_4.rt (Or.inl W517) (hd rfl)) rfl rfl (noH_nil rfl),
  ⟨fun hd => mk6 fld_1_6 (Or.inl ⟨rfl, by decide⟩) (Or.inl W406) (Or.inl rfl) (hd rfl),
  ⟨fun hd => mk6 fld_1_4 (Or.inl ⟨rfl, by decide⟩) (Or.inl W404) (Or.inl rfl) (hd rfl),
  ⟨fun hd => mk19 mt_327 cf_327 (vf_327_8.rt (Or.inl W531) (hd rfl)) rfl rfl (noH_nil rfl),
  ⟨fun hd => mk6 fld_1_7 (Or.inl ⟨rfl, by decide⟩) (Or.inl W407) (Or.inl rfl) (hd rfl),
  ⟨fun hd => mk6 fld_1_4 (Or.inl ⟨rfl, by decide⟩) (Or.inl W404) (Or.inl rfl) (hd rfl),
  ⟨fun hd => mk19 mt_341 cf_341 (vf_341_9.rt (Or.inl W548) (hd rfl)) rfl rfl (noH_nil rfl),
  ⟨fun hd => mk6 fld_1_4 (Or.inl ⟨rfl, by decide⟩) (Or.inl W404) (Or.inl rfl) (hd rfl),
  ⟨fun hd => mk19 mt_4 cf_4 (vf_4_5.rt (Or.inl W602) (hd rfl)) rfl rfl (noH_nil rfl),
  ⟨fun hd => mk34 mt_87 cf_87 (ff_87_11.rt W604 (hd rfl)) rfl rfl,
  ⟨fun hd => mk34 mt_88 cf_88 (ff_88_11.rt W606 (hd rfl)) rfl rfl,
  ⟨fun hd => mk17 kx_22 W607 (hd rfl),
  ⟨fun hd => mk6 fld_22_10 (Or.inl ⟨rfl, by decide⟩) (Or.inr ⟨_, W2288⟩) (Or.inl rfl) (hd rfl),
  ⟨fun hd => mk19 mt_610 cf_610 (vf_610_12.rt (Or.inl W608) (hd rfl)) rfl rfl (noH_nil rfl),
  ⟨fun hd => mk6 fld_22_5 (Or.inl ⟨rfl, by decide⟩) (Or.inr ⟨_, W2264⟩) (Or.inl rfl) (hd rfl),
  ⟨fun hd => mk6 fld_20_1 (Or.inl ⟨rfl, by decide⟩) (Or.inr ⟨_, W1974⟩) (Or.inl rfl) (hd rfl),
  ⟨fun hd => mk19 mt_529 cf_529 (vf_529_13.rt (Or.inl W621) (hd rfl)) rfl rfl (noH_nil rfl),
  trivial⟩⟩⟩⟩⟩⟩⟩⟩⟩⟩⟩⟩⟩⟩⟩⟩⟩⟩⟩⟩⟩⟩⟩
theorem fe_185 : eqEs ((flat code_185).filter (fun e => ndE e.2.2.1)) (fl_185_0) = true := by decide +kernel
theorem om_185 : OKm mi iT prg 185 := OKm_of (code := code_185) rfl mt_185 (Or.inl (by decide +kernel)) rfl wk_185 (by decide +kernel) (by decide +kernel) (FA_of fe_185 (fb_185_0))
def fl_186_0 : List Ent := [(1, 3, 6, .getfield 59, [3, 1, 1], 0), (4, 3, 25, .invokevirtual 823, [2, 3, 37, 1, 1], 0), (50, 3, 6, .getfield 834, [0, 1, 11], 0), (55, 3, 7, .putfield 834, [0, 1, 11], 0), (59, 3, 6, .getfield 834, [0, 1, 11], 0)]
theorem fb_186_0 : FB mi iT mi_186 (bpc code_186) (fl_186_0) := ⟨fun hd => mk6 fld_1_0 (Or.inl ⟨rfl, by decide⟩) (Or.inl W400) (Or.inl rfl) (hd rfl),
  ⟨fun hd => nt_ok,
  ⟨fun hd => mk6 fld_1_10 (Or.inl ⟨rfl, by decide⟩) (Or.inl W410) (Or.inl rfl) (hd rfl),
  ⟨fun hd => mk7 fld_1_10 (Or.inl W410) (Or.inl rfl) (Or.inl rfl) (hd rfl),
  ⟨fun hd => mk6 fld_1_10 (Or.inl ⟨rfl, by decide⟩) (Or.inl W410) (Or.inl rfl) (hd rfl),
  trivial⟩⟩⟩⟩⟩
theorem fe_186 : eqEs ((flat code_186).filter (fun e => ndE e.2.2.1)) (fl_186_0) = true := by decide +kernel
theorem om_186 : OKm mi iT prg 186 := OKm_of (code := code_186) rfl mt_186 (Or.inl (by decide +kernel)) rfl wk_186 (by decide +kernel) (by decide +kernel) (FA_of fe_186 (fb_186_0))
def fl_187_0 : List Ent := [(1, 3, 16, .ldc2_w 845, [58333], 0), (4, 3, 7, .putfield 840, [1, 1, 13], 0), (18, 3, 19, .invokevirtual 806, [0, 2, 2, 1, 188], 0), (22, 3, 19, .invokevirtual 847, [1, 2, 3, 1, 201], 0), (34, 3, 6, .getfield 68, [3, 1, 2], 0), (37, 3, 6, .getfield 786, [0, 3, 17], 0), (41, 3, 19, .invokevirtual 847, [1, 2, 3, 1, 201], 0), (47, 3, 6, .getfield 834, [0, 1, 11], 0), (51, 3, 19, .invokevirtual 847, [1, 2, 3, 1, 201], 0), (57, 3, 19, .invokevirtual 820, [0, 1, 1, 1, 185], 0), (68, 3, 19, .invokevirtual 847, [1, 2, 3, 1, 201], 0)]
theorem fb_187_0 : FB mi iT mi_187 (bpc code_187) (fl_187_0) := ⟨fun hd => mk16c W913 (hd rfl),
  ⟨fun hd => mk7 fld_1_12 (Or.inl W412) (Or.inl rfl) (Or.inl rfl) (hd rfl),
  ⟨fun hd => mk19 mt_188 cf_188 (vf_188_1.rt (Or.inl W914) (hd rfl)) rfl rfl (noH_nil rfl),
  ⟨fun hd => mk19 mt_201 cf_201 (vf_201_1.rt (Or.inl W1736) (hd rfl)) rfl rfl (noH_nil rfl),
  ⟨fun hd => mk6 fld_1_1 (Or.inl ⟨rfl, by decide⟩) (Or.inl W401) (Or.inl rfl) (hd rfl),
  ⟨fun hd => mk6 fld_3_2 (Or.inl ⟨rfl, by decide⟩) (Or.inr ⟨_, W231⟩) (Or.inl rfl) (hd rfl),
  ⟨fun hd => mk19 mt_201 cf_201 (vf_201_1.rt (Or.inl W1736) (hd rfl)) rfl rfl (noH_nil rfl),
  ⟨fun hd => mk6 fld_1_10 (Or.inl ⟨rfl, by decide⟩) (Or.inl W410) (Or.inl rfl) (hd rfl),
  ⟨fun hd => mk19 mt_201 cf_201 (vf_201_1.rt (Or.inl W1736) (hd rfl)) rfl rfl (noH_nil rfl),
  ⟨fun hd => mk19 mt_185 cf_185 (vf_185_1.rt (Or.inl W448) (hd rfl)) rfl rfl (noH_nil rfl),
  ⟨fun hd => mk19 mt_201 cf_201 (vf_201_1.rt (Or.inl W1736) (hd rfl)) rfl rfl (noH_nil rfl),
  trivial⟩⟩⟩⟩⟩⟩⟩⟩⟩⟩⟩
theorem fe_187 : eqEs ((flat code_187).filter (fun e => ndE e.2.2.1)) (fl_187_0) = true := by decide +kernel
theorem om_187 : OKm mi iT prg 187 := OKm_of (code := code_187) rfl mt_187 (Or.inl (by decide +kernel)) rfl wk_187 (by decide +kernel) (by decide +kernel) (FA_of fe_187 (fb_187_0))
def fl_188_0 : List Ent := [(2, 3, 7, .putfield 789, [0, 1, 12], 0), (7, 3, 19, .invokevirtual 797, [9, 2, 2, 1, 189], 0), (11, 3, 6, .getfield 89, [3, 1, 5], 0), (14, 3, 19, .invokevirtual 517, [3, 1, 1, 5, 4], 0), (19, 5, 34, .invokeinterface 521 1, [0, 1, 1, 11, 87], 0), (28, 5, 34, .invokeinterface 526 1, [3, 1, 1, 11, 88], 0), (33, 3, 17, .checkcast 136, [22], 0), (40, 3, 19, .invokevirtual 800, [9, 3, 3, 1, 193], 0), (48, 3, 19, .invokevirtual 803, [9, 2, 2, 1, 200], 0), (52, 3, 6, .getfield 789, [0, 1, 12], 0)]
theorem fb_188_0 : FB mi iT mi_188 (bpc code_188) (fl_188_0) := ⟨fun hd => mk7 fld_1_11 (Or.inl W411) (Or.inl rfl) (Or.inl rfl) (hd rfl),
  ⟨fun hd => mk19 mt_189 cf_189 (vf_189_1.rt (Or.inl W918) (hd rfl)) rfl rfl (noH_nil rfl),
  ⟨fun hd => mk6 fld_1_4 (Or.inl ⟨rfl, by decide⟩) (Or.inl W404) (Or.inl rfl) (hd rfl),
  ⟨fun hd => mk19 mt_4 cf_4 (vf_4_5.rt (Or.inl W602) (hd rfl)) rfl rfl (noH_nil rfl),
  ⟨fun hd => mk34 mt_87 cf_87 (ff_87_11.rt W604 (hd rfl)) rfl rfl,
  ⟨fun hd => mk34 mt_88 cf_88 (ff_88_11.rt W606 (hd rfl)) rfl rfl,
  ⟨fun hd => mk17 kx_22 W607 (hd rfl),
  ⟨fun hd => mk19 mt_193 cf_193 (vf_193_1.rt (Or.inl W1037) (hd rfl)) rfl rfl (noH_nil rfl),
  ⟨fun hd => mk19 mt_200 cf_200 (vf_200_1.rt (Or.inl W1725) (hd rfl)) rfl rfl (noH_nil rfl),
  ⟨fun hd => mk6 fld_1_11 (Or.inl ⟨rfl, by decide⟩) (Or.inl W411) (Or.inl rfl) (hd rfl),
  trivial⟩⟩⟩⟩⟩⟩⟩⟩⟩⟩
theorem fe_188 : eqEs ((flat code_188).filter (fun e => ndE e.2.2.1)) (fl_188_0) = true := by decide +kernel
theorem om_188 : OKm mi iT prg 188 := OKm_of (code := code_188) rfl mt_188 (Or.inl (by decide +kernel)) rfl wk_188 (by decide +kernel) (by decide +kernel) (FA_of fe_188 (fb_188_0))
def fl_189_0 : List Ent := [(1, 35, 5, .tableswitch 220 4 8 #[35, 101, 128, 220, 154], [23, 4, 1, 5, 8, 6, 12, 7, 23, 8, 16], 0), (37, 3, 6, .getfield 75, [3, 1, 3], 0), (40, 3, 6, .getfield 330, [3, 4, 18], 0), (43, 3, 19, .invokevirtual 517, [3, 1, 1, 5, 4], 0), (48, 5, 34, .invokeinterface 521 1, [0, 1, 1, 11, 87], 0), (57, 5, 34, .invokeinterface 526 1, [3, 1, 1, 11, 88], 0), (62, 3, 17, .checkcast 333, [27], 0), (78, 3, 6, .getfield 75, [3, 1, 3], 0), (84, 3, 19, .invokevirtual 392, [0, 3, 3, 4, 289], 0), (87, 3, 19, .invokevirtual 792, [9, 2, 2, 1, 190], 0), (114, 3, 19, .invokevirtual 493, [0, 3, 3, 1, 191], 0), (117, 3, 19, .invokevirtual 792, [9, 2, 2, 1, 190], 0), (140, 3, 19, .invokevirtual 597, [0, 2, 2, 1, 192], 0), (143, 3, 19, .invokevirtual 792, [9, 2, 2, 1, 190], 0), (156, 3, 6, .getfield 107, [3, 1, 7], 0), (159, 3, 6, .getfield 662, [3, 8, 34], 0), (162, 3, 19, .invokevirtual 517, [3, 1, 1, 5, 4], 0), (167, 5, 34, .invokeinterface 521 1, [0, 1, 1, 11, 87], 0), (176, 5, 34, .invokeinterface 526 1, [3, 1, 1, 11, 88], 0), (181, 3, 17, .checkcast 665, [33], 0), (200, 3, 6, .getfield 120, [0, 1, 10], 0), (203, 3, 19, .invokevirtual 699, [0, 3, 3, 33, 752], 0), (206, 3, 19, .invokevirtual 792, [9, 2, 2, 1, 190], 0)]
theorem fb_189_0 : FB mi iT mi_189 (bpc code_189) (fl_189_0) := ⟨fun hd => ⟨_, _, rfl, Or.inl ⟨220, 4, 8, #[35, 101, 128, 220, 154], 5, 35, (show decode prog_1_method_89_code 1 = .ok (.tableswitch 220 4 8 #[35, 101, 128, 220, 154], 35) by decide +kernel), by decide, by decide +kernel⟩⟩,
  ⟨fun hd => mk6 fld_1_2 (Or.inl ⟨rfl, by decide⟩) (Or.inl W402) (Or.inl rfl) (hd rfl),
  ⟨fun hd => mk6 fld_4_0 (Or.inl ⟨rfl, by decide⟩) (Or.inr ⟨_, W276⟩) (Or.inl rfl) (hd rfl),
  ⟨fun hd => mk19 mt_4 cf_4 (vf_4_5.rt (Or.inl W602) (hd rfl)) rfl rfl (noH_nil rfl),
  ⟨fun hd => mk34 mt_87 cf_87 (ff_87_11.rt W604 (hd rfl)) rfl rfl,
  ⟨fun hd => mk34 mt_88 cf_88 (ff_88_11.rt W606 (hd rfl)) rfl rfl,
  ⟨fun hd => mk17 kx_27 W922 (hd rfl),
  ⟨fun hd => mk6 fld_1_2 (Or.inl ⟨rfl, by decide⟩) (Or.inl W402) (Or.inl rfl) (hd rfl),
  ⟨fun hd => mk19 mt_289 cf_289 (vf_289_4.rt (Or.inl W923) (hd rfl)) rfl rfl (noH_nil rfl),
  ⟨fun hd => mk19 mt_190 cf_190 (vf_190_1.rt (Or.inl W936) (hd rfl)) rfl rfl (noH_nil rfl),
  ⟨fun hd => mk19 mt_191 cf_191 (vf_191_1.rt (Or.inl W940) (hd rfl)) rfl rfl (noH_nil rfl),
  ⟨fun hd => mk19 mt_190 cf_190 (vf_190_1.rt (Or.inl W936) (hd rfl)) rfl rfl (noH_nil rfl),
  ⟨fun hd => mk19 mt_192 cf_192 (vf_192_1.rt (Or.inl W1017) (hd rfl)) rfl rfl (noH_nil rfl),
  ⟨fun hd => mk19 mt_190 cf_190 (vf_190_1.rt (Or.inl W936) (hd rfl)) rfl rfl (noH_nil rfl),
  ⟨fun hd => mk6 fld_1_6 (Or.inl ⟨rfl, by decide⟩) (Or.inl W406) (Or.inl rfl) (hd rfl),
  ⟨fun hd => mk6 fld_8_1 (Or.inl ⟨rfl, by decide⟩) (Or.inr ⟨_, W349⟩) (Or.inl rfl) (hd rfl),
  ⟨fun hd => mk19 mt_4 cf_4 (vf_4_5.rt (Or.inl W602) (hd rfl)) rfl rfl (noH_nil rfl),
  ⟨fun hd => mk34 mt_87 cf_87 (ff_87_11.rt W604 (hd rfl)) rfl rfl,
  ⟨fun hd => mk34 mt_88 cf_88 (ff_88_11.rt W606 (hd rfl)) rfl rfl,
  ⟨fun hd => mk17 kx_33 W1022 (hd rfl),
  ⟨fun hd => mk6 fld_1_9 (Or.inl ⟨rfl, by decide⟩) (Or.inl W409) (Or.inl rfl) (hd rfl),
  ⟨fun hd => mk19 mt_752 cf_752 (vf_752_33.rt (Or.inl W1023) (hd rfl)) rfl rfl (noH_nil rfl),
  ⟨fun hd => mk19 mt_190 cf_190 (vf_190_1.rt (Or.inl W936) (hd rfl)) rfl rfl (noH_nil rfl),
  trivial⟩⟩⟩⟩⟩⟩⟩⟩⟩⟩⟩⟩⟩⟩⟩⟩⟩⟩⟩⟩⟩⟩⟩
theorem fe_189 : eqEs ((flat code_189).filter (fun e => ndE e.2.2.1)) (fl_189_0) = true := by decide +kernel
theorem om_189 : OKm mi iT prg 189 := OKm_of (code := code_189) rfl mt_189 (Or.inl (by decide +kernel)) rfl wk_189 (by decide +kernel) (by decide +kernel) (FA_of fe_189 (fb_189_0))
def fl_190_0 : List Ent := [(2, 3, 6, .getfield 789, [0, 1, 12], 0), (10, 3, 7, .putfield 789, [0, 1, 12], 0)]
theorem fb_190_0 : FB mi iT mi_190 (bpc code_190) (fl_190_0) := ⟨fun hd => mk6 fld_1_11 (Or.inl ⟨rfl, by decide⟩) (Or.inl W411) (Or.inl rfl) (hd rfl),
  ⟨fun hd => mk7 fld_1_11 (Or.inl W411) (Or.inl rfl) (Or.inl rfl) (hd rfl),
  trivial⟩⟩
theorem fe_190 : eqEs ((flat code_190).filter (fun e => ndE e.2.2.1)) (fl_190_0) = true := by decide +kernel
theorem om_190 : OKm mi iT prg 190 := OKm_of (code := code_190) rfl mt_190 (Or.inl (by decide +kernel)) rfl wk_190 (by decide +kernel) (by decide +kernel) (FA_of fe_190 (fb_190_0))
def fl_191_0 : List Ent := [(1, 27, 5, .tableswitch 71 0 2 #[27, 55, 63], [7, 0, 1, 1, 5, 2, 6], 0), (29, 3, 6, .getfield 82, [3, 1, 4], 0), (33, 3, 19, .invokevirtual 423, [0, 2, 2, 6, 301], 0), (44, 3, 6, .getfield 82, [3, 1, 4], 0), (47, 3, 6, .getfield 475, [3, 6, 24], 0), (52, 3, 6, .getfield 479, [0, 22, 92], 0), (57, 3, 18, .invokestatic 481, [3, 1, 1, 302], 0), (60, 3, 31, .invokevirtual 485, [0, 1, 1, 32, 795, 31, 797, 30, 799, 29, 802, 28, 804, 33, 806], 0), (65, 3, 18, .invokestatic 481, [3, 1, 1, 302], 0), (68, 3, 31, .invokevirtual 490, [0, 1, 1, 32, 796, 31, 798, 30, 800, 29, 803, 28, 805, 33, 807], 0), (73, 3, 6, .getfield 363, [0, 1, 9], 0), (76, 3, 18, .invokestatic 429, [0, 1, 1, 303], 0), (80, 3, 18, .invokestatic 481, [3, 1, 1, 302], 0), (83, 3, 31, .invokevirtual 490, [0, 1, 1, 32, 796, 31, 798, 30, 800, 29, 803, 28, 805, 33, 807], 0)]
theorem fb_191_0 : FB mi iT mi_191 (bpc code_191) (fl_191_0) := ⟨fun hd => ⟨_, _, rfl, Or.inl ⟨71, 0, 2, #[27, 55, 63], 3, 27, (show decode prog_1_method_49_code 1 = .ok (.tableswitch 71 0 2 #[27, 55, 63], 27) by decide +kernel), by decide, by decide +kernel⟩⟩,
  ⟨fun hd => mk6 fld_1_3 (Or.inl ⟨rfl, by decide⟩) (Or.inl W403) (Or.inl rfl) (hd rfl),
  ⟨fun hd => mk19 mt_301 cf_301 (vf_301_6.rt (Or.inl W944) (hd rfl)) rfl rfl (noH_nil rfl),
  ⟨fun hd => mk6 fld_1_3 (Or.inl ⟨rfl, by decide⟩) (Or.inl W403) (Or.inl rfl) (hd rfl),
  ⟨fun hd => mk6 fld_6_0 (Or.inl ⟨rfl, by decide⟩) (Or.inr ⟨_, W297⟩) (Or.inl rfl) (hd rfl),
  ⟨fun hd => mk6 fld_22_0 (Or.inl ⟨rfl, by decide⟩) (Or.inr ⟨_, W2236⟩) (Or.inl rfl) (hd rfl),
  ⟨fun hd => mk18 mt_302 sf_302 (Or.inl W948) rfl rfl (noH_nil rfl) (hd rfl),
  ⟨fun hd => mk31 ⟨pr3 mt_795 cf_795 (ei_795_32_KeelHouse_Spotroom__I.rt W963 (hd rfl)) rfl rfl, ⟨pr3 mt_797 cf_797 (ei_797_31_KeelHouse_Spotroom__I.rt W963 (hd rfl)) rfl rfl, ⟨pr3 mt_799 cf_799 (ei_799_30_KeelHouse_Spotroom__I.rt W963 (hd rfl)) rfl rfl, ⟨pr3 mt_802 cf_802 (ei_802_29_KeelHouse_Spotroom__I.rt W963 (hd rfl)) rfl rfl, ⟨pr3 mt_804 cf_804 (ei_804_28_KeelHouse_Spotroom__I.rt W963 (hd rfl)) rfl rfl, ⟨pr3 mt_806 cf_806 (ei_806_33_KeelHouse_Spotroom__I.rt W963 (hd rfl)) rfl rfl, trivial⟩⟩⟩⟩⟩⟩,
  ⟨fun hd => mk18 mt_302 sf_302 (Or.inl W948) rfl rfl (noH_nil rfl) (hd rfl),
  ⟨fun hd => mk31 ⟨pr3 mt_796 cf_796 (ei_796_32_KeelHouse_Spotdeep__I.rt W984 (hd rfl)) rfl rfl, ⟨pr3 mt_798 cf_798 (ei_798_31_KeelHouse_Spotdeep__I.rt W984 (hd rfl)) rfl rfl, ⟨pr3 mt_800 cf_800 (ei_800_30_KeelHouse_Spotdeep__I.rt W984 (hd rfl)) rfl rfl, ⟨pr3 mt_803 cf_803 (ei_803_29_KeelHouse_Spotdeep__I.rt W984 (hd rfl)) rfl rfl, ⟨pr3 mt_805 cf_805 (ei_805_28_KeelHouse_Spotdeep__I.rt W984 (hd rfl)) rfl rfl, ⟨pr3 mt_807 cf_807 (ei_807_33_KeelHouse_Spotdeep__I.rt W984 (hd rfl)) rfl rfl, trivial⟩⟩⟩⟩⟩⟩,
  ⟨fun hd => mk6 fld_1_8 (Or.inl ⟨rfl, by decide⟩) (Or.inl W408) (Or.inl rfl) (hd rfl),
  ⟨fun hd => mk18 mt_303 sf_303 (Or.inl W1005) rfl rfl (noH_nil rfl) (hd rfl),
  ⟨fun hd => mk18 mt_302 sf_302 (Or.inl W948) rfl rfl (noH_nil rfl) (hd rfl),
  ⟨fun hd => mk31 ⟨pr3 mt_796 cf_796 (ei_796_32_KeelHouse_Spotdeep__I.rt W984 (hd rfl)) rfl rfl, ⟨pr3 mt_798 cf_798 (ei_798_31_KeelHouse_Spotdeep__I.rt W984 (hd rfl)) rfl rfl, ⟨pr3 mt_800 cf_800 (ei_800_30_KeelHouse_Spotdeep__I.rt W984 (hd rfl)) rfl rfl, ⟨pr3 mt_803 cf_803 (ei_803_29_KeelHouse_Spotdeep__I.rt W984 (hd rfl)) rfl rfl, ⟨pr3 mt_805 cf_805 (ei_805_28_KeelHouse_Spotdeep__I.rt W984 (hd rfl)) rfl rfl, ⟨pr3 mt_807 cf_807 (ei_807_33_KeelHouse_Spotdeep__I.rt W984 (hd rfl)) rfl rfl, trivial⟩⟩⟩⟩⟩⟩,
  trivial⟩⟩⟩⟩⟩⟩⟩⟩⟩⟩⟩⟩⟩⟩
theorem fe_191 : eqEs ((flat code_191).filter (fun e => ndE e.2.2.1)) (fl_191_0) = true := by decide +kernel
theorem om_191 : OKm mi iT prg 191 := OKm_of (code := code_191) rfl mt_191 (Or.inl (by decide +kernel)) rfl wk_191 (by decide +kernel) (by decide +kernel) (FA_of fe_191 (fb_191_0))
def fl_192_0 : List Ent := [(1, 67, 5, .tableswitch 162 0 12 #[67, 72, 77, 85, 93, 93, 93, 105, 113, 124, 135, 146, 154], [12, 0, 1, 1, 2, 2, 3, 3, 4, 4, 5, 5, 5, 6, 5, 7, 6, 8, 7, 9, 8, 10, 9, 11, 10, 12, 11], 0), (69, 3, 6, .getfield 363, [0, 1, 9], 0), (74, 3, 6, .getfield 120, [0, 1, 10], 0), (79, 3, 6, .getfield 363, [0, 1, 9], 0), (82, 3, 18, .invokestatic 429, [0, 1, 1, 303], 0), (87, 3, 6, .getfield 98, [3, 1, 6], 0), (90, 3, 6, .getfield 582, [0, 7, 27], 0), (95, 3, 6, .getfield 98, [3, 1, 6], 0), (98, 3, 6, .getfield 507, [3, 7, 26], 0), (107, 3, 6, .getfield 89, [3, 1, 5], 0), (110, 3, 19, .invokevirtual 124, [0, 1, 1, 5, 5], 0), (115, 3, 6, .getfield 75, [3, 1, 3], 0), (118, 3, 6, .getfield 330, [3, 4, 18], 0), (121, 3, 19, .invokevirtual 124, [0, 1, 1, 5, 5], 0), (126, 3, 6, .getfield 75, [3, 1, 3], 0), (129, 3, 6, .getfield 585, [3, 4, 20], 0), (132, 3, 19, .invokevirtual 124, [0, 1, 1, 5, 5], 0), (137, 3, 6, .getfield 75, [3, 1, 3], 0), (140, 3, 6, .getfield 358, [3, 4, 19], 0), (143, 3, 19, .invokevirtual 124, [0, 1, 1, 5, 5], 0), (148, 3, 6, .getfield 98, [3, 1, 6], 0), (151, 3, 6, .getfield 588, [0, 7, 28], 0), (156, 3, 6, .getfield 98, [3, 1, 6], 0), (159, 3, 6, .getfield 591, [0, 7, 29], 0), (164, 3, 6, .getfield 98, [3, 1, 6], 0), (167, 3, 6, .getfield 594, [0, 7, 30], 0)]
theorem fb_192_0 : FB mi iT mi_192 (bpc code_192) (fl_192_0) := ⟨fun hd => ⟨_, _, rfl, Or.inl ⟨162, 0, 12, #[67, 72, 77, 85, 93, 93, 93, 105, 113, 124, 135, 146, 154], 13, 67, (show decode prog_1_method_59_code 1 = .ok (.tableswitch 162 0 12 #[67, 72, 77, 85, 93, 93, 93, 105, 113, 124, 135, 146, 154], 67) by decide +kernel), by decide, by decide +kernel⟩⟩,
  ⟨fun hd => mk6 fld_1_8 (Or.inl ⟨rfl, by decide⟩) (Or.inl W408) (Or.inl rfl) (hd rfl),
  ⟨fun hd => mk6 fld_1_9 (Or.inl ⟨rfl, by decide⟩) (Or.inl W409) (Or.inl rfl) (hd rfl),
  ⟨fun hd => mk6 fld_1_8 (Or.inl ⟨rfl, by decide⟩) (Or.inl W408) (Or.inl rfl) (hd rfl),
  ⟨fun hd => mk18 mt_303 sf_303 (Or.inl W1005) rfl rfl (noH_nil rfl) (hd rfl),
  ⟨fun hd => mk6 fld_1_5 (Or.inl ⟨rfl, by decide⟩) (Or.inl W405) (Or.inl rfl) (hd rfl),
  ⟨fun hd => mk6 fld_7_2 (Or.inl ⟨rfl, by decide⟩) (Or.inr ⟨_, W313⟩) (Or.inl rfl) (hd rfl),
  ⟨fun hd => mk6 fld_1_5 (Or.inl ⟨rfl, by decide⟩) (Or.inl W405) (Or.inl rfl) (hd rfl),
  ⟨fun hd => mk6 fld_7_1 (Or.inl ⟨rfl, by decide⟩) (Or.inr ⟨_, W311⟩) (Or.inl rfl) (hd rfl),
  ⟨fun hd => mk6 fld_1_4 (Or.inl ⟨rfl, by decide⟩) (Or.inl W404) (Or.inl rfl) (hd rfl),
  ⟨fun hd => mk19 mt_5 cf_5 (vf_5_5.rt (Or.inl W1021) (hd rfl)) rfl rfl (noH_nil rfl),
  ⟨fun hd => mk6 fld_1_2 (Or.inl ⟨rfl, by decide⟩) (Or.inl W402) (Or.inl rfl) (hd rfl),
  ⟨fun hd => mk6 fld_4_0 (Or.inl ⟨rfl, by decide⟩) (Or.inr ⟨_, W276⟩) (Or.inl rfl) (hd rfl),
  ⟨fun hd => mk19 mt_5 cf_5 (vf_5_5.rt (Or.inl W1021) (hd rfl)) rfl rfl (noH_nil rfl),
  ⟨fun hd => mk6 fld_1_2 (Or.inl ⟨rfl, by decide⟩) (Or.inl W402) (Or.inl rfl) (hd rfl),
  ⟨fun hd => mk6 fld_4_2 (Or.inl ⟨rfl, by decide⟩) (Or.inr ⟨_, W280⟩) (Or.inl rfl) (hd rfl),
  ⟨fun hd => mk19 mt_5 cf_5 (vf_5_5.rt (Or.inl W1021) (hd rfl)) rfl rfl (noH_nil rfl),
  ⟨fun hd => mk6 fld_1_2 (Or.inl ⟨rfl, by decide⟩) (Or.inl W402) (Or.inl rfl) (hd rfl),
  ⟨fun hd => mk6 fld_4_1 (Or.inl ⟨rfl, by decide⟩) (Or.inr ⟨_, W278⟩) (Or.inl rfl) (hd rfl),
  ⟨fun hd => mk19 mt_5 cf_5 (vf_5_5.rt (Or.inl W1021) (hd rfl)) rfl rfl (noH_nil rfl),
  ⟨fun hd => mk6 fld_1_5 (Or.inl ⟨rfl, by decide⟩) (Or.inl W405) (Or.inl rfl) (hd rfl),
  ⟨fun hd => mk6 fld_7_3 (Or.inl ⟨rfl, by decide⟩) (Or.inr ⟨_, W315⟩) (Or.inl rfl) (hd rfl),
  ⟨fun hd => mk6 fld_1_5 (Or.inl ⟨rfl, by decide⟩) (Or.inl W405) (Or.inl rfl) (hd rfl),
  ⟨fun hd => mk6 fld_7_4 (Or.inl ⟨rfl, by decide⟩) (Or.inr ⟨_, W317⟩) (Or.inl rfl) (hd rfl),
  ⟨fun hd => mk6 fld_1_5 (Or.inl ⟨rfl, by decide⟩) (Or.inl W405) (Or.inl rfl) (hd rfl),
  ⟨fun hd => mk6 fld_7_5 (Or.inl ⟨rfl, by decide⟩) (Or.inr ⟨_, W319⟩) (Or.inl rfl) (hd rfl),
  trivial⟩⟩⟩⟩⟩⟩⟩⟩⟩⟩⟩⟩⟩⟩⟩⟩⟩⟩⟩⟩⟩⟩⟩⟩⟩⟩
theorem fe_192 : eqEs ((flat code_192).filter (fun e => ndE e.2.2.1)) (fl_192_0) = true := by decide +kernel
theorem om_192 : OKm mi iT prg 192 := OKm_of (code := code_192) rfl mt_192 (Or.inl (by decide +kernel)) rfl wk_192 (by decide +kernel) (by decide +kernel) (FA_of fe_192 (fb_192_0))
def fl_193_0 : List Ent := [(1, 51, 5, .tableswitch 334 1 9 #[51, 101, 146, 334, 201, 226, 264, 293, 304], [37, 1, 1, 2, 8, 3, 12, 4, 37, 5, 19, 6, 23, 7, 28, 8, 32, 9, 33], 0), (62, 3, 18, .invokestatic 201, [0, 2, 2, 194], 0), (65, 3, 19, .invokevirtual 792, [9, 2, 2, 1, 190], 0), (87, 3, 18, .invokestatic 201, [0, 2, 2, 194], 0), (90, 3, 19, .invokevirtual 792, [9, 2, 2, 1, 190], 0), (111, 3, 15, .ldc2_w 795, [4634204016564240384], 0), (115, 3, 6, .getfield 255, [3, 22, 99], 0), (119, 3, 19, .invokevirtual 259, [2, 2, 2, 17, 546], 0), (124, 3, 19, .invokevirtual 792, [9, 2, 2, 1, 190], 0), (135, 3, 6, .getfield 265, [3, 22, 100], 0), (138, 3, 19, .invokevirtual 283, [0, 1, 1, 18, 556], 0), (141, 3, 19, .invokevirtual 792, [9, 2, 2, 1, 190], 0), (169, 3, 18, .invokestatic 310, [0, 3, 3, 195], 0), (172, 3, 19, .invokevirtual 792, [9, 2, 2, 1, 190], 0), (189, 3, 6, .getfield 298, [3, 22, 101], 0), (193, 3, 19, .invokevirtual 323, [0, 2, 2, 19, 564], 0), (196, 3, 19, .invokevirtual 792, [9, 2, 2, 1, 190], 0), (212, 3, 18, .invokestatic 501, [0, 2, 2, 197], 0), (215, 3, 19, .invokevirtual 792, [9, 2, 2, 1, 190], 0), (235, 3, 6, .getfield 415, [3, 22, 102], 0), (238, 3, 6, .getfield 569, [0, 12, 50], 0), (246, 3, 6, .getfield 415, [3, 22, 102], 0), (250, 3, 19, .invokevirtual 579, [0, 2, 2, 12, 613], 0), (253, 3, 19, .invokevirtual 792, [9, 2, 2, 1, 190], 0), (275, 3, 6, .getfield 603, [3, 22, 97], 0), (279, 3, 19, .invokevirtual 659, [0, 2, 2, 20, 524], 0), (282, 3, 19, .invokevirtual 792, [9, 2, 2, 1, 190], 0), (296, 3, 18, .invokestatic 685, [0, 1, 1, 199], 0), (299, 3, 19, .invokevirtual 792, [9, 2, 2, 1, 190], 0), (315, 3, 6, .getfield 116, [3, 1, 8], 0)]
theorem fb_193_0 : FB mi iT mi_193 (bpc code_193) (fl_193_0) := ⟨fun hd => ⟨_, _, rfl, Or.inl ⟨334, 1, 9, #[51, 101, 146, 334, 201, 226, 264, 293, 304], 9, 51, (show decode prog_1_method_88_code 1 = .ok (.tableswitch 334 1 9 #[51, 101, 146, 334, 201, 226, 264, 293, 304], 51) by decide +kernel), by decide, by decide +kernel⟩⟩,
  ⟨fun hd => mk18 mt_194 sf_194 (Or.inl W1041) rfl rfl (noH_nil rfl) (hd rfl),
  ⟨fun hd => mk19 mt_190 cf_190 (vf_190_1.rt (Or.inl W936) (hd rfl)) rfl rfl (noH_nil rfl),
  ⟨fun hd => mk18 mt_194 sf_194 (Or.inl W1041) rfl rfl (noH_nil rfl) (hd rfl),
  ⟨fun hd => mk19 mt_190 cf_190 (vf_190_1.rt (Or.inl W936) (hd rfl)) rfl rfl (noH_nil rfl),
  ⟨fun hd => mk15 W1063 (hd rfl),
  ⟨fun hd => mk6 fld_22_7 (Or.inl ⟨rfl, by decide⟩) (Or.inr ⟨_, W2276⟩) (Or.inl rfl) (hd rfl),
  ⟨fun hd => mk19 mt_546 cf_546 (vf_546_17.rt (Or.inl W1064) (hd rfl)) rfl rfl (noH_nil rfl),
  ⟨fun hd => mk19 mt_190 cf_190 (vf_190_1.rt (Or.inl W936) (hd rfl)) rfl rfl (noH_nil rfl),
  ⟨fun hd => mk6 fld_22_8 (Or.inl ⟨rfl, by decide⟩) (Or.inr ⟨_, W2280⟩) (Or.inl rfl) (hd rfl),
  ⟨fun hd => mk19 mt_556 cf_556 (vf_556_18.rt (Or.inl W1356) (hd rfl)) rfl rfl (noH_nil rfl),
  ⟨fun hd => mk19 mt_190 cf_190 (vf_190_1.rt (Or.inl W936) (hd rfl)) rfl rfl (noH_nil rfl),
  ⟨fun hd => mk18 mt_195 sf_195 (Or.inl W1393) rfl rfl (noH_nil rfl) (hd rfl),
  ⟨fun hd => mk19 mt_190 cf_190 (vf_190_1.rt (Or.inl W936) (hd rfl)) rfl rfl (noH_nil rfl),
  ⟨fun hd => mk6 fld_22_9 (Or.inl ⟨rfl, by decide⟩) (Or.inr ⟨_, W2284⟩) (Or.inl rfl) (hd rfl),
  ⟨fun hd => mk19 mt_564 cf_564 (vf_564_19.rt (Or.inl W1400) (hd rfl)) rfl rfl (noH_nil rfl),
  ⟨fun hd => mk19 mt_190 cf_190 (vf_190_1.rt (Or.inl W936) (hd rfl)) rfl rfl (noH_nil rfl),
  ⟨fun hd => mk18 mt_197 sf_197 (Or.inl W1504) rfl rfl (noH_nil rfl) (hd rfl),
  ⟨fun hd => mk19 mt_190 cf_190 (vf_190_1.rt (Or.inl W936) (hd rfl)) rfl rfl (noH_nil rfl),
  ⟨fun hd => mk6 fld_22_10 (Or.inl ⟨rfl, by decide⟩) (Or.inr ⟨_, W2288⟩) (Or.inl rfl) (hd rfl),
  ⟨fun hd => mk6 fld_12_3 (Or.inr ⟨rfl, Or.inl rfl⟩) (Or.inr ⟨_, W2222⟩) (Or.inl rfl) (hd rfl),
  ⟨fun hd => mk6 fld_22_10 (Or.inl ⟨rfl, by decide⟩) (Or.inr ⟨_, W2288⟩) (Or.inl rfl) (hd rfl),
  ⟨fun hd => mk19 mt_613 cf_613 (vf_613_12.rt (Or.inl W1534) (hd rfl)) rfl rfl (noH_nil rfl),
  ⟨fun hd => mk19 mt_190 cf_190 (vf_190_1.rt (Or.inl W936) (hd rfl)) rfl rfl (noH_nil rfl),
  ⟨fun hd => mk6 fld_22_5 (Or.inl ⟨rfl, by decide⟩) (Or.inr ⟨_, W2264⟩) (Or.inl rfl) (hd rfl),
  ⟨fun hd => mk19 mt_524 cf_524 (vf_524_20.rt (Or.inl W1573) (hd rfl)) rfl rfl (noH_nil rfl),
  ⟨fun hd => mk19 mt_190 cf_190 (vf_190_1.rt (Or.inl W936) (hd rfl)) rfl rfl (noH_nil rfl),
  ⟨fun hd => mk18 mt_199 sf_199 (Or.inl W1605) rfl rfl (noH_nil rfl) (hd rfl),
  ⟨fun hd => mk19 mt_190 cf_190 (vf_190_1.rt (Or.inl W936) (hd rfl)) rfl rfl (noH_nil rfl),
  ⟨fun hd => mk6 fld_1_7 (Or.inl ⟨rfl, by decide⟩) (Or.inl W407) (Or.inl rfl) (hd rfl),
  trivial⟩⟩⟩⟩⟩⟩⟩⟩⟩⟩⟩⟩⟩⟩⟩⟩⟩⟩⟩⟩⟩⟩⟩⟩⟩⟩⟩⟩⟩⟩
def fl_193_1 : List Ent := [(320, 3, 19, .invokevirtual 764, [0, 3, 3, 9, 343], 0), (323, 3, 19, .invokevirtual 792, [9, 2, 2, 1, 190], 0)]
theorem fb_193_1 : FB mi iT mi_193 (bpc code_193) (fl_193_1) := ⟨fun hd => mk19 mt_343 cf_343 (vf_343_9.rt (Or.inl W1715) (hd rfl)) rfl rfl (noH_nil rfl),
  ⟨fun hd => mk19 mt_190 cf_190 (vf_190_1.rt (Or.inl W936) (hd rfl)) rfl rfl (noH_nil rfl),
  trivial⟩⟩
theorem fe_193 : eqEs ((flat code_193).filter (fun e => ndE e.2.2.1)) (fl_193_0 ++ (fl_193_1)) = true := by decide +kernel
theorem om_193 : OKm mi iT prg 193 := OKm_of (code := code_193) rfl mt_193 (Or.inl (by decide +kernel)) rfl wk_193 (by decide +kernel) (by decide +kernel) (FA_of fe_193 (FB_app fb_193_0 (fb_193_1)))
def fl_194_0 : List Ent := [(1, 31, 5, .tableswitch 63 0 3 #[31, 39, 47, 55], [5, 0, 1, 1, 2, 2, 3, 3, 4], 0), (33, 3, 6, .getfield 174, [3, 22, 93], 0), (36, 3, 6, .getfield 185, [0, 16, 62], 0), (41, 3, 6, .getfield 174, [3, 22, 93], 0), (44, 3, 6, .getfield 188, [0, 16, 63], 0), (49, 3, 6, .getfield 174, [3, 22, 93], 0), (52, 3, 6, .getfield 191, [0, 16, 64], 0), (57, 3, 6, .getfield 165, [3, 22, 105], 0), (60, 3, 31, .invokevirtual 194, [0, 1, 1, 15, 582, 16, 582, 19, 582, 24, 582, 18, 582, 25, 582], 0), (65, 3, 6, .getfield 174, [3, 22, 93], 0), (68, 3, 6, .getfield 197, [3, 16, 65], 0)]
theorem fb_194_0 : FB mi iT mi_194 (bpc code_194) (fl_194_0) := ⟨fun hd => ⟨_, _, rfl, Or.inl ⟨63, 0, 3, #[31, 39, 47, 55], 4, 31, (show decode prog_1_method_19_code 1 = .ok (.tableswitch 63 0 3 #[31, 39, 47, 55], 31) by decide +kernel), by decide, by decide +kernel⟩⟩,
  ⟨fun hd => mk6 fld_22_1 (Or.inl ⟨rfl, by decide⟩) (Or.inr ⟨_, W2250⟩) (Or.inl rfl) (hd rfl),
  ⟨fun hd => mk6 fld_16_0 (Or.inl ⟨rfl, by decide⟩) (Or.inr ⟨_, W1897⟩) (Or.inl rfl) (hd rfl),
  ⟨fun hd => mk6 fld_22_1 (Or.inl ⟨rfl, by decide⟩) (Or.inr ⟨_, W2250⟩) (Or.inl rfl) (hd rfl),
  ⟨fun hd => mk6 fld_16_1 (Or.inl ⟨rfl, by decide⟩) (Or.inr ⟨_, W1908⟩) (Or.inl rfl) (hd rfl),
  ⟨fun hd => mk6 fld_22_1 (Or.inl ⟨rfl, by decide⟩) (Or.inr ⟨_, W2250⟩) (Or.inl rfl) (hd rfl),
  ⟨fun hd => mk6 fld_16_2 (Or.inl ⟨rfl, by decide⟩) (Or.inr ⟨_, W1917⟩) (Or.inl rfl) (hd rfl),
  ⟨fun hd => mk6 fld_22_13 (Or.inl ⟨rfl, by decide⟩) (Or.inr ⟨_, W2297⟩) (Or.inl rfl) (hd rfl),
  ⟨fun hd => mk31 ⟨pr3 mt_582 cf_582 (ev_582_15.rt (Or.inl W1044) (hd rfl)) rfl rfl, ⟨pr3 mt_582 cf_582 (ev_582_16.rt (Or.inl W1044) (hd rfl)) rfl rfl, ⟨pr3 mt_582 cf_582 (ev_582_19.rt (Or.inl W1044) (hd rfl)) rfl rfl, ⟨pr3 mt_582 cf_582 (ev_582_24.rt (Or.inl W1044) (hd rfl)) rfl rfl, ⟨pr3 mt_582 cf_582 (ev_582_18.rt (Or.inl W1044) (hd rfl)) rfl rfl, ⟨pr3 mt_582 cf_582 (ev_582_25.rt (Or.inl W1044) (hd rfl)) rfl rfl, trivial⟩⟩⟩⟩⟩⟩,
  ⟨fun hd => mk6 fld_22_1 (Or.inl ⟨rfl, by decide⟩) (Or.inr ⟨_, W2250⟩) (Or.inl rfl) (hd rfl),
  ⟨fun hd => mk6 fld_16_3 (Or.inl ⟨rfl, by decide⟩) (Or.inr ⟨_, W1919⟩) (Or.inl rfl) (hd rfl),
  trivial⟩⟩⟩⟩⟩⟩⟩⟩⟩⟩⟩
theorem fe_194 : eqEs ((flat code_194).filter (fun e => ndE e.2.2.1)) (fl_194_0) = true := by decide +kernel
theorem om_194 : OKm mi iT prg 194 := OKm_of (code := code_194) rfl mt_194 (Or.inl (by decide +kernel)) rfl wk_194 (by decide +kernel) (by decide +kernel) (FA_of fe_194 (fb_194_0))
def fl_195_0 : List Ent := [(5, 3, 19, .invokevirtual 286, [3, 3, 3, 22, 487], 0), (15, 3, 6, .getfield 290, [0, 23, 122], 0), (22, 3, 6, .getfield 307, [0, 23, 123], 0)]
theorem fb_195_0 : FB mi iT mi_195 (bpc code_195) (fl_195_0) := ⟨fun hd => mk19 mt_487 cf_487 (vf_487_22.rt (Or.inl W1396) (hd rfl)) rfl rfl (noH_nil rfl),
  ⟨fun hd => mk6 fld_23_3 (Or.inl ⟨rfl, by decide⟩) (Or.inr ⟨_, W2084⟩) (Or.inl rfl) (hd rfl),
  ⟨fun hd => mk6 fld_23_4 (Or.inl ⟨rfl, by decide⟩) (Or.inr ⟨_, W2086⟩) (Or.inl rfl) (hd rfl),
  trivial⟩⟩⟩
theorem fe_195 : eqEs ((flat code_195).filter (fun e => ndE e.2.2.1)) (fl_195_0) = true := by decide +kernel
theorem om_195 : OKm mi iT prg 195 := OKm_of (code := code_195) rfl mt_195 (Or.inl (by decide +kernel)) rfl wk_195 (by decide +kernel) (by decide +kernel) (FA_of fe_195 (fb_195_0))
def fl_196_0 : List Ent := [(4, 3, 13, .getstatic 31, [9], 0), (15, 3, 13, .getstatic 37, [10], 0), (21, 3, 13, .getstatic 40, [11], 0)]
theorem fb_196_0 : FB mi iT mi_196 (bpc code_196) (fl_196_0) := ⟨fun hd => mk13s (by decide) rfl (Or.inl W1450) (Or.inl rfl) (hd rfl),
  ⟨fun hd => mk13s (by decide) rfl (Or.inl W1452) (Or.inl rfl) (hd rfl),
  ⟨fun hd => mk13s (by decide) rfl (Or.inl W1454) (Or.inl rfl) (hd rfl),
  trivial⟩⟩⟩
theorem fe_196 : eqEs ((flat code_196).filter (fun e => ndE e.2.2.1)) (fl_196_0) = true := by decide +kernel
theorem om_196 : OKm mi iT prg 196 := OKm_of (code := code_196) rfl mt_196 (Or.inl (by decide +kernel)) rfl wk_196 (by decide +kernel) (by decide +kernel) (FA_of fe_196 (fb_196_0))
def fl_197_0 : List Ent := [(5, 3, 6, .getfield 436, [0, 22, 109], 0), (17, 3, 6, .getfield 472, [0, 22, 110], 0), (24, 3, 18, .invokestatic 497, [0, 1, 1, 307], 0)]
theorem fb_197_0 : FB mi iT mi_197 (bpc code_197) (fl_197_0) := ⟨fun hd => mk6 fld_22_17 (Or.inl ⟨rfl, by decide⟩) (Or.inr ⟨_, W2310⟩) (Or.inl rfl) (hd rfl),
  ⟨fun hd => mk6 fld_22_18 (Or.inl ⟨rfl, by decide⟩) (Or.inr ⟨_, W2314⟩) (Or.inl rfl) (hd rfl),
  ⟨fun hd => mk18 mt_307 sf_307 (Or.inl W1507) rfl rfl (noH_nil rfl) (hd rfl),
  trivial⟩⟩⟩
theorem fe_197 : eqEs ((flat code_197).filter (fun e => ndE e.2.2.1)) (fl_197_0) = true := by decide +kernel
theorem om_197 : OKm mi iT prg 197 := OKm_of (code := code_197) rfl mt_197 (Or.inl (by decide +kernel)) rfl wk_197 (by decide +kernel) (by decide +kernel) (FA_of fe_197 (fb_197_0))
theorem fe_198 : eqEs ((flat code_198).filter (fun e => ndE e.2.2.1)) ([]) = true := by decide +kernel
theorem om_198 : OKm mi iT prg 198 := OKm_of (code := code_198) rfl mt_198 (Or.inl (by decide +kernel)) rfl wk_198 (by decide +kernel) (by decide +kernel) (FA_of fe_198 (trivial))
def fl_199_0 : List Ent := [(12, 3, 18, .invokestatic 43, [3, 1, 1, 756], 0), (16, 3, 31, .invokevirtual 49, [0, 2, 2, 64, 757, 63, 757, 62, 757, 61, 757, 60, 757, 59, 757, 58, 757, 65, 757], 0)]
theorem fb_199_0 : FB mi iT mi_199 (bpc code_199) (fl_199_0) := ⟨fun hd => mk18 mt_756 sf_756 (Or.inl W1608) rfl rfl (noH_nil rfl) (hd rfl),
  ⟨fun hd => mk31 ⟨pr3 mt_757 cf_757 (ev_757_64.rt (Or.inl W1627) (hd rfl)) rfl rfl, ⟨pr3 mt_757 cf_757 (ev_757_63.rt (Or.inl W1627) (hd rfl)) rfl rfl, ⟨pr3 mt_757 cf_757 (ev_757_62.rt (Or.inl W1627) (hd rfl)) rfl rfl, ⟨pr3 mt_757 cf_757 (ev_757_61.rt (Or.inl W1627) (hd rfl)) rfl rfl, ⟨pr3 mt_757 cf_757 (ev_757_60.rt (Or.inl W1627) (hd rfl)) rfl rfl, ⟨pr3 mt_757 cf_757 (ev_757_59.rt (Or.inl W1627) (hd rfl)) rfl rfl, ⟨pr3 mt_757 cf_757 (ev_757_58.rt (Or.inl W1627) (hd rfl)) rfl rfl, ⟨pr3 mt_757 cf_757 (ev_757_65.rt (Or.inl W1627) (hd rfl)) rfl rfl, trivial⟩⟩⟩⟩⟩⟩⟩⟩,
  trivial⟩⟩
theorem fe_199 : eqEs ((flat code_199).filter (fun e => ndE e.2.2.1)) (fl_199_0) = true := by decide +kernel
theorem om_199 : OKm mi iT prg 199 := OKm_of (code := code_199) rfl mt_199 (Or.inl (by decide +kernel)) rfl wk_199 (by decide +kernel) (by decide +kernel) (FA_of fe_199 (fb_199_0))
def fl_200_0 : List Ent := [(7, 3, 6, .getfield 116, [3, 1, 8], 0), (10, 3, 6, .getfield 714, [3, 9, 37], 0), (13, 3, 19, .invokevirtual 517, [3, 1, 1, 5, 4], 0), (18, 5, 34, .invokeinterface 521 1, [0, 1, 1, 11, 87], 0), (27, 5, 34, .invokeinterface 526 1, [3, 1, 1, 11, 88], 0), (32, 3, 17, .checkcast 717, [35], 0), (49, 3, 19, .invokevirtual 766, [0, 2, 2, 35, 761], 0), (52, 3, 19, .invokevirtual 792, [9, 2, 2, 1, 190], 0), (80, 3, 6, .getfield 68, [3, 1, 2], 0), (87, 3, 19, .invokevirtual 783, [0, 4, 4, 3, 283], 0), (90, 3, 19, .invokevirtual 792, [9, 2, 2, 1, 190], 0), (101, 3, 6, .getfield 68, [3, 1, 2], 0), (104, 3, 6, .getfield 786, [0, 3, 17], 0), (107, 3, 19, .invokevirtual 792, [9, 2, 2, 1, 190], 0)]
theorem fb_200_0 : FB mi iT mi_200 (bpc code_200) (fl_200_0) := ⟨fun hd => mk6 fld_1_7 (Or.inl ⟨rfl, by decide⟩) (Or.inl W407) (Or.inl rfl) (hd rfl),
  ⟨fun hd => mk6 fld_9_2 (Or.inl ⟨rfl, by decide⟩) (Or.inr ⟨_, W388⟩) (Or.inl rfl) (hd rfl),
  ⟨fun hd => mk19 mt_4 cf_4 (vf_4_5.rt (Or.inl W602) (hd rfl)) rfl rfl (noH_nil rfl),
  ⟨fun hd => mk34 mt_87 cf_87 (ff_87_11.rt W604 (hd rfl)) rfl rfl,
  ⟨fun hd => mk34 mt_88 cf_88 (ff_88_11.rt W606 (hd rfl)) rfl rfl,
  ⟨fun hd => mk17 kx_35 W1729 (hd rfl),
  ⟨fun hd => mk19 mt_761 cf_761 (vf_761_35.rt (Or.inl W1730) (hd rfl)) rfl rfl (noH_nil rfl),
  ⟨fun hd => mk19 mt_190 cf_190 (vf_190_1.rt (Or.inl W936) (hd rfl)) rfl rfl (noH_nil rfl),
  ⟨fun hd => mk6 fld_1_1 (Or.inl ⟨rfl, by decide⟩) (Or.inl W401) (Or.inl rfl) (hd rfl),
  ⟨fun hd => mk19 mt_283 cf_283 (vf_283_3.rt (Or.inl W1735) (hd rfl)) rfl rfl (noH_nil rfl),
  ⟨fun hd => mk19 mt_190 cf_190 (vf_190_1.rt (Or.inl W936) (hd rfl)) rfl rfl (noH_nil rfl),
  ⟨fun hd => mk6 fld_1_1 (Or.inl ⟨rfl, by decide⟩) (Or.inl W401) (Or.inl rfl) (hd rfl),
  ⟨fun hd => mk6 fld_3_2 (Or.inl ⟨rfl, by decide⟩) (Or.inr ⟨_, W231⟩) (Or.inl rfl) (hd rfl),
  ⟨fun hd => mk19 mt_190 cf_190 (vf_190_1.rt (Or.inl W936) (hd rfl)) rfl rfl (noH_nil rfl),
  trivial⟩⟩⟩⟩⟩⟩⟩⟩⟩⟩⟩⟩⟩⟩
theorem fe_200 : eqEs ((flat code_200).filter (fun e => ndE e.2.2.1)) (fl_200_0) = true := by decide +kernel
theorem om_200 : OKm mi iT prg 200 := OKm_of (code := code_200) rfl mt_200 (Or.inl (by decide +kernel)) rfl wk_200 (by decide +kernel) (by decide +kernel) (FA_of fe_200 (fb_200_0))
def fl_201_0 : List Ent := [(2, 3, 6, .getfield 840, [1, 1, 13], 0), (5, 3, 16, .ldc2_w 843, [31], 0), (12, 3, 7, .putfield 840, [1, 1, 13], 0)]
theorem fb_201_0 : FB mi iT mi_201 (bpc code_201) (fl_201_0) := ⟨fun hd => mk6 fld_1_12 (Or.inl ⟨rfl, by decide⟩) (Or.inl W412) (Or.inl rfl) (hd rfl),
  ⟨fun hd => mk16c W1740 (hd rfl),
  ⟨fun hd => mk7 fld_1_12 (Or.inl W412) (Or.inl rfl) (Or.inl rfl) (hd rfl),
  trivial⟩⟩⟩
theorem fe_201 : eqEs ((flat code_201).filter (fun e => ndE e.2.2.1)) (fl_201_0) = true := by decide +kernel
theorem om_201 : OKm mi iT prg 201 := OKm_of (code := code_201) rfl mt_201 (Or.inl (by decide +kernel)) rfl wk_201 (by decide +kernel) (by decide +kernel) (FA_of fe_201 (fb_201_0))
def fl_202_0 : List Ent := [(3, 3, 18, .invokestatic 138, [0, 3, 3, 203], 0), (14, 3, 18, .invokestatic 138, [0, 3, 3, 203], 0), (24, 3, 18, .invokestatic 138, [0, 3, 3, 203], 0), (36, 3, 18, .invokestatic 138, [0, 3, 3, 203], 0), (47, 3, 18, .invokestatic 142, [9, 1, 1, 204], 0), (51, 3, 6, .getfield 89, [3, 1, 5], 0), (54, 3, 19, .invokevirtual 124, [0, 1, 1, 5, 5], 0), (66, 3, 18, .invokestatic 146, [9, 1, 1, 205], 0), (70, 3, 6, .getfield 89, [3, 1, 5], 0), (73, 3, 11, .new 136, [22, 27], 0), (78, 3, 6, .getfield 89, [3, 1, 5], 0), (81, 3, 19, .invokevirtual 124, [0, 1, 1, 5, 5], 0), (84, 3, 11, .new 149, [16, 5], 0), (93, 3, 36, .invokespecial 151, [9, 5, 5, 16, 516], 0), (96, 3, 36, .invokespecial 154, [9, 3, 3, 22, 488], 0), (99, 3, 19, .invokevirtual 157, [0, 2, 2, 5, 8], 0), (104, 3, 6, .getfield 89, [3, 1, 5], 0), (107, 3, 19, .invokevirtual 124, [0, 1, 1, 5, 5], 0)]
theorem fb_202_0 : FB mi iT mi_202 (bpc code_202) (fl_202_0) := ⟨fun hd => mk18 mt_203 sf_203 (Or.inl W1766) rfl rfl (noH_nil rfl) (hd rfl),
  ⟨fun hd => mk18 mt_203 sf_203 (Or.inl W1766) rfl rfl (noH_nil rfl) (hd rfl),
  ⟨fun hd => mk18 mt_203 sf_203 (Or.inl W1766) rfl rfl (noH_nil rfl) (hd rfl),
  ⟨fun hd => mk18 mt_203 sf_203 (Or.inl W1766) rfl rfl (noH_nil rfl) (hd rfl),
  ⟨fun hd => mk18 mt_204 sf_204 (Or.inl W1769) rfl rfl (noH_nil rfl) (hd rfl),
  ⟨fun hd => mk6 fld_1_4 (Or.inl ⟨rfl, by decide⟩) (Or.inl W404) (Or.inl rfl) (hd rfl),
  ⟨fun hd => mk19 mt_5 cf_5 (vf_5_5.rt (Or.inl W1021) (hd rfl)) rfl rfl (noH_nil rfl),
  ⟨fun hd => mk18 mt_205 sf_205 (Or.inl W1793) rfl rfl (noH_nil rfl) (hd rfl),
  ⟨fun hd => mk6 fld_1_4 (Or.inl ⟨rfl, by decide⟩) (Or.inl W404) (Or.inl rfl) (hd rfl),
  ⟨fun hd => mk11 nf_22 W607 (hd rfl),
  ⟨fun hd => mk6 fld_1_4 (Or.inl ⟨rfl, by decide⟩) (Or.inl W404) (Or.inl rfl) (hd rfl),
  ⟨fun hd => mk19 mt_5 cf_5 (vf_5_5.rt (Or.inl W1021) (hd rfl)) rfl rfl (noH_nil rfl),
  ⟨fun hd => mk11 nf_16 W1812 (hd rfl),
  ⟨fun hd => mk36 mt_516 cf_516 (ic_516.rt (Or.inl W1813) (hd rfl)) rfl rfl,
  ⟨fun hd => mk36 mt_488 cf_488 (ic_488.rt (Or.inl W1933) (hd rfl)) rfl rfl,
  ⟨fun hd => mk19 mt_8 cf_8 (vf_8_5.rt (Or.inl W2386) (hd rfl)) rfl rfl (noH_nil rfl),
  ⟨fun hd => mk6 fld_1_4 (Or.inl ⟨rfl, by decide⟩) (Or.inl W404) (Or.inl rfl) (hd rfl),
  ⟨fun hd => mk19 mt_5 cf_5 (vf_5_5.rt (Or.inl W1021) (hd rfl)) rfl rfl (noH_nil rfl),
  trivial⟩⟩⟩⟩⟩⟩⟩⟩⟩⟩⟩⟩⟩⟩⟩⟩⟩⟩
theorem fe_202 : eqEs ((flat code_202).filter (fun e => ndE e.2.2.1)) (fl_202_0) = true := by decide +kernel
theorem om_202 : OKm mi iT prg 202 := OKm_of (code := code_202) rfl mt_202 (Or.inl (by decide +kernel)) rfl wk_202 (by decide +kernel) (by decide +kernel) (FA_of fe_202 (fb_202_0))
theorem fe_203 : eqEs ((flat code_203).filter (fun e => ndE e.2.2.1)) ([]) = true := by decide +kernel
theorem om_203 : OKm mi iT prg 203 := OKm_of (code := code_203) rfl mt_203 (Or.inl (by decide +kernel)) rfl wk_203 (by decide +kernel) (by decide +kernel) (FA_of fe_203 (trivial))
def fl_204_0 : List Ent := [(4, 3, 21, .new 1, [1], 0)]
theorem fb_204_0 : FB mi iT mi_204 (bpc code_204) (fl_204_0) := ⟨fun hd => ⟨1, 1, 3, ["java/lang/RuntimeException", "java/lang/Exception"], rfl, by decide +kernel, by decide +kernel, W1772, W147, at_1_3, by decide +kernel, (show decode prog_1_method_1_code 4 = .ok (.new 1, 3) by decide +kernel), (show decode prog_1_method_1_code 7 = .ok (.dup, 1) by decide +kernel), (show decode prog_1_method_1_code 8 = .ok (.invokespecial 3, 3) by decide +kernel), (show decode prog_1_method_1_code 11 = .ok (.athrow, 1) by decide +kernel), noH_nil rfl, by decide, by decide⟩,
  trivial⟩
theorem fe_204 : eqEs ((flat code_204).filter (fun e => ndE e.2.2.1)) (fl_204_0) = true := by decide +kernel
theorem om_204 : OKm mi iT prg 204 := OKm_of (code := code_204) rfl mt_204 (Or.inl (by decide +kernel)) rfl wk_204 (by decide +kernel) (by decide +kernel) (FA_of fe_204 (fb_204_0))
def fl_205_0 : List Ent := [(4, 3, 21, .new 7, [2], 0)]
theorem fb_205_0 : FB mi iT mi_205 (bpc code_205) (fl_205_0) := ⟨fun hd => ⟨2, 7, 9, ["java/lang/RuntimeException", "java/lang/Exception"], rfl, by decide +kernel, by decide +kernel, W1796, W148, at_2_9, by decide +kernel, (show decode prog_1_method_2_code 4 = .ok (.new 7, 3) by decide +kernel), (show decode prog_1_method_2_code 7 = .ok (.dup, 1) by decide +kernel), (show decode prog_1_method_2_code 8 = .ok (.invokespecial 9, 3) by decide +kernel), (show decode prog_1_method_2_code 11 = .ok (.athrow, 1) by decide +kernel), noH_nil rfl, by decide, by decide⟩,
  trivial⟩
theorem fe_205 : eqEs ((flat code_205).filter (fun e => ndE e.2.2.1)) (fl_205_0) = true := by decide +kernel
theorem om_205 : OKm mi iT prg 205 := OKm_of (code := code_205) rfl mt_205 (Or.inl (by decide +kernel)) rfl wk_205 (by decide +kernel) (by decide +kernel) (FA_of fe_205 (fb_205_0))
def fl_206_0 : List Ent := [(4, 3, 13, .getstatic 19, [12], 0), (15, 3, 13, .getstatic 25, [13], 0), (21, 3, 13, .getstatic 28, [14], 0)]
theorem fb_206_0 : FB mi iT mi_206 (bpc code_206) (fl_206_0) := ⟨fun hd => mk13s (by decide) rfl (Or.inl W1820) (Or.inl rfl) (hd rfl),
  ⟨fun hd => mk13s (by decide) rfl (Or.inl W1822) (Or.inl rfl) (hd rfl),
  ⟨fun hd => mk13s (by decide) rfl (Or.inl W1824) (Or.inl rfl) (hd rfl),
  trivial⟩⟩⟩
theorem fe_206 : eqEs ((flat code_206).filter (fun e => ndE e.2.2.1)) (fl_206_0) = true := by decide +kernel
theorem om_206 : OKm mi iT prg 206 := OKm_of (code := code_206) rfl mt_206 (Or.inl (by decide +kernel)) rfl wk_206 (by decide +kernel) (by decide +kernel) (FA_of fe_206 (fb_206_0))
def fl_207_0 : List Ent := [(2, 3, 19, .invokevirtual 13, [0, 2, 2, 14, 29], 0)]
theorem fb_207_0 : FB mi iT mi_207 (bpc code_207) (fl_207_0) := ⟨fun hd => mk19 mt_29 cf_29 (vf_29_14.rt (Or.inl W1839) (hd rfl)) rfl rfl (noH_nil rfl),
  trivial⟩
theorem fe_207 : eqEs ((flat code_207).filter (fun e => ndE e.2.2.1)) (fl_207_0) = true := by decide +kernel
theorem om_207 : OKm mi iT prg 207 := OKm_of (code := code_207) rfl mt_207 (Or.inl (by decide +kernel)) rfl wk_207 (by decide +kernel) (by decide +kernel) (FA_of fe_207 (fb_207_0))
def fl_208_0 : List Ent := [(2, 3, 19, .invokevirtual 161, [3, 2, 2, 1, 209], 0), (10, 3, 18, .invokestatic 128, [9, 2, 2, 210], 0), (15, 3, 18, .invokestatic 128, [9, 2, 2, 210], 0), (23, 3, 18, .invokestatic 138, [0, 3, 3, 203], 0), (26, 3, 18, .invokestatic 142, [9, 1, 1, 204], 0), (31, 3, 6, .getfield 165, [3, 22, 105], 0), (34, 3, 13, .getstatic 169, [15], 0), (45, 3, 18, .invokestatic 146, [9, 1, 1, 205], 0), (50, 3, 6, .getfield 174, [3, 22, 93], 0), (57, 3, 19, .invokevirtual 178, [0, 4, 4, 16, 517], 0)]
theorem fb_208_0 : FB mi iT mi_208 (bpc code_208) (fl_208_0) := ⟨fun hd => mk19 mt_209 cf_209 (vf_209_1.rt (Or.inl W2535) (hd rfl)) rfl rfl (noH_nil rfl),
  ⟨fun hd => mk18 mt_210 sf_210 (Or.inl W2539) rfl rfl (noH_nil rfl) (hd rfl),
  ⟨fun hd => mk18 mt_210 sf_210 (Or.inl W2539) rfl rfl (noH_nil rfl) (hd rfl),
  ⟨fun hd => mk18 mt_203 sf_203 (Or.inl W1766) rfl rfl (noH_nil rfl) (hd rfl),
  ⟨fun hd => mk18 mt_204 sf_204 (Or.inl W1769) rfl rfl (noH_nil rfl) (hd rfl),
  ⟨fun hd => mk6 fld_22_13 (Or.inl ⟨rfl, by decide⟩) (Or.inr ⟨_, W2297⟩) (Or.inl rfl) (hd rfl),
  ⟨fun hd => mk13s (by decide) rfl (Or.inl W2558) (Or.inl rfl) (hd rfl),
  ⟨fun hd => mk18 mt_205 sf_205 (Or.inl W1793) rfl rfl (noH_nil rfl) (hd rfl),
  ⟨fun hd => mk6 fld_22_1 (Or.inl ⟨rfl, by decide⟩) (Or.inr ⟨_, W2250⟩) (Or.inl rfl) (hd rfl),
  ⟨fun hd => mk19 mt_517 cf_517 (vf_517_16.rt (Or.inl W2559) (hd rfl)) rfl rfl (noH_nil rfl),
  trivial⟩⟩⟩⟩⟩⟩⟩⟩⟩⟩
theorem fe_208 : eqEs ((flat code_208).filter (fun e => ndE e.2.2.1)) (fl_208_0) = true := by decide +kernel
theorem om_208 : OKm mi iT prg 208 := OKm_of (code := code_208) rfl mt_208 (Or.inl (by decide +kernel)) rfl wk_208 (by decide +kernel) (by decide +kernel) (FA_of fe_208 (fb_208_0))
def fl_209_0 : List Ent := [(2, 3, 6, .getfield 89, [3, 1, 5], 0), (5, 3, 19, .invokevirtual 124, [0, 1, 1, 5, 5], 0), (8, 3, 18, .invokestatic 128, [9, 2, 2, 210], 0), (12, 3, 6, .getfield 89, [3, 1, 5], 0), (16, 3, 19, .invokevirtual 132, [3, 2, 2, 5, 6], 0), (19, 3, 17, .checkcast 136, [22], 0)]
theorem fb_209_0 : FB mi iT mi_209 (bpc code_209) (fl_209_0) := ⟨fun hd => mk6 fld_1_4 (Or.inl ⟨rfl, by decide⟩) (Or.inl W404) (Or.inl rfl) (hd rfl),
  ⟨fun hd => mk19 mt_5 cf_5 (vf_5_5.rt (Or.inl W1021) (hd rfl)) rfl rfl (noH_nil rfl),
  ⟨fun hd => mk18 mt_210 sf_210 (Or.inl W2539) rfl rfl (noH_nil rfl) (hd rfl),
  ⟨fun hd => mk6 fld_1_4 (Or.inl ⟨rfl, by decide⟩) (Or.inl W404) (Or.inl rfl) (hd rfl),
  ⟨fun hd => mk19 mt_6 cf_6 (vf_6_5.rt (Or.inl W2557) (hd rfl)) rfl rfl (noH_nil rfl),
  ⟨fun hd => mk17 kx_22 W607 (hd rfl),
  trivial⟩⟩⟩⟩⟩⟩
theorem fe_209 : eqEs ((flat code_209).filter (fun e => ndE e.2.2.1)) (fl_209_0) = true := by decide +kernel
theorem om_209 : OKm mi iT prg 209 := OKm_of (code := code_209) rfl mt_209 (Or.inl (by decide +kernel)) rfl wk_209 (by decide +kernel) (by decide +kernel) (FA_of fe_209 (fb_209_0))
def fl_210_0 : List Ent := [(9, 3, 21, .new 10, [3], 0)]
theorem fb_210_0 : FB mi iT mi_210 (bpc code_210) (fl_210_0) := ⟨fun hd => ⟨3, 10, 12, ["java/lang/RuntimeException", "java/lang/Exception"], rfl, by decide +kernel, by decide +kernel, W2542, W177, at_3_12, by decide +kernel, (show decode prog_1_method_3_code 9 = .ok (.new 10, 3) by decide +kernel), (show decode prog_1_method_3_code 12 = .ok (.dup, 1) by decide +kernel), (show decode prog_1_method_3_code 13 = .ok (.invokespecial 12, 3) by decide +kernel), (show decode prog_1_method_3_code 16 = .ok (.athrow, 1) by decide +kernel), noH_nil rfl, by decide, by decide⟩,
  trivial⟩
theorem fe_210 : eqEs ((flat code_210).filter (fun e => ndE e.2.2.1)) (fl_210_0) = true := by decide +kernel
theorem om_210 : OKm mi iT prg 210 := OKm_of (code := code_210) rfl mt_210 (Or.inl (by decide +kernel)) rfl wk_210 (by decide +kernel) (by decide +kernel) (FA_of fe_210 (fb_210_0))
def fl_211_0 : List Ent := [(2, 3, 19, .invokevirtual 161, [3, 2, 2, 1, 209], 0), (7, 3, 6, .getfield 165, [3, 22, 105], 0), (10, 3, 13, .getstatic 169, [15], 0), (21, 3, 18, .invokestatic 146, [9, 1, 1, 205], 0), (25, 3, 6, .getfield 174, [3, 22, 93], 0), (28, 3, 19, .invokevirtual 182, [0, 1, 1, 16, 518], 0)]
theorem fb_211_0 : FB mi iT mi_211 (bpc code_211) (fl_211_0) := ⟨fun hd => mk19 mt_209 cf_209 (vf_209_1.rt (Or.inl W2535) (hd rfl)) rfl rfl (noH_nil rfl),
  ⟨fun hd => mk6 fld_22_13 (Or.inl ⟨rfl, by decide⟩) (Or.inr ⟨_, W2297⟩) (Or.inl rfl) (hd rfl),
  ⟨fun hd => mk13s (by decide) rfl (Or.inl W2558) (Or.inl rfl) (hd rfl),
  ⟨fun hd => mk18 mt_205 sf_205 (Or.inl W1793) rfl rfl (noH_nil rfl) (hd rfl),
  ⟨fun hd => mk6 fld_22_1 (Or.inl ⟨rfl, by decide⟩) (Or.inr ⟨_, W2250⟩) (Or.inl rfl) (hd rfl),
  ⟨fun hd => mk19 mt_518 cf_518 (vf_518_16.rt (Or.inl W2570) (hd rfl)) rfl rfl (noH_nil rfl),
  trivial⟩⟩⟩⟩⟩⟩
theorem fe_211 : eqEs ((flat code_211).filter (fun e => ndE e.2.2.1)) (fl_211_0) = true := by decide +kernel
theorem om_211 : OKm mi iT prg 211 := OKm_of (code := code_211) rfl mt_211 (Or.inl (by decide +kernel)) rfl wk_211 (by decide +kernel) (by decide +kernel) (FA_of fe_211 (fb_211_0))
def fl_212_0 : List Ent := [(2, 3, 19, .invokevirtual 161, [3, 2, 2, 1, 209], 0), (9, 3, 18, .invokestatic 138, [0, 3, 3, 203], 0), (21, 3, 18, .invokestatic 138, [0, 3, 3, 203], 0), (32, 3, 18, .invokestatic 142, [9, 1, 1, 204], 0), (37, 3, 18, .invokestatic 201, [0, 2, 2, 194], 0)]
theorem fb_212_0 : FB mi iT mi_212 (bpc code_212) (fl_212_0) := ⟨fun hd => mk19 mt_209 cf_209 (vf_209_1.rt (Or.inl W2535) (hd rfl)) rfl rfl (noH_nil rfl),
  ⟨fun hd => mk18 mt_203 sf_203 (Or.inl W1766) rfl rfl (noH_nil rfl) (hd rfl),
  ⟨fun hd => mk18 mt_203 sf_203 (Or.inl W1766) rfl rfl (noH_nil rfl) (hd rfl),
  ⟨fun hd => mk18 mt_204 sf_204 (Or.inl W1769) rfl rfl (noH_nil rfl) (hd rfl),
  ⟨fun hd => mk18 mt_194 sf_194 (Or.inl W1041) rfl rfl (noH_nil rfl) (hd rfl),
  trivial⟩⟩⟩⟩⟩
theorem fe_212 : eqEs ((flat code_212).filter (fun e => ndE e.2.2.1)) (fl_212_0) = true := by decide +kernel
theorem om_212 : OKm mi iT prg 212 := OKm_of (code := code_212) rfl mt_212 (Or.inl (by decide +kernel)) rfl wk_212 (by decide +kernel) (by decide +kernel) (FA_of fe_212 (fb_212_0))
def fl_213_0 : List Ent := [(2, 3, 19, .invokevirtual 161, [3, 2, 2, 1, 209], 0), (12, 3, 6, .getfield 174, [3, 22, 93], 0), (15, 3, 6, .getfield 191, [0, 16, 64], 0), (20, 3, 18, .invokestatic 138, [0, 3, 3, 203], 0), (30, 3, 18, .invokestatic 138, [0, 3, 3, 203], 0), (41, 3, 18, .invokestatic 142, [9, 1, 1, 204], 0), (46, 3, 6, .getfield 174, [3, 22, 93], 0), (51, 3, 15, .ldc2_w 205, [4620693217682128896], 0), (56, 3, 19, .invokevirtual 207, [2, 3, 4, 16, 519], 0), (59, 3, 18, .invokestatic 211, [2, 1, 2, 214], 0)]
theorem fb_213_0 : FB mi iT mi_213 (bpc code_213) (fl_213_0) := ⟨fun hd => mk19 mt_209 cf_209 (vf_209_1.rt (Or.inl W2535) (hd rfl)) rfl rfl (noH_nil rfl),
  ⟨fun hd => mk6 fld_22_1 (Or.inl ⟨rfl, by decide⟩) (Or.inr ⟨_, W2250⟩) (Or.inl rfl) (hd rfl),
  ⟨fun hd => mk6 fld_16_2 (Or.inl ⟨rfl, by decide⟩) (Or.inr ⟨_, W1917⟩) (Or.inl rfl) (hd rfl),
  ⟨fun hd => mk18 mt_203 sf_203 (Or.inl W1766) rfl rfl (noH_nil rfl) (hd rfl),
  ⟨fun hd => mk18 mt_203 sf_203 (Or.inl W1766) rfl rfl (noH_nil rfl) (hd rfl),
  ⟨fun hd => mk18 mt_204 sf_204 (Or.inl W1769) rfl rfl (noH_nil rfl) (hd rfl),
  ⟨fun hd => mk6 fld_22_1 (Or.inl ⟨rfl, by decide⟩) (Or.inr ⟨_, W2250⟩) (Or.inl rfl) (hd rfl),
  ⟨fun hd => mk15 W2590 (hd rfl),
  ⟨fun hd => mk19 mt_519 cf_519 (vf_519_16.rt (Or.inl W2591) (hd rfl)) rfl rfl (noH_nil rfl),
  ⟨fun hd => mk18 mt_214 sf_214 (Or.inl W2604) rfl rfl (noH_nil rfl) (hd rfl),
  trivial⟩⟩⟩⟩⟩⟩⟩⟩⟩⟩
theorem fe_213 : eqEs ((flat code_213).filter (fun e => ndE e.2.2.1)) (fl_213_0) = true := by decide +kernel
theorem om_213 : OKm mi iT prg 213 := OKm_of (code := code_213) rfl mt_213 (Or.inl (by decide +kernel)) rfl wk_213 (by decide +kernel) (by decide +kernel) (FA_of fe_213 (fb_213_0))
theorem fe_214 : eqEs ((flat code_214).filter (fun e => ndE e.2.2.1)) ([]) = true := by decide +kernel
theorem om_214 : OKm mi iT prg 214 := OKm_of (code := code_214) rfl mt_214 (Or.inl (by decide +kernel)) rfl wk_214 (by decide +kernel) (by decide +kernel) (FA_of fe_214 (trivial))
def fl_215_0 : List Ent := [(2, 3, 19, .invokevirtual 161, [3, 2, 2, 1, 209], 0), (7, 2, 14, .ldc 215, [], 99999), (10, 3, 18, .invokestatic 138, [0, 3, 3, 203], 0), (13, 3, 18, .invokestatic 142, [9, 1, 1, 204], 0), (17, 3, 6, .getfield 174, [3, 22, 93], 0), (22, 3, 19, .invokevirtual 216, [2, 2, 3, 16, 500], 0)]
theorem fb_215_0 : FB mi iT mi_215 (bpc code_215) (fl_215_0) := ⟨fun hd => mk19 mt_209 cf_209 (vf_209_1.rt (Or.inl W2535) (hd rfl)) rfl rfl (noH_nil rfl),
  ⟨fun hd => mk14c W2614 (Or.inl ⟨hd rfl, rfl⟩),
  ⟨fun hd => mk18 mt_203 sf_203 (Or.inl W1766) rfl rfl (noH_nil rfl) (hd rfl),
  ⟨fun hd => mk18 mt_204 sf_204 (Or.inl W1769) rfl rfl (noH_nil rfl) (hd rfl),
  ⟨fun hd => mk6 fld_22_1 (Or.inl ⟨rfl, by decide⟩) (Or.inr ⟨_, W2250⟩) (Or.inl rfl) (hd rfl),
  ⟨fun hd => mk19 mt_500 cf_500 (vf_500_16.rt (Or.inl W2615) (hd rfl)) rfl rfl (noH_nil rfl),
  trivial⟩⟩⟩⟩⟩⟩
theorem fe_215 : eqEs ((flat code_215).filter (fun e => ndE e.2.2.1)) (fl_215_0) = true := by decide +kernel
theorem om_215 : OKm mi iT prg 215 := OKm_of (code := code_215) rfl mt_215 (Or.inl (by decide +kernel)) rfl wk_215 (by decide +kernel) (by decide +kernel) (FA_of fe_215 (fb_215_0))
def fl_216_0 : List Ent := [(2, 3, 19, .invokevirtual 161, [3, 2, 2, 1, 209], 0), (10, 3, 18, .invokestatic 128, [9, 2, 2, 210], 0), (18, 3, 18, .invokestatic 138, [0, 3, 3, 203], 0), (30, 3, 18, .invokestatic 138, [0, 3, 3, 203], 0), (42, 3, 18, .invokestatic 138, [0, 3, 3, 203], 0), (53, 3, 18, .invokestatic 142, [9, 1, 1, 204], 0), (58, 3, 6, .getfield 165, [3, 22, 105], 0), (61, 3, 31, .invokevirtual 219, [0, 1, 1, 15, 583, 16, 583, 19, 583, 24, 583, 18, 814, 25, 816], 0), (69, 3, 6, .getfield 223, [3, 22, 95], 0), (72, 3, 19, .invokevirtual 124, [0, 1, 1, 5, 5], 0), (85, 3, 18, .invokestatic 146, [9, 1, 1, 205], 0), (90, 3, 6, .getfield 223, [3, 22, 95], 0), (93, 3, 11, .new 226, [26, 4], 0), (103, 3, 36, .invokespecial 228, [9, 5, 5, 26, 728], 0), (106, 3, 19, .invokevirtual 157, [0, 2, 2, 5, 8], 0), (112, 3, 6, .getfield 223, [3, 22, 95], 0), (115, 3, 19, .invokevirtual 124, [0, 1, 1, 5, 5], 0)]
theorem fb_216_0 : FB mi iT mi_216 (bpc code_216) (fl_216_0) := ⟨fun hd => mk19 mt_209 cf_209 (vf_209_1.rt (Or.inl W2535) (hd rfl)) rfl rfl (noH_nil rfl),
  ⟨fun hd => mk18 mt_210 sf_210 (Or.inl W2539) rfl rfl (noH_nil rfl) (hd rfl),
  ⟨fun hd => mk18 mt_203 sf_203 (Or.inl W1766) rfl rfl (noH_nil rfl) (hd rfl),
  ⟨fun hd => mk18 mt_203 sf_203 (Or.inl W1766) rfl rfl (noH_nil rfl) (hd rfl),
  ⟨fun hd => mk18 mt_203 sf_203 (Or.inl W1766) rfl rfl (noH_nil rfl) (hd rfl),
  ⟨fun hd => mk18 mt_204 sf_204 (Or.inl W1769) rfl rfl (noH_nil rfl) (hd rfl),
  ⟨fun hd => mk6 fld_22_13 (Or.inl ⟨rfl, by decide⟩) (Or.inr ⟨_, W2297⟩) (Or.inl rfl) (hd rfl),
  ⟨fun hd => mk31 ⟨pr3 mt_583 cf_583 (ev_583_15.rt (Or.inl W2623) (hd rfl)) rfl rfl, ⟨pr3 mt_583 cf_583 (ev_583_16.rt (Or.inl W2623) (hd rfl)) rfl rfl, ⟨pr3 mt_583 cf_583 (ev_583_19.rt (Or.inl W2623) (hd rfl)) rfl rfl, ⟨pr3 mt_583 cf_583 (ev_583_24.rt (Or.inl W2623) (hd rfl)) rfl rfl, ⟨pr3 mt_814 cf_814 (ei_814_18_KeelHouse_StageisGone__Z.rt W2623 (hd rfl)) rfl rfl, ⟨pr3 mt_816 cf_816 (ei_816_25_KeelHouse_StageisGone__Z.rt W2623 (hd rfl)) rfl rfl, trivial⟩⟩⟩⟩⟩⟩,
  ⟨fun hd => mk6 fld_22_3 (Or.inl ⟨rfl, by decide⟩) (Or.inr ⟨_, W2254⟩) (Or.inl rfl) (hd rfl),
  ⟨fun hd => mk19 mt_5 cf_5 (vf_5_5.rt (Or.inl W1021) (hd rfl)) rfl rfl (noH_nil rfl),
  ⟨fun hd => mk18 mt_205 sf_205 (Or.inl W1793) rfl rfl (noH_nil rfl) (hd rfl),
  ⟨fun hd => mk6 fld_22_3 (Or.inl ⟨rfl, by decide⟩) (Or.inr ⟨_, W2254⟩) (Or.inl rfl) (hd rfl),
  ⟨fun hd => mk11 nf_26 W2637 (hd rfl),
  ⟨fun hd => mk36 mt_728 cf_728 (ic_728.rt (Or.inl W2639) (hd rfl)) rfl rfl,
  ⟨fun hd => mk19 mt_8 cf_8 (vf_8_5.rt (Or.inl W2386) (hd rfl)) rfl rfl (noH_nil rfl),
  ⟨fun hd => mk6 fld_22_3 (Or.inl ⟨rfl, by decide⟩) (Or.inr ⟨_, W2254⟩) (Or.inl rfl) (hd rfl),
  ⟨fun hd => mk19 mt_5 cf_5 (vf_5_5.rt (Or.inl W1021) (hd rfl)) rfl rfl (noH_nil rfl),
  trivial⟩⟩⟩⟩⟩⟩⟩⟩⟩⟩⟩⟩⟩⟩⟩⟩⟩
theorem fe_216 : eqEs ((flat code_216).filter (fun e => ndE e.2.2.1)) (fl_216_0) = true := by decide +kernel
theorem om_216 : OKm mi iT prg 216 := OKm_of (code := code_216) rfl mt_216 (Or.inl (by decide +kernel)) rfl wk_216 (by decide +kernel) (by decide +kernel) (FA_of fe_216 (fb_216_0))
def fl_217_0 : List Ent := [(2, 3, 19, .invokevirtual 161, [3, 2, 2, 1, 209], 0), (8, 3, 6, .getfield 223, [3, 22, 95], 0), (11, 3, 19, .invokevirtual 124, [0, 1, 1, 5, 5], 0), (14, 3, 18, .invokestatic 128, [9, 2, 2, 210], 0), (18, 3, 6, .getfield 165, [3, 22, 105], 0), (21, 3, 31, .invokevirtual 219, [0, 1, 1, 15, 583, 16, 583, 19, 583, 24, 583, 18, 814, 25, 816], 0), (32, 3, 18, .invokestatic 146, [9, 1, 1, 205], 0), (36, 3, 6, .getfield 223, [3, 22, 95], 0), (40, 3, 19, .invokevirtual 229, [3, 2, 2, 5, 12], 0), (45, 3, 6, .getfield 223, [3, 22, 95], 0), (48, 3, 19, .invokevirtual 124, [0, 1, 1, 5, 5], 0)]
theorem fb_217_0 : FB mi iT mi_217 (bpc code_217) (fl_217_0) := ⟨fun hd => mk19 mt_209 cf_209 (vf_209_1.rt (Or.inl W2535) (hd rfl)) rfl rfl (noH_nil rfl),
  ⟨fun hd => mk6 fld_22_3 (Or.inl ⟨rfl, by decide⟩) (Or.inr ⟨_, W2254⟩) (Or.inl rfl) (hd rfl),
  ⟨fun hd => mk19 mt_5 cf_5 (vf_5_5.rt (Or.inl W1021) (hd rfl)) rfl rfl (noH_nil rfl),
  ⟨fun hd => mk18 mt_210 sf_210 (Or.inl W2539) rfl rfl (noH_nil rfl) (hd rfl),
  ⟨fun hd => mk6 fld_22_13 (Or.inl ⟨rfl, by decide⟩) (Or.inr ⟨_, W2297⟩) (Or.inl rfl) (hd rfl),
  ⟨fun hd => mk31 ⟨pr3 mt_583 cf_583 (ev_583_15.rt (Or.inl W2623) (hd rfl)) rfl rfl, ⟨pr3 mt_583 cf_583 (ev_583_16.rt (Or.inl W2623) (hd rfl)) rfl rfl, ⟨pr3 mt_583 cf_583 (ev_583_19.rt (Or.inl W2623) (hd rfl)) rfl rfl, ⟨pr3 mt_583 cf_583 (ev_583_24.rt (Or.inl W2623) (hd rfl)) rfl rfl, ⟨pr3 mt_814 cf_814 (ei_814_18_KeelHouse_StageisGone__Z.rt W2623 (hd rfl)) rfl rfl, ⟨pr3 mt_816 cf_816 (ei_816_25_KeelHouse_StageisGone__Z.rt W2623 (hd rfl)) rfl rfl, trivial⟩⟩⟩⟩⟩⟩,
  ⟨fun hd => mk18 mt_205 sf_205 (Or.inl W1793) rfl rfl (noH_nil rfl) (hd rfl),
  ⟨fun hd => mk6 fld_22_3 (Or.inl ⟨rfl, by decide⟩) (Or.inr ⟨_, W2254⟩) (Or.inl rfl) (hd rfl),
  ⟨fun hd => mk19 mt_12 cf_12 (vf_12_5.rt (Or.inl W2663) (hd rfl)) rfl rfl (noH_nil rfl),
  ⟨fun hd => mk6 fld_22_3 (Or.inl ⟨rfl, by decide⟩) (Or.inr ⟨_, W2254⟩) (Or.inl rfl) (hd rfl),
  ⟨fun hd => mk19 mt_5 cf_5 (vf_5_5.rt (Or.inl W1021) (hd rfl)) rfl rfl (noH_nil rfl),
  trivial⟩⟩⟩⟩⟩⟩⟩⟩⟩⟩⟩
theorem fe_217 : eqEs ((flat code_217).filter (fun e => ndE e.2.2.1)) (fl_217_0) = true := by decide +kernel
theorem om_217 : OKm mi iT prg 217 := OKm_of (code := code_217) rfl mt_217 (Or.inl (by decide +kernel)) rfl wk_217 (by decide +kernel) (by decide +kernel) (FA_of fe_217 (fb_217_0))
def fl_218_0 : List Ent := [(2, 3, 19, .invokevirtual 161, [3, 2, 2, 1, 209], 0), (7, 3, 18, .invokestatic 233, [0, 1, 1, 219], 0), (10, 3, 18, .invokestatic 142, [9, 1, 1, 204], 0), (14, 3, 6, .getfield 165, [3, 22, 105], 0), (17, 3, 31, .invokevirtual 219, [0, 1, 1, 15, 583, 16, 583, 19, 583, 24, 583, 18, 814, 25, 816], 0), (28, 3, 18, .invokestatic 146, [9, 1, 1, 205], 0), (32, 3, 19, .invokevirtual 237, [0, 1, 1, 22, 489], 0), (41, 3, 6, .getfield 240, [3, 22, 96], 0), (48, 1, 10, .arraylength, [106], 0), (75, 3, 7, .putfield 244, [0, 15, 61], 0)]
theorem fb_218_0 : FB mi iT mi_218 (bpc code_218) (fl_218_0) := ⟨fun hd => mk19 mt_209 cf_209 (vf_209_1.rt (Or.inl W2535) (hd rfl)) rfl rfl (noH_nil rfl),
  ⟨fun hd => mk18 mt_219 sf_219 (Or.inl W2679) rfl rfl (noH_nil rfl) (hd rfl),
  ⟨fun hd => mk18 mt_204 sf_204 (Or.inl W1769) rfl rfl (noH_nil rfl) (hd rfl),
  ⟨fun hd => mk6 fld_22_13 (Or.inl ⟨rfl, by decide⟩) (Or.inr ⟨_, W2297⟩) (Or.inl rfl) (hd rfl),
  ⟨fun hd => mk31 ⟨pr3 mt_583 cf_583 (ev_583_15.rt (Or.inl W2623) (hd rfl)) rfl rfl, ⟨pr3 mt_583 cf_583 (ev_583_16.rt (Or.inl W2623) (hd rfl)) rfl rfl, ⟨pr3 mt_583 cf_583 (ev_583_19.rt (Or.inl W2623) (hd rfl)) rfl rfl, ⟨pr3 mt_583 cf_583 (ev_583_24.rt (Or.inl W2623) (hd rfl)) rfl rfl, ⟨pr3 mt_814 cf_814 (ei_814_18_KeelHouse_StageisGone__Z.rt W2623 (hd rfl)) rfl rfl, ⟨pr3 mt_816 cf_816 (ei_816_25_KeelHouse_StageisGone__Z.rt W2623 (hd rfl)) rfl rfl, trivial⟩⟩⟩⟩⟩⟩,
  ⟨fun hd => mk18 mt_205 sf_205 (Or.inl W1793) rfl rfl (noH_nil rfl) (hd rfl),
  ⟨fun hd => mk19 mt_489 cf_489 (vf_489_22.rt (Or.inl W2683) (hd rfl)) rfl rfl (noH_nil rfl),
  ⟨fun hd => mk6 fld_22_4 (Or.inl ⟨rfl, by decide⟩) (Or.inr ⟨_, W2257⟩) (Or.inl rfl) (hd rfl),
  ⟨fun hd => mk10 (by decide) rfl (hd rfl),
  ⟨fun hd => mk7 fld_15_2 (Or.inr ⟨_, W2115⟩) (Or.inl rfl) (Or.inl rfl) (hd rfl),
  trivial⟩⟩⟩⟩⟩⟩⟩⟩⟩⟩
theorem fe_218 : eqEs ((flat code_218).filter (fun e => ndE e.2.2.1)) (fl_218_0) = true := by decide +kernel
theorem om_218 : OKm mi iT prg 218 := OKm_of (code := code_218) rfl mt_218 (Or.inl (by decide +kernel)) rfl wk_218 (by decide +kernel) (by decide +kernel) (FA_of fe_218 (fb_218_0))
def fl_219_0 : List Ent := [(1, 2, 14, .ldc 232, [], 888888), (4, 3, 18, .invokestatic 138, [0, 3, 3, 203], 0)]
theorem fb_219_0 : FB mi iT mi_219 (bpc code_219) (fl_219_0) := ⟨fun hd => mk14c W2682 (Or.inl ⟨hd rfl, rfl⟩),
  ⟨fun hd => mk18 mt_203 sf_203 (Or.inl W1766) rfl rfl (noH_nil rfl) (hd rfl),
  trivial⟩⟩
theorem fe_219 : eqEs ((flat code_219).filter (fun e => ndE e.2.2.1)) (fl_219_0) = true := by decide +kernel
theorem om_219 : OKm mi iT prg 219 := OKm_of (code := code_219) rfl mt_219 (Or.inl (by decide +kernel)) rfl wk_219 (by decide +kernel) (by decide +kernel) (FA_of fe_219 (fb_219_0))
def fl_220_0 : List Ent := [(2, 3, 19, .invokevirtual 161, [3, 2, 2, 1, 209], 0), (10, 3, 18, .invokestatic 138, [0, 3, 3, 203], 0), (13, 3, 18, .invokestatic 142, [9, 1, 1, 204], 0), (17, 3, 6, .getfield 165, [3, 22, 105], 0), (20, 3, 13, .getstatic 169, [15], 0), (27, 3, 6, .getfield 165, [3, 22, 105], 0), (30, 3, 13, .getstatic 249, [16], 0), (41, 3, 18, .invokestatic 146, [9, 1, 1, 205], 0), (45, 3, 6, .getfield 252, [0, 22, 106], 0), (52, 3, 7, .putfield 252, [0, 22, 106], 0)]
theorem fb_220_0 : FB mi iT mi_220 (bpc code_220) (fl_220_0) := ⟨fun hd => mk19 mt_209 cf_209 (vf_209_1.rt (Or.inl W2535) (hd rfl)) rfl rfl (noH_nil rfl),
  ⟨fun hd => mk18 mt_203 sf_203 (Or.inl W1766) rfl rfl (noH_nil rfl) (hd rfl),
  ⟨fun hd => mk18 mt_204 sf_204 (Or.inl W1769) rfl rfl (noH_nil rfl) (hd rfl),
  ⟨fun hd => mk6 fld_22_13 (Or.inl ⟨rfl, by decide⟩) (Or.inr ⟨_, W2297⟩) (Or.inl rfl) (hd rfl),
  ⟨fun hd => mk13s (by decide) rfl (Or.inl W2558) (Or.inl rfl) (hd rfl),
  ⟨fun hd => mk6 fld_22_13 (Or.inl ⟨rfl, by decide⟩) (Or.inr ⟨_, W2297⟩) (Or.inl rfl) (hd rfl),
  ⟨fun hd => mk13s (by decide) rfl (Or.inl W2694) (Or.inl rfl) (hd rfl),
  ⟨fun hd => mk18 mt_205 sf_205 (Or.inl W1793) rfl rfl (noH_nil rfl) (hd rfl),
  ⟨fun hd => mk6 fld_22_14 (Or.inl ⟨rfl, by decide⟩) (Or.inr ⟨_, W2300⟩) (Or.inl rfl) (hd rfl),
  ⟨fun hd => mk7 fld_22_14 (Or.inr ⟨_, W2300⟩) (Or.inl rfl) (Or.inl rfl) (hd rfl),
  trivial⟩⟩⟩⟩⟩⟩⟩⟩⟩⟩
theorem fe_220 : eqEs ((flat code_220).filter (fun e => ndE e.2.2.1)) (fl_220_0) = true := by decide +kernel
theorem om_220 : OKm mi iT prg 220 := OKm_of (code := code_220) rfl mt_220 (Or.inl (by decide +kernel)) rfl wk_220 (by decide +kernel) (by decide +kernel) (FA_of fe_220 (fb_220_0))
def fl_221_0 : List Ent := [(2, 3, 19, .invokevirtual 161, [3, 2, 2, 1, 209], 0), (10, 3, 18, .invokestatic 138, [0, 3, 3, 203], 0), (13, 3, 18, .invokestatic 142, [9, 1, 1, 204], 0), (17, 3, 6, .getfield 255, [3, 22, 99], 0), (21, 3, 19, .invokevirtual 259, [2, 2, 2, 17, 546], 0), (24, 3, 18, .invokestatic 211, [2, 1, 2, 214], 0)]
theorem fb_221_0 : FB mi iT mi_221 (bpc code_221) (fl_221_0) := ⟨fun hd => mk19 mt_209 cf_209 (vf_209_1.rt (Or.inl W2535) (hd rfl)) rfl rfl (noH_nil rfl),
  ⟨fun hd => mk18 mt_203 sf_203 (Or.inl W1766) rfl rfl (noH_nil rfl) (hd rfl),
  ⟨fun hd => mk18 mt_204 sf_204 (Or.inl W1769) rfl rfl (noH_nil rfl) (hd rfl),
  ⟨fun hd => mk6 fld_22_7 (Or.inl ⟨rfl, by decide⟩) (Or.inr ⟨_, W2276⟩) (Or.inl rfl) (hd rfl),
  ⟨fun hd => mk19 mt_546 cf_546 (vf_546_17.rt (Or.inl W1064) (hd rfl)) rfl rfl (noH_nil rfl),
  ⟨fun hd => mk18 mt_214 sf_214 (Or.inl W2604) rfl rfl (noH_nil rfl) (hd rfl),
  trivial⟩⟩⟩⟩⟩⟩
theorem fe_221 : eqEs ((flat code_221).filter (fun e => ndE e.2.2.1)) (fl_221_0) = true := by decide +kernel
theorem om_221 : OKm mi iT prg 221 := OKm_of (code := code_221) rfl mt_221 (Or.inl (by decide +kernel)) rfl wk_221 (by decide +kernel) (by decide +kernel) (FA_of fe_221 (fb_221_0))
def fl_222_0 : List Ent := [(2, 3, 19, .invokevirtual 161, [3, 2, 2, 1, 209], 0), (11, 3, 18, .invokestatic 138, [0, 3, 3, 203], 0), (14, 3, 18, .invokestatic 142, [9, 1, 1, 204], 0), (19, 3, 6, .getfield 265, [3, 22, 100], 0), (23, 3, 19, .invokevirtual 269, [0, 2, 2, 18, 557], 0), (29, 3, 15, .ldc2_w 274, [13830554455654793216], 0), (39, 3, 6, .getfield 265, [3, 22, 100], 0), (42, 3, 6, .getfield 276, [0, 18, 74], 0), (51, 3, 6, .getfield 265, [3, 22, 100], 0), (54, 3, 6, .getfield 279, [2, 18, 75], 0), (57, 3, 18, .invokestatic 211, [2, 1, 2, 214], 0)]
theorem fb_222_0 : FB mi iT mi_222 (bpc code_222) (fl_222_0) := ⟨fun hd => mk19 mt_209 cf_209 (vf_209_1.rt (Or.inl W2535) (hd rfl)) rfl rfl (noH_nil rfl),
  ⟨fun hd => mk18 mt_203 sf_203 (Or.inl W1766) rfl rfl (noH_nil rfl) (hd rfl),
  ⟨fun hd => mk18 mt_204 sf_204 (Or.inl W1769) rfl rfl (noH_nil rfl) (hd rfl),
  ⟨fun hd => mk6 fld_22_8 (Or.inl ⟨rfl, by decide⟩) (Or.inr ⟨_, W2280⟩) (Or.inl rfl) (hd rfl),
  ⟨fun hd => mk19 mt_557 cf_557 (vf_557_18.rt (Or.inl W2709) (hd rfl)) rfl rfl (noH_nil rfl),
  ⟨fun hd => mk15 W2710 (hd rfl),
  ⟨fun hd => mk6 fld_22_8 (Or.inl ⟨rfl, by decide⟩) (Or.inr ⟨_, W2280⟩) (Or.inl rfl) (hd rfl),
  ⟨fun hd => mk6 fld_18_1 (Or.inl ⟨rfl, by decide⟩) (Or.inr ⟨_, W2026⟩) (Or.inl rfl) (hd rfl),
  ⟨fun hd => mk6 fld_22_8 (Or.inl ⟨rfl, by decide⟩) (Or.inr ⟨_, W2280⟩) (Or.inl rfl) (hd rfl),
  ⟨fun hd => mk6 fld_18_2 (Or.inl ⟨rfl, by decide⟩) (Or.inr ⟨_, W2028⟩) (Or.inl rfl) (hd rfl),
  ⟨fun hd => mk18 mt_214 sf_214 (Or.inl W2604) rfl rfl (noH_nil rfl) (hd rfl),
  trivial⟩⟩⟩⟩⟩⟩⟩⟩⟩⟩⟩
theorem fe_222 : eqEs ((flat code_222).filter (fun e => ndE e.2.2.1)) (fl_222_0) = true := by decide +kernel
theorem om_222 : OKm mi iT prg 222 := OKm_of (code := code_222) rfl mt_222 (Or.inl (by decide +kernel)) rfl wk_222 (by decide +kernel) (by decide +kernel) (FA_of fe_222 (fb_222_0))
def fl_223_0 : List Ent := [(2, 3, 19, .invokevirtual 161, [3, 2, 2, 1, 209], 0), (5, 3, 6, .getfield 265, [3, 22, 100], 0), (8, 3, 19, .invokevirtual 283, [0, 1, 1, 18, 556], 0)]
theorem fb_223_0 : FB mi iT mi_223 (bpc code_223) (fl_223_0) := ⟨fun hd => mk19 mt_209 cf_209 (vf_209_1.rt (Or.inl W2535) (hd rfl)) rfl rfl (noH_nil rfl),
  ⟨fun hd => mk6 fld_22_8 (Or.inl ⟨rfl, by decide⟩) (Or.inr ⟨_, W2280⟩) (Or.inl rfl) (hd rfl),
  ⟨fun hd => mk19 mt_556 cf_556 (vf_556_18.rt (Or.inl W1356) (hd rfl)) rfl rfl (noH_nil rfl),
  trivial⟩⟩⟩
theorem fe_223 : eqEs ((flat code_223).filter (fun e => ndE e.2.2.1)) (fl_223_0) = true := by decide +kernel
theorem om_223 : OKm mi iT prg 223 := OKm_of (code := code_223) rfl mt_223 (Or.inl (by decide +kernel)) rfl wk_223 (by decide +kernel) (by decide +kernel) (FA_of fe_223 (fb_223_0))
def fl_224_0 : List Ent := [(2, 3, 19, .invokevirtual 161, [3, 2, 2, 1, 209], 0), (10, 3, 18, .invokestatic 128, [9, 2, 2, 210], 0), (17, 3, 18, .invokestatic 138, [0, 3, 3, 203], 0), (28, 3, 18, .invokestatic 138, [0, 3, 3, 203], 0), (39, 3, 18, .invokestatic 138, [0, 3, 3, 203], 0), (50, 3, 18, .invokestatic 142, [9, 1, 1, 204], 0), (55, 3, 6, .getfield 165, [3, 22, 105], 0), (58, 3, 13, .getstatic 169, [15], 0), (69, 3, 18, .invokestatic 146, [9, 1, 1, 205], 0), (91, 3, 19, .invokevirtual 286, [3, 3, 3, 22, 487], 0), (94, 3, 6, .getfield 290, [0, 23, 122], 0), (110, 3, 19, .invokevirtual 286, [3, 3, 3, 22, 487], 0), (114, 3, 7, .putfield 290, [0, 23, 122], 0), (121, 3, 19, .invokevirtual 286, [3, 3, 3, 22, 487], 0), (126, 3, 7, .putfield 290, [0, 23, 122], 0), (133, 3, 19, .invokevirtual 286, [3, 3, 3, 22, 487], 0), (138, 3, 7, .putfield 290, [0, 23, 122], 0)]
theorem fb_224_0 : FB mi iT mi_224 (bpc code_224) (fl_224_0) := ⟨fun hd => mk19 mt_209 cf_209 (vf_209_1.rt (Or.inl W2535) (hd rfl)) rfl rfl (noH_nil rfl),
  ⟨fun hd => mk18 mt_210 sf_210 (Or.inl W2539) rfl rfl (noH_nil rfl) (hd rfl),
  ⟨fun hd => mk18 mt_203 sf_203 (Or.inl W1766) rfl rfl (noH_nil rfl) (hd rfl),
  ⟨fun hd => mk18 mt_203 sf_203 (Or.inl W1766) rfl rfl (noH_nil rfl) (hd rfl),
  ⟨fun hd => mk18 mt_203 sf_203 (Or.inl W1766) rfl rfl (noH_nil rfl) (hd rfl),
  ⟨fun hd => mk18 mt_204 sf_204 (Or.inl W1769) rfl rfl (noH_nil rfl) (hd rfl),
  ⟨fun hd => mk6 fld_22_13 (Or.inl ⟨rfl, by decide⟩) (Or.inr ⟨_, W2297⟩) (Or.inl rfl) (hd rfl),
  ⟨fun hd => mk13s (by decide) rfl (Or.inl W2558) (Or.inl rfl) (hd rfl),
  ⟨fun hd => mk18 mt_205 sf_205 (Or.inl W1793) rfl rfl (noH_nil rfl) (hd rfl),
  ⟨fun hd => mk19 mt_487 cf_487 (vf_487_22.rt (Or.inl W1396) (hd rfl)) rfl rfl (noH_nil rfl),
  ⟨fun hd => mk6 fld_23_3 (Or.inl ⟨rfl, by decide⟩) (Or.inr ⟨_, W2084⟩) (Or.inl rfl) (hd rfl),
  ⟨fun hd => mk19 mt_487 cf_487 (vf_487_22.rt (Or.inl W1396) (hd rfl)) rfl rfl (noH_nil rfl),
  ⟨fun hd => mk7 fld_23_3 (Or.inr ⟨_, W2084⟩) (Or.inl rfl) (Or.inl rfl) (hd rfl),
  ⟨fun hd => mk19 mt_487 cf_487 (vf_487_22.rt (Or.inl W1396) (hd rfl)) rfl rfl (noH_nil rfl),
  ⟨fun hd => mk7 fld_23_3 (Or.inr ⟨_, W2084⟩) (Or.inl rfl) (Or.inl rfl) (hd rfl),
  ⟨fun hd => mk19 mt_487 cf_487 (vf_487_22.rt (Or.inl W1396) (hd rfl)) rfl rfl (noH_nil rfl),
  ⟨fun hd => mk7 fld_23_3 (Or.inr ⟨_, W2084⟩) (Or.inl rfl) (Or.inl rfl) (hd rfl),
  trivial⟩⟩⟩⟩⟩⟩⟩⟩⟩⟩⟩⟩⟩⟩⟩⟩⟩
theorem fe_224 : eqEs ((flat code_224).filter (fun e => ndE e.2.2.1)) (fl_224_0) = true := by decide +kernel
theorem om_224 : OKm mi iT prg 224 := OKm_of (code := code_224) rfl mt_224 (Or.inl (by decide +kernel)) rfl wk_224 (by decide +kernel) (by decide +kernel) (FA_of fe_224 (fb_224_0))
def fl_225_0 : List Ent := [(2, 3, 19, .invokevirtual 161, [3, 2, 2, 1, 209], 0), (12, 3, 18, .invokestatic 138, [0, 3, 3, 203], 0), (15, 3, 18, .invokestatic 142, [9, 1, 1, 204], 0), (19, 3, 6, .getfield 295, [0, 22, 107], 0), (26, 3, 7, .putfield 295, [0, 22, 107], 0)]
theorem fb_225_0 : FB mi iT mi_225 (bpc code_225) (fl_225_0) := ⟨fun hd => mk19 mt_209 cf_209 (vf_209_1.rt (Or.inl W2535) (hd rfl)) rfl rfl (noH_nil rfl),
  ⟨fun hd => mk18 mt_203 sf_203 (Or.inl W1766) rfl rfl (noH_nil rfl) (hd rfl),
  ⟨fun hd => mk18 mt_204 sf_204 (Or.inl W1769) rfl rfl (noH_nil rfl) (hd rfl),
  ⟨fun hd => mk6 fld_22_15 (Or.inl ⟨rfl, by decide⟩) (Or.inr ⟨_, W2305⟩) (Or.inl rfl) (hd rfl),
  ⟨fun hd => mk7 fld_22_15 (Or.inr ⟨_, W2305⟩) (Or.inl rfl) (Or.inl rfl) (hd rfl),
  trivial⟩⟩⟩⟩⟩
theorem fe_225 : eqEs ((flat code_225).filter (fun e => ndE e.2.2.1)) (fl_225_0) = true := by decide +kernel
theorem om_225 : OKm mi iT prg 225 := OKm_of (code := code_225) rfl mt_225 (Or.inl (by decide +kernel)) rfl wk_225 (by decide +kernel) (by decide +kernel) (FA_of fe_225 (fb_225_0))
def fl_226_0 : List Ent := [(2, 3, 19, .invokevirtual 161, [3, 2, 2, 1, 209], 0), (7, 3, 6, .getfield 165, [3, 22, 105], 0), (10, 3, 13, .getstatic 169, [15], 0), (21, 3, 18, .invokestatic 146, [9, 1, 1, 205], 0), (25, 3, 6, .getfield 298, [3, 22, 101], 0), (28, 3, 19, .invokevirtual 302, [0, 1, 1, 19, 576], 0)]
theorem fb_226_0 : FB mi iT mi_226 (bpc code_226) (fl_226_0) := ⟨fun hd => mk19 mt_209 cf_209 (vf_209_1.rt (Or.inl W2535) (hd rfl)) rfl rfl (noH_nil rfl),
  ⟨fun hd => mk6 fld_22_13 (Or.inl ⟨rfl, by decide⟩) (Or.inr ⟨_, W2297⟩) (Or.inl rfl) (hd rfl),
  ⟨fun hd => mk13s (by decide) rfl (Or.inl W2558) (Or.inl rfl) (hd rfl),
  ⟨fun hd => mk18 mt_205 sf_205 (Or.inl W1793) rfl rfl (noH_nil rfl) (hd rfl),
  ⟨fun hd => mk6 fld_22_9 (Or.inl ⟨rfl, by decide⟩) (Or.inr ⟨_, W2284⟩) (Or.inl rfl) (hd rfl),
  ⟨fun hd => mk19 mt_576 cf_576 (vf_576_19.rt (Or.inl W2739) (hd rfl)) rfl rfl (noH_nil rfl),
  trivial⟩⟩⟩⟩⟩⟩
theorem fe_226 : eqEs ((flat code_226).filter (fun e => ndE e.2.2.1)) (fl_226_0) = true := by decide +kernel
theorem om_226 : OKm mi iT prg 226 := OKm_of (code := code_226) rfl mt_226 (Or.inl (by decide +kernel)) rfl wk_226 (by decide +kernel) (by decide +kernel) (FA_of fe_226 (fb_226_0))
def fl_227_0 : List Ent := [(2, 3, 19, .invokevirtual 161, [3, 2, 2, 1, 209], 0), (10, 3, 18, .invokestatic 128, [9, 2, 2, 210], 0), (16, 3, 18, .invokestatic 138, [0, 3, 3, 203], 0), (19, 3, 18, .invokestatic 142, [9, 1, 1, 204], 0), (26, 3, 18, .invokestatic 310, [0, 3, 3, 195], 0)]
theorem fb_227_0 : FB mi iT mi_227 (bpc code_227) (fl_227_0) := ⟨fun hd => mk19 mt_209 cf_209 (vf_209_1.rt (Or.inl W2535) (hd rfl)) rfl rfl (noH_nil rfl),
  ⟨fun hd => mk18 mt_210 sf_210 (Or.inl W2539) rfl rfl (noH_nil rfl) (hd rfl),
  ⟨fun hd => mk18 mt_203 sf_203 (Or.inl W1766) rfl rfl (noH_nil rfl) (hd rfl),
  ⟨fun hd => mk18 mt_204 sf_204 (Or.inl W1769) rfl rfl (noH_nil rfl) (hd rfl),
  ⟨fun hd => mk18 mt_195 sf_195 (Or.inl W1393) rfl rfl (noH_nil rfl) (hd rfl),
  trivial⟩⟩⟩⟩⟩
theorem fe_227 : eqEs ((flat code_227).filter (fun e => ndE e.2.2.1)) (fl_227_0) = true := by decide +kernel
theorem om_227 : OKm mi iT prg 227 := OKm_of (code := code_227) rfl mt_227 (Or.inl (by decide +kernel)) rfl wk_227 (by decide +kernel) (by decide +kernel) (FA_of fe_227 (fb_227_0))
def fl_228_0 : List Ent := [(2, 3, 19, .invokevirtual 161, [3, 2, 2, 1, 209], 0), (10, 3, 18, .invokestatic 138, [0, 3, 3, 203], 0), (21, 3, 18, .invokestatic 138, [0, 3, 3, 203], 0), (32, 3, 18, .invokestatic 142, [9, 1, 1, 204], 0), (37, 3, 6, .getfield 298, [3, 22, 101], 0), (41, 3, 18, .invokestatic 314, [3, 1, 1, 196], 0), (45, 3, 19, .invokevirtual 318, [0, 3, 3, 19, 579], 0), (53, 3, 6, .getfield 298, [3, 22, 101], 0), (58, 3, 19, .invokevirtual 322, [2, 2, 2, 19, 580], 0), (61, 3, 18, .invokestatic 211, [2, 1, 2, 214], 0), (67, 3, 15, .ldc2_w 274, [13830554455654793216], 0)]
theorem fb_228_0 : FB mi iT mi_228 (bpc code_228) (fl_228_0) := ⟨fun hd => mk19 mt_209 cf_209 (vf_209_1.rt (Or.inl W2535) (hd rfl)) rfl rfl (noH_nil rfl),
  ⟨fun hd => mk18 mt_203 sf_203 (Or.inl W1766) rfl rfl (noH_nil rfl) (hd rfl),
  ⟨fun hd => mk18 mt_203 sf_203 (Or.inl W1766) rfl rfl (noH_nil rfl) (hd rfl),
  ⟨fun hd => mk18 mt_204 sf_204 (Or.inl W1769) rfl rfl (noH_nil rfl) (hd rfl),
  ⟨fun hd => mk6 fld_22_9 (Or.inl ⟨rfl, by decide⟩) (Or.inr ⟨_, W2284⟩) (Or.inl rfl) (hd rfl),
  ⟨fun hd => mk18 mt_196 sf_196 (Or.inl W2765) rfl rfl (noH_nil rfl) (hd rfl),
  ⟨fun hd => mk19 mt_579 cf_579 (vf_579_19.rt (Or.inl W2766) (hd rfl)) rfl rfl (noH_nil rfl),
  ⟨fun hd => mk6 fld_22_9 (Or.inl ⟨rfl, by decide⟩) (Or.inr ⟨_, W2284⟩) (Or.inl rfl) (hd rfl),
  ⟨fun hd => mk19 mt_580 cf_580 (vf_580_19.rt (Or.inl W2770) (hd rfl)) rfl rfl (noH_nil rfl),
  ⟨fun hd => mk18 mt_214 sf_214 (Or.inl W2604) rfl rfl (noH_nil rfl) (hd rfl),
  ⟨fun hd => mk15 W2710 (hd rfl),
  trivial⟩⟩⟩⟩⟩⟩⟩⟩⟩⟩⟩
theorem fe_228 : eqEs ((flat code_228).filter (fun e => ndE e.2.2.1)) (fl_228_0) = true := by decide +kernel
theorem om_228 : OKm mi iT prg 228 := OKm_of (code := code_228) rfl mt_228 (Or.inl (by decide +kernel)) rfl wk_228 (by decide +kernel) (by decide +kernel) (FA_of fe_228 (fb_228_0))
def fl_229_0 : List Ent := [(2, 3, 19, .invokevirtual 161, [3, 2, 2, 1, 209], 0), (5, 3, 6, .getfield 298, [3, 22, 101], 0), (9, 3, 19, .invokevirtual 323, [0, 2, 2, 19, 564], 0)]
theorem fb_229_0 : FB mi iT mi_229 (bpc code_229) (fl_229_0) := ⟨fun hd => mk19 mt_209 cf_209 (vf_209_1.rt (Or.inl W2535) (hd rfl)) rfl rfl (noH_nil rfl),
  ⟨fun hd => mk6 fld_22_9 (Or.inl ⟨rfl, by decide⟩) (Or.inr ⟨_, W2284⟩) (Or.inl rfl) (hd rfl),
  ⟨fun hd => mk19 mt_564 cf_564 (vf_564_19.rt (Or.inl W1400) (hd rfl)) rfl rfl (noH_nil rfl),
  trivial⟩⟩⟩
theorem fe_229 : eqEs ((flat code_229).filter (fun e => ndE e.2.2.1)) (fl_229_0) = true := by decide +kernel
theorem om_229 : OKm mi iT prg 229 := OKm_of (code := code_229) rfl mt_229 (Or.inl (by decide +kernel)) rfl wk_229 (by decide +kernel) (by decide +kernel) (FA_of fe_229 (fb_229_0))
def fl_230_0 : List Ent := [(5, 3, 18, .invokestatic 138, [0, 3, 3, 203], 0), (16, 3, 18, .invokestatic 138, [0, 3, 3, 203], 0), (31, 3, 18, .invokestatic 138, [0, 3, 3, 203], 0), (42, 3, 18, .invokestatic 138, [0, 3, 3, 203], 0), (53, 3, 18, .invokestatic 138, [0, 3, 3, 203], 0), (64, 3, 18, .invokestatic 142, [9, 1, 1, 204], 0), (68, 3, 6, .getfield 75, [3, 1, 3], 0), (71, 3, 19, .invokevirtual 327, [0, 1, 1, 4, 292], 0), (82, 3, 18, .invokestatic 146, [9, 1, 1, 205], 0), (86, 3, 6, .getfield 75, [3, 1, 3], 0), (89, 3, 6, .getfield 330, [3, 4, 18], 0), (92, 3, 11, .new 333, [27, 6], 0), (103, 3, 36, .invokespecial 335, [9, 6, 6, 27, 730], 0), (106, 3, 19, .invokevirtual 157, [0, 2, 2, 5, 8], 0), (111, 3, 6, .getfield 75, [3, 1, 3], 0), (114, 3, 6, .getfield 330, [3, 4, 18], 0), (117, 3, 19, .invokevirtual 124, [0, 1, 1, 5, 5], 0)]
theorem fb_230_0 : FB mi iT mi_230 (bpc code_230) (fl_230_0) := ⟨fun hd => mk18 mt_203 sf_203 (Or.inl W1766) rfl rfl (noH_nil rfl) (hd rfl),
  ⟨fun hd => mk18 mt_203 sf_203 (Or.inl W1766) rfl rfl (noH_nil rfl) (hd rfl),
  ⟨fun hd => mk18 mt_203 sf_203 (Or.inl W1766) rfl rfl (noH_nil rfl) (hd rfl),
  ⟨fun hd => mk18 mt_203 sf_203 (Or.inl W1766) rfl rfl (noH_nil rfl) (hd rfl),
  ⟨fun hd => mk18 mt_203 sf_203 (Or.inl W1766) rfl rfl (noH_nil rfl) (hd rfl),
  ⟨fun hd => mk18 mt_204 sf_204 (Or.inl W1769) rfl rfl (noH_nil rfl) (hd rfl),
  ⟨fun hd => mk6 fld_1_2 (Or.inl ⟨rfl, by decide⟩) (Or.inl W402) (Or.inl rfl) (hd rfl),
  ⟨fun hd => mk19 mt_292 cf_292 (vf_292_4.rt (Or.inl W2792) (hd rfl)) rfl rfl (noH_nil rfl),
  ⟨fun hd => mk18 mt_205 sf_205 (Or.inl W1793) rfl rfl (noH_nil rfl) (hd rfl),
  ⟨fun hd => mk6 fld_1_2 (Or.inl ⟨rfl, by decide⟩) (Or.inl W402) (Or.inl rfl) (hd rfl),
  ⟨fun hd => mk6 fld_4_0 (Or.inl ⟨rfl, by decide⟩) (Or.inr ⟨_, W276⟩) (Or.inl rfl) (hd rfl),
  ⟨fun hd => mk11 nf_27 W922 (hd rfl),
  ⟨fun hd => mk36 mt_730 cf_730 (ic_730.rt (Or.inl W2798) (hd rfl)) rfl rfl,
  ⟨fun hd => mk19 mt_8 cf_8 (vf_8_5.rt (Or.inl W2386) (hd rfl)) rfl rfl (noH_nil rfl),
  ⟨fun hd => mk6 fld_1_2 (Or.inl ⟨rfl, by decide⟩) (Or.inl W402) (Or.inl rfl) (hd rfl),
  ⟨fun hd => mk6 fld_4_0 (Or.inl ⟨rfl, by decide⟩) (Or.inr ⟨_, W276⟩) (Or.inl rfl) (hd rfl),
  ⟨fun hd => mk19 mt_5 cf_5 (vf_5_5.rt (Or.inl W1021) (hd rfl)) rfl rfl (noH_nil rfl),
  trivial⟩⟩⟩⟩⟩⟩⟩⟩⟩⟩⟩⟩⟩⟩⟩⟩⟩
theorem fe_230 : eqEs ((flat code_230).filter (fun e => ndE e.2.2.1)) (fl_230_0) = true := by decide +kernel
theorem om_230 : OKm mi iT prg 230 := OKm_of (code := code_230) rfl mt_230 (Or.inl (by decide +kernel)) rfl wk_230 (by decide +kernel) (by decide +kernel) (FA_of fe_230 (fb_230_0))
def fl_231_0 : List Ent := [(1, 3, 6, .getfield 75, [3, 1, 3], 0), (5, 3, 19, .invokevirtual 338, [3, 2, 2, 4, 293], 0), (14, 3, 18, .invokestatic 138, [0, 3, 3, 203], 0), (17, 3, 18, .invokestatic 142, [9, 1, 1, 204], 0), (21, 3, 6, .getfield 75, [3, 1, 3], 0), (24, 3, 19, .invokevirtual 342, [0, 1, 1, 4, 294], 0), (35, 3, 18, .invokestatic 146, [9, 1, 1, 205], 0), (39, 3, 6, .getfield 68, [3, 1, 2], 0), (42, 3, 13, .getstatic 345, [17], 0), (47, 3, 6, .getfield 351, [0, 27, 146], 0), (53, 3, 19, .invokevirtual 354, [9, 4, 4, 3, 286], 0), (57, 3, 6, .getfield 75, [3, 1, 3], 0), (60, 3, 6, .getfield 358, [3, 4, 19], 0), (63, 3, 11, .new 361, [28, 3], 0), (70, 3, 6, .getfield 363, [0, 1, 9], 0), (74, 3, 6, .getfield 366, [0, 27, 147], 0), (78, 3, 36, .invokespecial 369, [9, 4, 4, 28, 731], 0), (81, 3, 19, .invokevirtual 157, [0, 2, 2, 5, 8], 0), (86, 3, 6, .getfield 363, [0, 1, 9], 0), (90, 3, 6, .getfield 366, [0, 27, 147], 0)]
theorem fb_231_0 : FB mi iT mi_231 (bpc code_231) (fl_231_0) := ⟨fun hd => mk6 fld_1_2 (Or.inl ⟨rfl, by decide⟩) (Or.inl W402) (Or.inl rfl) (hd rfl),
  ⟨fun hd => mk19 mt_293 cf_293 (vf_293_4.rt (Or.inl W2838) (hd rfl)) rfl rfl (noH_nil rfl),
  ⟨fun hd => mk18 mt_203 sf_203 (Or.inl W1766) rfl rfl (noH_nil rfl) (hd rfl),
  ⟨fun hd => mk18 mt_204 sf_204 (Or.inl W1769) rfl rfl (noH_nil rfl) (hd rfl),
  ⟨fun hd => mk6 fld_1_2 (Or.inl ⟨rfl, by decide⟩) (Or.inl W402) (Or.inl rfl) (hd rfl),
  ⟨fun hd => mk19 mt_294 cf_294 (vf_294_4.rt (Or.inl W2845) (hd rfl)) rfl rfl (noH_nil rfl),
  ⟨fun hd => mk18 mt_205 sf_205 (Or.inl W1793) rfl rfl (noH_nil rfl) (hd rfl),
  ⟨fun hd => mk6 fld_1_1 (Or.inl ⟨rfl, by decide⟩) (Or.inl W401) (Or.inl rfl) (hd rfl),
  ⟨fun hd => mk13s (by decide) rfl (Or.inl W2849) (Or.inl rfl) (hd rfl),
  ⟨fun hd => mk6 fld_27_3 (Or.inl ⟨rfl, by decide⟩) (Or.inr ⟨_, W2813⟩) (Or.inl rfl) (hd rfl),
  ⟨fun hd => mk19 mt_286 cf_286 (vf_286_3.rt (Or.inl W2851) (hd rfl)) rfl rfl (noH_nil rfl),
  ⟨fun hd => mk6 fld_1_2 (Or.inl ⟨rfl, by decide⟩) (Or.inl W402) (Or.inl rfl) (hd rfl),
  ⟨fun hd => mk6 fld_4_1 (Or.inl ⟨rfl, by decide⟩) (Or.inr ⟨_, W278⟩) (Or.inl rfl) (hd rfl),
  ⟨fun hd => mk11 nf_28 W2885 (hd rfl),
  ⟨fun hd => mk6 fld_1_8 (Or.inl ⟨rfl, by decide⟩) (Or.inl W408) (Or.inl rfl) (hd rfl),
  ⟨fun hd => mk6 fld_27_4 (Or.inl ⟨rfl, by decide⟩) (Or.inr ⟨_, W2816⟩) (Or.inl rfl) (hd rfl),
  ⟨fun hd => mk36 mt_731 cf_731 (ic_731.rt (Or.inl W2887) (hd rfl)) rfl rfl,
  ⟨fun hd => mk19 mt_8 cf_8 (vf_8_5.rt (Or.inl W2386) (hd rfl)) rfl rfl (noH_nil rfl),
  ⟨fun hd => mk6 fld_1_8 (Or.inl ⟨rfl, by decide⟩) (Or.inl W408) (Or.inl rfl) (hd rfl),
  ⟨fun hd => mk6 fld_27_4 (Or.inl ⟨rfl, by decide⟩) (Or.inr ⟨_, W2816⟩) (Or.inl rfl) (hd rfl),
  trivial⟩⟩⟩⟩⟩⟩⟩⟩⟩⟩⟩⟩⟩⟩⟩⟩⟩⟩⟩⟩
theorem fe_231 : eqEs ((flat code_231).filter (fun e => ndE e.2.2.1)) (fl_231_0) = true := by decide +kernel
theorem om_231 : OKm mi iT prg 231 := OKm_of (code := code_231) rfl mt_231 (Or.inl (by decide +kernel)) rfl wk_231 (by decide +kernel) (by decide +kernel) (FA_of fe_231 (fb_231_0))
def fl_232_0 : List Ent := [(2, 3, 19, .invokevirtual 161, [3, 2, 2, 1, 209], 0), (10, 3, 18, .invokestatic 128, [9, 2, 2, 210], 0), (15, 3, 18, .invokestatic 128, [9, 2, 2, 210], 0), (19, 3, 6, .getfield 75, [3, 1, 3], 0), (24, 3, 19, .invokevirtual 338, [3, 2, 2, 4, 293], 0), (33, 3, 19, .invokevirtual 286, [3, 3, 3, 22, 487], 0), (42, 3, 18, .invokestatic 375, [0, 2, 2, 233], 0), (45, 3, 18, .invokestatic 142, [9, 1, 1, 204], 0), (50, 3, 6, .getfield 165, [3, 22, 105], 0), (53, 3, 13, .getstatic 249, [16], 0), (61, 3, 6, .getfield 379, [0, 23, 124], 0), (72, 3, 18, .invokestatic 146, [9, 1, 1, 205], 0), (76, 3, 6, .getfield 75, [3, 1, 3], 0), (83, 3, 19, .invokevirtual 382, [0, 3, 3, 4, 295], 0)]
theorem fb_232_0 : FB mi iT mi_232 (bpc code_232) (fl_232_0) := ⟨fun hd => mk19 mt_209 cf_209 (vf_209_1.rt (Or.inl W2535) (hd rfl)) rfl rfl (noH_nil rfl),
  ⟨fun hd => mk18 mt_210 sf_210 (Or.inl W2539) rfl rfl (noH_nil rfl) (hd rfl),
  ⟨fun hd => mk18 mt_210 sf_210 (Or.inl W2539) rfl rfl (noH_nil rfl) (hd rfl),
  ⟨fun hd => mk6 fld_1_2 (Or.inl ⟨rfl, by decide⟩) (Or.inl W402) (Or.inl rfl) (hd rfl),
  ⟨fun hd => mk19 mt_293 cf_293 (vf_293_4.rt (Or.inl W2838) (hd rfl)) rfl rfl (noH_nil rfl),
  ⟨fun hd => mk19 mt_487 cf_487 (vf_487_22.rt (Or.inl W1396) (hd rfl)) rfl rfl (noH_nil rfl),
  ⟨fun hd => mk18 mt_233 sf_233 (Or.inl W2911) rfl rfl (noH_nil rfl) (hd rfl),
  ⟨fun hd => mk18 mt_204 sf_204 (Or.inl W1769) rfl rfl (noH_nil rfl) (hd rfl),
  ⟨fun hd => mk6 fld_22_13 (Or.inl ⟨rfl, by decide⟩) (Or.inr ⟨_, W2297⟩) (Or.inl rfl) (hd rfl),
  ⟨fun hd => mk13s (by decide) rfl (Or.inl W2694) (Or.inl rfl) (hd rfl),
  ⟨fun hd => mk6 fld_23_5 (Or.inl ⟨rfl, by decide⟩) (Or.inr ⟨_, W2090⟩) (Or.inl rfl) (hd rfl),
  ⟨fun hd => mk18 mt_205 sf_205 (Or.inl W1793) rfl rfl (noH_nil rfl) (hd rfl),
  ⟨fun hd => mk6 fld_1_2 (Or.inl ⟨rfl, by decide⟩) (Or.inl W402) (Or.inl rfl) (hd rfl),
  ⟨fun hd => mk19 mt_295 cf_295 (vf_295_4.rt (Or.inl W2914) (hd rfl)) rfl rfl (noH_nil rfl),
  trivial⟩⟩⟩⟩⟩⟩⟩⟩⟩⟩⟩⟩⟩⟩
theorem fe_232 : eqEs ((flat code_232).filter (fun e => ndE e.2.2.1)) (fl_232_0) = true := by decide +kernel
theorem om_232 : OKm mi iT prg 232 := OKm_of (code := code_232) rfl mt_232 (Or.inl (by decide +kernel)) rfl wk_232 (by decide +kernel) (by decide +kernel) (FA_of fe_232 (fb_232_0))
def fl_233_0 : List Ent := [(1, 3, 6, .getfield 290, [0, 23, 122], 0), (8, 3, 6, .getfield 372, [0, 27, 145], 0), (12, 3, 6, .getfield 290, [0, 23, 122], 0)]
theorem fb_233_0 : FB mi iT mi_233 (bpc code_233) (fl_233_0) := ⟨fun hd => mk6 fld_23_3 (Or.inl ⟨rfl, by decide⟩) (Or.inr ⟨_, W2084⟩) (Or.inl rfl) (hd rfl),
  ⟨fun hd => mk6 fld_27_2 (Or.inl ⟨rfl, by decide⟩) (Or.inr ⟨_, W2810⟩) (Or.inl rfl) (hd rfl),
  ⟨fun hd => mk6 fld_23_3 (Or.inl ⟨rfl, by decide⟩) (Or.inr ⟨_, W2084⟩) (Or.inl rfl) (hd rfl),
  trivial⟩⟩⟩
theorem fe_233 : eqEs ((flat code_233).filter (fun e => ndE e.2.2.1)) (fl_233_0) = true := by decide +kernel
theorem om_233 : OKm mi iT prg 233 := OKm_of (code := code_233) rfl mt_233 (Or.inl (by decide +kernel)) rfl wk_233 (by decide +kernel) (by decide +kernel) (FA_of fe_233 (fb_233_0))
def fl_234_0 : List Ent := [(2, 3, 19, .invokevirtual 161, [3, 2, 2, 1, 209], 0), (7, 3, 6, .getfield 75, [3, 1, 3], 0), (11, 3, 19, .invokevirtual 338, [3, 2, 2, 4, 293], 0), (20, 3, 6, .getfield 386, [3, 22, 94], 0), (27, 1, 10, .arraylength, [105], 0), (48, 3, 6, .getfield 165, [3, 22, 105], 0), (51, 3, 13, .getstatic 249, [16], 0), (59, 3, 6, .getfield 379, [0, 23, 124], 0), (69, 3, 18, .invokestatic 375, [0, 2, 2, 233], 0), (78, 3, 6, .getfield 75, [3, 1, 3], 0), (85, 3, 19, .invokevirtual 382, [0, 3, 3, 4, 295], 0)]
theorem fb_234_0 : FB mi iT mi_234 (bpc code_234) (fl_234_0) := ⟨fun hd => mk19 mt_209 cf_209 (vf_209_1.rt (Or.inl W2535) (hd rfl)) rfl rfl (noH_nil rfl),
  ⟨fun hd => mk6 fld_1_2 (Or.inl ⟨rfl, by decide⟩) (Or.inl W402) (Or.inl rfl) (hd rfl),
  ⟨fun hd => mk19 mt_293 cf_293 (vf_293_4.rt (Or.inl W2838) (hd rfl)) rfl rfl (noH_nil rfl),
  ⟨fun hd => mk6 fld_22_2 (Or.inl ⟨rfl, by decide⟩) (Or.inr ⟨_, W2252⟩) (Or.inl rfl) (hd rfl),
  ⟨fun hd => mk10 (by decide) rfl (hd rfl),
  ⟨fun hd => mk6 fld_22_13 (Or.inl ⟨rfl, by decide⟩) (Or.inr ⟨_, W2297⟩) (Or.inl rfl) (hd rfl),
  ⟨fun hd => mk13s (by decide) rfl (Or.inl W2694) (Or.inl rfl) (hd rfl),
  ⟨fun hd => mk6 fld_23_5 (Or.inl ⟨rfl, by decide⟩) (Or.inr ⟨_, W2090⟩) (Or.inl rfl) (hd rfl),
  ⟨fun hd => mk18 mt_233 sf_233 (Or.inl W2911) rfl rfl (noH_nil rfl) (hd rfl),
  ⟨fun hd => mk6 fld_1_2 (Or.inl ⟨rfl, by decide⟩) (Or.inl W402) (Or.inl rfl) (hd rfl),
  ⟨fun hd => mk19 mt_295 cf_295 (vf_295_4.rt (Or.inl W2914) (hd rfl)) rfl rfl (noH_nil rfl),
  trivial⟩⟩⟩⟩⟩⟩⟩⟩⟩⟩⟩
theorem fe_234 : eqEs ((flat code_234).filter (fun e => ndE e.2.2.1)) (fl_234_0) = true := by decide +kernel
theorem om_234 : OKm mi iT prg 234 := OKm_of (code := code_234) rfl mt_234 (Or.inl (by decide +kernel)) rfl wk_234 (by decide +kernel) (by decide +kernel) (FA_of fe_234 (fb_234_0))
def fl_235_0 : List Ent := [(2, 3, 19, .invokevirtual 161, [3, 2, 2, 1, 209], 0), (5, 3, 19, .invokevirtual 389, [0, 1, 1, 22, 490], 0)]
theorem fb_235_0 : FB mi iT mi_235 (bpc code_235) (fl_235_0) := ⟨fun hd => mk19 mt_209 cf_209 (vf_209_1.rt (Or.inl W2535) (hd rfl)) rfl rfl (noH_nil rfl),
  ⟨fun hd => mk19 mt_490 cf_490 (vf_490_22.rt (Or.inl W3135) (hd rfl)) rfl rfl (noH_nil rfl),
  trivial⟩⟩
theorem fe_235 : eqEs ((flat code_235).filter (fun e => ndE e.2.2.1)) (fl_235_0) = true := by decide +kernel
theorem om_235 : OKm mi iT prg 235 := OKm_of (code := code_235) rfl mt_235 (Or.inl (by decide +kernel)) rfl wk_235 (by decide +kernel) (by decide +kernel) (FA_of fe_235 (fb_235_0))
def fl_236_0 : List Ent := [(1, 3, 6, .getfield 75, [3, 1, 3], 0), (5, 3, 19, .invokevirtual 338, [3, 2, 2, 4, 293], 0), (13, 3, 18, .invokestatic 138, [0, 3, 3, 203], 0), (16, 3, 18, .invokestatic 142, [9, 1, 1, 204], 0), (20, 3, 6, .getfield 75, [3, 1, 3], 0), (25, 3, 19, .invokevirtual 392, [0, 3, 3, 4, 289], 0)]
theorem fb_236_0 : FB mi iT mi_236 (bpc code_236) (fl_236_0) := ⟨fun hd => mk6 fld_1_2 (Or.inl ⟨rfl, by decide⟩) (Or.inl W402) (Or.inl rfl) (hd rfl),
  ⟨fun hd => mk19 mt_293 cf_293 (vf_293_4.rt (Or.inl W2838) (hd rfl)) rfl rfl (noH_nil rfl),
  ⟨fun hd => mk18 mt_203 sf_203 (Or.inl W1766) rfl rfl (noH_nil rfl) (hd rfl),
  ⟨fun hd => mk18 mt_204 sf_204 (Or.inl W1769) rfl rfl (noH_nil rfl) (hd rfl),
  ⟨fun hd => mk6 fld_1_2 (Or.inl ⟨rfl, by decide⟩) (Or.inl W402) (Or.inl rfl) (hd rfl),
  ⟨fun hd => mk19 mt_289 cf_289 (vf_289_4.rt (Or.inl W923) (hd rfl)) rfl rfl (noH_nil rfl),
  trivial⟩⟩⟩⟩⟩⟩
theorem fe_236 : eqEs ((flat code_236).filter (fun e => ndE e.2.2.1)) (fl_236_0) = true := by decide +kernel
theorem om_236 : OKm mi iT prg 236 := OKm_of (code := code_236) rfl mt_236 (Or.inl (by decide +kernel)) rfl wk_236 (by decide +kernel) (by decide +kernel) (FA_of fe_236 (fb_236_0))
def fl_237_0 : List Ent := [(2, 3, 19, .invokevirtual 161, [3, 2, 2, 1, 209], 0), (7, 3, 6, .getfield 75, [3, 1, 3], 0), (11, 3, 19, .invokevirtual 338, [3, 2, 2, 4, 293], 0), (20, 3, 6, .getfield 386, [3, 22, 94], 0), (27, 1, 10, .arraylength, [105], 0), (49, 3, 6, .getfield 379, [0, 23, 124], 0), (59, 3, 18, .invokestatic 375, [0, 2, 2, 233], 0), (67, 3, 11, .new 395, [30, 4], 0), (75, 3, 19, .invokevirtual 397, [0, 1, 1, 23, 592], 0), (80, 3, 19, .invokevirtual 400, [0, 1, 1, 23, 593], 0), (83, 3, 36, .invokespecial 403, [9, 4, 4, 30, 732], 0), (86, 3, 19, .invokevirtual 404, [0, 1, 1, 30, 735], 0)]
theorem fb_237_0 : FB mi iT mi_237 (bpc code_237) (fl_237_0) := ⟨fun hd => mk19 mt_209 cf_209 (vf_209_1.rt (Or.inl W2535) (hd rfl)) rfl rfl (noH_nil rfl),
  ⟨fun hd => mk6 fld_1_2 (Or.inl ⟨rfl, by decide⟩) (Or.inl W402) (Or.inl rfl) (hd rfl),
  ⟨fun hd => mk19 mt_293 cf_293 (vf_293_4.rt (Or.inl W2838) (hd rfl)) rfl rfl (noH_nil rfl),
  ⟨fun hd => mk6 fld_22_2 (Or.inl ⟨rfl, by decide⟩) (Or.inr ⟨_, W2252⟩) (Or.inl rfl) (hd rfl),
  ⟨fun hd => mk10 (by decide) rfl (hd rfl),
  ⟨fun hd => mk6 fld_23_5 (Or.inl ⟨rfl, by decide⟩) (Or.inr ⟨_, W2090⟩) (Or.inl rfl) (hd rfl),
  ⟨fun hd => mk18 mt_233 sf_233 (Or.inl W2911) rfl rfl (noH_nil rfl) (hd rfl),
  ⟨fun hd => mk11 nf_30 W3153 (hd rfl),
  ⟨fun hd => mk19 mt_592 cf_592 (vf_592_23.rt (Or.inl W3154) (hd rfl)) rfl rfl (noH_nil rfl),
  ⟨fun hd => mk19 mt_593 cf_593 (vf_593_23.rt (Or.inl W3155) (hd rfl)) rfl rfl (noH_nil rfl),
  ⟨fun hd => mk36 mt_732 cf_732 (ic_732.rt (Or.inl W3156) (hd rfl)) rfl rfl,
  ⟨fun hd => mk19 mt_735 cf_735 (vf_735_30.rt (Or.inl W3157) (hd rfl)) rfl rfl (noH_nil rfl),
  trivial⟩⟩⟩⟩⟩⟩⟩⟩⟩⟩⟩⟩
theorem fe_237 : eqEs ((flat code_237).filter (fun e => ndE e.2.2.1)) (fl_237_0) = true := by decide +kernel
theorem om_237 : OKm mi iT prg 237 := OKm_of (code := code_237) rfl mt_237 (Or.inl (by decide +kernel)) rfl wk_237 (by decide +kernel) (by decide +kernel) (FA_of fe_237 (fb_237_0))
def fl_238_0 : List Ent := [(2, 3, 19, .invokevirtual 161, [3, 2, 2, 1, 209], 0), (8, 3, 18, .invokestatic 128, [9, 2, 2, 210], 0), (12, 3, 6, .getfield 165, [3, 22, 105], 0), (15, 3, 13, .getstatic 169, [15], 0), (22, 3, 6, .getfield 82, [3, 1, 4], 0), (27, 3, 19, .invokevirtual 407, [0, 3, 3, 6, 308], 0), (38, 3, 18, .invokestatic 146, [9, 1, 1, 205], 0), (42, 3, 13, .getstatic 249, [16], 0), (45, 3, 7, .putfield 165, [3, 22, 105], 0), (49, 3, 6, .getfield 82, [3, 1, 4], 0), (54, 3, 19, .invokevirtual 411, [9, 3, 3, 6, 309], 0), (58, 3, 6, .getfield 415, [3, 22, 102], 0), (61, 3, 19, .invokevirtual 419, [9, 1, 1, 12, 626], 0), (65, 3, 6, .getfield 82, [3, 1, 4], 0), (69, 3, 19, .invokevirtual 423, [0, 2, 2, 6, 301], 0), (81, 3, 6, .getfield 82, [3, 1, 4], 0), (85, 3, 19, .invokevirtual 423, [0, 2, 2, 6, 301], 0)]
theorem fb_238_0 : FB mi iT mi_238 (bpc code_238) (fl_238_0) := ⟨fun hd => mk19 mt_209 cf_209 (vf_209_1.rt (Or.inl W2535) (hd rfl)) rfl rfl (noH_nil rfl),
  ⟨fun hd => mk18 mt_210 sf_210 (Or.inl W2539) rfl rfl (noH_nil rfl) (hd rfl),
  ⟨fun hd => mk6 fld_22_13 (Or.inl ⟨rfl, by decide⟩) (Or.inr ⟨_, W2297⟩) (Or.inl rfl) (hd rfl),
  ⟨fun hd => mk13s (by decide) rfl (Or.inl W2558) (Or.inl rfl) (hd rfl),
  ⟨fun hd => mk6 fld_1_3 (Or.inl ⟨rfl, by decide⟩) (Or.inl W403) (Or.inl rfl) (hd rfl),
  ⟨fun hd => mk19 mt_308 cf_308 (vf_308_6.rt (Or.inl W3165) (hd rfl)) rfl rfl (noH_nil rfl),
  ⟨fun hd => mk18 mt_205 sf_205 (Or.inl W1793) rfl rfl (noH_nil rfl) (hd rfl),
  ⟨fun hd => mk13s (by decide) rfl (Or.inl W2694) (Or.inl rfl) (hd rfl),
  ⟨fun hd => mk7 fld_22_13 (Or.inr ⟨_, W2297⟩) (Or.inl rfl) (Or.inl rfl) (hd rfl),
  ⟨fun hd => mk6 fld_1_3 (Or.inl ⟨rfl, by decide⟩) (Or.inl W403) (Or.inl rfl) (hd rfl),
  ⟨fun hd => mk19 mt_309 cf_309 (vf_309_6.rt (Or.inl W3172) (hd rfl)) rfl rfl (noH_nil rfl),
  ⟨fun hd => mk6 fld_22_10 (Or.inl ⟨rfl, by decide⟩) (Or.inr ⟨_, W2288⟩) (Or.inl rfl) (hd rfl),
  ⟨fun hd => mk19 mt_626 cf_626 (vf_626_12.rt (Or.inl W3180) (hd rfl)) rfl rfl (noH_nil rfl),
  ⟨fun hd => mk6 fld_1_3 (Or.inl ⟨rfl, by decide⟩) (Or.inl W403) (Or.inl rfl) (hd rfl),
  ⟨fun hd => mk19 mt_301 cf_301 (vf_301_6.rt (Or.inl W944) (hd rfl)) rfl rfl (noH_nil rfl),
  ⟨fun hd => mk6 fld_1_3 (Or.inl ⟨rfl, by decide⟩) (Or.inl W403) (Or.inl rfl) (hd rfl),
  ⟨fun hd => mk19 mt_301 cf_301 (vf_301_6.rt (Or.inl W944) (hd rfl)) rfl rfl (noH_nil rfl),
  trivial⟩⟩⟩⟩⟩⟩⟩⟩⟩⟩⟩⟩⟩⟩⟩⟩⟩
theorem fe_238 : eqEs ((flat code_238).filter (fun e => ndE e.2.2.1)) (fl_238_0) = true := by decide +kernel
theorem om_238 : OKm mi iT prg 238 := OKm_of (code := code_238) rfl mt_238 (Or.inl (by decide +kernel)) rfl wk_238 (by decide +kernel) (by decide +kernel) (FA_of fe_238 (fb_238_0))
def fl_239_0 : List Ent := [(2, 3, 19, .invokevirtual 161, [3, 2, 2, 1, 209], 0), (7, 3, 6, .getfield 165, [3, 22, 105], 0), (10, 3, 13, .getstatic 249, [16], 0), (17, 3, 6, .getfield 415, [3, 22, 102], 0), (22, 3, 19, .invokevirtual 426, [0, 2, 2, 12, 627], 0), (33, 3, 18, .invokestatic 146, [9, 1, 1, 205], 0), (37, 3, 6, .getfield 363, [0, 1, 9], 0), (40, 3, 18, .invokestatic 429, [0, 1, 1, 303], 0), (45, 3, 6, .getfield 120, [0, 1, 10], 0), (48, 3, 18, .invokestatic 433, [0, 1, 1, 240], 0), (56, 3, 6, .getfield 436, [0, 22, 109], 0), (60, 3, 18, .invokestatic 439, [0, 3, 3, 311], 0), (69, 3, 6, .getfield 82, [3, 1, 4], 0), (74, 3, 19, .invokevirtual 443, [0, 3, 3, 6, 312], 0), (89, 3, 19, .invokevirtual 446, [0, 1, 1, 22, 491], 0), (98, 3, 6, .getfield 82, [3, 1, 4], 0), (102, 3, 19, .invokevirtual 449, [9, 2, 2, 6, 310], 0), (106, 3, 13, .getstatic 453, [18], 0), (109, 3, 19, .invokevirtual 456, [9, 2, 2, 22, 492], 0), (116, 3, 13, .getstatic 460, [19], 0), (119, 3, 7, .putfield 165, [3, 22, 105], 0), (123, 3, 6, .getfield 82, [3, 1, 4], 0), (129, 3, 19, .invokevirtual 411, [9, 3, 3, 6, 309], 0), (133, 3, 6, .getfield 107, [3, 1, 7], 0), (137, 3, 19, .invokevirtual 463, [9, 2, 2, 8, 328], 0)]
theorem fb_239_0 : FB mi iT mi_239 (bpc code_239) (fl_239_0) := ⟨fun hd => mk19 mt_209 cf_209 (vf_209_1.rt (Or.inl W2535) (hd rfl)) rfl rfl (noH_nil rfl),
  ⟨fun hd => mk6 fld_22_13 (Or.inl ⟨rfl, by decide⟩) (Or.inr ⟨_, W2297⟩) (Or.inl rfl) (hd rfl),
  ⟨fun hd => mk13s (by decide) rfl (Or.inl W2694) (Or.inl rfl) (hd rfl),
  ⟨fun hd => mk6 fld_22_10 (Or.inl ⟨rfl, by decide⟩) (Or.inr ⟨_, W2288⟩) (Or.inl rfl) (hd rfl),
  ⟨fun hd => mk19 mt_627 cf_627 (vf_627_12.rt (Or.inl W3203) (hd rfl)) rfl rfl (noH_nil rfl),
  ⟨fun hd => mk18 mt_205 sf_205 (Or.inl W1793) rfl rfl (noH_nil rfl) (hd rfl),
  ⟨fun hd => mk6 fld_1_8 (Or.inl ⟨rfl, by decide⟩) (Or.inl W408) (Or.inl rfl) (hd rfl),
  ⟨fun hd => mk18 mt_303 sf_303 (Or.inl W1005) rfl rfl (noH_nil rfl) (hd rfl),
  ⟨fun hd => mk6 fld_1_9 (Or.inl ⟨rfl, by decide⟩) (Or.inl W409) (Or.inl rfl) (hd rfl),
  ⟨fun hd => mk18 mt_240 sf_240 (Or.inl W3208) rfl rfl (noH_nil rfl) (hd rfl),
  ⟨fun hd => mk6 fld_22_17 (Or.inl ⟨rfl, by decide⟩) (Or.inr ⟨_, W2310⟩) (Or.inl rfl) (hd rfl),
  ⟨fun hd => mk18 mt_311 sf_311 (Or.inl W3211) rfl rfl (noH_nil rfl) (hd rfl),
  ⟨fun hd => mk6 fld_1_3 (Or.inl ⟨rfl, by decide⟩) (Or.inl W403) (Or.inl rfl) (hd rfl),
  ⟨fun hd => mk19 mt_312 cf_312 (vf_312_6.rt (Or.inl W3216) (hd rfl)) rfl rfl (noH_nil rfl),
  ⟨fun hd => mk19 mt_491 cf_491 (vf_491_22.rt (Or.inl W3222) (hd rfl)) rfl rfl (noH_nil rfl),
  ⟨fun hd => mk6 fld_1_3 (Or.inl ⟨rfl, by decide⟩) (Or.inl W403) (Or.inl rfl) (hd rfl),
  ⟨fun hd => mk19 mt_310 cf_310 (vf_310_6.rt (Or.inl W3228) (hd rfl)) rfl rfl (noH_nil rfl),
  ⟨fun hd => mk13s (by decide) rfl (Or.inl W3229) (Or.inl rfl) (hd rfl),
  ⟨fun hd => mk19 mt_492 cf_492 (vf_492_22.rt (Or.inl W3230) (hd rfl)) rfl rfl (noH_nil rfl),
  ⟨fun hd => mk13s (by decide) rfl (Or.inl W3244) (Or.inl rfl) (hd rfl),
  ⟨fun hd => mk7 fld_22_13 (Or.inr ⟨_, W2297⟩) (Or.inl rfl) (Or.inl rfl) (hd rfl),
  ⟨fun hd => mk6 fld_1_3 (Or.inl ⟨rfl, by decide⟩) (Or.inl W403) (Or.inl rfl) (hd rfl),
  ⟨fun hd => mk19 mt_309 cf_309 (vf_309_6.rt (Or.inl W3172) (hd rfl)) rfl rfl (noH_nil rfl),
  ⟨fun hd => mk6 fld_1_6 (Or.inl ⟨rfl, by decide⟩) (Or.inl W406) (Or.inl rfl) (hd rfl),
  ⟨fun hd => mk19 mt_328 cf_328 (vf_328_8.rt (Or.inl W3245) (hd rfl)) rfl rfl (noH_nil rfl),
  trivial⟩⟩⟩⟩⟩⟩⟩⟩⟩⟩⟩⟩⟩⟩⟩⟩⟩⟩⟩⟩⟩⟩⟩⟩⟩
theorem fe_239 : eqEs ((flat code_239).filter (fun e => ndE e.2.2.1)) (fl_239_0) = true := by decide +kernel
theorem om_239 : OKm mi iT prg 239 := OKm_of (code := code_239) rfl mt_239 (Or.inl (by decide +kernel)) rfl wk_239 (by decide +kernel) (by decide +kernel) (FA_of fe_239 (fb_239_0))
theorem fe_240 : eqEs ((flat code_240).filter (fun e => ndE e.2.2.1)) ([]) = true := by decide +kernel
theorem om_240 : OKm mi iT prg 240 := OKm_of (code := code_240) rfl mt_240 (Or.inl (by decide +kernel)) rfl wk_240 (by decide +kernel) (by decide +kernel) (FA_of fe_240 (trivial))
def fl_241_0 : List Ent := [(2, 3, 19, .invokevirtual 161, [3, 2, 2, 1, 209], 0), (11, 3, 21, .new 10, [3], 0), (22, 3, 18, .invokestatic 128, [9, 2, 2, 210], 0), (26, 3, 6, .getfield 165, [3, 22, 105], 0), (29, 3, 31, .invokevirtual 466, [0, 1, 1, 15, 584, 16, 584, 19, 810, 24, 812, 18, 584, 25, 584], 0), (36, 3, 6, .getfield 436, [0, 22, 109], 0), (44, 3, 6, .getfield 82, [3, 1, 4], 0), (49, 3, 19, .invokevirtual 407, [0, 3, 3, 6, 308], 0), (60, 3, 18, .invokestatic 146, [9, 1, 1, 205], 0), (64, 3, 6, .getfield 120, [0, 1, 10], 0), (67, 3, 18, .invokestatic 433, [0, 1, 1, 240], 0), (74, 3, 6, .getfield 82, [3, 1, 4], 0), (80, 3, 6, .getfield 363, [0, 1, 9], 0), (83, 3, 18, .invokestatic 429, [0, 1, 1, 303], 0), (86, 3, 19, .invokevirtual 469, [0, 4, 4, 6, 313], 0), (95, 3, 6, .getfield 472, [0, 22, 110], 0), (101, 3, 6, .getfield 82, [3, 1, 4], 0), (106, 3, 19, .invokevirtual 411, [9, 3, 3, 6, 309], 0)]
theorem fb_241_0 : FB mi iT mi_241 (bpc code_241) (fl_241_0) := ⟨fun hd => mk19 mt_209 cf_209 (vf_209_1.rt (Or.inl W2535) (hd rfl)) rfl rfl (noH_nil rfl),
  ⟨fun hd => ⟨3, 10, 12, ["java/lang/RuntimeException", "java/lang/Exception"], rfl, by decide +kernel, by decide +kernel, W2542, W177, at_3_12, by decide +kernel, (show decode prog_1_method_48_code 11 = .ok (.new 10, 3) by decide +kernel), (show decode prog_1_method_48_code 14 = .ok (.dup, 1) by decide +kernel), (show decode prog_1_method_48_code 15 = .ok (.invokespecial 12, 3) by decide +kernel), (show decode prog_1_method_48_code 18 = .ok (.athrow, 1) by decide +kernel), noH_nil rfl, by decide, by decide⟩,
  ⟨fun hd => mk18 mt_210 sf_210 (Or.inl W2539) rfl rfl (noH_nil rfl) (hd rfl),
  ⟨fun hd => mk6 fld_22_13 (Or.inl ⟨rfl, by decide⟩) (Or.inr ⟨_, W2297⟩) (Or.inl rfl) (hd rfl),
  ⟨fun hd => mk31 ⟨pr3 mt_584 cf_584 (ev_584_15.rt (Or.inl W3273) (hd rfl)) rfl rfl, ⟨pr3 mt_584 cf_584 (ev_584_16.rt (Or.inl W3273) (hd rfl)) rfl rfl, ⟨pr3 mt_810 cf_810 (ei_810_19_KeelHouse_StageisWet__Z.rt W3273 (hd rfl)) rfl rfl, ⟨pr3 mt_812 cf_812 (ei_812_24_KeelHouse_StageisWet__Z.rt W3273 (hd rfl)) rfl rfl, ⟨pr3 mt_584 cf_584 (ev_584_18.rt (Or.inl W3273) (hd rfl)) rfl rfl, ⟨pr3 mt_584 cf_584 (ev_584_25.rt (Or.inl W3273) (hd rfl)) rfl rfl, trivial⟩⟩⟩⟩⟩⟩,
  ⟨fun hd => mk6 fld_22_17 (Or.inl ⟨rfl, by decide⟩) (Or.inr ⟨_, W2310⟩) (Or.inl rfl) (hd rfl),
  ⟨fun hd => mk6 fld_1_3 (Or.inl ⟨rfl, by decide⟩) (Or.inl W403) (Or.inl rfl) (hd rfl),
  ⟨fun hd => mk19 mt_308 cf_308 (vf_308_6.rt (Or.inl W3165) (hd rfl)) rfl rfl (noH_nil rfl),
  ⟨fun hd => mk18 mt_205 sf_205 (Or.inl W1793) rfl rfl (noH_nil rfl) (hd rfl),
  ⟨fun hd => mk6 fld_1_9 (Or.inl ⟨rfl, by decide⟩) (Or.inl W409) (Or.inl rfl) (hd rfl),
  ⟨fun hd => mk18 mt_240 sf_240 (Or.inl W3208) rfl rfl (noH_nil rfl) (hd rfl),
  ⟨fun hd => mk6 fld_1_3 (Or.inl ⟨rfl, by decide⟩) (Or.inl W403) (Or.inl rfl) (hd rfl),
  ⟨fun hd => mk6 fld_1_8 (Or.inl ⟨rfl, by decide⟩) (Or.inl W408) (Or.inl rfl) (hd rfl),
  ⟨fun hd => mk18 mt_303 sf_303 (Or.inl W1005) rfl rfl (noH_nil rfl) (hd rfl),
  ⟨fun hd => mk19 mt_313 cf_313 (vf_313_6.rt (Or.inl W3287) (hd rfl)) rfl rfl (noH_nil rfl),
  ⟨fun hd => mk6 fld_22_18 (Or.inl ⟨rfl, by decide⟩) (Or.inr ⟨_, W2314⟩) (Or.inl rfl) (hd rfl),
  ⟨fun hd => mk6 fld_1_3 (Or.inl ⟨rfl, by decide⟩) (Or.inl W403) (Or.inl rfl) (hd rfl),
  ⟨fun hd => mk19 mt_309 cf_309 (vf_309_6.rt (Or.inl W3172) (hd rfl)) rfl rfl (noH_nil rfl),
  trivial⟩⟩⟩⟩⟩⟩⟩⟩⟩⟩⟩⟩⟩⟩⟩⟩⟩⟩
theorem fe_241 : eqEs ((flat code_241).filter (fun e => ndE e.2.2.1)) (fl_241_0) = true := by decide +kernel
theorem om_241 : OKm mi iT prg 241 := OKm_of (code := code_241) rfl mt_241 (Or.inl (by decide +kernel)) rfl wk_241 (by decide +kernel) (by decide +kernel) (FA_of fe_241 (fb_241_0))
def fl_242_0 : List Ent := [(3, 3, 18, .invokestatic 128, [9, 2, 2, 210], 0), (9, 3, 18, .invokestatic 138, [0, 3, 3, 203], 0), (12, 3, 18, .invokestatic 142, [9, 1, 1, 204], 0), (18, 3, 19, .invokevirtual 493, [0, 3, 3, 1, 191], 0)]
theorem fb_242_0 : FB mi iT mi_242 (bpc code_242) (fl_242_0) := ⟨fun hd => mk18 mt_210 sf_210 (Or.inl W2539) rfl rfl (noH_nil rfl) (hd rfl),
  ⟨fun hd => mk18 mt_203 sf_203 (Or.inl W1766) rfl rfl (noH_nil rfl) (hd rfl),
  ⟨fun hd => mk18 mt_204 sf_204 (Or.inl W1769) rfl rfl (noH_nil rfl) (hd rfl),
  ⟨fun hd => mk19 mt_191 cf_191 (vf_191_1.rt (Or.inl W940) (hd rfl)) rfl rfl (noH_nil rfl),
  trivial⟩⟩⟩⟩
theorem fe_242 : eqEs ((flat code_242).filter (fun e => ndE e.2.2.1)) (fl_242_0) = true := by decide +kernel
theorem om_242 : OKm mi iT prg 242 := OKm_of (code := code_242) rfl mt_242 (Or.inl (by decide +kernel)) rfl wk_242 (by decide +kernel) (by decide +kernel) (FA_of fe_242 (fb_242_0))
def fl_243_0 : List Ent := [(2, 3, 19, .invokevirtual 161, [3, 2, 2, 1, 209], 0), (9, 3, 18, .invokestatic 138, [0, 3, 3, 203], 0), (12, 3, 18, .invokestatic 142, [9, 1, 1, 204], 0), (17, 3, 18, .invokestatic 501, [0, 2, 2, 197], 0)]
theorem fb_243_0 : FB mi iT mi_243 (bpc code_243) (fl_243_0) := ⟨fun hd => mk19 mt_209 cf_209 (vf_209_1.rt (Or.inl W2535) (hd rfl)) rfl rfl (noH_nil rfl),
  ⟨fun hd => mk18 mt_203 sf_203 (Or.inl W1766) rfl rfl (noH_nil rfl) (hd rfl),
  ⟨fun hd => mk18 mt_204 sf_204 (Or.inl W1769) rfl rfl (noH_nil rfl) (hd rfl),
  ⟨fun hd => mk18 mt_197 sf_197 (Or.inl W1504) rfl rfl (noH_nil rfl) (hd rfl),
  trivial⟩⟩⟩⟩
theorem fe_243 : eqEs ((flat code_243).filter (fun e => ndE e.2.2.1)) (fl_243_0) = true := by decide +kernel
theorem om_243 : OKm mi iT prg 243 := OKm_of (code := code_243) rfl mt_243 (Or.inl (by decide +kernel)) rfl wk_243 (by decide +kernel) (by decide +kernel) (FA_of fe_243 (fb_243_0))
def fl_244_0 : List Ent := [(2, 3, 19, .invokevirtual 161, [3, 2, 2, 1, 209], 0), (7, 3, 6, .getfield 165, [3, 22, 105], 0), (10, 3, 13, .getstatic 249, [16], 0), (21, 3, 18, .invokestatic 146, [9, 1, 1, 205], 0), (25, 3, 6, .getfield 120, [0, 1, 10], 0), (40, 3, 18, .invokestatic 433, [0, 1, 1, 240], 0), (48, 3, 6, .getfield 436, [0, 22, 109], 0), (52, 3, 6, .getfield 363, [0, 1, 9], 0), (58, 3, 18, .invokestatic 429, [0, 1, 1, 303], 0), (61, 3, 18, .invokestatic 439, [0, 3, 3, 311], 0), (68, 3, 6, .getfield 363, [0, 1, 9], 0), (76, 3, 18, .invokestatic 504, [0, 1, 1, 245], 0)]
theorem fb_244_0 : FB mi iT mi_244 (bpc code_244) (fl_244_0) := ⟨fun hd => mk19 mt_209 cf_209 (vf_209_1.rt (Or.inl W2535) (hd rfl)) rfl rfl (noH_nil rfl),
  ⟨fun hd => mk6 fld_22_13 (Or.inl ⟨rfl, by decide⟩) (Or.inr ⟨_, W2297⟩) (Or.inl rfl) (hd rfl),
  ⟨fun hd => mk13s (by decide) rfl (Or.inl W2694) (Or.inl rfl) (hd rfl),
  ⟨fun hd => mk18 mt_205 sf_205 (Or.inl W1793) rfl rfl (noH_nil rfl) (hd rfl),
  ⟨fun hd => mk6 fld_1_9 (Or.inl ⟨rfl, by decide⟩) (Or.inl W409) (Or.inl rfl) (hd rfl),
  ⟨fun hd => mk18 mt_240 sf_240 (Or.inl W3208) rfl rfl (noH_nil rfl) (hd rfl),
  ⟨fun hd => mk6 fld_22_17 (Or.inl ⟨rfl, by decide⟩) (Or.inr ⟨_, W2310⟩) (Or.inl rfl) (hd rfl),
  ⟨fun hd => mk6 fld_1_8 (Or.inl ⟨rfl, by decide⟩) (Or.inl W408) (Or.inl rfl) (hd rfl),
  ⟨fun hd => mk18 mt_303 sf_303 (Or.inl W1005) rfl rfl (noH_nil rfl) (hd rfl),
  ⟨fun hd => mk18 mt_311 sf_311 (Or.inl W3211) rfl rfl (noH_nil rfl) (hd rfl),
  ⟨fun hd => mk6 fld_1_8 (Or.inl ⟨rfl, by decide⟩) (Or.inl W408) (Or.inl rfl) (hd rfl),
  ⟨fun hd => mk18 mt_245 sf_245 (Or.inl W3312) rfl rfl (noH_nil rfl) (hd rfl),
  trivial⟩⟩⟩⟩⟩⟩⟩⟩⟩⟩⟩⟩
theorem fe_244 : eqEs ((flat code_244).filter (fun e => ndE e.2.2.1)) (fl_244_0) = true := by decide +kernel
theorem om_244 : OKm mi iT prg 244 := OKm_of (code := code_244) rfl mt_244 (Or.inl (by decide +kernel)) rfl wk_244 (by decide +kernel) (by decide +kernel) (FA_of fe_244 (fb_244_0))
theorem fe_245 : eqEs ((flat code_245).filter (fun e => ndE e.2.2.1)) ([]) = true := by decide +kernel
theorem om_245 : OKm mi iT prg 245 := OKm_of (code := code_245) rfl mt_245 (Or.inl (by decide +kernel)) rfl wk_245 (by decide +kernel) (by decide +kernel) (FA_of fe_245 (trivial))
def fl_246_0 : List Ent := [(2, 3, 18, .invokestatic 128, [9, 2, 2, 210], 0), (9, 3, 18, .invokestatic 138, [0, 3, 3, 203], 0), (12, 3, 18, .invokestatic 142, [9, 1, 1, 204], 0), (16, 3, 6, .getfield 98, [3, 1, 6], 0), (19, 3, 6, .getfield 507, [3, 7, 26], 0), (26, 3, 6, .getfield 98, [3, 1, 6], 0), (29, 3, 6, .getfield 507, [3, 7, 26], 0), (34, 1, 9, .iastore, [0, 100], 0)]
theorem fb_246_0 : FB mi iT mi_246 (bpc code_246) (fl_246_0) := ⟨fun hd => mk18 mt_210 sf_210 (Or.inl W2539) rfl rfl (noH_nil rfl) (hd rfl),
  ⟨fun hd => mk18 mt_203 sf_203 (Or.inl W1766) rfl rfl (noH_nil rfl) (hd rfl),
  ⟨fun hd => mk18 mt_204 sf_204 (Or.inl W1769) rfl rfl (noH_nil rfl) (hd rfl),
  ⟨fun hd => mk6 fld_1_5 (Or.inl ⟨rfl, by decide⟩) (Or.inl W405) (Or.inl rfl) (hd rfl),
  ⟨fun hd => mk6 fld_7_1 (Or.inl ⟨rfl, by decide⟩) (Or.inr ⟨_, W311⟩) (Or.inl rfl) (hd rfl),
  ⟨fun hd => mk6 fld_1_5 (Or.inl ⟨rfl, by decide⟩) (Or.inl W405) (Or.inl rfl) (hd rfl),
  ⟨fun hd => mk6 fld_7_1 (Or.inl ⟨rfl, by decide⟩) (Or.inr ⟨_, W311⟩) (Or.inl rfl) (hd rfl),
  ⟨fun hd => ⟨_, _, _, rfl, rfl, hd rfl, Or.inl ⟨rfl, rfl, rfl⟩⟩,
  trivial⟩⟩⟩⟩⟩⟩⟩⟩
theorem fe_246 : eqEs ((flat code_246).filter (fun e => ndE e.2.2.1)) (fl_246_0) = true := by decide +kernel
theorem om_246 : OKm mi iT prg 246 := OKm_of (code := code_246) rfl mt_246 (Or.inl (by decide +kernel)) rfl wk_246 (by decide +kernel) (by decide +kernel) (FA_of fe_246 (fb_246_0))
def fl_247_0 : List Ent := [(4, 3, 18, .invokestatic 138, [0, 3, 3, 203], 0), (7, 3, 18, .invokestatic 142, [9, 1, 1, 204], 0), (11, 3, 6, .getfield 363, [0, 1, 9], 0), (27, 3, 18, .invokestatic 146, [9, 1, 1, 205], 0), (38, 3, 19, .invokevirtual 547, [9, 1, 1, 1, 248], 0), (42, 3, 6, .getfield 68, [3, 1, 2], 0), (45, 3, 13, .getstatic 550, [20], 0), (52, 3, 6, .getfield 98, [3, 1, 6], 0), (55, 3, 19, .invokevirtual 553, [0, 1, 1, 7, 316], 0), (59, 3, 19, .invokevirtual 354, [9, 4, 4, 3, 286], 0), (63, 3, 6, .getfield 98, [3, 1, 6], 0), (67, 3, 6, .getfield 120, [0, 1, 10], 0), (70, 3, 19, .invokevirtual 556, [9, 2, 2, 7, 317], 0), (74, 3, 6, .getfield 89, [3, 1, 5], 0), (77, 3, 19, .invokevirtual 517, [3, 1, 1, 5, 4], 0), (82, 5, 34, .invokeinterface 521 1, [0, 1, 1, 11, 87], 0), (91, 5, 34, .invokeinterface 526 1, [3, 1, 1, 11, 88], 0), (96, 3, 17, .checkcast 136, [22], 0), (103, 3, 6, .getfield 559, [0, 22, 111], 0), (110, 3, 6, .getfield 116, [3, 1, 8], 0), (116, 3, 6, .getfield 120, [0, 1, 10], 0), (119, 3, 18, .invokestatic 433, [0, 1, 1, 240], 0), (122, 3, 19, .invokevirtual 563, [9, 3, 3, 9, 345], 0), (129, 3, 6, .getfield 107, [3, 1, 7], 0), (133, 3, 6, .getfield 363, [0, 1, 9], 0), (136, 3, 19, .invokevirtual 567, [9, 2, 2, 8, 331], 0), (146, 3, 6, .getfield 363, [0, 1, 9], 0)]
theorem fb_247_0 : FB mi iT mi_247 (bpc code_247) (fl_247_0) := ⟨fun hd => mk18 mt_203 sf_203 (Or.inl W1766) rfl rfl (noH_nil rfl) (hd rfl),
  ⟨fun hd => mk18 mt_204 sf_204 (Or.inl W1769) rfl rfl (noH_nil rfl) (hd rfl),
  ⟨fun hd => mk6 fld_1_8 (Or.inl ⟨rfl, by decide⟩) (Or.inl W408) (Or.inl rfl) (hd rfl),
  ⟨fun hd => mk18 mt_205 sf_205 (Or.inl W1793) rfl rfl (noH_nil rfl) (hd rfl),
  ⟨fun hd => mk19 mt_248 cf_248 (vf_248_1.rt (Or.inl W3329) (hd rfl)) rfl rfl (noH_nil rfl),
  ⟨fun hd => mk6 fld_1_1 (Or.inl ⟨rfl, by decide⟩) (Or.inl W401) (Or.inl rfl) (hd rfl),
  ⟨fun hd => mk13s (by decide) rfl (Or.inl W3354) (Or.inl rfl) (hd rfl),
  ⟨fun hd => mk6 fld_1_5 (Or.inl ⟨rfl, by decide⟩) (Or.inl W405) (Or.inl rfl) (hd rfl),
  ⟨fun hd => mk19 mt_316 cf_316 (vf_316_7.rt (Or.inl W3356) (hd rfl)) rfl rfl (noH_nil rfl),
  ⟨fun hd => mk19 mt_286 cf_286 (vf_286_3.rt (Or.inl W2851) (hd rfl)) rfl rfl (noH_nil rfl),
  ⟨fun hd => mk6 fld_1_5 (Or.inl ⟨rfl, by decide⟩) (Or.inl W405) (Or.inl rfl) (hd rfl),
  ⟨fun hd => mk6 fld_1_9 (Or.inl ⟨rfl, by decide⟩) (Or.inl W409) (Or.inl rfl) (hd rfl),
  ⟨fun hd => mk19 mt_317 cf_317 (vf_317_7.rt (Or.inl W3360) (hd rfl)) rfl rfl (noH_nil rfl),
  ⟨fun hd => mk6 fld_1_4 (Or.inl ⟨rfl, by decide⟩) (Or.inl W404) (Or.inl rfl) (hd rfl),
  ⟨fun hd => mk19 mt_4 cf_4 (vf_4_5.rt (Or.inl W602) (hd rfl)) rfl rfl (noH_nil rfl),
  ⟨fun hd => mk34 mt_87 cf_87 (ff_87_11.rt W604 (hd rfl)) rfl rfl,
  ⟨fun hd => mk34 mt_88 cf_88 (ff_88_11.rt W606 (hd rfl)) rfl rfl,
  ⟨fun hd => mk17 kx_22 W607 (hd rfl),
  ⟨fun hd => mk6 fld_22_19 (Or.inr ⟨rfl, Or.inl rfl⟩) (Or.inr ⟨_, W2317⟩) (Or.inl rfl) (hd rfl),
  ⟨fun hd => mk6 fld_1_7 (Or.inl ⟨rfl, by decide⟩) (Or.inl W407) (Or.inl rfl) (hd rfl),
  ⟨fun hd => mk6 fld_1_9 (Or.inl ⟨rfl, by decide⟩) (Or.inl W409) (Or.inl rfl) (hd rfl),
  ⟨fun hd => mk18 mt_240 sf_240 (Or.inl W3208) rfl rfl (noH_nil rfl) (hd rfl),
  ⟨fun hd => mk19 mt_345 cf_345 (vf_345_9.rt (Or.inl W3436) (hd rfl)) rfl rfl (noH_nil rfl),
  ⟨fun hd => mk6 fld_1_6 (Or.inl ⟨rfl, by decide⟩) (Or.inl W406) (Or.inl rfl) (hd rfl),
  ⟨fun hd => mk6 fld_1_8 (Or.inl ⟨rfl, by decide⟩) (Or.inl W408) (Or.inl rfl) (hd rfl),
  ⟨fun hd => mk19 mt_331 cf_331 (vf_331_8.rt (Or.inl W3465) (hd rfl)) rfl rfl (noH_nil rfl),
  ⟨fun hd => mk6 fld_1_8 (Or.inl ⟨rfl, by decide⟩) (Or.inl W408) (Or.inl rfl) (hd rfl),
  trivial⟩⟩⟩⟩⟩⟩⟩⟩⟩⟩⟩⟩⟩⟩⟩⟩⟩⟩⟩⟩⟩⟩⟩⟩⟩⟩⟩
theorem fe_247 : eqEs ((flat code_247).filter (fun e => ndE e.2.2.1)) (fl_247_0) = true := by decide +kernel
theorem om_247 : OKm mi iT prg 247 := OKm_of (code := code_247) rfl mt_247 (Or.inl (by decide +kernel)) rfl wk_247 (by decide +kernel) (by decide +kernel) (FA_of fe_247 (fb_247_0))
def fl_248_0 : List Ent := [(2, 3, 6, .getfield 363, [0, 1, 9], 0), (7, 3, 7, .putfield 363, [0, 1, 9], 0), (12, 3, 6, .getfield 120, [0, 1, 10], 0), (15, 3, 18, .invokestatic 504, [0, 1, 1, 245], 0), (18, 3, 7, .putfield 120, [0, 1, 10], 0), (22, 3, 6, .getfield 68, [3, 1, 2], 0), (26, 3, 6, .getfield 363, [0, 1, 9], 0), (32, 3, 7, .putfield 510, [0, 3, 16], 0), (36, 3, 6, .getfield 75, [3, 1, 3], 0), (40, 3, 6, .getfield 363, [0, 1, 9], 0), (43, 3, 19, .invokevirtual 513, [9, 2, 2, 4, 298], 0), (47, 3, 6, .getfield 89, [3, 1, 5], 0), (50, 3, 19, .invokevirtual 517, [3, 1, 1, 5, 4], 0), (55, 5, 34, .invokeinterface 521 1, [0, 1, 1, 11, 87], 0), (64, 5, 34, .invokeinterface 526 1, [3, 1, 1, 11, 88], 0), (69, 3, 17, .checkcast 136, [22], 0), (74, 3, 6, .getfield 436, [0, 22, 109], 0), (82, 3, 6, .getfield 68, [3, 1, 2], 0), (85, 3, 13, .getstatic 530, [21], 0), (90, 3, 6, .getfield 436, [0, 22, 109], 0), (93, 3, 18, .invokestatic 481, [3, 1, 1, 302], 0), (96, 3, 31, .invokevirtual 533, [0, 1, 1, 32, 740, 31, 740, 30, 801, 29, 740, 28, 740, 33, 740], 0), (100, 3, 19, .invokevirtual 354, [9, 4, 4, 3, 286], 0), (104, 3, 6, .getfield 363, [0, 1, 9], 0), (114, 3, 6, .getfield 165, [3, 22, 105], 0), (117, 3, 31, .invokevirtual 466, [0, 1, 1, 15, 584, 16, 584, 19, 810, 24, 812, 18, 584, 25, 584], 0), (124, 3, 6, .getfield 436, [0, 22, 109], 0), (133, 3, 6, .getfield 472, [0, 22, 110], 0), (138, 3, 7, .putfield 472, [0, 22, 110], 0), (142, 3, 6, .getfield 536, [0, 22, 116], 0)]
theorem fb_248_0 : FB mi iT mi_248 (bpc code_248) (fl_248_0) := ⟨fun hd => mk6 fld_1_8 (Or.inl ⟨rfl, by decide⟩) (Or.inl W408) (Or.inl rfl) (hd rfl),
  ⟨fun hd => mk7 fld_1_8 (Or.inl W408) (Or.inl rfl) (Or.inl rfl) (hd rfl),
  ⟨fun hd => mk6 fld_1_9 (Or.inl ⟨rfl, by decide⟩) (Or.inl W409) (Or.inl rfl) (hd rfl),
  ⟨fun hd => mk18 mt_245 sf_245 (Or.inl W3312) rfl rfl (noH_nil rfl) (hd rfl),
  ⟨fun hd => mk7 fld_1_9 (Or.inl W409) (Or.inl rfl) (Or.inl rfl) (hd rfl),
  ⟨fun hd => mk6 fld_1_1 (Or.inl ⟨rfl, by decide⟩) (Or.inl W401) (Or.inl rfl) (hd rfl),
  ⟨fun hd => mk6 fld_1_8 (Or.inl ⟨rfl, by decide⟩) (Or.inl W408) (Or.inl rfl) (hd rfl),
  ⟨fun hd => mk7 fld_3_1 (Or.inr ⟨_, W229⟩) (Or.inl rfl) (Or.inl rfl) (hd rfl),
  ⟨fun hd => mk6 fld_1_2 (Or.inl ⟨rfl, by decide⟩) (Or.inl W402) (Or.inl rfl) (hd rfl),
  ⟨fun hd => mk6 fld_1_8 (Or.inl ⟨rfl, by decide⟩) (Or.inl W408) (Or.inl rfl) (hd rfl),
  ⟨fun hd => mk19 mt_298 cf_298 (vf_298_4.rt (Or.inl W3333) (hd rfl)) rfl rfl (noH_nil rfl),
  ⟨fun hd => mk6 fld_1_4 (Or.inl ⟨rfl, by decide⟩) (Or.inl W404) (Or.inl rfl) (hd rfl),
  ⟨fun hd => mk19 mt_4 cf_4 (vf_4_5.rt (Or.inl W602) (hd rfl)) rfl rfl (noH_nil rfl),
  ⟨fun hd => mk34 mt_87 cf_87 (ff_87_11.rt W604 (hd rfl)) rfl rfl,
  ⟨fun hd => mk34 mt_88 cf_88 (ff_88_11.rt W606 (hd rfl)) rfl rfl,
  ⟨fun hd => mk17 kx_22 W607 (hd rfl),
  ⟨fun hd => mk6 fld_22_17 (Or.inl ⟨rfl, by decide⟩) (Or.inr ⟨_, W2310⟩) (Or.inl rfl) (hd rfl),
  ⟨fun hd => mk6 fld_1_1 (Or.inl ⟨rfl, by decide⟩) (Or.inl W401) (Or.inl rfl) (hd rfl),
  ⟨fun hd => mk13s (by decide) rfl (Or.inl W3337) (Or.inl rfl) (hd rfl),
  ⟨fun hd => mk6 fld_22_17 (Or.inl ⟨rfl, by decide⟩) (Or.inr ⟨_, W2310⟩) (Or.inl rfl) (hd rfl),
  ⟨fun hd => mk18 mt_302 sf_302 (Or.inl W948) rfl rfl (noH_nil rfl) (hd rfl),
  ⟨fun hd => mk31 ⟨pr3 mt_740 cf_740 (ev_740_32.rt (Or.inl W3339) (hd rfl)) rfl rfl, ⟨pr3 mt_740 cf_740 (ev_740_31.rt (Or.inl W3339) (hd rfl)) rfl rfl, ⟨pr3 mt_801 cf_801 (ei_801_30_KeelHouse_Spotcost__I.rt W3339 (hd rfl)) rfl rfl, ⟨pr3 mt_740 cf_740 (ev_740_29.rt (Or.inl W3339) (hd rfl)) rfl rfl, ⟨pr3 mt_740 cf_740 (ev_740_28.rt (Or.inl W3339) (hd rfl)) rfl rfl, ⟨pr3 mt_740 cf_740 (ev_740_33.rt (Or.inl W3339) (hd rfl)) rfl rfl, trivial⟩⟩⟩⟩⟩⟩,
  ⟨fun hd => mk19 mt_286 cf_286 (vf_286_3.rt (Or.inl W2851) (hd rfl)) rfl rfl (noH_nil rfl),
  ⟨fun hd => mk6 fld_1_8 (Or.inl ⟨rfl, by decide⟩) (Or.inl W408) (Or.inl rfl) (hd rfl),
  ⟨fun hd => mk6 fld_22_13 (Or.inl ⟨rfl, by decide⟩) (Or.inr ⟨_, W2297⟩) (Or.inl rfl) (hd rfl),
  ⟨fun hd => mk31 ⟨pr3 mt_584 cf_584 (ev_584_15.rt (Or.inl W3273) (hd rfl)) rfl rfl, ⟨pr3 mt_584 cf_584 (ev_584_16.rt (Or.inl W3273) (hd rfl)) rfl rfl, ⟨pr3 mt_810 cf_810 (ei_810_19_KeelHouse_StageisWet__Z.rt W3273 (hd rfl)) rfl rfl, ⟨pr3 mt_812 cf_812 (ei_812_24_KeelHouse_StageisWet__Z.rt W3273 (hd rfl)) rfl rfl, ⟨pr3 mt_584 cf_584 (ev_584_18.rt (Or.inl W3273) (hd rfl)) rfl rfl, ⟨pr3 mt_584 cf_584 (ev_584_25.rt (Or.inl W3273) (hd rfl)) rfl rfl, trivial⟩⟩⟩⟩⟩⟩,
  ⟨fun hd => mk6 fld_22_17 (Or.inl ⟨rfl, by decide⟩) (Or.inr ⟨_, W2310⟩) (Or.inl rfl) (hd rfl),
  ⟨fun hd => mk6 fld_22_18 (Or.inl ⟨rfl, by decide⟩) (Or.inr ⟨_, W2314⟩) (Or.inl rfl) (hd rfl),
  ⟨fun hd => mk7 fld_22_18 (Or.inr ⟨_, W2314⟩) (Or.inl rfl) (Or.inl rfl) (hd rfl),
  ⟨fun hd => mk6 fld_22_24 (Or.inl ⟨rfl, by decide⟩) (Or.inr ⟨_, W2328⟩) (Or.inl rfl) (hd rfl),
  trivial⟩⟩⟩⟩⟩⟩⟩⟩⟩⟩⟩⟩⟩⟩⟩⟩⟩⟩⟩⟩⟩⟩⟩⟩⟩⟩⟩⟩⟩⟩
def fl_248_1 : List Ent := [(149, 3, 6, .getfield 436, [0, 22, 109], 0), (157, 3, 6, .getfield 68, [3, 1, 2], 0), (160, 3, 13, .getstatic 539, [22], 0), (167, 3, 6, .getfield 536, [0, 22, 116], 0), (170, 3, 18, .invokestatic 542, [0, 1, 1, 62], 0), (174, 3, 19, .invokevirtual 354, [9, 4, 4, 3, 286], 0), (179, 3, 7, .putfield 536, [0, 22, 116], 0)]
theorem fb_248_1 : FB mi iT mi_248 (bpc code_248) (fl_248_1) := ⟨fun hd => mk6 fld_22_17 (Or.inl ⟨rfl, by decide⟩) (Or.inr ⟨_, W2310⟩) (Or.inl rfl) (hd rfl),
  ⟨fun hd => mk6 fld_1_1 (Or.inl ⟨rfl, by decide⟩) (Or.inl W401) (Or.inl rfl) (hd rfl),
  ⟨fun hd => mk13s (by decide) rfl (Or.inl W3351) (Or.inl rfl) (hd rfl),
  ⟨fun hd => mk6 fld_22_24 (Or.inl ⟨rfl, by decide⟩) (Or.inr ⟨_, W2328⟩) (Or.inl rfl) (hd rfl),
  ⟨fun hd => mk18 mt_62 sf_62 (Or.inl W3353) rfl rfl (noH_nil rfl) (hd rfl),
  ⟨fun hd => mk19 mt_286 cf_286 (vf_286_3.rt (Or.inl W2851) (hd rfl)) rfl rfl (noH_nil rfl),
  ⟨fun hd => mk7 fld_22_24 (Or.inr ⟨_, W2328⟩) (Or.inl rfl) (Or.inl rfl) (hd rfl),
  trivial⟩⟩⟩⟩⟩⟩⟩
theorem fe_248 : eqEs ((flat code_248).filter (fun e => ndE e.2.2.1)) (fl_248_0 ++ (fl_248_1)) = true := by decide +kernel
theorem om_248 : OKm mi iT prg 248 := OKm_of (code := code_248) rfl mt_248 (Or.inl (by decide +kernel)) rfl wk_248 (by decide +kernel) (by decide +kernel) (FA_of fe_248 (FB_app fb_248_0 (fb_248_1)))
theorem fe_249 : eqEs ((flat code_249).filter (fun e => ndE e.2.2.1)) ([]) = true := by decide +kernel
theorem om_249 : OKm mi iT prg 249 := OKm_of (code := code_249) rfl mt_249 (Or.inl (by decide +kernel)) rfl wk_249 (by decide +kernel) (by decide +kernel) (FA_of fe_249 (trivial))
def fl_250_0 : List Ent := [(2, 3, 19, .invokevirtual 161, [3, 2, 2, 1, 209], 0), (10, 3, 18, .invokestatic 128, [9, 2, 2, 210], 0), (17, 3, 18, .invokestatic 138, [0, 3, 3, 203], 0), (20, 3, 18, .invokestatic 142, [9, 1, 1, 204], 0), (25, 3, 6, .getfield 415, [3, 22, 102], 0), (28, 3, 6, .getfield 569, [0, 12, 50], 0), (31, 3, 18, .invokestatic 146, [9, 1, 1, 205], 0), (36, 3, 6, .getfield 415, [3, 22, 102], 0), (41, 3, 6, .getfield 415, [3, 22, 102], 0), (45, 3, 19, .invokevirtual 572, [3, 2, 2, 12, 631], 0), (49, 3, 19, .invokevirtual 576, [0, 3, 3, 12, 632], 0)]
theorem fb_250_0 : FB mi iT mi_250 (bpc code_250) (fl_250_0) := ⟨fun hd => mk19 mt_209 cf_209 (vf_209_1.rt (Or.inl W2535) (hd rfl)) rfl rfl (noH_nil rfl),
  ⟨fun hd => mk18 mt_210 sf_210 (Or.inl W2539) rfl rfl (noH_nil rfl) (hd rfl),
  ⟨fun hd => mk18 mt_203 sf_203 (Or.inl W1766) rfl rfl (noH_nil rfl) (hd rfl),
  ⟨fun hd => mk18 mt_204 sf_204 (Or.inl W1769) rfl rfl (noH_nil rfl) (hd rfl),
  ⟨fun hd => mk6 fld_22_10 (Or.inl ⟨rfl, by decide⟩) (Or.inr ⟨_, W2288⟩) (Or.inl rfl) (hd rfl),
  ⟨fun hd => mk6 fld_12_3 (Or.inr ⟨rfl, Or.inl rfl⟩) (Or.inr ⟨_, W2222⟩) (Or.inl rfl) (hd rfl),
  ⟨fun hd => mk18 mt_205 sf_205 (Or.inl W1793) rfl rfl (noH_nil rfl) (hd rfl),
  ⟨fun hd => mk6 fld_22_10 (Or.inl ⟨rfl, by decide⟩) (Or.inr ⟨_, W2288⟩) (Or.inl rfl) (hd rfl),
  ⟨fun hd => mk6 fld_22_10 (Or.inl ⟨rfl, by decide⟩) (Or.inr ⟨_, W2288⟩) (Or.inl rfl) (hd rfl),
  ⟨fun hd => mk19 mt_631 cf_631 (vf_631_12.rt (Or.inl W3487) (hd rfl)) rfl rfl (noH_nil rfl),
  ⟨fun hd => mk19 mt_632 cf_632 (vf_632_12.rt (Or.inl W3491) (hd rfl)) rfl rfl (noH_nil rfl),
  trivial⟩⟩⟩⟩⟩⟩⟩⟩⟩⟩⟩
theorem fe_250 : eqEs ((flat code_250).filter (fun e => ndE e.2.2.1)) (fl_250_0) = true := by decide +kernel
theorem om_250 : OKm mi iT prg 250 := OKm_of (code := code_250) rfl mt_250 (Or.inl (by decide +kernel)) rfl wk_250 (by decide +kernel) (by decide +kernel) (FA_of fe_250 (fb_250_0))
def fl_251_0 : List Ent := [(2, 3, 19, .invokevirtual 161, [3, 2, 2, 1, 209], 0), (9, 3, 18, .invokestatic 138, [0, 3, 3, 203], 0), (12, 3, 18, .invokestatic 142, [9, 1, 1, 204], 0), (16, 3, 6, .getfield 415, [3, 22, 102], 0), (19, 3, 6, .getfield 569, [0, 12, 50], 0), (22, 3, 18, .invokestatic 146, [9, 1, 1, 205], 0), (26, 3, 6, .getfield 415, [3, 22, 102], 0), (30, 3, 19, .invokevirtual 579, [0, 2, 2, 12, 613], 0)]
theorem fb_251_0 : FB mi iT mi_251 (bpc code_251) (fl_251_0) := ⟨fun hd => mk19 mt_209 cf_209 (vf_209_1.rt (Or.inl W2535) (hd rfl)) rfl rfl (noH_nil rfl),
  ⟨fun hd => mk18 mt_203 sf_203 (Or.inl W1766) rfl rfl (noH_nil rfl) (hd rfl),
  ⟨fun hd => mk18 mt_204 sf_204 (Or.inl W1769) rfl rfl (noH_nil rfl) (hd rfl),
  ⟨fun hd => mk6 fld_22_10 (Or.inl ⟨rfl, by decide⟩) (Or.inr ⟨_, W2288⟩) (Or.inl rfl) (hd rfl),
  ⟨fun hd => mk6 fld_12_3 (Or.inr ⟨rfl, Or.inl rfl⟩) (Or.inr ⟨_, W2222⟩) (Or.inl rfl) (hd rfl),
  ⟨fun hd => mk18 mt_205 sf_205 (Or.inl W1793) rfl rfl (noH_nil rfl) (hd rfl),
  ⟨fun hd => mk6 fld_22_10 (Or.inl ⟨rfl, by decide⟩) (Or.inr ⟨_, W2288⟩) (Or.inl rfl) (hd rfl),
  ⟨fun hd => mk19 mt_613 cf_613 (vf_613_12.rt (Or.inl W1534) (hd rfl)) rfl rfl (noH_nil rfl),
  trivial⟩⟩⟩⟩⟩⟩⟩⟩
theorem fe_251 : eqEs ((flat code_251).filter (fun e => ndE e.2.2.1)) (fl_251_0) = true := by decide +kernel
theorem om_251 : OKm mi iT prg 251 := OKm_of (code := code_251) rfl mt_251 (Or.inl (by decide +kernel)) rfl wk_251 (by decide +kernel) (by decide +kernel) (FA_of fe_251 (fb_251_0))
def fl_252_0 : List Ent := [(4, 3, 18, .invokestatic 138, [0, 3, 3, 203], 0), (7, 3, 18, .invokestatic 142, [9, 1, 1, 204], 0), (12, 3, 19, .invokevirtual 597, [0, 2, 2, 1, 192], 0)]
theorem fb_252_0 : FB mi iT mi_252 (bpc code_252) (fl_252_0) := ⟨fun hd => mk18 mt_203 sf_203 (Or.inl W1766) rfl rfl (noH_nil rfl) (hd rfl),
  ⟨fun hd => mk18 mt_204 sf_204 (Or.inl W1769) rfl rfl (noH_nil rfl) (hd rfl),
  ⟨fun hd => mk19 mt_192 cf_192 (vf_192_1.rt (Or.inl W1017) (hd rfl)) rfl rfl (noH_nil rfl),
  trivial⟩⟩⟩
theorem fe_252 : eqEs ((flat code_252).filter (fun e => ndE e.2.2.1)) (fl_252_0) = true := by decide +kernel
theorem om_252 : OKm mi iT prg 252 := OKm_of (code := code_252) rfl mt_252 (Or.inl (by decide +kernel)) rfl wk_252 (by decide +kernel) (by decide +kernel) (FA_of fe_252 (fb_252_0))
def fl_253_0 : List Ent := [(2, 3, 19, .invokevirtual 161, [3, 2, 2, 1, 209], 0), (9, 3, 18, .invokestatic 138, [0, 3, 3, 203], 0), (12, 3, 18, .invokestatic 142, [9, 1, 1, 204], 0), (16, 3, 6, .getfield 415, [3, 22, 102], 0), (19, 3, 6, .getfield 569, [0, 12, 50], 0), (22, 3, 18, .invokestatic 146, [9, 1, 1, 205], 0), (26, 3, 6, .getfield 98, [3, 1, 6], 0), (32, 3, 6, .getfield 120, [0, 1, 10], 0), (35, 3, 19, .invokevirtual 600, [0, 4, 4, 7, 324], 0)]
theorem fb_253_0 : FB mi iT mi_253 (bpc code_253) (fl_253_0) := ⟨fun hd => mk19 mt_209 cf_209 (vf_209_1.rt (Or.inl W2535) (hd rfl)) rfl rfl (noH_nil rfl),
  ⟨fun hd => mk18 mt_203 sf_203 (Or.inl W1766) rfl rfl (noH_nil rfl) (hd rfl),
  ⟨fun hd => mk18 mt_204 sf_204 (Or.inl W1769) rfl rfl (noH_nil rfl) (hd rfl),
  ⟨fun hd => mk6 fld_22_10 (Or.inl ⟨rfl, by decide⟩) (Or.inr ⟨_, W2288⟩) (Or.inl rfl) (hd rfl),
  ⟨fun hd => mk6 fld_12_3 (Or.inr ⟨rfl, Or.inl rfl⟩) (Or.inr ⟨_, W2222⟩) (Or.inl rfl) (hd rfl),
  ⟨fun hd => mk18 mt_205 sf_205 (Or.inl W1793) rfl rfl (noH_nil rfl) (hd rfl),
  ⟨fun hd => mk6 fld_1_5 (Or.inl ⟨rfl, by decide⟩) (Or.inl W405) (Or.inl rfl) (hd rfl),
  ⟨fun hd => mk6 fld_1_9 (Or.inl ⟨rfl, by decide⟩) (Or.inl W409) (Or.inl rfl) (hd rfl),
  ⟨fun hd => mk19 mt_324 cf_324 (vf_324_7.rt (Or.inl W3516) (hd rfl)) rfl rfl (noH_nil rfl),
  trivial⟩⟩⟩⟩⟩⟩⟩⟩⟩
theorem fe_253 : eqEs ((flat code_253).filter (fun e => ndE e.2.2.1)) (fl_253_0) = true := by decide +kernel
theorem om_253 : OKm mi iT prg 253 := OKm_of (code := code_253) rfl mt_253 (Or.inl (by decide +kernel)) rfl wk_253 (by decide +kernel) (by decide +kernel) (FA_of fe_253 (fb_253_0))
def fl_254_0 : List Ent := [(2, 3, 19, .invokevirtual 161, [3, 2, 2, 1, 209], 0), (10, 3, 18, .invokestatic 138, [0, 3, 3, 203], 0), (13, 3, 18, .invokestatic 142, [9, 1, 1, 204], 0), (17, 3, 6, .getfield 165, [3, 22, 105], 0), (20, 3, 13, .getstatic 169, [15], 0), (31, 3, 18, .invokestatic 146, [9, 1, 1, 205], 0), (35, 3, 6, .getfield 603, [3, 22, 97], 0), (38, 3, 6, .getfield 607, [0, 20, 88], 0), (44, 3, 6, .getfield 603, [3, 22, 97], 0), (48, 3, 7, .putfield 607, [0, 20, 88], 0)]
theorem fb_254_0 : FB mi iT mi_254 (bpc code_254) (fl_254_0) := ⟨fun hd => mk19 mt_209 cf_209 (vf_209_1.rt (Or.inl W2535) (hd rfl)) rfl rfl (noH_nil rfl),
  ⟨fun hd => mk18 mt_203 sf_203 (Or.inl W1766) rfl rfl (noH_nil rfl) (hd rfl),
  ⟨fun hd => mk18 mt_204 sf_204 (Or.inl W1769) rfl rfl (noH_nil rfl) (hd rfl),
  ⟨fun hd => mk6 fld_22_13 (Or.inl ⟨rfl, by decide⟩) (Or.inr ⟨_, W2297⟩) (Or.inl rfl) (hd rfl),
  ⟨fun hd => mk13s (by decide) rfl (Or.inl W2558) (Or.inl rfl) (hd rfl),
  ⟨fun hd => mk18 mt_205 sf_205 (Or.inl W1793) rfl rfl (noH_nil rfl) (hd rfl),
  ⟨fun hd => mk6 fld_22_5 (Or.inl ⟨rfl, by decide⟩) (Or.inr ⟨_, W2264⟩) (Or.inl rfl) (hd rfl),
  ⟨fun hd => mk6 fld_20_2 (Or.inl ⟨rfl, by decide⟩) (Or.inr ⟨_, W1977⟩) (Or.inl rfl) (hd rfl),
  ⟨fun hd => mk6 fld_22_5 (Or.inl ⟨rfl, by decide⟩) (Or.inr ⟨_, W2264⟩) (Or.inl rfl) (hd rfl),
  ⟨fun hd => mk7 fld_20_2 (Or.inr ⟨_, W1977⟩) (Or.inl rfl) (Or.inl rfl) (hd rfl),
  trivial⟩⟩⟩⟩⟩⟩⟩⟩⟩⟩
theorem fe_254 : eqEs ((flat code_254).filter (fun e => ndE e.2.2.1)) (fl_254_0) = true := by decide +kernel
theorem om_254 : OKm mi iT prg 254 := OKm_of (code := code_254) rfl mt_254 (Or.inl (by decide +kernel)) rfl wk_254 (by decide +kernel) (by decide +kernel) (FA_of fe_254 (fb_254_0))
def fl_255_0 : List Ent := [(2, 3, 19, .invokevirtual 161, [3, 2, 2, 1, 209], 0), (10, 3, 18, .invokestatic 128, [9, 2, 2, 210], 0), (16, 3, 18, .invokestatic 128, [9, 2, 2, 210], 0), (29, 3, 18, .invokestatic 138, [0, 3, 3, 203], 0), (40, 3, 18, .invokestatic 142, [9, 1, 1, 204], 0), (45, 3, 6, .getfield 603, [3, 22, 97], 0), (48, 3, 6, .getfield 614, [3, 20, 87], 0), (51, 3, 6, .getfield 618, [3, 13, 51], 0), (54, 3, 19, .invokevirtual 124, [0, 1, 1, 5, 5], 0), (64, 3, 6, .getfield 165, [3, 22, 105], 0), (67, 3, 31, .invokevirtual 219, [0, 1, 1, 15, 583, 16, 583, 19, 583, 24, 583, 18, 814, 25, 816], 0), (78, 3, 18, .invokestatic 146, [9, 1, 1, 205], 0), (83, 3, 6, .getfield 603, [3, 22, 97], 0), (86, 3, 6, .getfield 614, [3, 20, 87], 0), (93, 3, 19, .invokevirtual 621, [9, 4, 4, 13, 543], 0), (98, 3, 6, .getfield 603, [3, 22, 97], 0), (101, 3, 6, .getfield 614, [3, 20, 87], 0), (104, 3, 6, .getfield 618, [3, 13, 51], 0), (107, 3, 19, .invokevirtual 124, [0, 1, 1, 5, 5], 0)]
theorem fb_255_0 : FB mi iT mi_255 (bpc code_255) (fl_255_0) := ⟨fun hd => mk19 mt_209 cf_209 (vf_209_1.rt (Or.inl W2535) (hd rfl)) rfl rfl (noH_nil rfl),
  ⟨fun hd => mk18 mt_210 sf_210 (Or.inl W2539) rfl rfl (noH_nil rfl) (hd rfl),
  ⟨fun hd => mk18 mt_210 sf_210 (Or.inl W2539) rfl rfl (noH_nil rfl) (hd rfl),
  ⟨fun hd => mk18 mt_203 sf_203 (Or.inl W1766) rfl rfl (noH_nil rfl) (hd rfl),
  ⟨fun hd => mk18 mt_204 sf_204 (Or.inl W1769) rfl rfl (noH_nil rfl) (hd rfl),
  ⟨fun hd => mk6 fld_22_5 (Or.inl ⟨rfl, by decide⟩) (Or.inr ⟨_, W2264⟩) (Or.inl rfl) (hd rfl),
  ⟨fun hd => mk6 fld_20_1 (Or.inl ⟨rfl, by decide⟩) (Or.inr ⟨_, W1974⟩) (Or.inl rfl) (hd rfl),
  ⟨fun hd => mk6 fld_13_0 (Or.inl ⟨rfl, by decide⟩) (Or.inr ⟨_, W1957⟩) (Or.inl rfl) (hd rfl),
  ⟨fun hd => mk19 mt_5 cf_5 (vf_5_5.rt (Or.inl W1021) (hd rfl)) rfl rfl (noH_nil rfl),
  ⟨fun hd => mk6 fld_22_13 (Or.inl ⟨rfl, by decide⟩) (Or.inr ⟨_, W2297⟩) (Or.inl rfl) (hd rfl),
  ⟨fun hd => mk31 ⟨pr3 mt_583 cf_583 (ev_583_15.rt (Or.inl W2623) (hd rfl)) rfl rfl, ⟨pr3 mt_583 cf_583 (ev_583_16.rt (Or.inl W2623) (hd rfl)) rfl rfl, ⟨pr3 mt_583 cf_583 (ev_583_19.rt (Or.inl W2623) (hd rfl)) rfl rfl, ⟨pr3 mt_583 cf_583 (ev_583_24.rt (Or.inl W2623) (hd rfl)) rfl rfl, ⟨pr3 mt_814 cf_814 (ei_814_18_KeelHouse_StageisGone__Z.rt W2623 (hd rfl)) rfl rfl, ⟨pr3 mt_816 cf_816 (ei_816_25_KeelHouse_StageisGone__Z.rt W2623 (hd rfl)) rfl rfl, trivial⟩⟩⟩⟩⟩⟩,
  ⟨fun hd => mk18 mt_205 sf_205 (Or.inl W1793) rfl rfl (noH_nil rfl) (hd rfl),
  ⟨fun hd => mk6 fld_22_5 (Or.inl ⟨rfl, by decide⟩) (Or.inr ⟨_, W2264⟩) (Or.inl rfl) (hd rfl),
  ⟨fun hd => mk6 fld_20_1 (Or.inl ⟨rfl, by decide⟩) (Or.inr ⟨_, W1974⟩) (Or.inl rfl) (hd rfl),
  ⟨fun hd => mk19 mt_543 cf_543 (vf_543_13.rt (Or.inl W3554) (hd rfl)) rfl rfl (noH_nil rfl),
  ⟨fun hd => mk6 fld_22_5 (Or.inl ⟨rfl, by decide⟩) (Or.inr ⟨_, W2264⟩) (Or.inl rfl) (hd rfl),
  ⟨fun hd => mk6 fld_20_1 (Or.inl ⟨rfl, by decide⟩) (Or.inr ⟨_, W1974⟩) (Or.inl rfl) (hd rfl),
  ⟨fun hd => mk6 fld_13_0 (Or.inl ⟨rfl, by decide⟩) (Or.inr ⟨_, W1957⟩) (Or.inl rfl) (hd rfl),
  ⟨fun hd => mk19 mt_5 cf_5 (vf_5_5.rt (Or.inl W1021) (hd rfl)) rfl rfl (noH_nil rfl),
  trivial⟩⟩⟩⟩⟩⟩⟩⟩⟩⟩⟩⟩⟩⟩⟩⟩⟩⟩⟩
theorem fe_255 : eqEs ((flat code_255).filter (fun e => ndE e.2.2.1)) (fl_255_0) = true := by decide +kernel
theorem om_255 : OKm mi iT prg 255 := OKm_of (code := code_255) rfl mt_255 (Or.inl (by decide +kernel)) rfl wk_255 (by decide +kernel) (by decide +kernel) (FA_of fe_255 (fb_255_0))
def fl_256_0 : List Ent := [(2, 3, 19, .invokevirtual 161, [3, 2, 2, 1, 209], 0), (10, 3, 18, .invokestatic 138, [0, 3, 3, 203], 0), (13, 3, 18, .invokestatic 142, [9, 1, 1, 204], 0), (17, 3, 6, .getfield 165, [3, 22, 105], 0), (20, 3, 31, .invokevirtual 219, [0, 1, 1, 15, 583, 16, 583, 19, 583, 24, 583, 18, 814, 25, 816], 0), (31, 3, 18, .invokestatic 146, [9, 1, 1, 205], 0), (35, 3, 6, .getfield 603, [3, 22, 97], 0), (38, 3, 6, .getfield 614, [3, 20, 87], 0), (41, 3, 6, .getfield 618, [3, 13, 51], 0), (44, 3, 19, .invokevirtual 124, [0, 1, 1, 5, 5], 0), (50, 3, 6, .getfield 603, [3, 22, 97], 0), (53, 3, 6, .getfield 614, [3, 20, 87], 0), (57, 3, 19, .invokevirtual 625, [9, 2, 2, 13, 544], 0)]
theorem fb_256_0 : FB mi iT mi_256 (bpc code_256) (fl_256_0) := ⟨fun hd => mk19 mt_209 cf_209 (vf_209_1.rt (Or.inl W2535) (hd rfl)) rfl rfl (noH_nil rfl),
  ⟨fun hd => mk18 mt_203 sf_203 (Or.inl W1766) rfl rfl (noH_nil rfl) (hd rfl),
  ⟨fun hd => mk18 mt_204 sf_204 (Or.inl W1769) rfl rfl (noH_nil rfl) (hd rfl),
  ⟨fun hd => mk6 fld_22_13 (Or.inl ⟨rfl, by decide⟩) (Or.inr ⟨_, W2297⟩) (Or.inl rfl) (hd rfl),
  ⟨fun hd => mk31 ⟨pr3 mt_583 cf_583 (ev_583_15.rt (Or.inl W2623) (hd rfl)) rfl rfl, ⟨pr3 mt_583 cf_583 (ev_583_16.rt (Or.inl W2623) (hd rfl)) rfl rfl, ⟨pr3 mt_583 cf_583 (ev_583_19.rt (Or.inl W2623) (hd rfl)) rfl rfl, ⟨pr3 mt_583 cf_583 (ev_583_24.rt (Or.inl W2623) (hd rfl)) rfl rfl, ⟨pr3 mt_814 cf_814 (ei_814_18_KeelHouse_StageisGone__Z.rt W2623 (hd rfl)) rfl rfl, ⟨pr3 mt_816 cf_816 (ei_816_25_KeelHouse_StageisGone__Z.rt W2623 (hd rfl)) rfl rfl, trivial⟩⟩⟩⟩⟩⟩,
  ⟨fun hd => mk18 mt_205 sf_205 (Or.inl W1793) rfl rfl (noH_nil rfl) (hd rfl),
  ⟨fun hd => mk6 fld_22_5 (Or.inl ⟨rfl, by decide⟩) (Or.inr ⟨_, W2264⟩) (Or.inl rfl) (hd rfl),
  ⟨fun hd => mk6 fld_20_1 (Or.inl ⟨rfl, by decide⟩) (Or.inr ⟨_, W1974⟩) (Or.inl rfl) (hd rfl),
  ⟨fun hd => mk6 fld_13_0 (Or.inl ⟨rfl, by decide⟩) (Or.inr ⟨_, W1957⟩) (Or.inl rfl) (hd rfl),
  ⟨fun hd => mk19 mt_5 cf_5 (vf_5_5.rt (Or.inl W1021) (hd rfl)) rfl rfl (noH_nil rfl),
  ⟨fun hd => mk6 fld_22_5 (Or.inl ⟨rfl, by decide⟩) (Or.inr ⟨_, W2264⟩) (Or.inl rfl) (hd rfl),
  ⟨fun hd => mk6 fld_20_1 (Or.inl ⟨rfl, by decide⟩) (Or.inr ⟨_, W1974⟩) (Or.inl rfl) (hd rfl),
  ⟨fun hd => mk19 mt_544 cf_544 (vf_544_13.rt (Or.inl W3597) (hd rfl)) rfl rfl (noH_nil rfl),
  trivial⟩⟩⟩⟩⟩⟩⟩⟩⟩⟩⟩⟩⟩
theorem fe_256 : eqEs ((flat code_256).filter (fun e => ndE e.2.2.1)) (fl_256_0) = true := by decide +kernel
theorem om_256 : OKm mi iT prg 256 := OKm_of (code := code_256) rfl mt_256 (Or.inl (by decide +kernel)) rfl wk_256 (by decide +kernel) (by decide +kernel) (FA_of fe_256 (fb_256_0))
def fl_257_0 : List Ent := [(2, 3, 19, .invokevirtual 161, [3, 2, 2, 1, 209], 0), (8, 3, 6, .getfield 603, [3, 22, 97], 0), (11, 3, 6, .getfield 614, [3, 20, 87], 0), (14, 3, 6, .getfield 618, [3, 13, 51], 0), (17, 3, 19, .invokevirtual 124, [0, 1, 1, 5, 5], 0), (20, 3, 18, .invokestatic 128, [9, 2, 2, 210], 0), (24, 3, 6, .getfield 165, [3, 22, 105], 0), (27, 3, 31, .invokevirtual 219, [0, 1, 1, 15, 583, 16, 583, 19, 583, 24, 583, 18, 814, 25, 816], 0), (38, 3, 18, .invokestatic 146, [9, 1, 1, 205], 0), (42, 3, 6, .getfield 603, [3, 22, 97], 0), (45, 3, 6, .getfield 614, [3, 20, 87], 0), (48, 3, 6, .getfield 618, [3, 13, 51], 0), (52, 3, 19, .invokevirtual 132, [3, 2, 2, 5, 6], 0), (55, 3, 17, .checkcast 628, [32], 0), (64, 3, 6, .getfield 630, [0, 32, 163], 0), (75, 3, 7, .putfield 630, [4, 32, 163], 0), (80, 3, 6, .getfield 630, [0, 32, 163], 0)]
theorem fb_257_0 : FB mi iT mi_257 (bpc code_257) (fl_257_0) := ⟨fun hd => mk19 mt_209 cf_209 (vf_209_1.rt (Or.inl W2535) (hd rfl)) rfl rfl (noH_nil rfl),
  ⟨fun hd => mk6 fld_22_5 (Or.inl ⟨rfl, by decide⟩) (Or.inr ⟨_, W2264⟩) (Or.inl rfl) (hd rfl),
  ⟨fun hd => mk6 fld_20_1 (Or.inl ⟨rfl, by decide⟩) (Or.inr ⟨_, W1974⟩) (Or.inl rfl) (hd rfl),
  ⟨fun hd => mk6 fld_13_0 (Or.inl ⟨rfl, by decide⟩) (Or.inr ⟨_, W1957⟩) (Or.inl rfl) (hd rfl),
  ⟨fun hd => mk19 mt_5 cf_5 (vf_5_5.rt (Or.inl W1021) (hd rfl)) rfl rfl (noH_nil rfl),
  ⟨fun hd => mk18 mt_210 sf_210 (Or.inl W2539) rfl rfl (noH_nil rfl) (hd rfl),
  ⟨fun hd => mk6 fld_22_13 (Or.inl ⟨rfl, by decide⟩) (Or.inr ⟨_, W2297⟩) (Or.inl rfl) (hd rfl),
  ⟨fun hd => mk31 ⟨pr3 mt_583 cf_583 (ev_583_15.rt (Or.inl W2623) (hd rfl)) rfl rfl, ⟨pr3 mt_583 cf_583 (ev_583_16.rt (Or.inl W2623) (hd rfl)) rfl rfl, ⟨pr3 mt_583 cf_583 (ev_583_19.rt (Or.inl W2623) (hd rfl)) rfl rfl, ⟨pr3 mt_583 cf_583 (ev_583_24.rt (Or.inl W2623) (hd rfl)) rfl rfl, ⟨pr3 mt_814 cf_814 (ei_814_18_KeelHouse_StageisGone__Z.rt W2623 (hd rfl)) rfl rfl, ⟨pr3 mt_816 cf_816 (ei_816_25_KeelHouse_StageisGone__Z.rt W2623 (hd rfl)) rfl rfl, trivial⟩⟩⟩⟩⟩⟩,
  ⟨fun hd => mk18 mt_205 sf_205 (Or.inl W1793) rfl rfl (noH_nil rfl) (hd rfl),
  ⟨fun hd => mk6 fld_22_5 (Or.inl ⟨rfl, by decide⟩) (Or.inr ⟨_, W2264⟩) (Or.inl rfl) (hd rfl),
  ⟨fun hd => mk6 fld_20_1 (Or.inl ⟨rfl, by decide⟩) (Or.inr ⟨_, W1974⟩) (Or.inl rfl) (hd rfl),
  ⟨fun hd => mk6 fld_13_0 (Or.inl ⟨rfl, by decide⟩) (Or.inr ⟨_, W1957⟩) (Or.inl rfl) (hd rfl),
  ⟨fun hd => mk19 mt_6 cf_6 (vf_6_5.rt (Or.inl W2557) (hd rfl)) rfl rfl (noH_nil rfl),
  ⟨fun hd => mk17 kx_32 W3610 (hd rfl),
  ⟨fun hd => mk6 fld_32_3 (Or.inr ⟨rfl, Or.inl rfl⟩) (Or.inr ⟨_, W3571⟩) (Or.inl rfl) (hd rfl),
  ⟨fun hd => mk7 fld_32_3 (Or.inr ⟨_, W3571⟩) (Or.inl rfl) (Or.inl rfl) (hd rfl),
  ⟨fun hd => mk6 fld_32_3 (Or.inr ⟨rfl, Or.inl rfl⟩) (Or.inr ⟨_, W3571⟩) (Or.inl rfl) (hd rfl),
  trivial⟩⟩⟩⟩⟩⟩⟩⟩⟩⟩⟩⟩⟩⟩⟩⟩⟩
theorem fe_257 : eqEs ((flat code_257).filter (fun e => ndE e.2.2.1)) (fl_257_0) = true := by decide +kernel
theorem om_257 : OKm mi iT prg 257 := OKm_of (code := code_257) rfl mt_257 (Or.inl (by decide +kernel)) rfl wk_257 (by decide +kernel) (by decide +kernel) (FA_of fe_257 (fb_257_0))
def fl_258_0 : List Ent := [(2, 3, 19, .invokevirtual 161, [3, 2, 2, 1, 209], 0), (7, 3, 6, .getfield 165, [3, 22, 105], 0), (10, 3, 31, .invokevirtual 219, [0, 1, 1, 15, 583, 16, 583, 19, 583, 24, 583, 18, 814, 25, 816], 0), (21, 3, 18, .invokestatic 146, [9, 1, 1, 205], 0), (25, 3, 6, .getfield 603, [3, 22, 97], 0), (28, 3, 6, .getfield 614, [3, 20, 87], 0), (31, 3, 19, .invokevirtual 633, [0, 1, 1, 13, 545], 0), (36, 3, 6, .getfield 68, [3, 1, 2], 0), (39, 3, 13, .getstatic 636, [23], 0), (47, 3, 19, .invokevirtual 354, [9, 4, 4, 3, 286], 0)]
theorem fb_258_0 : FB mi iT mi_258 (bpc code_258) (fl_258_0) := ⟨fun hd => mk19 mt_209 cf_209 (vf_209_1.rt (Or.inl W2535) (hd rfl)) rfl rfl (noH_nil rfl),
  ⟨fun hd => mk6 fld_22_13 (Or.inl ⟨rfl, by decide⟩) (Or.inr ⟨_, W2297⟩) (Or.inl rfl) (hd rfl),
  ⟨fun hd => mk31 ⟨pr3 mt_583 cf_583 (ev_583_15.rt (Or.inl W2623) (hd rfl)) rfl rfl, ⟨pr3 mt_583 cf_583 (ev_583_16.rt (Or.inl W2623) (hd rfl)) rfl rfl, ⟨pr3 mt_583 cf_583 (ev_583_19.rt (Or.inl W2623) (hd rfl)) rfl rfl, ⟨pr3 mt_583 cf_583 (ev_583_24.rt (Or.inl W2623) (hd rfl)) rfl rfl, ⟨pr3 mt_814 cf_814 (ei_814_18_KeelHouse_StageisGone__Z.rt W2623 (hd rfl)) rfl rfl, ⟨pr3 mt_816 cf_816 (ei_816_25_KeelHouse_StageisGone__Z.rt W2623 (hd rfl)) rfl rfl, trivial⟩⟩⟩⟩⟩⟩,
  ⟨fun hd => mk18 mt_205 sf_205 (Or.inl W1793) rfl rfl (noH_nil rfl) (hd rfl),
  ⟨fun hd => mk6 fld_22_5 (Or.inl ⟨rfl, by decide⟩) (Or.inr ⟨_, W2264⟩) (Or.inl rfl) (hd rfl),
  ⟨fun hd => mk6 fld_20_1 (Or.inl ⟨rfl, by decide⟩) (Or.inr ⟨_, W1974⟩) (Or.inl rfl) (hd rfl),
  ⟨fun hd => mk19 mt_545 cf_545 (vf_545_13.rt (Or.inl W3618) (hd rfl)) rfl rfl (noH_nil rfl),
  ⟨fun hd => mk6 fld_1_1 (Or.inl ⟨rfl, by decide⟩) (Or.inl W401) (Or.inl rfl) (hd rfl),
  ⟨fun hd => mk13s (by decide) rfl (Or.inl W3627) (Or.inl rfl) (hd rfl),
  ⟨fun hd => mk19 mt_286 cf_286 (vf_286_3.rt (Or.inl W2851) (hd rfl)) rfl rfl (noH_nil rfl),
  trivial⟩⟩⟩⟩⟩⟩⟩⟩⟩⟩
theorem fe_258 : eqEs ((flat code_258).filter (fun e => ndE e.2.2.1)) (fl_258_0) = true := by decide +kernel
theorem om_258 : OKm mi iT prg 258 := OKm_of (code := code_258) rfl mt_258 (Or.inl (by decide +kernel)) rfl wk_258 (by decide +kernel) (by decide +kernel) (FA_of fe_258 (fb_258_0))
def fl_259_0 : List Ent := [(2, 3, 19, .invokevirtual 161, [3, 2, 2, 1, 209], 0), (7, 3, 6, .getfield 165, [3, 22, 105], 0), (10, 3, 13, .getstatic 460, [19], 0), (17, 3, 6, .getfield 415, [3, 22, 102], 0), (22, 3, 19, .invokevirtual 426, [0, 2, 2, 12, 627], 0), (33, 3, 18, .invokestatic 146, [9, 1, 1, 205], 0), (37, 3, 6, .getfield 603, [3, 22, 97], 0), (40, 3, 6, .getfield 614, [3, 20, 87], 0), (43, 3, 19, .invokevirtual 639, [0, 1, 1, 13, 535], 0), (56, 3, 6, .getfield 603, [3, 22, 97], 0), (59, 3, 6, .getfield 614, [3, 20, 87], 0), (62, 3, 6, .getfield 618, [3, 13, 51], 0), (65, 3, 19, .invokevirtual 124, [0, 1, 1, 5, 5], 0), (82, 3, 6, .getfield 98, [3, 1, 6], 0), (85, 3, 19, .invokevirtual 642, [0, 1, 1, 7, 323], 0), (93, 3, 6, .getfield 603, [3, 22, 97], 0), (96, 3, 6, .getfield 614, [3, 20, 87], 0), (99, 3, 6, .getfield 618, [3, 13, 51], 0), (104, 3, 19, .invokevirtual 132, [3, 2, 2, 5, 6], 0), (107, 3, 17, .checkcast 628, [32], 0), (111, 3, 7, .putfield 645, [4, 32, 164], 0), (124, 3, 6, .getfield 603, [3, 22, 97], 0), (128, 3, 6, .getfield 603, [3, 22, 97], 0), (131, 3, 19, .invokevirtual 648, [0, 1, 1, 20, 525], 0), (134, 3, 19, .invokevirtual 651, [2, 2, 2, 20, 526], 0), (137, 3, 15, .ldc2_w 654, [4616189618054758400], 0), (145, 3, 19, .invokevirtual 446, [0, 1, 1, 22, 491], 0), (154, 3, 13, .getstatic 656, [24], 0), (157, 3, 7, .putfield 165, [3, 22, 105], 0)]
theorem fb_259_0 : FB mi iT mi_259 (bpc code_259) (fl_259_0) := ⟨fun hd => mk19 mt_209 cf_209 (vf_209_1.rt (Or.inl W2535) (hd rfl)) rfl rfl (noH_nil rfl),
  ⟨fun hd => mk6 fld_22_13 (Or.inl ⟨rfl, by decide⟩) (Or.inr ⟨_, W2297⟩) (Or.inl rfl) (hd rfl),
  ⟨fun hd => mk13s (by decide) rfl (Or.inl W3244) (Or.inl rfl) (hd rfl),
  ⟨fun hd => mk6 fld_22_10 (Or.inl ⟨rfl, by decide⟩) (Or.inr ⟨_, W2288⟩) (Or.inl rfl) (hd rfl),
  ⟨fun hd => mk19 mt_627 cf_627 (vf_627_12.rt (Or.inl W3203) (hd rfl)) rfl rfl (noH_nil rfl),
  ⟨fun hd => mk18 mt_205 sf_205 (Or.inl W1793) rfl rfl (noH_nil rfl) (hd rfl),
  ⟨fun hd => mk6 fld_22_5 (Or.inl ⟨rfl, by decide⟩) (Or.inr ⟨_, W2264⟩) (Or.inl rfl) (hd rfl),
  ⟨fun hd => mk6 fld_20_1 (Or.inl ⟨rfl, by decide⟩) (Or.inr ⟨_, W1974⟩) (Or.inl rfl) (hd rfl),
  ⟨fun hd => mk19 mt_535 cf_535 (vf_535_13.rt (Or.inl W3636) (hd rfl)) rfl rfl (noH_nil rfl),
  ⟨fun hd => mk6 fld_22_5 (Or.inl ⟨rfl, by decide⟩) (Or.inr ⟨_, W2264⟩) (Or.inl rfl) (hd rfl),
  ⟨fun hd => mk6 fld_20_1 (Or.inl ⟨rfl, by decide⟩) (Or.inr ⟨_, W1974⟩) (Or.inl rfl) (hd rfl),
  ⟨fun hd => mk6 fld_13_0 (Or.inl ⟨rfl, by decide⟩) (Or.inr ⟨_, W1957⟩) (Or.inl rfl) (hd rfl),
  ⟨fun hd => mk19 mt_5 cf_5 (vf_5_5.rt (Or.inl W1021) (hd rfl)) rfl rfl (noH_nil rfl),
  ⟨fun hd => mk6 fld_1_5 (Or.inl ⟨rfl, by decide⟩) (Or.inl W405) (Or.inl rfl) (hd rfl),
  ⟨fun hd => mk19 mt_323 cf_323 (vf_323_7.rt (Or.inl W3637) (hd rfl)) rfl rfl (noH_nil rfl),
  ⟨fun hd => mk6 fld_22_5 (Or.inl ⟨rfl, by decide⟩) (Or.inr ⟨_, W2264⟩) (Or.inl rfl) (hd rfl),
  ⟨fun hd => mk6 fld_20_1 (Or.inl ⟨rfl, by decide⟩) (Or.inr ⟨_, W1974⟩) (Or.inl rfl) (hd rfl),
  ⟨fun hd => mk6 fld_13_0 (Or.inl ⟨rfl, by decide⟩) (Or.inr ⟨_, W1957⟩) (Or.inl rfl) (hd rfl),
  ⟨fun hd => mk19 mt_6 cf_6 (vf_6_5.rt (Or.inl W2557) (hd rfl)) rfl rfl (noH_nil rfl),
  ⟨fun hd => mk17 kx_32 W3610 (hd rfl),
  ⟨fun hd => mk7 fld_32_4 (Or.inr ⟨_, W3574⟩) (Or.inl rfl) (Or.inl rfl) (hd rfl),
  ⟨fun hd => mk6 fld_22_5 (Or.inl ⟨rfl, by decide⟩) (Or.inr ⟨_, W2264⟩) (Or.inl rfl) (hd rfl),
  ⟨fun hd => mk6 fld_22_5 (Or.inl ⟨rfl, by decide⟩) (Or.inr ⟨_, W2264⟩) (Or.inl rfl) (hd rfl),
  ⟨fun hd => mk19 mt_525 cf_525 (vf_525_20.rt (Or.inl W3638) (hd rfl)) rfl rfl (noH_nil rfl),
  ⟨fun hd => mk19 mt_526 cf_526 (vf_526_20.rt (Or.inl W3639) (hd rfl)) rfl rfl (noH_nil rfl),
  ⟨fun hd => mk15 W3640 (hd rfl),
  ⟨fun hd => mk19 mt_491 cf_491 (vf_491_22.rt (Or.inl W3222) (hd rfl)) rfl rfl (noH_nil rfl),
  ⟨fun hd => mk13s (by decide) rfl (Or.inl W3641) (Or.inl rfl) (hd rfl),
  ⟨fun hd => mk7 fld_22_13 (Or.inr ⟨_, W2297⟩) (Or.inl rfl) (Or.inl rfl) (hd rfl),
  trivial⟩⟩⟩⟩⟩⟩⟩⟩⟩⟩⟩⟩⟩⟩⟩⟩⟩⟩⟩⟩⟩⟩⟩⟩⟩⟩⟩⟩⟩
theorem fe_259 : eqEs ((flat code_259).filter (fun e => ndE e.2.2.1)) (fl_259_0) = true := by decide +kernel
theorem om_259 : OKm mi iT prg 259 := OKm_of (code := code_259) rfl mt_259 (Or.inl (by decide +kernel)) rfl wk_259 (by decide +kernel) (by decide +kernel) (FA_of fe_259 (fb_259_0))
def fl_260_0 : List Ent := [(2, 3, 19, .invokevirtual 161, [3, 2, 2, 1, 209], 0), (10, 3, 18, .invokestatic 138, [0, 3, 3, 203], 0), (13, 3, 18, .invokestatic 142, [9, 1, 1, 204], 0), (17, 3, 6, .getfield 603, [3, 22, 97], 0), (21, 3, 19, .invokevirtual 659, [0, 2, 2, 20, 524], 0)]
theorem fb_260_0 : FB mi iT mi_260 (bpc code_260) (fl_260_0) := ⟨fun hd => mk19 mt_209 cf_209 (vf_209_1.rt (Or.inl W2535) (hd rfl)) rfl rfl (noH_nil rfl),
  ⟨fun hd => mk18 mt_203 sf_203 (Or.inl W1766) rfl rfl (noH_nil rfl) (hd rfl),
  ⟨fun hd => mk18 mt_204 sf_204 (Or.inl W1769) rfl rfl (noH_nil rfl) (hd rfl),
  ⟨fun hd => mk6 fld_22_5 (Or.inl ⟨rfl, by decide⟩) (Or.inr ⟨_, W2264⟩) (Or.inl rfl) (hd rfl),
  ⟨fun hd => mk19 mt_524 cf_524 (vf_524_20.rt (Or.inl W1573) (hd rfl)) rfl rfl (noH_nil rfl),
  trivial⟩⟩⟩⟩⟩
theorem fe_260 : eqEs ((flat code_260).filter (fun e => ndE e.2.2.1)) (fl_260_0) = true := by decide +kernel
theorem om_260 : OKm mi iT prg 260 := OKm_of (code := code_260) rfl mt_260 (Or.inl (by decide +kernel)) rfl wk_260 (by decide +kernel) (by decide +kernel) (FA_of fe_260 (fb_260_0))
def fl_261_0 : List Ent := [(2, 3, 19, .invokevirtual 161, [3, 2, 2, 1, 209], 0), (11, 3, 18, .invokestatic 138, [0, 3, 3, 203], 0), (14, 3, 18, .invokestatic 142, [9, 1, 1, 204], 0), (18, 3, 6, .getfield 603, [3, 22, 97], 0), (27, 3, 6, .getfield 603, [3, 22, 97], 0), (30, 3, 19, .invokevirtual 648, [0, 1, 1, 20, 525], 0), (37, 3, 19, .invokevirtual 651, [2, 2, 2, 20, 526], 0), (40, 3, 18, .invokestatic 211, [2, 1, 2, 214], 0)]
theorem fb_261_0 : FB mi iT mi_261 (bpc code_261) (fl_261_0) := ⟨fun hd => mk19 mt_209 cf_209 (vf_209_1.rt (Or.inl W2535) (hd rfl)) rfl rfl (noH_nil rfl),
  ⟨fun hd => mk18 mt_203 sf_203 (Or.inl W1766) rfl rfl (noH_nil rfl) (hd rfl),
  ⟨fun hd => mk18 mt_204 sf_204 (Or.inl W1769) rfl rfl (noH_nil rfl) (hd rfl),
  ⟨fun hd => mk6 fld_22_5 (Or.inl ⟨rfl, by decide⟩) (Or.inr ⟨_, W2264⟩) (Or.inl rfl) (hd rfl),
  ⟨fun hd => mk6 fld_22_5 (Or.inl ⟨rfl, by decide⟩) (Or.inr ⟨_, W2264⟩) (Or.inl rfl) (hd rfl),
  ⟨fun hd => mk19 mt_525 cf_525 (vf_525_20.rt (Or.inl W3638) (hd rfl)) rfl rfl (noH_nil rfl),
  ⟨fun hd => mk19 mt_526 cf_526 (vf_526_20.rt (Or.inl W3639) (hd rfl)) rfl rfl (noH_nil rfl),
  ⟨fun hd => mk18 mt_214 sf_214 (Or.inl W2604) rfl rfl (noH_nil rfl) (hd rfl),
  trivial⟩⟩⟩⟩⟩⟩⟩⟩
theorem fe_261 : eqEs ((flat code_261).filter (fun e => ndE e.2.2.1)) (fl_261_0) = true := by decide +kernel
theorem om_261 : OKm mi iT prg 261 := OKm_of (code := code_261) rfl mt_261 (Or.inl (by decide +kernel)) rfl wk_261 (by decide +kernel) (by decide +kernel) (FA_of fe_261 (fb_261_0))
def fl_262_0 : List Ent := [(5, 3, 18, .invokestatic 138, [0, 3, 3, 203], 0), (15, 3, 18, .invokestatic 138, [0, 3, 3, 203], 0), (26, 3, 18, .invokestatic 138, [0, 3, 3, 203], 0), (39, 3, 18, .invokestatic 138, [0, 3, 3, 203], 0), (52, 3, 18, .invokestatic 138, [0, 3, 3, 203], 0), (63, 3, 18, .invokestatic 142, [9, 1, 1, 204], 0), (67, 3, 6, .getfield 107, [3, 1, 7], 0), (70, 3, 19, .invokevirtual 661, [0, 1, 1, 8, 334], 0), (81, 3, 18, .invokestatic 146, [9, 1, 1, 205], 0), (85, 3, 6, .getfield 107, [3, 1, 7], 0), (88, 3, 6, .getfield 662, [3, 8, 34], 0), (91, 3, 11, .new 665, [33, 10], 0), (99, 3, 6, .getfield 363, [0, 1, 9], 0), (107, 3, 36, .invokespecial 667, [9, 6, 6, 33, 754], 0), (110, 3, 19, .invokevirtual 157, [0, 2, 2, 5, 8], 0), (115, 3, 6, .getfield 107, [3, 1, 7], 0), (118, 3, 6, .getfield 662, [3, 8, 34], 0), (121, 3, 19, .invokevirtual 124, [0, 1, 1, 5, 5], 0)]
theorem fb_262_0 : FB mi iT mi_262 (bpc code_262) (fl_262_0) := ⟨fun hd => mk18 mt_203 sf_203 (Or.inl W1766) rfl rfl (noH_nil rfl) (hd rfl),
  ⟨fun hd => mk18 mt_203 sf_203 (Or.inl W1766) rfl rfl (noH_nil rfl) (hd rfl),
  ⟨fun hd => mk18 mt_203 sf_203 (Or.inl W1766) rfl rfl (noH_nil rfl) (hd rfl),
  ⟨fun hd => mk18 mt_203 sf_203 (Or.inl W1766) rfl rfl (noH_nil rfl) (hd rfl),
  ⟨fun hd => mk18 mt_203 sf_203 (Or.inl W1766) rfl rfl (noH_nil rfl) (hd rfl),
  ⟨fun hd => mk18 mt_204 sf_204 (Or.inl W1769) rfl rfl (noH_nil rfl) (hd rfl),
  ⟨fun hd => mk6 fld_1_6 (Or.inl ⟨rfl, by decide⟩) (Or.inl W406) (Or.inl rfl) (hd rfl),
  ⟨fun hd => mk19 mt_334 cf_334 (vf_334_8.rt (Or.inl W3663) (hd rfl)) rfl rfl (noH_nil rfl),
  ⟨fun hd => mk18 mt_205 sf_205 (Or.inl W1793) rfl rfl (noH_nil rfl) (hd rfl),
  ⟨fun hd => mk6 fld_1_6 (Or.inl ⟨rfl, by decide⟩) (Or.inl W406) (Or.inl rfl) (hd rfl),
  ⟨fun hd => mk6 fld_8_1 (Or.inl ⟨rfl, by decide⟩) (Or.inr ⟨_, W349⟩) (Or.inl rfl) (hd rfl),
  ⟨fun hd => mk11 nf_33 W1022 (hd rfl),
  ⟨fun hd => mk6 fld_1_8 (Or.inl ⟨rfl, by decide⟩) (Or.inl W408) (Or.inl rfl) (hd rfl),
  ⟨fun hd => mk36 mt_754 cf_754 (ic_754.rt (Or.inl W3668) (hd rfl)) rfl rfl,
  ⟨fun hd => mk19 mt_8 cf_8 (vf_8_5.rt (Or.inl W2386) (hd rfl)) rfl rfl (noH_nil rfl),
  ⟨fun hd => mk6 fld_1_6 (Or.inl ⟨rfl, by decide⟩) (Or.inl W406) (Or.inl rfl) (hd rfl),
  ⟨fun hd => mk6 fld_8_1 (Or.inl ⟨rfl, by decide⟩) (Or.inr ⟨_, W349⟩) (Or.inl rfl) (hd rfl),
  ⟨fun hd => mk19 mt_5 cf_5 (vf_5_5.rt (Or.inl W1021) (hd rfl)) rfl rfl (noH_nil rfl),
  trivial⟩⟩⟩⟩⟩⟩⟩⟩⟩⟩⟩⟩⟩⟩⟩⟩⟩⟩
theorem fe_262 : eqEs ((flat code_262).filter (fun e => ndE e.2.2.1)) (fl_262_0) = true := by decide +kernel
theorem om_262 : OKm mi iT prg 262 := OKm_of (code := code_262) rfl mt_262 (Or.inl (by decide +kernel)) rfl wk_262 (by decide +kernel) (by decide +kernel) (FA_of fe_262 (fb_262_0))
def fl_263_0 : List Ent := [(1, 3, 6, .getfield 107, [3, 1, 7], 0), (5, 3, 19, .invokevirtual 668, [3, 2, 2, 8, 335], 0), (12, 3, 19, .invokevirtual 161, [3, 2, 2, 1, 209], 0), (22, 3, 18, .invokestatic 138, [0, 3, 3, 203], 0), (25, 3, 18, .invokestatic 142, [9, 1, 1, 204], 0), (30, 3, 6, .getfield 671, [0, 33, 171], 0), (37, 3, 6, .getfield 107, [3, 1, 7], 0), (42, 3, 19, .invokevirtual 672, [0, 2, 2, 8, 336], 0), (53, 3, 18, .invokestatic 146, [9, 1, 1, 205], 0), (57, 3, 6, .getfield 107, [3, 1, 7], 0), (66, 3, 6, .getfield 120, [0, 1, 10], 0), (69, 3, 19, .invokevirtual 674, [0, 5, 5, 8, 337], 0)]
theorem fb_263_0 : FB mi iT mi_263 (bpc code_263) (fl_263_0) := ⟨fun hd => mk6 fld_1_6 (Or.inl ⟨rfl, by decide⟩) (Or.inl W406) (Or.inl rfl) (hd rfl),
  ⟨fun hd => mk19 mt_335 cf_335 (vf_335_8.rt (Or.inl W3719) (hd rfl)) rfl rfl (noH_nil rfl),
  ⟨fun hd => mk19 mt_209 cf_209 (vf_209_1.rt (Or.inl W2535) (hd rfl)) rfl rfl (noH_nil rfl),
  ⟨fun hd => mk18 mt_203 sf_203 (Or.inl W1766) rfl rfl (noH_nil rfl) (hd rfl),
  ⟨fun hd => mk18 mt_204 sf_204 (Or.inl W1769) rfl rfl (noH_nil rfl) (hd rfl),
  ⟨fun hd => mk6 fld_33_5 (Or.inl ⟨rfl, by decide⟩) (Or.inr ⟨_, W3681⟩) (Or.inl rfl) (hd rfl),
  ⟨fun hd => mk6 fld_1_6 (Or.inl ⟨rfl, by decide⟩) (Or.inl W406) (Or.inl rfl) (hd rfl),
  ⟨fun hd => mk19 mt_336 cf_336 (vf_336_8.rt (Or.inl W3724) (hd rfl)) rfl rfl (noH_nil rfl),
  ⟨fun hd => mk18 mt_205 sf_205 (Or.inl W1793) rfl rfl (noH_nil rfl) (hd rfl),
  ⟨fun hd => mk6 fld_1_6 (Or.inl ⟨rfl, by decide⟩) (Or.inl W406) (Or.inl rfl) (hd rfl),
  ⟨fun hd => mk6 fld_1_9 (Or.inl ⟨rfl, by decide⟩) (Or.inl W409) (Or.inl rfl) (hd rfl),
  ⟨fun hd => mk19 mt_337 cf_337 (vf_337_8.rt (Or.inl W3729) (hd rfl)) rfl rfl (noH_nil rfl),
  trivial⟩⟩⟩⟩⟩⟩⟩⟩⟩⟩⟩⟩
theorem fe_263 : eqEs ((flat code_263).filter (fun e => ndE e.2.2.1)) (fl_263_0) = true := by decide +kernel
theorem om_263 : OKm mi iT prg 263 := OKm_of (code := code_263) rfl mt_263 (Or.inl (by decide +kernel)) rfl wk_263 (by decide +kernel) (by decide +kernel) (FA_of fe_263 (fb_263_0))
def fl_264_0 : List Ent := [(1, 3, 6, .getfield 107, [3, 1, 7], 0), (5, 3, 19, .invokevirtual 668, [3, 2, 2, 8, 335], 0), (10, 3, 6, .getfield 671, [0, 33, 171], 0), (22, 3, 18, .invokestatic 146, [9, 1, 1, 205], 0), (26, 3, 6, .getfield 678, [3, 33, 172], 0), (31, 3, 19, .invokevirtual 682, [0, 1, 1, 22, 484], 0), (38, 3, 6, .getfield 436, [0, 22, 109], 0), (48, 3, 6, .getfield 603, [3, 22, 97], 0), (52, 3, 6, .getfield 603, [3, 22, 97], 0), (55, 3, 19, .invokevirtual 648, [0, 1, 1, 20, 525], 0), (58, 3, 19, .invokevirtual 651, [2, 2, 2, 20, 526], 0), (62, 3, 18, .invokestatic 685, [0, 1, 1, 199], 0), (65, 3, 19, .invokevirtual 688, [0, 4, 5, 33, 755], 0), (74, 3, 6, .getfield 107, [3, 1, 7], 0), (78, 3, 19, .invokevirtual 692, [0, 2, 2, 8, 338], 0), (84, 3, 6, .getfield 82, [3, 1, 4], 0), (88, 3, 6, .getfield 678, [3, 33, 172], 0), (91, 3, 19, .invokevirtual 449, [9, 2, 2, 6, 310], 0), (95, 3, 6, .getfield 678, [3, 33, 172], 0), (98, 3, 13, .getstatic 696, [25], 0), (101, 3, 19, .invokevirtual 456, [9, 2, 2, 22, 492], 0)]
theorem fb_264_0 : FB mi iT mi_264 (bpc code_264) (fl_264_0) := ⟨fun hd => mk6 fld_1_6 (Or.inl ⟨rfl, by decide⟩) (Or.inl W406) (Or.inl rfl) (hd rfl),
  ⟨fun hd => mk19 mt_335 cf_335 (vf_335_8.rt (Or.inl W3719) (hd rfl)) rfl rfl (noH_nil rfl),
  ⟨fun hd => mk6 fld_33_5 (Or.inl ⟨rfl, by decide⟩) (Or.inr ⟨_, W3681⟩) (Or.inl rfl) (hd rfl),
  ⟨fun hd => mk18 mt_205 sf_205 (Or.inl W1793) rfl rfl (noH_nil rfl) (hd rfl),
  ⟨fun hd => mk6 fld_33_6 (Or.inl ⟨rfl, by decide⟩) (Or.inr ⟨_, W3684⟩) (Or.inl rfl) (hd rfl),
  ⟨fun hd => mk19 mt_484 cf_484 (vf_484_22.rt (Or.inl W3742) (hd rfl)) rfl rfl (noH_nil rfl),
  ⟨fun hd => mk6 fld_22_17 (Or.inl ⟨rfl, by decide⟩) (Or.inr ⟨_, W2310⟩) (Or.inl rfl) (hd rfl),
  ⟨fun hd => mk6 fld_22_5 (Or.inl ⟨rfl, by decide⟩) (Or.inr ⟨_, W2264⟩) (Or.inl rfl) (hd rfl),
  ⟨fun hd => mk6 fld_22_5 (Or.inl ⟨rfl, by decide⟩) (Or.inr ⟨_, W2264⟩) (Or.inl rfl) (hd rfl),
  ⟨fun hd => mk19 mt_525 cf_525 (vf_525_20.rt (Or.inl W3638) (hd rfl)) rfl rfl (noH_nil rfl),
  ⟨fun hd => mk19 mt_526 cf_526 (vf_526_20.rt (Or.inl W3639) (hd rfl)) rfl rfl (noH_nil rfl),
  ⟨fun hd => mk18 mt_199 sf_199 (Or.inl W1605) rfl rfl (noH_nil rfl) (hd rfl),
  ⟨fun hd => mk19 mt_755 cf_755 (vf_755_33.rt (Or.inl W3743) (hd rfl)) rfl rfl (noH_nil rfl),
  ⟨fun hd => mk6 fld_1_6 (Or.inl ⟨rfl, by decide⟩) (Or.inl W406) (Or.inl rfl) (hd rfl),
  ⟨fun hd => mk19 mt_338 cf_338 (vf_338_8.rt (Or.inl W3747) (hd rfl)) rfl rfl (noH_nil rfl),
  ⟨fun hd => mk6 fld_1_3 (Or.inl ⟨rfl, by decide⟩) (Or.inl W403) (Or.inl rfl) (hd rfl),
  ⟨fun hd => mk6 fld_33_6 (Or.inl ⟨rfl, by decide⟩) (Or.inr ⟨_, W3684⟩) (Or.inl rfl) (hd rfl),
  ⟨fun hd => mk19 mt_310 cf_310 (vf_310_6.rt (Or.inl W3228) (hd rfl)) rfl rfl (noH_nil rfl),
  ⟨fun hd => mk6 fld_33_6 (Or.inl ⟨rfl, by decide⟩) (Or.inr ⟨_, W3684⟩) (Or.inl rfl) (hd rfl),
  ⟨fun hd => mk13s (by decide) rfl (Or.inl W3751) (Or.inl rfl) (hd rfl),
  ⟨fun hd => mk19 mt_492 cf_492 (vf_492_22.rt (Or.inl W3230) (hd rfl)) rfl rfl (noH_nil rfl),
  trivial⟩⟩⟩⟩⟩⟩⟩⟩⟩⟩⟩⟩⟩⟩⟩⟩⟩⟩⟩⟩⟩
theorem fe_264 : eqEs ((flat code_264).filter (fun e => ndE e.2.2.1)) (fl_264_0) = true := by decide +kernel
theorem om_264 : OKm mi iT prg 264 := OKm_of (code := code_264) rfl mt_264 (Or.inl (by decide +kernel)) rfl wk_264 (by decide +kernel) (by decide +kernel) (FA_of fe_264 (fb_264_0))
def fl_265_0 : List Ent := [(2, 3, 19, .invokevirtual 161, [3, 2, 2, 1, 209], 0), (5, 3, 18, .invokestatic 685, [0, 1, 1, 199], 0)]
theorem fb_265_0 : FB mi iT mi_265 (bpc code_265) (fl_265_0) := ⟨fun hd => mk19 mt_209 cf_209 (vf_209_1.rt (Or.inl W2535) (hd rfl)) rfl rfl (noH_nil rfl),
  ⟨fun hd => mk18 mt_199 sf_199 (Or.inl W1605) rfl rfl (noH_nil rfl) (hd rfl),
  trivial⟩⟩
theorem fe_265 : eqEs ((flat code_265).filter (fun e => ndE e.2.2.1)) (fl_265_0) = true := by decide +kernel
theorem om_265 : OKm mi iT prg 265 := OKm_of (code := code_265) rfl mt_265 (Or.inl (by decide +kernel)) rfl wk_265 (by decide +kernel) (by decide +kernel) (FA_of fe_265 (fb_265_0))
def fl_266_0 : List Ent := [(1, 3, 6, .getfield 107, [3, 1, 7], 0), (5, 3, 19, .invokevirtual 668, [3, 2, 2, 8, 335], 0), (13, 3, 18, .invokestatic 138, [0, 3, 3, 203], 0), (16, 3, 18, .invokestatic 142, [9, 1, 1, 204], 0), (22, 3, 6, .getfield 120, [0, 1, 10], 0), (25, 3, 19, .invokevirtual 699, [0, 3, 3, 33, 752], 0)]
theorem fb_266_0 : FB mi iT mi_266 (bpc code_266) (fl_266_0) := ⟨fun hd => mk6 fld_1_6 (Or.inl ⟨rfl, by decide⟩) (Or.inl W406) (Or.inl rfl) (hd rfl),
  ⟨fun hd => mk19 mt_335 cf_335 (vf_335_8.rt (Or.inl W3719) (hd rfl)) rfl rfl (noH_nil rfl),
  ⟨fun hd => mk18 mt_203 sf_203 (Or.inl W1766) rfl rfl (noH_nil rfl) (hd rfl),
  ⟨fun hd => mk18 mt_204 sf_204 (Or.inl W1769) rfl rfl (noH_nil rfl) (hd rfl),
  ⟨fun hd => mk6 fld_1_9 (Or.inl ⟨rfl, by decide⟩) (Or.inl W409) (Or.inl rfl) (hd rfl),
  ⟨fun hd => mk19 mt_752 cf_752 (vf_752_33.rt (Or.inl W1023) (hd rfl)) rfl rfl (noH_nil rfl),
  trivial⟩⟩⟩⟩⟩⟩
theorem fe_266 : eqEs ((flat code_266).filter (fun e => ndE e.2.2.1)) (fl_266_0) = true := by decide +kernel
theorem om_266 : OKm mi iT prg 266 := OKm_of (code := code_266) rfl mt_266 (Or.inl (by decide +kernel)) rfl wk_266 (by decide +kernel) (by decide +kernel) (FA_of fe_266 (fb_266_0))
def fl_267_0 : List Ent := [(1, 3, 6, .getfield 107, [3, 1, 7], 0), (6, 3, 19, .invokevirtual 161, [3, 2, 2, 1, 209], 0), (10, 3, 6, .getfield 120, [0, 1, 10], 0), (13, 3, 19, .invokevirtual 701, [0, 3, 3, 8, 339], 0)]
theorem fb_267_0 : FB mi iT mi_267 (bpc code_267) (fl_267_0) := ⟨fun hd => mk6 fld_1_6 (Or.inl ⟨rfl, by decide⟩) (Or.inl W406) (Or.inl rfl) (hd rfl),
  ⟨fun hd => mk19 mt_209 cf_209 (vf_209_1.rt (Or.inl W2535) (hd rfl)) rfl rfl (noH_nil rfl),
  ⟨fun hd => mk6 fld_1_9 (Or.inl ⟨rfl, by decide⟩) (Or.inl W409) (Or.inl rfl) (hd rfl),
  ⟨fun hd => mk19 mt_339 cf_339 (vf_339_8.rt (Or.inl W3773) (hd rfl)) rfl rfl (noH_nil rfl),
  trivial⟩⟩⟩⟩
theorem fe_267 : eqEs ((flat code_267).filter (fun e => ndE e.2.2.1)) (fl_267_0) = true := by decide +kernel
theorem om_267 : OKm mi iT prg 267 := OKm_of (code := code_267) rfl mt_267 (Or.inl (by decide +kernel)) rfl wk_267 (by decide +kernel) (by decide +kernel) (FA_of fe_267 (fb_267_0))
def fl_268_0 : List Ent := [(4, 3, 18, .invokestatic 138, [0, 3, 3, 203], 0), (14, 3, 18, .invokestatic 138, [0, 3, 3, 203], 0), (26, 3, 18, .invokestatic 138, [0, 3, 3, 203], 0), (37, 3, 18, .invokestatic 142, [9, 1, 1, 204], 0), (41, 3, 6, .getfield 116, [3, 1, 8], 0), (44, 3, 6, .getfield 704, [3, 9, 36], 0), (47, 3, 19, .invokevirtual 124, [0, 1, 1, 5, 5], 0), (60, 3, 18, .invokestatic 146, [9, 1, 1, 205], 0), (64, 3, 6, .getfield 116, [3, 1, 8], 0), (67, 3, 6, .getfield 704, [3, 9, 36], 0), (70, 3, 11, .new 707, [34, 4], 0), (75, 3, 6, .getfield 116, [3, 1, 8], 0), (78, 3, 6, .getfield 704, [3, 9, 36], 0), (81, 3, 19, .invokevirtual 124, [0, 1, 1, 5, 5], 0), (87, 3, 36, .invokespecial 709, [9, 5, 5, 34, 759], 0), (90, 3, 19, .invokevirtual 157, [0, 2, 2, 5, 8], 0), (95, 3, 6, .getfield 116, [3, 1, 8], 0), (98, 3, 6, .getfield 704, [3, 9, 36], 0), (101, 3, 19, .invokevirtual 124, [0, 1, 1, 5, 5], 0)]
theorem fb_268_0 : FB mi iT mi_268 (bpc code_268) (fl_268_0) := ⟨fun hd => mk18 mt_203 sf_203 (Or.inl W1766) rfl rfl (noH_nil rfl) (hd rfl),
  ⟨fun hd => mk18 mt_203 sf_203 (Or.inl W1766) rfl rfl (noH_nil rfl) (hd rfl),
  ⟨fun hd => mk18 mt_203 sf_203 (Or.inl W1766) rfl rfl (noH_nil rfl) (hd rfl),
  ⟨fun hd => mk18 mt_204 sf_204 (Or.inl W1769) rfl rfl (noH_nil rfl) (hd rfl),
  ⟨fun hd => mk6 fld_1_7 (Or.inl ⟨rfl, by decide⟩) (Or.inl W407) (Or.inl rfl) (hd rfl),
  ⟨fun hd => mk6 fld_9_1 (Or.inl ⟨rfl, by decide⟩) (Or.inr ⟨_, W386⟩) (Or.inl rfl) (hd rfl),
  ⟨fun hd => mk19 mt_5 cf_5 (vf_5_5.rt (Or.inl W1021) (hd rfl)) rfl rfl (noH_nil rfl),
  ⟨fun hd => mk18 mt_205 sf_205 (Or.inl W1793) rfl rfl (noH_nil rfl) (hd rfl),
  ⟨fun hd => mk6 fld_1_7 (Or.inl ⟨rfl, by decide⟩) (Or.inl W407) (Or.inl rfl) (hd rfl),
  ⟨fun hd => mk6 fld_9_1 (Or.inl ⟨rfl, by decide⟩) (Or.inr ⟨_, W386⟩) (Or.inl rfl) (hd rfl),
  ⟨fun hd => mk11 nf_34 W3790 (hd rfl),
  ⟨fun hd => mk6 fld_1_7 (Or.inl ⟨rfl, by decide⟩) (Or.inl W407) (Or.inl rfl) (hd rfl),
  ⟨fun hd => mk6 fld_9_1 (Or.inl ⟨rfl, by decide⟩) (Or.inr ⟨_, W386⟩) (Or.inl rfl) (hd rfl),
  ⟨fun hd => mk19 mt_5 cf_5 (vf_5_5.rt (Or.inl W1021) (hd rfl)) rfl rfl (noH_nil rfl),
  ⟨fun hd => mk36 mt_759 cf_759 (ic_759.rt (Or.inl W3792) (hd rfl)) rfl rfl,
  ⟨fun hd => mk19 mt_8 cf_8 (vf_8_5.rt (Or.inl W2386) (hd rfl)) rfl rfl (noH_nil rfl),
  ⟨fun hd => mk6 fld_1_7 (Or.inl ⟨rfl, by decide⟩) (Or.inl W407) (Or.inl rfl) (hd rfl),
  ⟨fun hd => mk6 fld_9_1 (Or.inl ⟨rfl, by decide⟩) (Or.inr ⟨_, W386⟩) (Or.inl rfl) (hd rfl),
  ⟨fun hd => mk19 mt_5 cf_5 (vf_5_5.rt (Or.inl W1021) (hd rfl)) rfl rfl (noH_nil rfl),
  trivial⟩⟩⟩⟩⟩⟩⟩⟩⟩⟩⟩⟩⟩⟩⟩⟩⟩⟩⟩
theorem fe_268 : eqEs ((flat code_268).filter (fun e => ndE e.2.2.1)) (fl_268_0) = true := by decide +kernel
theorem om_268 : OKm mi iT prg 268 := OKm_of (code := code_268) rfl mt_268 (Or.inl (by decide +kernel)) rfl wk_268 (by decide +kernel) (by decide +kernel) (FA_of fe_268 (fb_268_0))
def fl_269_0 : List Ent := [(1, 3, 6, .getfield 116, [3, 1, 8], 0), (5, 3, 19, .invokevirtual 710, [3, 2, 2, 9, 348], 0), (11, 3, 6, .getfield 116, [3, 1, 8], 0), (15, 3, 19, .invokevirtual 710, [3, 2, 2, 9, 348], 0), (30, 3, 18, .invokestatic 138, [0, 3, 3, 203], 0), (40, 3, 18, .invokestatic 138, [0, 3, 3, 203], 0), (52, 3, 18, .invokestatic 138, [0, 3, 3, 203], 0), (63, 3, 18, .invokestatic 142, [9, 1, 1, 204], 0), (67, 3, 6, .getfield 116, [3, 1, 8], 0), (70, 3, 6, .getfield 714, [3, 9, 37], 0), (73, 3, 19, .invokevirtual 124, [0, 1, 1, 5, 5], 0), (86, 3, 18, .invokestatic 146, [9, 1, 1, 205], 0), (90, 3, 6, .getfield 116, [3, 1, 8], 0), (93, 3, 6, .getfield 714, [3, 9, 37], 0), (96, 3, 11, .new 717, [35, 10], 0), (101, 3, 6, .getfield 116, [3, 1, 8], 0), (104, 3, 6, .getfield 714, [3, 9, 37], 0), (107, 3, 19, .invokevirtual 124, [0, 1, 1, 5, 5], 0), (119, 3, 36, .invokespecial 719, [9, 7, 7, 35, 762], 0), (122, 3, 19, .invokevirtual 157, [0, 2, 2, 5, 8], 0), (127, 3, 6, .getfield 116, [3, 1, 8], 0), (130, 3, 6, .getfield 714, [3, 9, 37], 0), (133, 3, 19, .invokevirtual 124, [0, 1, 1, 5, 5], 0)]
theorem fb_269_0 : FB mi iT mi_269 (bpc code_269) (fl_269_0) := ⟨fun hd => mk6 fld_1_7 (Or.inl ⟨rfl, by decide⟩) (Or.inl W407) (Or.inl rfl) (hd rfl),
  ⟨fun hd => mk19 mt_348 cf_348 (vf_348_9.rt (Or.inl W3819) (hd rfl)) rfl rfl (noH_nil rfl),
  ⟨fun hd => mk6 fld_1_7 (Or.inl ⟨rfl, by decide⟩) (Or.inl W407) (Or.inl rfl) (hd rfl),
  ⟨fun hd => mk19 mt_348 cf_348 (vf_348_9.rt (Or.inl W3819) (hd rfl)) rfl rfl (noH_nil rfl),
  ⟨fun hd => mk18 mt_203 sf_203 (Or.inl W1766) rfl rfl (noH_nil rfl) (hd rfl),
  ⟨fun hd => mk18 mt_203 sf_203 (Or.inl W1766) rfl rfl (noH_nil rfl) (hd rfl),
  ⟨fun hd => mk18 mt_203 sf_203 (Or.inl W1766) rfl rfl (noH_nil rfl) (hd rfl),
  ⟨fun hd => mk18 mt_204 sf_204 (Or.inl W1769) rfl rfl (noH_nil rfl) (hd rfl),
  ⟨fun hd => mk6 fld_1_7 (Or.inl ⟨rfl, by decide⟩) (Or.inl W407) (Or.inl rfl) (hd rfl),
  ⟨fun hd => mk6 fld_9_2 (Or.inl ⟨rfl, by decide⟩) (Or.inr ⟨_, W388⟩) (Or.inl rfl) (hd rfl),
  ⟨fun hd => mk19 mt_5 cf_5 (vf_5_5.rt (Or.inl W1021) (hd rfl)) rfl rfl (noH_nil rfl),
  ⟨fun hd => mk18 mt_205 sf_205 (Or.inl W1793) rfl rfl (noH_nil rfl) (hd rfl),
  ⟨fun hd => mk6 fld_1_7 (Or.inl ⟨rfl, by decide⟩) (Or.inl W407) (Or.inl rfl) (hd rfl),
  ⟨fun hd => mk6 fld_9_2 (Or.inl ⟨rfl, by decide⟩) (Or.inr ⟨_, W388⟩) (Or.inl rfl) (hd rfl),
  ⟨fun hd => mk11 nf_35 W1729 (hd rfl),
  ⟨fun hd => mk6 fld_1_7 (Or.inl ⟨rfl, by decide⟩) (Or.inl W407) (Or.inl rfl) (hd rfl),
  ⟨fun hd => mk6 fld_9_2 (Or.inl ⟨rfl, by decide⟩) (Or.inr ⟨_, W388⟩) (Or.inl rfl) (hd rfl),
  ⟨fun hd => mk19 mt_5 cf_5 (vf_5_5.rt (Or.inl W1021) (hd rfl)) rfl rfl (noH_nil rfl),
  ⟨fun hd => mk36 mt_762 cf_762 (ic_762.rt (Or.inl W3827) (hd rfl)) rfl rfl,
  ⟨fun hd => mk19 mt_8 cf_8 (vf_8_5.rt (Or.inl W2386) (hd rfl)) rfl rfl (noH_nil rfl),
  ⟨fun hd => mk6 fld_1_7 (Or.inl ⟨rfl, by decide⟩) (Or.inl W407) (Or.inl rfl) (hd rfl),
  ⟨fun hd => mk6 fld_9_2 (Or.inl ⟨rfl, by decide⟩) (Or.inr ⟨_, W388⟩) (Or.inl rfl) (hd rfl),
  ⟨fun hd => mk19 mt_5 cf_5 (vf_5_5.rt (Or.inl W1021) (hd rfl)) rfl rfl (noH_nil rfl),
  trivial⟩⟩⟩⟩⟩⟩⟩⟩⟩⟩⟩⟩⟩⟩⟩⟩⟩⟩⟩⟩⟩⟩⟩
theorem fe_269 : eqEs ((flat code_269).filter (fun e => ndE e.2.2.1)) (fl_269_0) = true := by decide +kernel
theorem om_269 : OKm mi iT prg 269 := OKm_of (code := code_269) rfl mt_269 (Or.inl (by decide +kernel)) rfl wk_269 (by decide +kernel) (by decide +kernel) (FA_of fe_269 (fb_269_0))
def fl_270_0 : List Ent := [(2, 3, 19, .invokevirtual 161, [3, 2, 2, 1, 209], 0), (11, 3, 18, .invokestatic 138, [0, 3, 3, 203], 0), (14, 3, 18, .invokestatic 142, [9, 1, 1, 204], 0), (18, 3, 19, .invokevirtual 682, [0, 1, 1, 22, 484], 0), (25, 3, 6, .getfield 559, [0, 22, 111], 0), (32, 3, 6, .getfield 722, [0, 22, 115], 0), (48, 3, 18, .invokestatic 146, [9, 1, 1, 205], 0), (52, 3, 6, .getfield 68, [3, 1, 2], 0), (55, 3, 13, .getstatic 725, [26], 0), (63, 3, 19, .invokevirtual 354, [9, 4, 4, 3, 286], 0), (68, 3, 6, .getfield 722, [0, 22, 115], 0), (73, 3, 7, .putfield 722, [0, 22, 115], 0), (77, 3, 6, .getfield 722, [0, 22, 115], 0)]
theorem fb_270_0 : FB mi iT mi_270 (bpc code_270) (fl_270_0) := ⟨fun hd => mk19 mt_209 cf_209 (vf_209_1.rt (Or.inl W2535) (hd rfl)) rfl rfl (noH_nil rfl),
  ⟨fun hd => mk18 mt_203 sf_203 (Or.inl W1766) rfl rfl (noH_nil rfl) (hd rfl),
  ⟨fun hd => mk18 mt_204 sf_204 (Or.inl W1769) rfl rfl (noH_nil rfl) (hd rfl),
  ⟨fun hd => mk19 mt_484 cf_484 (vf_484_22.rt (Or.inl W3742) (hd rfl)) rfl rfl (noH_nil rfl),
  ⟨fun hd => mk6 fld_22_19 (Or.inr ⟨rfl, Or.inl rfl⟩) (Or.inr ⟨_, W2317⟩) (Or.inl rfl) (hd rfl),
  ⟨fun hd => mk6 fld_22_23 (Or.inl ⟨rfl, by decide⟩) (Or.inr ⟨_, W2326⟩) (Or.inl rfl) (hd rfl),
  ⟨fun hd => mk18 mt_205 sf_205 (Or.inl W1793) rfl rfl (noH_nil rfl) (hd rfl),
  ⟨fun hd => mk6 fld_1_1 (Or.inl ⟨rfl, by decide⟩) (Or.inl W401) (Or.inl rfl) (hd rfl),
  ⟨fun hd => mk13s (by decide) rfl (Or.inl W3885) (Or.inl rfl) (hd rfl),
  ⟨fun hd => mk19 mt_286 cf_286 (vf_286_3.rt (Or.inl W2851) (hd rfl)) rfl rfl (noH_nil rfl),
  ⟨fun hd => mk6 fld_22_23 (Or.inl ⟨rfl, by decide⟩) (Or.inr ⟨_, W2326⟩) (Or.inl rfl) (hd rfl),
  ⟨fun hd => mk7 fld_22_23 (Or.inr ⟨_, W2326⟩) (Or.inl rfl) (Or.inl rfl) (hd rfl),
  ⟨fun hd => mk6 fld_22_23 (Or.inl ⟨rfl, by decide⟩) (Or.inr ⟨_, W2326⟩) (Or.inl rfl) (hd rfl),
  trivial⟩⟩⟩⟩⟩⟩⟩⟩⟩⟩⟩⟩⟩
theorem fe_270 : eqEs ((flat code_270).filter (fun e => ndE e.2.2.1)) (fl_270_0) = true := by decide +kernel
theorem om_270 : OKm mi iT prg 270 := OKm_of (code := code_270) rfl mt_270 (Or.inl (by decide +kernel)) rfl wk_270 (by decide +kernel) (by decide +kernel) (FA_of fe_270 (fb_270_0))
