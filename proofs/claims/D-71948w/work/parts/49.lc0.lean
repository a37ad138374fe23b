/-! the law, its cases: row, set, copy, drop, feed, net, fault, meet, part -/
set_option maxRecDepth 100000
theorem lj_lcmp (r : Int64) : lg_cmp r r = 0 := by
  simp [lg_cmp]
set_option maxHeartbeats 4000000 in
theorem lc_0 {p : Program} {e : Env} {s : State} {m : MethodId} {below : List Frame} {meth : Method} {c : Code} {D : va_G} {dA : Nat → ClassId} {di dz : ClassId} {b1 : Nat → Nat} {h : Nat} {adm : Nat → Nat} {b a : Nat} {x3 : Int32} {cells slots L : Nat} {xs : Nat → Int32} (l : Launch) (hlt : l.stackTraces = false) (C0 : lw_At p s m meth c b L xs) (F : lj_F D dA di dz b1 s h adm) (hin : vp_in (x3 + 1) L ∧ vp_in (x3 + 2) L ∧ vp_in (x3 + 3) L ∧ vp_in (x3 + 4) L ∧ vp_in (x3 + 5) L) (hcs : cells + 611 ≤ 603072 ∧ slots + 13324 ≤ 7262314) (kk : lj_G p l e s m below meth c D dA di dz b1 h adm b a x3 (cells + 611) (slots + 13324) 1401) : lj_G p l e s m below meth c D dA di dz b1 h adm b a x3 cells slots 192 := by
  intro ad σ μ S H locs ls J hR hM ha hl
  subst ha
  obtain ⟨hx, hb, hr, hml, hown, hts, hX, hbl, hlocks, -⟩ := id C0
  have hta : ∀ w ∈ lw_all, w.before #[Value.ref b] s = true := fun w hw => hts w (lw_all_tbl hw)
  have CF : CallFix p m c cL_law 4 s #[Value.ref b] lw_all R_law := ⟨hx, hb, hml, hown, hta⟩
  have hbA : ¬ (fun q : Nat => s.heap.size ≤ q) b := Nat.not_le.mpr hbl
  have hk : cl_k σ 19 = 0 := hR.1.2.1.1
  have h19 : 19 ≤ cl_n σ := Nat.le_trans (by decide) hR.1.1
  obtain ⟨h1, h2, h3, h4, h5⟩ := hin
  obtain ⟨S2, r, σ', μ', e1, e2, hR2, hM2⟩ := ru_row hR hM (xs (x3 + 1).toNatClampNeg) (xs (x3 + 2).toNatClampNeg) (xs (x3 + 3).toNatClampNeg)
  refine lv_aload_n hx hb dL_law_192 rfl (lv_at hl 2 rfl) ?_
  refine lv_aload_n hx hb dL_law_193 rfl (lv_at hl 1 rfl) ?_
  refine lv_iload_n hx hb dL_law_194 rfl (lv_at hl 0 rfl) ?_
  refine lv_iconst (v := 1) hx hb dL_law_195 (by decide) ?_
  refine lv_iadd hx hb dL_law_196 ?_
  refine va_sld hx hb hX hbl hbA J.2.2 h1 dL_law_197 ?_
  refine lv_aload_n hx hb dL_law_198 rfl (lv_at hl 1 rfl) ?_
  refine lv_iload_n hx hb dL_law_199 rfl (lv_at hl 0 rfl) ?_
  refine lv_iconst (v := 2) hx hb dL_law_200 (by decide) ?_
  refine lv_iadd hx hb dL_law_201 ?_
  refine va_sld hx hb hX hbl hbA J.2.2 h2 dL_law_202 ?_
  refine lv_aload_n hx hb dL_law_203 rfl (lv_at hl 1 rfl) ?_
  refine lv_iload_n hx hb dL_law_204 rfl (lv_at hl 0 rfl) ?_
  refine lv_iconst (v := 3) hx hb dL_law_205 (by decide) ?_
  refine lv_iadd hx hb dL_law_206 ?_
  refine va_sld hx hb hX hbl hbA J.2.2 h3 dL_law_207 ?_
  refine lj_ci (vx_runVW (As := [.int (xs (x3 + 1).toNatClampNeg), .int (xs (x3 + 2).toNatClampNeg), .int (xs (x3 + 3).toNatClampNeg)]) (rest := []) CF (cm_X0_row l hlt D dA ad (lj_c s h adm) (ad 19) 19 (xs (x3 + 1).toNatClampNeg) (xs (x3 + 2).toNatClampNeg) (xs (x3 + 3).toNatClampNeg) σ r σ' ⟨rfl, by decide, h19⟩ e1) (vx_cwVW 3 hta (lw_VW q308 q309 q310 q77 q311) rfl rfl rfl ⟨rfl, cd_X0_row⟩ ⟨Nat.le_of_ble_eq_true rfl, Nat.le_of_ble_eq_true rfl⟩) (lj_pc F J [.int (xs (x3 + 1).toNatClampNeg), .int (xs (x3 + 2).toNatClampNeg), .int (xs (x3 + 3).toNatClampNeg)] hk h19) rfl rfl hl.1 rfl (lv_room (Nat.le_of_ble_eq_true rfl)) dL_law_208 ⟨by show cells + 3 ≤ 603072; omega, by show slots + 54 ≤ 7262314; omega⟩) F J (fun ad2 H locs hag J => ?_)
  refine lv_aload_n hx hb dL_law_211 rfl (lv_at hl 3 rfl) ?_
  refine lv_aload_n hx hb dL_law_212 rfl (lv_at hl 1 rfl) ?_
  refine lv_iload_n hx hb dL_law_213 rfl (lv_at hl 0 rfl) ?_
  refine lv_iconst (v := 1) hx hb dL_law_214 (by decide) ?_
  refine lv_iadd hx hb dL_law_215 ?_
  refine va_sld hx hb hX hbl hbA J.2.2 h1 dL_law_216 ?_
  refine lv_aload_n hx hb dL_law_217 rfl (lv_at hl 1 rfl) ?_
  refine lv_iload_n hx hb dL_law_218 rfl (lv_at hl 0 rfl) ?_
  refine lv_iconst (v := 2) hx hb dL_law_219 (by decide) ?_
  refine lv_iadd hx hb dL_law_220 ?_
  refine va_sld hx hb hX hbl hbA J.2.2 h2 dL_law_221 ?_
  refine lv_aload_n hx hb dL_law_222 rfl (lv_at hl 1 rfl) ?_
  refine lv_iload_n hx hb dL_law_223 rfl (lv_at hl 0 rfl) ?_
  refine lv_iconst (v := 3) hx hb dL_law_224 (by decide) ?_
  refine lv_iadd hx hb dL_law_225 ?_
  refine va_sld hx hb hX hbl hbA J.2.2 h3 dL_law_226 ?_
  refine lj_mi (va_runV (As := [.int (xs (x3 + 1).toNatClampNeg), .int (xs (x3 + 2).toNatClampNeg), .int (xs (x3 + 3).toNatClampNeg)]) (rest := [.int r]) CF (mo_m_row l D di dz h adm (lj_m h adm) (xs (x3 + 1).toNatClampNeg) (xs (x3 + 2).toNatClampNeg) (xs (x3 + 3).toNatClampNeg) μ r μ' e2) (cwV 3 hta (lw_V q1704 q1705 q1706 q83 q1707) rfl rfl rfl mo_d_row ⟨Nat.le_of_ble_eq_true rfl, Nat.le_of_ble_eq_true rfl⟩) (lj_pm F J [.int (xs (x3 + 1).toNatClampNeg), .int (xs (x3 + 2).toNatClampNeg), .int (xs (x3 + 3).toNatClampNeg)]) rfl rfl hl.1 rfl (lv_room (Nat.le_of_ble_eq_true rfl)) dL_law_227 ⟨by show cells + 3 + 0 ≤ 603072; omega, by show slots + 54 + 0 ≤ 7262314; omega⟩) F J (fun H locs J => ?_)
  refine lv_icmp_eq (tgt := 1401) hx hb dL_law_230 (by decide) (fun _ => ?_) (fun hne => absurd rfl hne)
  refine W.widen (k := cells + 611) (n := slots + 13324) (by show cells + 3 + 0 ≤ cells + 611; omega) (by show slots + 54 + 0 ≤ slots + 13324; omega) ?_
  exact kk ad2 σ' μ' S2 H locs ls J hR2 hM2 ((hag 19 h19).trans rfl) hl
set_option maxHeartbeats 4000000 in
theorem lc_1 {p : Program} {e : Env} {s : State} {m : MethodId} {below : List Frame} {meth : Method} {c : Code} {D : va_G} {dA : Nat → ClassId} {di dz : ClassId} {b1 : Nat → Nat} {h : Nat} {adm : Nat → Nat} {b a : Nat} {x3 : Int32} {cells slots L : Nat} {xs : Nat → Int32} (l : Launch) (hlt : l.stackTraces = false) (C0 : lw_At p s m meth c b L xs) (F : lj_F D dA di dz b1 s h adm) (hin : vp_in (x3 + 1) L ∧ vp_in (x3 + 2) L ∧ vp_in (x3 + 3) L ∧ vp_in (x3 + 4) L ∧ vp_in (x3 + 5) L) (hcs : cells + 611 ≤ 603072 ∧ slots + 13324 ≤ 7262314) (kk : lj_G p l e s m below meth c D dA di dz b1 h adm b a x3 (cells + 611) (slots + 13324) 1401) : lj_G p l e s m below meth c D dA di dz b1 h adm b a x3 cells slots 235 := by
  intro ad σ μ S H locs ls J hR hM ha hl
  subst ha
  obtain ⟨hx, hb, hr, hml, hown, hts, hX, hbl, hlocks, -⟩ := id C0
  have hta : ∀ w ∈ lw_all, w.before #[Value.ref b] s = true := fun w hw => hts w (lw_all_tbl hw)
  have CF : CallFix p m c cL_law 4 s #[Value.ref b] lw_all R_law := ⟨hx, hb, hml, hown, hta⟩
  have hbA : ¬ (fun q : Nat => s.heap.size ≤ q) b := Nat.not_le.mpr hbl
  have hk : cl_k σ 19 = 0 := hR.1.2.1.1
  have h19 : 19 ≤ cl_n σ := Nat.le_trans (by decide) hR.1.1
  obtain ⟨h1, h2, h3, h4, h5⟩ := hin
  obtain ⟨S2, r, σ', μ', e1, e2, hR2, hM2⟩ := rt_set hR hM (xs (x3 + 1).toNatClampNeg) (xs (x3 + 2).toNatClampNeg) (xs (x3 + 3).toNatClampNeg)
  refine lv_aload_n hx hb dL_law_235 rfl (lv_at hl 2 rfl) ?_
  refine lv_aload_n hx hb dL_law_236 rfl (lv_at hl 1 rfl) ?_
  refine lv_iload_n hx hb dL_law_237 rfl (lv_at hl 0 rfl) ?_
  refine lv_iconst (v := 1) hx hb dL_law_238 (by decide) ?_
  refine lv_iadd hx hb dL_law_239 ?_
  refine va_sld hx hb hX hbl hbA J.2.2 h1 dL_law_240 ?_
  refine lv_aload_n hx hb dL_law_241 rfl (lv_at hl 1 rfl) ?_
  refine lv_iload_n hx hb dL_law_242 rfl (lv_at hl 0 rfl) ?_
  refine lv_iconst (v := 2) hx hb dL_law_243 (by decide) ?_
  refine lv_iadd hx hb dL_law_244 ?_
  refine va_sld hx hb hX hbl hbA J.2.2 h2 dL_law_245 ?_
  refine lv_aload_n hx hb dL_law_246 rfl (lv_at hl 1 rfl) ?_
  refine lv_iload_n hx hb dL_law_247 rfl (lv_at hl 0 rfl) ?_
  refine lv_iconst (v := 3) hx hb dL_law_248 (by decide) ?_
  refine lv_iadd hx hb dL_law_249 ?_
  refine va_sld hx hb hX hbl hbA J.2.2 h3 dL_law_250 ?_
  refine lj_ci (vx_runVW (As := [.int (xs (x3 + 1).toNatClampNeg), .int (xs (x3 + 2).toNatClampNeg), .int (xs (x3 + 3).toNatClampNeg)]) (rest := []) CF (cm_X0_set l hlt D dA ad (lj_c s h adm) (ad 19) 19 (xs (x3 + 1).toNatClampNeg) (xs (x3 + 2).toNatClampNeg) (xs (x3 + 3).toNatClampNeg) σ r σ' ⟨rfl, by decide, h19⟩ e1) (vx_cwVW 3 hta (lw_VW q420 q421 q422 q77 q423) rfl rfl rfl ⟨rfl, cd_X0_set⟩ ⟨Nat.le_of_ble_eq_true rfl, Nat.le_of_ble_eq_true rfl⟩) (lj_pc F J [.int (xs (x3 + 1).toNatClampNeg), .int (xs (x3 + 2).toNatClampNeg), .int (xs (x3 + 3).toNatClampNeg)] hk h19) rfl rfl hl.1 rfl (lv_room (Nat.le_of_ble_eq_true rfl)) dL_law_251 ⟨by show cells + 3 ≤ 603072; omega, by show slots + 222 ≤ 7262314; omega⟩) F J (fun ad2 H locs hag J => ?_)
  refine lv_aload_n hx hb dL_law_254 rfl (lv_at hl 3 rfl) ?_
  refine lv_aload_n hx hb dL_law_255 rfl (lv_at hl 1 rfl) ?_
  refine lv_iload_n hx hb dL_law_256 rfl (lv_at hl 0 rfl) ?_
  refine lv_iconst (v := 1) hx hb dL_law_257 (by decide) ?_
  refine lv_iadd hx hb dL_law_258 ?_
  refine va_sld hx hb hX hbl hbA J.2.2 h1 dL_law_259 ?_
  refine lv_aload_n hx hb dL_law_260 rfl (lv_at hl 1 rfl) ?_
  refine lv_iload_n hx hb dL_law_261 rfl (lv_at hl 0 rfl) ?_
  refine lv_iconst (v := 2) hx hb dL_law_262 (by decide) ?_
  refine lv_iadd hx hb dL_law_263 ?_
  refine va_sld hx hb hX hbl hbA J.2.2 h2 dL_law_264 ?_
  refine lv_aload_n hx hb dL_law_265 rfl (lv_at hl 1 rfl) ?_
  refine lv_iload_n hx hb dL_law_266 rfl (lv_at hl 0 rfl) ?_
  refine lv_iconst (v := 3) hx hb dL_law_267 (by decide) ?_
  refine lv_iadd hx hb dL_law_268 ?_
  refine va_sld hx hb hX hbl hbA J.2.2 h3 dL_law_269 ?_
  refine lj_mi (va_runV (As := [.int (xs (x3 + 1).toNatClampNeg), .int (xs (x3 + 2).toNatClampNeg), .int (xs (x3 + 3).toNatClampNeg)]) (rest := [.int r]) CF (mo_m_set l D di dz h adm (lj_m h adm) (xs (x3 + 1).toNatClampNeg) (xs (x3 + 2).toNatClampNeg) (xs (x3 + 3).toNatClampNeg) μ r μ' e2) (cwV 3 hta (lw_V q1724 q1725 q1726 q83 q1727) rfl rfl rfl mo_d_set ⟨Nat.le_of_ble_eq_true rfl, Nat.le_of_ble_eq_true rfl⟩) (lj_pm F J [.int (xs (x3 + 1).toNatClampNeg), .int (xs (x3 + 2).toNatClampNeg), .int (xs (x3 + 3).toNatClampNeg)]) rfl rfl hl.1 rfl (lv_room (Nat.le_of_ble_eq_true rfl)) dL_law_270 ⟨by show cells + 3 + 0 ≤ 603072; omega, by show slots + 222 + 0 ≤ 7262314; omega⟩) F J (fun H locs J => ?_)
  refine lv_icmp_eq (tgt := 1401) hx hb dL_law_273 (by decide) (fun _ => ?_) (fun hne => absurd rfl hne)
  refine W.widen (k := cells + 611) (n := slots + 13324) (by show cells + 3 + 0 ≤ cells + 611; omega) (by show slots + 222 + 0 ≤ slots + 13324; omega) ?_
  exact kk ad2 σ' μ' S2 H locs ls J hR2 hM2 ((hag 19 h19).trans rfl) hl
set_option maxHeartbeats 4000000 in
theorem lc_2 {p : Program} {e : Env} {s : State} {m : MethodId} {below : List Frame} {meth : Method} {c : Code} {D : va_G} {dA : Nat → ClassId} {di dz : ClassId} {b1 : Nat → Nat} {h : Nat} {adm : Nat → Nat} {b a : Nat} {x3 : Int32} {cells slots L : Nat} {xs : Nat → Int32} (l : Launch) (hlt : l.stackTraces = false) (C0 : lw_At p s m meth c b L xs) (F : lj_F D dA di dz b1 s h adm) (hin : vp_in (x3 + 1) L ∧ vp_in (x3 + 2) L ∧ vp_in (x3 + 3) L ∧ vp_in (x3 + 4) L ∧ vp_in (x3 + 5) L) (hcs : cells + 611 ≤ 603072 ∧ slots + 13324 ≤ 7262314) (kk : lj_G p l e s m below meth c D dA di dz b1 h adm b a x3 (cells + 611) (slots + 13324) 1401) : lj_G p l e s m below meth c D dA di dz b1 h adm b a x3 cells slots 278 := by
  intro ad σ μ S H locs ls J hR hM ha hl
  subst ha
  obtain ⟨hx, hb, hr, hml, hown, hts, hX, hbl, hlocks, -⟩ := id C0
  have hta : ∀ w ∈ lw_all, w.before #[Value.ref b] s = true := fun w hw => hts w (lw_all_tbl hw)
  have CF : CallFix p m c cL_law 4 s #[Value.ref b] lw_all R_law := ⟨hx, hb, hml, hown, hta⟩
  have hbA : ¬ (fun q : Nat => s.heap.size ≤ q) b := Nat.not_le.mpr hbl
  have hk : cl_k σ 19 = 0 := hR.1.2.1.1
  have h19 : 19 ≤ cl_n σ := Nat.le_trans (by decide) hR.1.1
  obtain ⟨h1, h2, h3, h4, h5⟩ := hin
  obtain ⟨S2, r, σ', μ', e1, e2, hR2, hM2⟩ := rv_copy hR hM (xs (x3 + 1).toNatClampNeg) (xs (x3 + 2).toNatClampNeg) (xs (x3 + 3).toNatClampNeg) (xs (x3 + 4).toNatClampNeg) (xs (x3 + 5).toNatClampNeg)
  refine lv_aload_n hx hb dL_law_278 rfl (lv_at hl 2 rfl) ?_
  refine lv_aload_n hx hb dL_law_279 rfl (lv_at hl 1 rfl) ?_
  refine lv_iload_n hx hb dL_law_280 rfl (lv_at hl 0 rfl) ?_
  refine lv_iconst (v := 1) hx hb dL_law_281 (by decide) ?_
  refine lv_iadd hx hb dL_law_282 ?_
  refine va_sld hx hb hX hbl hbA J.2.2 h1 dL_law_283 ?_
  refine lv_aload_n hx hb dL_law_284 rfl (lv_at hl 1 rfl) ?_
  refine lv_iload_n hx hb dL_law_285 rfl (lv_at hl 0 rfl) ?_
  refine lv_iconst (v := 2) hx hb dL_law_286 (by decide) ?_
  refine lv_iadd hx hb dL_law_287 ?_
  refine va_sld hx hb hX hbl hbA J.2.2 h2 dL_law_288 ?_
  refine lv_aload_n hx hb dL_law_289 rfl (lv_at hl 1 rfl) ?_
  refine lv_iload_n hx hb dL_law_290 rfl (lv_at hl 0 rfl) ?_
  refine lv_iconst (v := 3) hx hb dL_law_291 (by decide) ?_
  refine lv_iadd hx hb dL_law_292 ?_
  refine va_sld hx hb hX hbl hbA J.2.2 h3 dL_law_293 ?_
  refine lv_aload_n hx hb dL_law_294 rfl (lv_at hl 1 rfl) ?_
  refine lv_iload_n hx hb dL_law_295 rfl (lv_at hl 0 rfl) ?_
  refine lv_iconst (v := 4) hx hb dL_law_296 (by decide) ?_
  refine lv_iadd hx hb dL_law_297 ?_
  refine va_sld hx hb hX hbl hbA J.2.2 h4 dL_law_298 ?_
  refine lv_aload_n hx hb dL_law_299 rfl (lv_at hl 1 rfl) ?_
  refine lv_iload_n hx hb dL_law_300 rfl (lv_at hl 0 rfl) ?_
  refine lv_iconst (v := 5) hx hb dL_law_301 (by decide) ?_
  refine lv_iadd hx hb dL_law_302 ?_
  refine va_sld hx hb hX hbl hbA J.2.2 h5 dL_law_303 ?_
  refine lj_ci (vx_runVW (As := [.int (xs (x3 + 1).toNatClampNeg), .int (xs (x3 + 2).toNatClampNeg), .int (xs (x3 + 3).toNatClampNeg), .int (xs (x3 + 4).toNatClampNeg), .int (xs (x3 + 5).toNatClampNeg)]) (rest := []) CF (cm_X0_copy l hlt D dA ad (lj_c s h adm) (ad 19) 19 (xs (x3 + 1).toNatClampNeg) (xs (x3 + 2).toNatClampNeg) (xs (x3 + 3).toNatClampNeg) (xs (x3 + 4).toNatClampNeg) (xs (x3 + 5).toNatClampNeg) σ r σ' ⟨rfl, by decide, h19⟩ e1) (vx_cwVW 5 hta (lw_VW q479 q480 q481 q77 q482) rfl rfl rfl ⟨rfl, cd_X0_copy⟩ ⟨Nat.le_of_ble_eq_true rfl, Nat.le_of_ble_eq_true rfl⟩) (lj_pc F J [.int (xs (x3 + 1).toNatClampNeg), .int (xs (x3 + 2).toNatClampNeg), .int (xs (x3 + 3).toNatClampNeg), .int (xs (x3 + 4).toNatClampNeg), .int (xs (x3 + 5).toNatClampNeg)] hk h19) rfl rfl hl.1 rfl (lv_room (Nat.le_of_ble_eq_true rfl)) dL_law_304 ⟨by show cells + 3 ≤ 603072; omega, by show slots + 410 ≤ 7262314; omega⟩) F J (fun ad2 H locs hag J => ?_)
  refine lv_aload_n hx hb dL_law_307 rfl (lv_at hl 3 rfl) ?_
  refine lv_aload_n hx hb dL_law_308 rfl (lv_at hl 1 rfl) ?_
  refine lv_iload_n hx hb dL_law_309 rfl (lv_at hl 0 rfl) ?_
  refine lv_iconst (v := 1) hx hb dL_law_310 (by decide) ?_
  refine lv_iadd hx hb dL_law_311 ?_
  refine va_sld hx hb hX hbl hbA J.2.2 h1 dL_law_312 ?_
  refine lv_aload_n hx hb dL_law_313 rfl (lv_at hl 1 rfl) ?_
  refine lv_iload_n hx hb dL_law_314 rfl (lv_at hl 0 rfl) ?_
  refine lv_iconst (v := 2) hx hb dL_law_315 (by decide) ?_
  refine lv_iadd hx hb dL_law_316 ?_
  refine va_sld hx hb hX hbl hbA J.2.2 h2 dL_law_317 ?_
  refine lv_aload_n hx hb dL_law_318 rfl (lv_at hl 1 rfl) ?_
  refine lv_iload_n hx hb dL_law_319 rfl (lv_at hl 0 rfl) ?_
  refine lv_iconst (v := 3) hx hb dL_law_320 (by decide) ?_
  refine lv_iadd hx hb dL_law_321 ?_
  refine va_sld hx hb hX hbl hbA J.2.2 h3 dL_law_322 ?_
  refine lv_aload_n hx hb dL_law_323 rfl (lv_at hl 1 rfl) ?_
  refine lv_iload_n hx hb dL_law_324 rfl (lv_at hl 0 rfl) ?_
  refine lv_iconst (v := 4) hx hb dL_law_325 (by decide) ?_
  refine lv_iadd hx hb dL_law_326 ?_
  refine va_sld hx hb hX hbl hbA J.2.2 h4 dL_law_327 ?_
  refine lv_aload_n hx hb dL_law_328 rfl (lv_at hl 1 rfl) ?_
  refine lv_iload_n hx hb dL_law_329 rfl (lv_at hl 0 rfl) ?_
  refine lv_iconst (v := 5) hx hb dL_law_330 (by decide) ?_
  refine lv_iadd hx hb dL_law_331 ?_
  refine va_sld hx hb hX hbl hbA J.2.2 h5 dL_law_332 ?_
  refine lj_mi (va_runV (As := [.int (xs (x3 + 1).toNatClampNeg), .int (xs (x3 + 2).toNatClampNeg), .int (xs (x3 + 3).toNatClampNeg), .int (xs (x3 + 4).toNatClampNeg), .int (xs (x3 + 5).toNatClampNeg)]) (rest := [.int r]) CF (mo_m_copy l D di dz h adm (lj_m h adm) (xs (x3 + 1).toNatClampNeg) (xs (x3 + 2).toNatClampNeg) (xs (x3 + 3).toNatClampNeg) (xs (x3 + 4).toNatClampNeg) (xs (x3 + 5).toNatClampNeg) μ r μ' e2) (cwV 5 hta (lw_V q1735 q1736 q1737 q83 q1738) rfl rfl rfl mo_d_copy ⟨Nat.le_of_ble_eq_true rfl, Nat.le_of_ble_eq_true rfl⟩) (lj_pm F J [.int (xs (x3 + 1).toNatClampNeg), .int (xs (x3 + 2).toNatClampNeg), .int (xs (x3 + 3).toNatClampNeg), .int (xs (x3 + 4).toNatClampNeg), .int (xs (x3 + 5).toNatClampNeg)]) rfl rfl hl.1 rfl (lv_room (Nat.le_of_ble_eq_true rfl)) dL_law_333 ⟨by show cells + 3 + 0 ≤ 603072; omega, by show slots + 410 + 0 ≤ 7262314; omega⟩) F J (fun H locs J => ?_)
  refine lv_icmp_eq (tgt := 1401) hx hb dL_law_336 (by decide) (fun _ => ?_) (fun hne => absurd rfl hne)
  refine W.widen (k := cells + 611) (n := slots + 13324) (by show cells + 3 + 0 ≤ cells + 611; omega) (by show slots + 410 + 0 ≤ slots + 13324; omega) ?_
  exact kk ad2 σ' μ' S2 H locs ls J hR2 hM2 ((hag 19 h19).trans rfl) hl
set_option maxHeartbeats 4000000 in
theorem lc_3 {p : Program} {e : Env} {s : State} {m : MethodId} {below : List Frame} {meth : Method} {c : Code} {D : va_G} {dA : Nat → ClassId} {di dz : ClassId} {b1 : Nat → Nat} {h : Nat} {adm : Nat → Nat} {b a : Nat} {x3 : Int32} {cells slots L : Nat} {xs : Nat → Int32} (l : Launch) (hlt : l.stackTraces = false) (C0 : lw_At p s m meth c b L xs) (F : lj_F D dA di dz b1 s h adm) (hin : vp_in (x3 + 1) L ∧ vp_in (x3 + 2) L ∧ vp_in (x3 + 3) L ∧ vp_in (x3 + 4) L ∧ vp_in (x3 + 5) L) (hcs : cells + 611 ≤ 603072 ∧ slots + 13324 ≤ 7262314) (kk : lj_G p l e s m below meth c D dA di dz b1 h adm b a x3 (cells + 611) (slots + 13324) 1401) : lj_G p l e s m below meth c D dA di dz b1 h adm b a x3 cells slots 341 := by
  intro ad σ μ S H locs ls J hR hM ha hl
  subst ha
  obtain ⟨hx, hb, hr, hml, hown, hts, hX, hbl, hlocks, -⟩ := id C0
  have hta : ∀ w ∈ lw_all, w.before #[Value.ref b] s = true := fun w hw => hts w (lw_all_tbl hw)
  have CF : CallFix p m c cL_law 4 s #[Value.ref b] lw_all R_law := ⟨hx, hb, hml, hown, hta⟩
  have hbA : ¬ (fun q : Nat => s.heap.size ≤ q) b := Nat.not_le.mpr hbl
  have hk : cl_k σ 19 = 0 := hR.1.2.1.1
  have h19 : 19 ≤ cl_n σ := Nat.le_trans (by decide) hR.1.1
  obtain ⟨h1, h2, h3, h4, h5⟩ := hin
  obtain ⟨S2, r, σ', μ', e1, e2, hR2, hM2⟩ := rt_drop hR hM (xs (x3 + 1).toNatClampNeg)
  refine lv_aload_n hx hb dL_law_341 rfl (lv_at hl 2 rfl) ?_
  refine lv_aload_n hx hb dL_law_342 rfl (lv_at hl 1 rfl) ?_
  refine lv_iload_n hx hb dL_law_343 rfl (lv_at hl 0 rfl) ?_
  refine lv_iconst (v := 1) hx hb dL_law_344 (by decide) ?_
  refine lv_iadd hx hb dL_law_345 ?_
  refine va_sld hx hb hX hbl hbA J.2.2 h1 dL_law_346 ?_
  refine lj_ci (vx_runVW (As := [.int (xs (x3 + 1).toNatClampNeg)]) (rest := []) CF (cm_X0_drop l hlt D dA ad (lj_c s h adm) (ad 19) 19 (xs (x3 + 1).toNatClampNeg) σ r σ' ⟨rfl, by decide, h19⟩ e1) (vx_cwVW 1 hta (lw_VW q501 q502 q503 q77 q504) rfl rfl rfl ⟨rfl, cd_X0_drop⟩ ⟨Nat.le_of_ble_eq_true rfl, Nat.le_of_ble_eq_true rfl⟩) (lj_pc F J [.int (xs (x3 + 1).toNatClampNeg)] hk h19) rfl rfl hl.1 rfl (lv_room (Nat.le_of_ble_eq_true rfl)) dL_law_347 ⟨by show cells + 1 ≤ 603072; omega, by show slots + 8 ≤ 7262314; omega⟩) F J (fun ad2 H locs hag J => ?_)
  refine lv_aload_n hx hb dL_law_350 rfl (lv_at hl 3 rfl) ?_
  refine lv_aload_n hx hb dL_law_351 rfl (lv_at hl 1 rfl) ?_
  refine lv_iload_n hx hb dL_law_352 rfl (lv_at hl 0 rfl) ?_
  refine lv_iconst (v := 1) hx hb dL_law_353 (by decide) ?_
  refine lv_iadd hx hb dL_law_354 ?_
  refine va_sld hx hb hX hbl hbA J.2.2 h1 dL_law_355 ?_
  refine lj_mi (va_runV (As := [.int (xs (x3 + 1).toNatClampNeg)]) (rest := [.int r]) CF (mo_m_drop l D di dz h adm (lj_m h adm) (xs (x3 + 1).toNatClampNeg) μ r μ' e2) (cwV 1 hta (lw_V q1743 q1744 q1745 q83 q1746) rfl rfl rfl mo_d_drop ⟨Nat.le_of_ble_eq_true rfl, Nat.le_of_ble_eq_true rfl⟩) (lj_pm F J [.int (xs (x3 + 1).toNatClampNeg)]) rfl rfl hl.1 rfl (lv_room (Nat.le_of_ble_eq_true rfl)) dL_law_356 ⟨by show cells + 1 + 0 ≤ 603072; omega, by show slots + 8 + 0 ≤ 7262314; omega⟩) F J (fun H locs J => ?_)
  refine lv_icmp_eq (tgt := 1401) hx hb dL_law_359 (by decide) (fun _ => ?_) (fun hne => absurd rfl hne)
  refine W.widen (k := cells + 611) (n := slots + 13324) (by show cells + 1 + 0 ≤ cells + 611; omega) (by show slots + 8 + 0 ≤ slots + 13324; omega) ?_
  exact kk ad2 σ' μ' S2 H locs ls J hR2 hM2 ((hag 19 h19).trans rfl) hl
set_option maxHeartbeats 4000000 in
theorem lc_4 {p : Program} {e : Env} {s : State} {m : MethodId} {below : List Frame} {meth : Method} {c : Code} {D : va_G} {dA : Nat → ClassId} {di dz : ClassId} {b1 : Nat → Nat} {h : Nat} {adm : Nat → Nat} {b a : Nat} {x3 : Int32} {cells slots L : Nat} {xs : Nat → Int32} (l : Launch) (hlt : l.stackTraces = false) (C0 : lw_At p s m meth c b L xs) (F : lj_F D dA di dz b1 s h adm) (hin : vp_in (x3 + 1) L ∧ vp_in (x3 + 2) L ∧ vp_in (x3 + 3) L ∧ vp_in (x3 + 4) L ∧ vp_in (x3 + 5) L) (hcs : cells + 611 ≤ 603072 ∧ slots + 13324 ≤ 7262314) (kk : lj_G p l e s m below meth c D dA di dz b1 h adm b a x3 (cells + 611) (slots + 13324) 1401) : lj_G p l e s m below meth c D dA di dz b1 h adm b a x3 cells slots 364 := by
  intro ad σ μ S H locs ls J hR hM ha hl
  subst ha
  obtain ⟨hx, hb, hr, hml, hown, hts, hX, hbl, hlocks, -⟩ := id C0
  have hta : ∀ w ∈ lw_all, w.before #[Value.ref b] s = true := fun w hw => hts w (lw_all_tbl hw)
  have CF : CallFix p m c cL_law 4 s #[Value.ref b] lw_all R_law := ⟨hx, hb, hml, hown, hta⟩
  have hbA : ¬ (fun q : Nat => s.heap.size ≤ q) b := Nat.not_le.mpr hbl
  have hk : cl_k σ 19 = 0 := hR.1.2.1.1
  have h19 : 19 ≤ cl_n σ := Nat.le_trans (by decide) hR.1.1
  obtain ⟨h1, h2, h3, h4, h5⟩ := hin
  obtain ⟨S2, r, σ', μ', e1, e2, hR2, hM2⟩ := ru_feed hR hM (xs (x3 + 1).toNatClampNeg)
  refine lv_aload_n hx hb dL_law_364 rfl (lv_at hl 2 rfl) ?_
  refine lv_aload_n hx hb dL_law_365 rfl (lv_at hl 1 rfl) ?_
  refine lv_iload_n hx hb dL_law_366 rfl (lv_at hl 0 rfl) ?_
  refine lv_iconst (v := 1) hx hb dL_law_367 (by decide) ?_
  refine lv_iadd hx hb dL_law_368 ?_
  refine va_sld hx hb hX hbl hbA J.2.2 h1 dL_law_369 ?_
  refine lj_ci (va_runV (As := [.int (xs (x3 + 1).toNatClampNeg)]) (rest := []) CF (cm_X0_feed l D dA ad (lj_c s h adm) (ad 19) 19 (xs (x3 + 1).toNatClampNeg) σ r σ' ⟨rfl, by decide, h19⟩ e1) (cwV 1 hta (lw_V q509 q510 q511 q77 q512) rfl rfl rfl ⟨rfl, cd_X0_feed⟩ ⟨Nat.le_of_ble_eq_true rfl, Nat.le_of_ble_eq_true rfl⟩) (lj_pc F J [.int (xs (x3 + 1).toNatClampNeg)] hk h19) rfl rfl hl.1 rfl (lv_room (Nat.le_of_ble_eq_true rfl)) dL_law_370 ⟨by show cells + 0 ≤ 603072; omega, by show slots + 0 ≤ 7262314; omega⟩) F J (fun ad2 H locs hag J => ?_)
  refine lv_aload_n hx hb dL_law_373 rfl (lv_at hl 3 rfl) ?_
  refine lv_aload_n hx hb dL_law_374 rfl (lv_at hl 1 rfl) ?_
  refine lv_iload_n hx hb dL_law_375 rfl (lv_at hl 0 rfl) ?_
  refine lv_iconst (v := 1) hx hb dL_law_376 (by decide) ?_
  refine lv_iadd hx hb dL_law_377 ?_
  refine va_sld hx hb hX hbl hbA J.2.2 h1 dL_law_378 ?_
  refine lj_mi (va_runV (As := [.int (xs (x3 + 1).toNatClampNeg)]) (rest := [.int r]) CF (mo_m_feed l D di dz h adm (lj_m h adm) (xs (x3 + 1).toNatClampNeg) μ r μ' e2) (cwV 1 hta (lw_V q1747 q1748 q1749 q83 q1750) rfl rfl rfl mo_d_feed ⟨Nat.le_of_ble_eq_true rfl, Nat.le_of_ble_eq_true rfl⟩) (lj_pm F J [.int (xs (x3 + 1).toNatClampNeg)]) rfl rfl hl.1 rfl (lv_room (Nat.le_of_ble_eq_true rfl)) dL_law_379 ⟨by show cells + 0 + 0 ≤ 603072; omega, by show slots + 0 + 0 ≤ 7262314; omega⟩) F J (fun H locs J => ?_)
  refine lv_icmp_eq (tgt := 1401) hx hb dL_law_382 (by decide) (fun _ => ?_) (fun hne => absurd rfl hne)
  refine W.widen (k := cells + 611) (n := slots + 13324) (by show cells + 0 + 0 ≤ cells + 611; omega) (by show slots + 0 + 0 ≤ slots + 13324; omega) ?_
  exact kk ad2 σ' μ' S2 H locs ls J hR2 hM2 ((hag 19 h19).trans rfl) hl
set_option maxHeartbeats 4000000 in
theorem lc_5 {p : Program} {e : Env} {s : State} {m : MethodId} {below : List Frame} {meth : Method} {c : Code} {D : va_G} {dA : Nat → ClassId} {di dz : ClassId} {b1 : Nat → Nat} {h : Nat} {adm : Nat → Nat} {b a : Nat} {x3 : Int32} {cells slots L : Nat} {xs : Nat → Int32} (l : Launch) (hlt : l.stackTraces = false) (C0 : lw_At p s m meth c b L xs) (F : lj_F D dA di dz b1 s h adm) (hin : vp_in (x3 + 1) L ∧ vp_in (x3 + 2) L ∧ vp_in (x3 + 3) L ∧ vp_in (x3 + 4) L ∧ vp_in (x3 + 5) L) (hcs : cells + 611 ≤ 603072 ∧ slots + 13324 ≤ 7262314) (kk : lj_G p l e s m below meth c D dA di dz b1 h adm b a x3 (cells + 611) (slots + 13324) 1401) : lj_G p l e s m below meth c D dA di dz b1 h adm b a x3 cells slots 387 := by
  intro ad σ μ S H locs ls J hR hM ha hl
  subst ha
  obtain ⟨hx, hb, hr, hml, hown, hts, hX, hbl, hlocks, -⟩ := id C0
  have hta : ∀ w ∈ lw_all, w.before #[Value.ref b] s = true := fun w hw => hts w (lw_all_tbl hw)
  have CF : CallFix p m c cL_law 4 s #[Value.ref b] lw_all R_law := ⟨hx, hb, hml, hown, hta⟩
  have hbA : ¬ (fun q : Nat => s.heap.size ≤ q) b := Nat.not_le.mpr hbl
  have hk : cl_k σ 19 = 0 := hR.1.2.1.1
  have h19 : 19 ≤ cl_n σ := Nat.le_trans (by decide) hR.1.1
  obtain ⟨h1, h2, h3, h4, h5⟩ := hin
  obtain ⟨S2, r, σ', μ', e1, e2, hR2, hM2⟩ := rj_net hR hM 
  refine lv_aload_n hx hb dL_law_387 rfl (lv_at hl 2 rfl) ?_
  refine lj_ci (vx_runVW (As := []) (rest := []) CF (cm_X0_net l hlt D dA ad (lj_c s h adm) (ad 19) 19  σ r σ' ⟨rfl, by decide, h19⟩ e1) (vx_cwVW 0 hta (lw_VW q515 q516 q517 q77 q518) rfl rfl rfl ⟨rfl, cd_X0_net⟩ ⟨Nat.le_of_ble_eq_true rfl, Nat.le_of_ble_eq_true rfl⟩) (lj_pc F J [] hk h19) rfl rfl hl.1 rfl (lv_room (Nat.le_of_ble_eq_true rfl)) dL_law_388 ⟨by show cells + 611 ≤ 603072; omega, by show slots + 11931 ≤ 7262314; omega⟩) F J (fun ad2 H locs hag J => ?_)
  refine lv_aload_n hx hb dL_law_391 rfl (lv_at hl 3 rfl) ?_
  refine lj_mi (va_runV (As := []) (rest := [.int r]) CF (mo_m_net l D di dz h adm (lj_m h adm)  μ r μ' e2) (cwV 0 hta (lw_V q1752 q1753 q1754 q83 q1755) rfl rfl rfl mo_d_net ⟨Nat.le_of_ble_eq_true rfl, Nat.le_of_ble_eq_true rfl⟩) (lj_pm F J []) rfl rfl hl.1 rfl (lv_room (Nat.le_of_ble_eq_true rfl)) dL_law_392 ⟨by show cells + 611 + 0 ≤ 603072; omega, by show slots + 11931 + 0 ≤ 7262314; omega⟩) F J (fun H locs J => ?_)
  refine lv_icmp_eq (tgt := 1401) hx hb dL_law_395 (by decide) (fun _ => ?_) (fun hne => absurd rfl hne)
  refine W.widen (k := cells + 611) (n := slots + 13324) (by show cells + 611 + 0 ≤ cells + 611; omega) (by show slots + 11931 + 0 ≤ slots + 13324; omega) ?_
  exact kk ad2 σ' μ' S2 H locs ls J hR2 hM2 ((hag 19 h19).trans rfl) hl
set_option maxHeartbeats 4000000 in
theorem lc_6 {p : Program} {e : Env} {s : State} {m : MethodId} {below : List Frame} {meth : Method} {c : Code} {D : va_G} {dA : Nat → ClassId} {di dz : ClassId} {b1 : Nat → Nat} {h : Nat} {adm : Nat → Nat} {b a : Nat} {x3 : Int32} {cells slots L : Nat} {xs : Nat → Int32} (l : Launch) (hlt : l.stackTraces = false) (C0 : lw_At p s m meth c b L xs) (F : lj_F D dA di dz b1 s h adm) (hin : vp_in (x3 + 1) L ∧ vp_in (x3 + 2) L ∧ vp_in (x3 + 3) L ∧ vp_in (x3 + 4) L ∧ vp_in (x3 + 5) L) (hcs : cells + 611 ≤ 603072 ∧ slots + 13324 ≤ 7262314) (kk : lj_G p l e s m below meth c D dA di dz b1 h adm b a x3 (cells + 611) (slots + 13324) 1401) : lj_G p l e s m below meth c D dA di dz b1 h adm b a x3 cells slots 400 := by
  intro ad σ μ S H locs ls J hR hM ha hl
  subst ha
  obtain ⟨hx, hb, hr, hml, hown, hts, hX, hbl, hlocks, -⟩ := id C0
  have hta : ∀ w ∈ lw_all, w.before #[Value.ref b] s = true := fun w hw => hts w (lw_all_tbl hw)
  have CF : CallFix p m c cL_law 4 s #[Value.ref b] lw_all R_law := ⟨hx, hb, hml, hown, hta⟩
  have hbA : ¬ (fun q : Nat => s.heap.size ≤ q) b := Nat.not_le.mpr hbl
  have hk : cl_k σ 19 = 0 := hR.1.2.1.1
  have h19 : 19 ≤ cl_n σ := Nat.le_trans (by decide) hR.1.1
  obtain ⟨h1, h2, h3, h4, h5⟩ := hin
  obtain ⟨r, e1, e2⟩ := pq_fault hR hM 
  refine lv_aload_n hx hb dL_law_400 rfl (lv_at hl 2 rfl) ?_
  refine lj_ci (va_runV (As := []) (rest := []) CF (cm_X0_fault l D dA ad (lj_c s h adm) (ad 19) 19  σ r  ⟨rfl, by decide, h19⟩ e1) (cwV 0 hta (lw_V q1051 q1052 q1053 q77 q1054) rfl rfl rfl ⟨rfl, cd_X0_fault⟩ ⟨Nat.le_of_ble_eq_true rfl, Nat.le_of_ble_eq_true rfl⟩) (lj_pc F J [] hk h19) rfl rfl hl.1 rfl (lv_room (Nat.le_of_ble_eq_true rfl)) dL_law_401 ⟨by show cells + 0 ≤ 603072; omega, by show slots + 0 ≤ 7262314; omega⟩) F J (fun ad2 H locs hag J => ?_)
  refine lv_aload_n hx hb dL_law_404 rfl (lv_at hl 3 rfl) ?_
  refine lj_mi (va_runV (As := []) (rest := [.int r]) CF (mo_m_fault l D di dz h adm (lj_m h adm)  μ r  e2) (cwV 0 hta (lw_V q1807 q1808 q1809 q83 q1810) rfl rfl rfl mo_d_fault ⟨Nat.le_of_ble_eq_true rfl, Nat.le_of_ble_eq_true rfl⟩) (lj_pm F J []) rfl rfl hl.1 rfl (lv_room (Nat.le_of_ble_eq_true rfl)) dL_law_405 ⟨by show cells + 0 + 0 ≤ 603072; omega, by show slots + 0 + 0 ≤ 7262314; omega⟩) F J (fun H locs J => ?_)
  refine lv_icmp_eq (tgt := 1401) hx hb dL_law_408 (by decide) (fun _ => ?_) (fun hne => absurd rfl hne)
  refine W.widen (k := cells + 611) (n := slots + 13324) (by show cells + 0 + 0 ≤ cells + 611; omega) (by show slots + 0 + 0 ≤ slots + 13324; omega) ?_
  exact kk ad2 σ μ S H locs ls J hR hM ((hag 19 h19).trans rfl) hl
set_option maxHeartbeats 4000000 in
theorem lc_7 {p : Program} {e : Env} {s : State} {m : MethodId} {below : List Frame} {meth : Method} {c : Code} {D : va_G} {dA : Nat → ClassId} {di dz : ClassId} {b1 : Nat → Nat} {h : Nat} {adm : Nat → Nat} {b a : Nat} {x3 : Int32} {cells slots L : Nat} {xs : Nat → Int32} (l : Launch) (hlt : l.stackTraces = false) (C0 : lw_At p s m meth c b L xs) (F : lj_F D dA di dz b1 s h adm) (hin : vp_in (x3 + 1) L ∧ vp_in (x3 + 2) L ∧ vp_in (x3 + 3) L ∧ vp_in (x3 + 4) L ∧ vp_in (x3 + 5) L) (hcs : cells + 611 ≤ 603072 ∧ slots + 13324 ≤ 7262314) (kk : lj_G p l e s m below meth c D dA di dz b1 h adm b a x3 (cells + 611) (slots + 13324) 1401) : lj_G p l e s m below meth c D dA di dz b1 h adm b a x3 cells slots 413 := by
  intro ad σ μ S H locs ls J hR hM ha hl
  subst ha
  obtain ⟨hx, hb, hr, hml, hown, hts, hX, hbl, hlocks, -⟩ := id C0
  have hta : ∀ w ∈ lw_all, w.before #[Value.ref b] s = true := fun w hw => hts w (lw_all_tbl hw)
  have CF : CallFix p m c cL_law 4 s #[Value.ref b] lw_all R_law := ⟨hx, hb, hml, hown, hta⟩
  have hbA : ¬ (fun q : Nat => s.heap.size ≤ q) b := Nat.not_le.mpr hbl
  have hk : cl_k σ 19 = 0 := hR.1.2.1.1
  have h19 : 19 ≤ cl_n σ := Nat.le_trans (by decide) hR.1.1
  obtain ⟨h1, h2, h3, h4, h5⟩ := hin
  obtain ⟨S2, r, σ', μ', e1, e2, hR2, hM2⟩ := pe_meet hR hM (xs (x3 + 1).toNatClampNeg) (xs (x3 + 2).toNatClampNeg) (xs (x3 + 3).toNatClampNeg)
  refine lv_aload_n hx hb dL_law_413 rfl (lv_at hl 2 rfl) ?_
  refine lv_aload_n hx hb dL_law_414 rfl (lv_at hl 1 rfl) ?_
  refine lv_iload_n hx hb dL_law_415 rfl (lv_at hl 0 rfl) ?_
  refine lv_iconst (v := 1) hx hb dL_law_416 (by decide) ?_
  refine lv_iadd hx hb dL_law_417 ?_
  refine va_sld hx hb hX hbl hbA J.2.2 h1 dL_law_418 ?_
  refine lv_aload_n hx hb dL_law_419 rfl (lv_at hl 1 rfl) ?_
  refine lv_iload_n hx hb dL_law_420 rfl (lv_at hl 0 rfl) ?_
  refine lv_iconst (v := 2) hx hb dL_law_421 (by decide) ?_
  refine lv_iadd hx hb dL_law_422 ?_
  refine va_sld hx hb hX hbl hbA J.2.2 h2 dL_law_423 ?_
  refine lv_aload_n hx hb dL_law_424 rfl (lv_at hl 1 rfl) ?_
  refine lv_iload_n hx hb dL_law_425 rfl (lv_at hl 0 rfl) ?_
  refine lv_iconst (v := 3) hx hb dL_law_426 (by decide) ?_
  refine lv_iadd hx hb dL_law_427 ?_
  refine va_sld hx hb hX hbl hbA J.2.2 h3 dL_law_428 ?_
  refine lj_ci (va_runV (As := [.int (xs (x3 + 1).toNatClampNeg), .int (xs (x3 + 2).toNatClampNeg), .int (xs (x3 + 3).toNatClampNeg)]) (rest := []) CF (cm_X0_meet l D dA ad (lj_c s h adm) (ad 19) 19 (xs (x3 + 1).toNatClampNeg) (xs (x3 + 2).toNatClampNeg) (xs (x3 + 3).toNatClampNeg) σ r σ' ⟨rfl, by decide, h19⟩ e1) (cwV 3 hta (lw_V q1055 q1056 q1057 q77 q1058) rfl rfl rfl ⟨rfl, cd_X0_meet⟩ ⟨Nat.le_of_ble_eq_true rfl, Nat.le_of_ble_eq_true rfl⟩) (lj_pc F J [.int (xs (x3 + 1).toNatClampNeg), .int (xs (x3 + 2).toNatClampNeg), .int (xs (x3 + 3).toNatClampNeg)] hk h19) rfl rfl hl.1 rfl (lv_room (Nat.le_of_ble_eq_true rfl)) dL_law_429 ⟨by show cells + 7 ≤ 603072; omega, by show slots + 67 ≤ 7262314; omega⟩) F J (fun ad2 H locs hag J => ?_)
  refine lv_aload_n hx hb dL_law_432 rfl (lv_at hl 3 rfl) ?_
  refine lv_aload_n hx hb dL_law_433 rfl (lv_at hl 1 rfl) ?_
  refine lv_iload_n hx hb dL_law_434 rfl (lv_at hl 0 rfl) ?_
  refine lv_iconst (v := 1) hx hb dL_law_435 (by decide) ?_
  refine lv_iadd hx hb dL_law_436 ?_
  refine va_sld hx hb hX hbl hbA J.2.2 h1 dL_law_437 ?_
  refine lv_aload_n hx hb dL_law_438 rfl (lv_at hl 1 rfl) ?_
  refine lv_iload_n hx hb dL_law_439 rfl (lv_at hl 0 rfl) ?_
  refine lv_iconst (v := 2) hx hb dL_law_440 (by decide) ?_
  refine lv_iadd hx hb dL_law_441 ?_
  refine va_sld hx hb hX hbl hbA J.2.2 h2 dL_law_442 ?_
  refine lv_aload_n hx hb dL_law_443 rfl (lv_at hl 1 rfl) ?_
  refine lv_iload_n hx hb dL_law_444 rfl (lv_at hl 0 rfl) ?_
  refine lv_iconst (v := 3) hx hb dL_law_445 (by decide) ?_
  refine lv_iadd hx hb dL_law_446 ?_
  refine va_sld hx hb hX hbl hbA J.2.2 h3 dL_law_447 ?_
  refine lj_mi (va_runV (As := [.int (xs (x3 + 1).toNatClampNeg), .int (xs (x3 + 2).toNatClampNeg), .int (xs (x3 + 3).toNatClampNeg)]) (rest := [.int r]) CF (mo_m_meet l D di dz h adm (lj_m h adm) (xs (x3 + 1).toNatClampNeg) (xs (x3 + 2).toNatClampNeg) (xs (x3 + 3).toNatClampNeg) μ r μ' e2) (cwV 3 hta (lw_V q1811 q1812 q1813 q83 q1814) rfl rfl rfl mo_d_meet ⟨Nat.le_of_ble_eq_true rfl, Nat.le_of_ble_eq_true rfl⟩) (lj_pm F J [.int (xs (x3 + 1).toNatClampNeg), .int (xs (x3 + 2).toNatClampNeg), .int (xs (x3 + 3).toNatClampNeg)]) rfl rfl hl.1 rfl (lv_room (Nat.le_of_ble_eq_true rfl)) dL_law_448 ⟨by show cells + 7 + 0 ≤ 603072; omega, by show slots + 67 + 0 ≤ 7262314; omega⟩) F J (fun H locs J => ?_)
  refine lv_icmp_eq (tgt := 1401) hx hb dL_law_451 (by decide) (fun _ => ?_) (fun hne => absurd rfl hne)
  refine W.widen (k := cells + 611) (n := slots + 13324) (by show cells + 7 + 0 ≤ cells + 611; omega) (by show slots + 67 + 0 ≤ slots + 13324; omega) ?_
  exact kk ad2 σ' μ' S2 H locs ls J hR2 hM2 ((hag 19 h19).trans rfl) hl
set_option maxHeartbeats 4000000 in
theorem lc_8 {p : Program} {e : Env} {s : State} {m : MethodId} {below : List Frame} {meth : Method} {c : Code} {D : va_G} {dA : Nat → ClassId} {di dz : ClassId} {b1 : Nat → Nat} {h : Nat} {adm : Nat → Nat} {b a : Nat} {x3 : Int32} {cells slots L : Nat} {xs : Nat → Int32} (l : Launch) (hlt : l.stackTraces = false) (C0 : lw_At p s m meth c b L xs) (F : lj_F D dA di dz b1 s h adm) (hin : vp_in (x3 + 1) L ∧ vp_in (x3 + 2) L ∧ vp_in (x3 + 3) L ∧ vp_in (x3 + 4) L ∧ vp_in (x3 + 5) L) (hcs : cells + 611 ≤ 603072 ∧ slots + 13324 ≤ 7262314) (kk : lj_G p l e s m below meth c D dA di dz b1 h adm b a x3 (cells + 611) (slots + 13324) 1401) : lj_G p l e s m below meth c D dA di dz b1 h adm b a x3 cells slots 456 := by
  intro ad σ μ S H locs ls J hR hM ha hl
  subst ha
  obtain ⟨hx, hb, hr, hml, hown, hts, hX, hbl, hlocks, -⟩ := id C0
  have hta : ∀ w ∈ lw_all, w.before #[Value.ref b] s = true := fun w hw => hts w (lw_all_tbl hw)
  have CF : CallFix p m c cL_law 4 s #[Value.ref b] lw_all R_law := ⟨hx, hb, hml, hown, hta⟩
  have hbA : ¬ (fun q : Nat => s.heap.size ≤ q) b := Nat.not_le.mpr hbl
  have hk : cl_k σ 19 = 0 := hR.1.2.1.1
  have h19 : 19 ≤ cl_n σ := Nat.le_trans (by decide) hR.1.1
  obtain ⟨h1, h2, h3, h4, h5⟩ := hin
  obtain ⟨S2, r, σ', μ', e1, e2, hR2, hM2⟩ := pp_part hR hM (xs (x3 + 1).toNatClampNeg)
  refine lv_aload_n hx hb dL_law_456 rfl (lv_at hl 2 rfl) ?_
  refine lv_aload_n hx hb dL_law_457 rfl (lv_at hl 1 rfl) ?_
  refine lv_iload_n hx hb dL_law_458 rfl (lv_at hl 0 rfl) ?_
  refine lv_iconst (v := 1) hx hb dL_law_459 (by decide) ?_
  refine lv_iadd hx hb dL_law_460 ?_
  refine va_sld hx hb hX hbl hbA J.2.2 h1 dL_law_461 ?_
  refine lj_ci (va_runV (As := [.int (xs (x3 + 1).toNatClampNeg)]) (rest := []) CF (cm_X0_part l D dA ad (lj_c s h adm) (ad 19) 19 (xs (x3 + 1).toNatClampNeg) σ r σ' ⟨rfl, by decide, h19⟩ e1) (cwV 1 hta (lw_V q1071 q1072 q1073 q77 q1074) rfl rfl rfl ⟨rfl, cd_X0_part⟩ ⟨Nat.le_of_ble_eq_true rfl, Nat.le_of_ble_eq_true rfl⟩) (lj_pc F J [.int (xs (x3 + 1).toNatClampNeg)] hk h19) rfl rfl hl.1 rfl (lv_room (Nat.le_of_ble_eq_true rfl)) dL_law_462 ⟨by show cells + 7 ≤ 603072; omega, by show slots + 67 ≤ 7262314; omega⟩) F J (fun ad2 H locs hag J => ?_)
  refine lv_aload_n hx hb dL_law_465 rfl (lv_at hl 3 rfl) ?_
  refine lv_aload_n hx hb dL_law_466 rfl (lv_at hl 1 rfl) ?_
  refine lv_iload_n hx hb dL_law_467 rfl (lv_at hl 0 rfl) ?_
  refine lv_iconst (v := 1) hx hb dL_law_468 (by decide) ?_
  refine lv_iadd hx hb dL_law_469 ?_
  refine va_sld hx hb hX hbl hbA J.2.2 h1 dL_law_470 ?_
  refine lj_mi (va_runV (As := [.int (xs (x3 + 1).toNatClampNeg)]) (rest := [.int r]) CF (mo_m_part l D di dz h adm (lj_m h adm) (xs (x3 + 1).toNatClampNeg) μ r μ' e2) (cwV 1 hta (lw_V q1823 q1824 q1825 q83 q1826) rfl rfl rfl mo_d_part ⟨Nat.le_of_ble_eq_true rfl, Nat.le_of_ble_eq_true rfl⟩) (lj_pm F J [.int (xs (x3 + 1).toNatClampNeg)]) rfl rfl hl.1 rfl (lv_room (Nat.le_of_ble_eq_true rfl)) dL_law_471 ⟨by show cells + 7 + 0 ≤ 603072; omega, by show slots + 67 + 0 ≤ 7262314; omega⟩) F J (fun H locs J => ?_)
  refine lv_icmp_eq (tgt := 1401) hx hb dL_law_474 (by decide) (fun _ => ?_) (fun hne => absurd rfl hne)
  refine W.widen (k := cells + 611) (n := slots + 13324) (by show cells + 7 + 0 ≤ cells + 611; omega) (by show slots + 67 + 0 ≤ slots + 13324; omega) ?_
  exact kk ad2 σ' μ' S2 H locs ls J hR2 hM2 ((hag 19 h19).trans rfl) hl
