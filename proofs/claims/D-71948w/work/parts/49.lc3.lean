/-! the law, its cases: drawn, image, restore, kind, as, ask, trace, count, status -/
set_option maxRecDepth 100000
set_option maxHeartbeats 4000000 in
theorem lc_27 {p : Program} {e : Env} {s : State} {m : MethodId} {below : List Frame} {meth : Method} {c : Code} {D : va_G} {dA : Nat → ClassId} {di dz : ClassId} {b1 : Nat → Nat} {h : Nat} {adm : Nat → Nat} {b a : Nat} {x3 : Int32} {cells slots L : Nat} {xs : Nat → Int32} (l : Launch) (hlt : l.stackTraces = false) (C0 : lw_At p s m meth c b L xs) (F : lj_F D dA di dz b1 s h adm) (hin : vp_in (x3 + 1) L ∧ vp_in (x3 + 2) L ∧ vp_in (x3 + 3) L ∧ vp_in (x3 + 4) L ∧ vp_in (x3 + 5) L) (hcs : cells + 611 ≤ 603072 ∧ slots + 13324 ≤ 7262314) (kk : lj_G p l e s m below meth c D dA di dz b1 h adm b a x3 (cells + 611) (slots + 13324) 1401) : lj_G p l e s m below meth c D dA di dz b1 h adm b a x3 cells slots 1164 := by
  intro ad σ μ S H locs ls J hR hM ha hl
  subst ha
  obtain ⟨hx, hb, hr, hml, hown, hts, hX, hbl, hlocks, -⟩ := id C0
  have hta : ∀ w ∈ lw_all, w.before #[Value.ref b] s = true := fun w hw => hts w (lw_all_tbl hw)
  have CF : CallFix p m c cL_law 4 s #[Value.ref b] lw_all R_law := ⟨hx, hb, hml, hown, hta⟩
  have hbA : ¬ (fun q : Nat => s.heap.size ≤ q) b := Nat.not_le.mpr hbl
  have hk : cl_k σ 19 = 0 := hR.1.2.1.1
  have h19 : 19 ≤ cl_n σ := Nat.le_trans (by decide) hR.1.1
  obtain ⟨h1, h2, h3, h4, h5⟩ := hin
  obtain ⟨r, σ', μ', e1, e2, hR2, hM2⟩ := rz_drawn hR hM (xs (x3 + 1).toNatClampNeg) (xs (x3 + 2).toNatClampNeg) (xs (x3 + 3).toNatClampNeg)
  refine lv_aload_n hx hb dL_law_1164 rfl (lv_at hl 2 rfl) ?_
  refine lv_aload_n hx hb dL_law_1165 rfl (lv_at hl 1 rfl) ?_
  refine lv_iload_n hx hb dL_law_1166 rfl (lv_at hl 0 rfl) ?_
  refine lv_iconst (v := 1) hx hb dL_law_1167 (by decide) ?_
  refine lv_iadd hx hb dL_law_1168 ?_
  refine va_sld hx hb hX hbl hbA J.2.2 h1 dL_law_1169 ?_
  refine lv_aload_n hx hb dL_law_1170 rfl (lv_at hl 1 rfl) ?_
  refine lv_iload_n hx hb dL_law_1171 rfl (lv_at hl 0 rfl) ?_
  refine lv_iconst (v := 2) hx hb dL_law_1172 (by decide) ?_
  refine lv_iadd hx hb dL_law_1173 ?_
  refine va_sld hx hb hX hbl hbA J.2.2 h2 dL_law_1174 ?_
  refine lv_aload_n hx hb dL_law_1175 rfl (lv_at hl 1 rfl) ?_
  refine lv_iload_n hx hb dL_law_1176 rfl (lv_at hl 0 rfl) ?_
  refine lv_iconst (v := 3) hx hb dL_law_1177 (by decide) ?_
  refine lv_iadd hx hb dL_law_1178 ?_
  refine va_sld hx hb hX hbl hbA J.2.2 h3 dL_law_1179 ?_
  refine lj_ci (va_runV (As := [.int (xs (x3 + 1).toNatClampNeg), .int (xs (x3 + 2).toNatClampNeg), .int (xs (x3 + 3).toNatClampNeg)]) (rest := []) CF (cm_X0_drawn l D dA ad (lj_c s h adm) (ad 19) 19 (xs (x3 + 1).toNatClampNeg) (xs (x3 + 2).toNatClampNeg) (xs (x3 + 3).toNatClampNeg) σ r σ' ⟨rfl, by decide, h19⟩ e1) (cwV 3 hta (lw_V q1423 q1424 q1425 q77 q1426) rfl rfl rfl ⟨rfl, cd_X0_drawn⟩ ⟨Nat.le_of_ble_eq_true rfl, Nat.le_of_ble_eq_true rfl⟩) (lj_pc F J [.int (xs (x3 + 1).toNatClampNeg), .int (xs (x3 + 2).toNatClampNeg), .int (xs (x3 + 3).toNatClampNeg)] hk h19) rfl rfl hl.1 rfl (lv_room (Nat.le_of_ble_eq_true rfl)) dL_law_1180 ⟨by show cells + 0 ≤ 603072; omega, by show slots + 0 ≤ 7262314; omega⟩) F J (fun ad2 H locs hag J => ?_)
  refine lv_aload_n hx hb dL_law_1183 rfl (lv_at hl 3 rfl) ?_
  refine lv_aload_n hx hb dL_law_1184 rfl (lv_at hl 1 rfl) ?_
  refine lv_iload_n hx hb dL_law_1185 rfl (lv_at hl 0 rfl) ?_
  refine lv_iconst (v := 1) hx hb dL_law_1186 (by decide) ?_
  refine lv_iadd hx hb dL_law_1187 ?_
  refine va_sld hx hb hX hbl hbA J.2.2 h1 dL_law_1188 ?_
  refine lv_aload_n hx hb dL_law_1189 rfl (lv_at hl 1 rfl) ?_
  refine lv_iload_n hx hb dL_law_1190 rfl (lv_at hl 0 rfl) ?_
  refine lv_iconst (v := 2) hx hb dL_law_1191 (by decide) ?_
  refine lv_iadd hx hb dL_law_1192 ?_
  refine va_sld hx hb hX hbl hbA J.2.2 h2 dL_law_1193 ?_
  refine lv_aload_n hx hb dL_law_1194 rfl (lv_at hl 1 rfl) ?_
  refine lv_iload_n hx hb dL_law_1195 rfl (lv_at hl 0 rfl) ?_
  refine lv_iconst (v := 3) hx hb dL_law_1196 (by decide) ?_
  refine lv_iadd hx hb dL_law_1197 ?_
  refine va_sld hx hb hX hbl hbA J.2.2 h3 dL_law_1198 ?_
  refine lj_mi (va_runV (As := [.int (xs (x3 + 1).toNatClampNeg), .int (xs (x3 + 2).toNatClampNeg), .int (xs (x3 + 3).toNatClampNeg)]) (rest := [.int r]) CF (mo_m_drawn l D di dz h adm (lj_m h adm) (xs (x3 + 1).toNatClampNeg) (xs (x3 + 2).toNatClampNeg) (xs (x3 + 3).toNatClampNeg) μ r μ' e2) (cwV 3 hta (lw_V q1984 q1985 q1986 q83 q1987) rfl rfl rfl mo_d_drawn ⟨Nat.le_of_ble_eq_true rfl, Nat.le_of_ble_eq_true rfl⟩) (lj_pm F J [.int (xs (x3 + 1).toNatClampNeg), .int (xs (x3 + 2).toNatClampNeg), .int (xs (x3 + 3).toNatClampNeg)]) rfl rfl hl.1 rfl (lv_room (Nat.le_of_ble_eq_true rfl)) dL_law_1199 ⟨by show cells + 0 + 0 ≤ 603072; omega, by show slots + 0 + 0 ≤ 7262314; omega⟩) F J (fun H locs J => ?_)
  refine lv_icmp_eq (tgt := 1401) hx hb dL_law_1202 (by decide) (fun _ => ?_) (fun hne => absurd rfl hne)
  refine W.widen (k := cells + 611) (n := slots + 13324) (by show cells + 0 + 0 ≤ cells + 611; omega) (by show slots + 0 + 0 ≤ slots + 13324; omega) ?_
  exact kk ad2 σ' μ' S H locs ls J hR2 hM2 ((hag 19 h19).trans rfl) hl
set_option maxHeartbeats 4000000 in
theorem lc_28 {p : Program} {e : Env} {s : State} {m : MethodId} {below : List Frame} {meth : Method} {c : Code} {D : va_G} {dA : Nat → ClassId} {di dz : ClassId} {b1 : Nat → Nat} {h : Nat} {adm : Nat → Nat} {b a : Nat} {x3 : Int32} {cells slots L : Nat} {xs : Nat → Int32} (l : Launch) (hlt : l.stackTraces = false) (C0 : lw_At p s m meth c b L xs) (F : lj_F D dA di dz b1 s h adm) (hin : vp_in (x3 + 1) L ∧ vp_in (x3 + 2) L ∧ vp_in (x3 + 3) L ∧ vp_in (x3 + 4) L ∧ vp_in (x3 + 5) L) (hcs : cells + 611 ≤ 603072 ∧ slots + 13324 ≤ 7262314) (kk : lj_G p l e s m below meth c D dA di dz b1 h adm b a x3 (cells + 611) (slots + 13324) 1401) : lj_G p l e s m below meth c D dA di dz b1 h adm b a x3 cells slots 1207 := by
  intro ad σ μ S H locs ls J hR hM ha hl
  subst ha
  obtain ⟨hx, hb, hr, hml, hown, hts, hX, hbl, hlocks, -⟩ := id C0
  have hta : ∀ w ∈ lw_all, w.before #[Value.ref b] s = true := fun w hw => hts w (lw_all_tbl hw)
  have CF : CallFix p m c cL_law 4 s #[Value.ref b] lw_all R_law := ⟨hx, hb, hml, hown, hta⟩
  have hbA : ¬ (fun q : Nat => s.heap.size ≤ q) b := Nat.not_le.mpr hbl
  have hk : cl_k σ 19 = 0 := hR.1.2.1.1
  have h19 : 19 ≤ cl_n σ := Nat.le_trans (by decide) hR.1.1
  obtain ⟨h1, h2, h3, h4, h5⟩ := hin
  obtain ⟨S2, r, σ', μ', e1, e2, hR2, hM2⟩ := po_image hR hM (xs (x3 + 1).toNatClampNeg)
  refine lv_aload_n hx hb dL_law_1207 rfl (lv_at hl 2 rfl) ?_
  refine lv_aload_n hx hb dL_law_1208 rfl (lv_at hl 1 rfl) ?_
  refine lv_iload_n hx hb dL_law_1209 rfl (lv_at hl 0 rfl) ?_
  refine lv_iconst (v := 1) hx hb dL_law_1210 (by decide) ?_
  refine lv_iadd hx hb dL_law_1211 ?_
  refine va_sld hx hb hX hbl hbA J.2.2 h1 dL_law_1212 ?_
  refine lj_ci (va_runV (As := [.int (xs (x3 + 1).toNatClampNeg)]) (rest := []) CF (cm_X0_image l D dA ad (lj_c s h adm) (ad 19) 19 (xs (x3 + 1).toNatClampNeg) σ r σ' ⟨rfl, by decide, h19⟩ e1) (cwV 1 hta (lw_V q1436 q1437 q1438 q77 q1439) rfl rfl rfl ⟨rfl, cd_X0_image⟩ ⟨Nat.le_of_ble_eq_true rfl, Nat.le_of_ble_eq_true rfl⟩) (lj_pc F J [.int (xs (x3 + 1).toNatClampNeg)] hk h19) rfl rfl hl.1 rfl (lv_room (Nat.le_of_ble_eq_true rfl)) dL_law_1213 ⟨by show cells + 7 ≤ 603072; omega, by show slots + 67 ≤ 7262314; omega⟩) F J (fun ad2 H locs hag J => ?_)
  refine lv_aload_n hx hb dL_law_1216 rfl (lv_at hl 3 rfl) ?_
  refine lv_aload_n hx hb dL_law_1217 rfl (lv_at hl 1 rfl) ?_
  refine lv_iload_n hx hb dL_law_1218 rfl (lv_at hl 0 rfl) ?_
  refine lv_iconst (v := 1) hx hb dL_law_1219 (by decide) ?_
  refine lv_iadd hx hb dL_law_1220 ?_
  refine va_sld hx hb hX hbl hbA J.2.2 h1 dL_law_1221 ?_
  refine lj_mi (va_runV (As := [.int (xs (x3 + 1).toNatClampNeg)]) (rest := [.int r]) CF (mo_m_image l D di dz h adm (lj_m h adm) (xs (x3 + 1).toNatClampNeg) μ r μ' e2) (cwV 1 hta (lw_V q1993 q1994 q1995 q83 q1996) rfl rfl rfl mo_d_image ⟨Nat.le_of_ble_eq_true rfl, Nat.le_of_ble_eq_true rfl⟩) (lj_pm F J [.int (xs (x3 + 1).toNatClampNeg)]) rfl rfl hl.1 rfl (lv_room (Nat.le_of_ble_eq_true rfl)) dL_law_1222 ⟨by show cells + 7 + 0 ≤ 603072; omega, by show slots + 67 + 0 ≤ 7262314; omega⟩) F J (fun H locs J => ?_)
  refine lv_icmp_eq (tgt := 1401) hx hb dL_law_1225 (by decide) (fun _ => ?_) (fun hne => absurd rfl hne)
  refine W.widen (k := cells + 611) (n := slots + 13324) (by show cells + 7 + 0 ≤ cells + 611; omega) (by show slots + 67 + 0 ≤ slots + 13324; omega) ?_
  exact kk ad2 σ' μ' S2 H locs ls J hR2 hM2 ((hag 19 h19).trans rfl) hl
set_option maxHeartbeats 4000000 in
theorem lc_29 {p : Program} {e : Env} {s : State} {m : MethodId} {below : List Frame} {meth : Method} {c : Code} {D : va_G} {dA : Nat → ClassId} {di dz : ClassId} {b1 : Nat → Nat} {h : Nat} {adm : Nat → Nat} {b a : Nat} {x3 : Int32} {cells slots L : Nat} {xs : Nat → Int32} (l : Launch) (hlt : l.stackTraces = false) (C0 : lw_At p s m meth c b L xs) (F : lj_F D dA di dz b1 s h adm) (hin : vp_in (x3 + 1) L ∧ vp_in (x3 + 2) L ∧ vp_in (x3 + 3) L ∧ vp_in (x3 + 4) L ∧ vp_in (x3 + 5) L) (hcs : cells + 611 ≤ 603072 ∧ slots + 13324 ≤ 7262314) (kk : lj_G p l e s m below meth c D dA di dz b1 h adm b a x3 (cells + 611) (slots + 13324) 1401) : lj_G p l e s m below meth c D dA di dz b1 h adm b a x3 cells slots 1230 := by
  intro ad σ μ S H locs ls J hR hM ha hl
  subst ha
  obtain ⟨hx, hb, hr, hml, hown, hts, hX, hbl, hlocks, -⟩ := id C0
  have hta : ∀ w ∈ lw_all, w.before #[Value.ref b] s = true := fun w hw => hts w (lw_all_tbl hw)
  have CF : CallFix p m c cL_law 4 s #[Value.ref b] lw_all R_law := ⟨hx, hb, hml, hown, hta⟩
  have hbA : ¬ (fun q : Nat => s.heap.size ≤ q) b := Nat.not_le.mpr hbl
  have hk : cl_k σ 19 = 0 := hR.1.2.1.1
  have h19 : 19 ≤ cl_n σ := Nat.le_trans (by decide) hR.1.1
  obtain ⟨h1, h2, h3, h4, h5⟩ := hin
  obtain ⟨S2, r, σ', μ', e1, e2, hR2, hM2⟩ := po_restore hR hM (xs (x3 + 1).toNatClampNeg)
  refine lv_aload_n hx hb dL_law_1230 rfl (lv_at hl 2 rfl) ?_
  refine lv_aload_n hx hb dL_law_1231 rfl (lv_at hl 1 rfl) ?_
  refine lv_iload_n hx hb dL_law_1232 rfl (lv_at hl 0 rfl) ?_
  refine lv_iconst (v := 1) hx hb dL_law_1233 (by decide) ?_
  refine lv_iadd hx hb dL_law_1234 ?_
  refine va_sld hx hb hX hbl hbA J.2.2 h1 dL_law_1235 ?_
  refine lj_ci (va_runV (As := [.int (xs (x3 + 1).toNatClampNeg)]) (rest := []) CF (cm_X0_restore l D dA ad (lj_c s h adm) (ad 19) 19 (xs (x3 + 1).toNatClampNeg) σ r σ' ⟨rfl, by decide, h19⟩ e1) (cwV 1 hta (lw_V q1440 q1441 q1442 q77 q1443) rfl rfl rfl ⟨rfl, cd_X0_restore⟩ ⟨Nat.le_of_ble_eq_true rfl, Nat.le_of_ble_eq_true rfl⟩) (lj_pc F J [.int (xs (x3 + 1).toNatClampNeg)] hk h19) rfl rfl hl.1 rfl (lv_room (Nat.le_of_ble_eq_true rfl)) dL_law_1236 ⟨by show cells + 0 ≤ 603072; omega, by show slots + 0 ≤ 7262314; omega⟩) F J (fun ad2 H locs hag J => ?_)
  refine lv_aload_n hx hb dL_law_1239 rfl (lv_at hl 3 rfl) ?_
  refine lv_aload_n hx hb dL_law_1240 rfl (lv_at hl 1 rfl) ?_
  refine lv_iload_n hx hb dL_law_1241 rfl (lv_at hl 0 rfl) ?_
  refine lv_iconst (v := 1) hx hb dL_law_1242 (by decide) ?_
  refine lv_iadd hx hb dL_law_1243 ?_
  refine va_sld hx hb hX hbl hbA J.2.2 h1 dL_law_1244 ?_
  refine lj_mi (va_runV (As := [.int (xs (x3 + 1).toNatClampNeg)]) (rest := [.int r]) CF (mo_m_restore l D di dz h adm (lj_m h adm) (xs (x3 + 1).toNatClampNeg) μ r μ' e2) (cwV 1 hta (lw_V q1997 q1998 q1999 q83 q2000) rfl rfl rfl mo_d_restore ⟨Nat.le_of_ble_eq_true rfl, Nat.le_of_ble_eq_true rfl⟩) (lj_pm F J [.int (xs (x3 + 1).toNatClampNeg)]) rfl rfl hl.1 rfl (lv_room (Nat.le_of_ble_eq_true rfl)) dL_law_1245 ⟨by show cells + 0 + 0 ≤ 603072; omega, by show slots + 0 + 0 ≤ 7262314; omega⟩) F J (fun H locs J => ?_)
  refine lv_icmp_eq (tgt := 1401) hx hb dL_law_1248 (by decide) (fun _ => ?_) (fun hne => absurd rfl hne)
  refine W.widen (k := cells + 611) (n := slots + 13324) (by show cells + 0 + 0 ≤ cells + 611; omega) (by show slots + 0 + 0 ≤ slots + 13324; omega) ?_
  exact kk ad2 σ' μ' S2 H locs ls J hR2 hM2 ((hag 19 h19).trans rfl) hl
set_option maxHeartbeats 4000000 in
theorem lc_30 {p : Program} {e : Env} {s : State} {m : MethodId} {below : List Frame} {meth : Method} {c : Code} {D : va_G} {dA : Nat → ClassId} {di dz : ClassId} {b1 : Nat → Nat} {h : Nat} {adm : Nat → Nat} {b a : Nat} {x3 : Int32} {cells slots L : Nat} {xs : Nat → Int32} (l : Launch) (hlt : l.stackTraces = false) (C0 : lw_At p s m meth c b L xs) (F : lj_F D dA di dz b1 s h adm) (hin : vp_in (x3 + 1) L ∧ vp_in (x3 + 2) L ∧ vp_in (x3 + 3) L ∧ vp_in (x3 + 4) L ∧ vp_in (x3 + 5) L) (hcs : cells + 611 ≤ 603072 ∧ slots + 13324 ≤ 7262314) (kk : lj_G p l e s m below meth c D dA di dz b1 h adm b a x3 (cells + 611) (slots + 13324) 1401) : lj_G p l e s m below meth c D dA di dz b1 h adm b a x3 cells slots 1253 := by
  intro ad σ μ S H locs ls J hR hM ha hl
  subst ha
  obtain ⟨hx, hb, hr, hml, hown, hts, hX, hbl, hlocks, -⟩ := id C0
  have hta : ∀ w ∈ lw_all, w.before #[Value.ref b] s = true := fun w hw => hts w (lw_all_tbl hw)
  have CF : CallFix p m c cL_law 4 s #[Value.ref b] lw_all R_law := ⟨hx, hb, hml, hown, hta⟩
  have hbA : ¬ (fun q : Nat => s.heap.size ≤ q) b := Nat.not_le.mpr hbl
  have hk : cl_k σ 19 = 0 := hR.1.2.1.1
  have h19 : 19 ≤ cl_n σ := Nat.le_trans (by decide) hR.1.1
  obtain ⟨h1, h2, h3, h4, h5⟩ := hin
  obtain ⟨r, e1, e2⟩ := pq_kind hR hM (xs (x3 + 1).toNatClampNeg)
  refine lv_aload_n hx hb dL_law_1253 rfl (lv_at hl 2 rfl) ?_
  refine lv_aload_n hx hb dL_law_1254 rfl (lv_at hl 1 rfl) ?_
  refine lv_iload_n hx hb dL_law_1255 rfl (lv_at hl 0 rfl) ?_
  refine lv_iconst (v := 1) hx hb dL_law_1256 (by decide) ?_
  refine lv_iadd hx hb dL_law_1257 ?_
  refine va_sld hx hb hX hbl hbA J.2.2 h1 dL_law_1258 ?_
  refine lj_ci (va_runV (As := [.int (xs (x3 + 1).toNatClampNeg)]) (rest := []) CF (cm_X0_kind l D dA ad (lj_c s h adm) (ad 19) 19 (xs (x3 + 1).toNatClampNeg) σ r  ⟨rfl, by decide, h19⟩ e1) (cwV 1 hta (lw_V q1444 q1445 q1446 q77 q1447) rfl rfl rfl ⟨rfl, cd_X0_kind⟩ ⟨Nat.le_of_ble_eq_true rfl, Nat.le_of_ble_eq_true rfl⟩) (lj_pc F J [.int (xs (x3 + 1).toNatClampNeg)] hk h19) rfl rfl hl.1 rfl (lv_room (Nat.le_of_ble_eq_true rfl)) dL_law_1259 ⟨by show cells + 0 ≤ 603072; omega, by show slots + 0 ≤ 7262314; omega⟩) F J (fun ad2 H locs hag J => ?_)
  refine lv_aload_n hx hb dL_law_1262 rfl (lv_at hl 3 rfl) ?_
  refine lv_aload_n hx hb dL_law_1263 rfl (lv_at hl 1 rfl) ?_
  refine lv_iload_n hx hb dL_law_1264 rfl (lv_at hl 0 rfl) ?_
  refine lv_iconst (v := 1) hx hb dL_law_1265 (by decide) ?_
  refine lv_iadd hx hb dL_law_1266 ?_
  refine va_sld hx hb hX hbl hbA J.2.2 h1 dL_law_1267 ?_
  refine lj_mi (va_runV (As := [.int (xs (x3 + 1).toNatClampNeg)]) (rest := [.int r]) CF (mo_m_kind l D di dz h adm (lj_m h adm) (xs (x3 + 1).toNatClampNeg) μ r  e2) (cwV 1 hta (lw_V q2001 q2002 q2003 q83 q2004) rfl rfl rfl mo_d_kind ⟨Nat.le_of_ble_eq_true rfl, Nat.le_of_ble_eq_true rfl⟩) (lj_pm F J [.int (xs (x3 + 1).toNatClampNeg)]) rfl rfl hl.1 rfl (lv_room (Nat.le_of_ble_eq_true rfl)) dL_law_1268 ⟨by show cells + 0 + 0 ≤ 603072; omega, by show slots + 0 + 0 ≤ 7262314; omega⟩) F J (fun H locs J => ?_)
  refine lv_icmp_eq (tgt := 1401) hx hb dL_law_1271 (by decide) (fun _ => ?_) (fun hne => absurd rfl hne)
  refine W.widen (k := cells + 611) (n := slots + 13324) (by show cells + 0 + 0 ≤ cells + 611; omega) (by show slots + 0 + 0 ≤ slots + 13324; omega) ?_
  exact kk ad2 σ μ S H locs ls J hR hM ((hag 19 h19).trans rfl) hl
set_option maxHeartbeats 4000000 in
theorem lc_31 {p : Program} {e : Env} {s : State} {m : MethodId} {below : List Frame} {meth : Method} {c : Code} {D : va_G} {dA : Nat → ClassId} {di dz : ClassId} {b1 : Nat → Nat} {h : Nat} {adm : Nat → Nat} {b a : Nat} {x3 : Int32} {cells slots L : Nat} {xs : Nat → Int32} (l : Launch) (hlt : l.stackTraces = false) (C0 : lw_At p s m meth c b L xs) (F : lj_F D dA di dz b1 s h adm) (hin : vp_in (x3 + 1) L ∧ vp_in (x3 + 2) L ∧ vp_in (x3 + 3) L ∧ vp_in (x3 + 4) L ∧ vp_in (x3 + 5) L) (hcs : cells + 611 ≤ 603072 ∧ slots + 13324 ≤ 7262314) (kk : lj_G p l e s m below meth c D dA di dz b1 h adm b a x3 (cells + 611) (slots + 13324) 1401) : lj_G p l e s m below meth c D dA di dz b1 h adm b a x3 cells slots 1276 := by
  intro ad σ μ S H locs ls J hR hM ha hl
  subst ha
  obtain ⟨hx, hb, hr, hml, hown, hts, hX, hbl, hlocks, -⟩ := id C0
  have hta : ∀ w ∈ lw_all, w.before #[Value.ref b] s = true := fun w hw => hts w (lw_all_tbl hw)
  have CF : CallFix p m c cL_law 4 s #[Value.ref b] lw_all R_law := ⟨hx, hb, hml, hown, hta⟩
  have hbA : ¬ (fun q : Nat => s.heap.size ≤ q) b := Nat.not_le.mpr hbl
  have hk : cl_k σ 19 = 0 := hR.1.2.1.1
  have h19 : 19 ≤ cl_n σ := Nat.le_trans (by decide) hR.1.1
  obtain ⟨h1, h2, h3, h4, h5⟩ := hin
  obtain ⟨S2, r, σ', μ', e1, e2, hR2, hM2⟩ := rw_as hR hM (xs (x3 + 1).toNatClampNeg) (xs (x3 + 2).toNatClampNeg)
  refine lv_aload_n hx hb dL_law_1276 rfl (lv_at hl 2 rfl) ?_
  refine lv_aload_n hx hb dL_law_1277 rfl (lv_at hl 1 rfl) ?_
  refine lv_iload_n hx hb dL_law_1278 rfl (lv_at hl 0 rfl) ?_
  refine lv_iconst (v := 1) hx hb dL_law_1279 (by decide) ?_
  refine lv_iadd hx hb dL_law_1280 ?_
  refine va_sld hx hb hX hbl hbA J.2.2 h1 dL_law_1281 ?_
  refine lv_aload_n hx hb dL_law_1282 rfl (lv_at hl 1 rfl) ?_
  refine lv_iload_n hx hb dL_law_1283 rfl (lv_at hl 0 rfl) ?_
  refine lv_iconst (v := 2) hx hb dL_law_1284 (by decide) ?_
  refine lv_iadd hx hb dL_law_1285 ?_
  refine va_sld hx hb hX hbl hbA J.2.2 h2 dL_law_1286 ?_
  refine lj_ci (vx_runVW (As := [.int (xs (x3 + 1).toNatClampNeg), .int (xs (x3 + 2).toNatClampNeg)]) (rest := []) CF (cm_X0_as l hlt D dA ad (lj_c s h adm) (ad 19) 19 (xs (x3 + 1).toNatClampNeg) (xs (x3 + 2).toNatClampNeg) σ r σ' ⟨rfl, by decide, h19⟩ e1) (vx_cwVW 2 hta (lw_VW q1448 q1449 q1450 q77 q1451) rfl rfl rfl ⟨rfl, cd_X0_as⟩ ⟨Nat.le_of_ble_eq_true rfl, Nat.le_of_ble_eq_true rfl⟩) (lj_pc F J [.int (xs (x3 + 1).toNatClampNeg), .int (xs (x3 + 2).toNatClampNeg)] hk h19) rfl rfl hl.1 rfl (lv_room (Nat.le_of_ble_eq_true rfl)) dL_law_1287 ⟨by show cells + 3 ≤ 603072; omega, by show slots + 910 ≤ 7262314; omega⟩) F J (fun ad2 H locs hag J => ?_)
  refine lv_aload_n hx hb dL_law_1290 rfl (lv_at hl 3 rfl) ?_
  refine lv_aload_n hx hb dL_law_1291 rfl (lv_at hl 1 rfl) ?_
  refine lv_iload_n hx hb dL_law_1292 rfl (lv_at hl 0 rfl) ?_
  refine lv_iconst (v := 1) hx hb dL_law_1293 (by decide) ?_
  refine lv_iadd hx hb dL_law_1294 ?_
  refine va_sld hx hb hX hbl hbA J.2.2 h1 dL_law_1295 ?_
  refine lv_aload_n hx hb dL_law_1296 rfl (lv_at hl 1 rfl) ?_
  refine lv_iload_n hx hb dL_law_1297 rfl (lv_at hl 0 rfl) ?_
  refine lv_iconst (v := 2) hx hb dL_law_1298 (by decide) ?_
  refine lv_iadd hx hb dL_law_1299 ?_
  refine va_sld hx hb hX hbl hbA J.2.2 h2 dL_law_1300 ?_
  refine lj_mi (va_runV (As := [.int (xs (x3 + 1).toNatClampNeg), .int (xs (x3 + 2).toNatClampNeg)]) (rest := [.int r]) CF (mo_m_as l D di dz h adm (lj_m h adm) (xs (x3 + 1).toNatClampNeg) (xs (x3 + 2).toNatClampNeg) μ r μ' e2) (cwV 2 hta (lw_V q2009 q2010 q2011 q83 q2012) rfl rfl rfl mo_d_as ⟨Nat.le_of_ble_eq_true rfl, Nat.le_of_ble_eq_true rfl⟩) (lj_pm F J [.int (xs (x3 + 1).toNatClampNeg), .int (xs (x3 + 2).toNatClampNeg)]) rfl rfl hl.1 rfl (lv_room (Nat.le_of_ble_eq_true rfl)) dL_law_1301 ⟨by show cells + 3 + 0 ≤ 603072; omega, by show slots + 910 + 0 ≤ 7262314; omega⟩) F J (fun H locs J => ?_)
  refine lv_icmp_eq (tgt := 1401) hx hb dL_law_1304 (by decide) (fun _ => ?_) (fun hne => absurd rfl hne)
  refine W.widen (k := cells + 611) (n := slots + 13324) (by show cells + 3 + 0 ≤ cells + 611; omega) (by show slots + 910 + 0 ≤ slots + 13324; omega) ?_
  exact kk ad2 σ' μ' S2 H locs ls J hR2 hM2 ((hag 19 h19).trans rfl) hl
set_option maxHeartbeats 4000000 in
theorem lc_32 {p : Program} {e : Env} {s : State} {m : MethodId} {below : List Frame} {meth : Method} {c : Code} {D : va_G} {dA : Nat → ClassId} {di dz : ClassId} {b1 : Nat → Nat} {h : Nat} {adm : Nat → Nat} {b a : Nat} {x3 : Int32} {cells slots L : Nat} {xs : Nat → Int32} (l : Launch) (hlt : l.stackTraces = false) (C0 : lw_At p s m meth c b L xs) (F : lj_F D dA di dz b1 s h adm) (hin : vp_in (x3 + 1) L ∧ vp_in (x3 + 2) L ∧ vp_in (x3 + 3) L ∧ vp_in (x3 + 4) L ∧ vp_in (x3 + 5) L) (hcs : cells + 611 ≤ 603072 ∧ slots + 13324 ≤ 7262314) (kk : lj_G p l e s m below meth c D dA di dz b1 h adm b a x3 (cells + 611) (slots + 13324) 1401) : lj_G p l e s m below meth c D dA di dz b1 h adm b a x3 cells slots 1309 := by
  intro ad σ μ S H locs ls J hR hM ha hl
  subst ha
  obtain ⟨hx, hb, hr, hml, hown, hts, hX, hbl, hlocks, -⟩ := id C0
  have hta : ∀ w ∈ lw_all, w.before #[Value.ref b] s = true := fun w hw => hts w (lw_all_tbl hw)
  have CF : CallFix p m c cL_law 4 s #[Value.ref b] lw_all R_law := ⟨hx, hb, hml, hown, hta⟩
  have hbA : ¬ (fun q : Nat => s.heap.size ≤ q) b := Nat.not_le.mpr hbl
  have hk : cl_k σ 19 = 0 := hR.1.2.1.1
  have h19 : 19 ≤ cl_n σ := Nat.le_trans (by decide) hR.1.1
  obtain ⟨h1, h2, h3, h4, h5⟩ := hin
  obtain ⟨S2, r, σ', μ', e1, e2, hR2, hM2⟩ := se_ask hR hM (xs (x3 + 1).toNatClampNeg) (xs (x3 + 2).toNatClampNeg)
  refine lv_aload_n hx hb dL_law_1309 rfl (lv_at hl 2 rfl) ?_
  refine lv_aload_n hx hb dL_law_1310 rfl (lv_at hl 1 rfl) ?_
  refine lv_iload_n hx hb dL_law_1311 rfl (lv_at hl 0 rfl) ?_
  refine lv_iconst (v := 1) hx hb dL_law_1312 (by decide) ?_
  refine lv_iadd hx hb dL_law_1313 ?_
  refine va_sld hx hb hX hbl hbA J.2.2 h1 dL_law_1314 ?_
  refine lv_aload_n hx hb dL_law_1315 rfl (lv_at hl 1 rfl) ?_
  refine lv_iload_n hx hb dL_law_1316 rfl (lv_at hl 0 rfl) ?_
  refine lv_iconst (v := 2) hx hb dL_law_1317 (by decide) ?_
  refine lv_iadd hx hb dL_law_1318 ?_
  refine va_sld hx hb hX hbl hbA J.2.2 h2 dL_law_1319 ?_
  refine lj_ci (va_runV (As := [.int (xs (x3 + 1).toNatClampNeg), .int (xs (x3 + 2).toNatClampNeg)]) (rest := []) CF (cm_X0_ask l D dA ad (lj_c s h adm) (ad 19) 19 (xs (x3 + 1).toNatClampNeg) (xs (x3 + 2).toNatClampNeg) σ r σ' ⟨rfl, by decide, h19⟩ e1) (cwV 2 hta (lw_V q1479 q1480 q1481 q77 q1482) rfl rfl rfl ⟨rfl, cd_X0_ask⟩ ⟨Nat.le_of_ble_eq_true rfl, Nat.le_of_ble_eq_true rfl⟩) (lj_pc F J [.int (xs (x3 + 1).toNatClampNeg), .int (xs (x3 + 2).toNatClampNeg)] hk h19) rfl rfl hl.1 rfl (lv_room (Nat.le_of_ble_eq_true rfl)) dL_law_1320 ⟨by show cells + 3 ≤ 603072; omega, by show slots + 20 ≤ 7262314; omega⟩) F J (fun ad2 H locs hag J => ?_)
  refine lv_aload_n hx hb dL_law_1323 rfl (lv_at hl 3 rfl) ?_
  refine lv_aload_n hx hb dL_law_1324 rfl (lv_at hl 1 rfl) ?_
  refine lv_iload_n hx hb dL_law_1325 rfl (lv_at hl 0 rfl) ?_
  refine lv_iconst (v := 1) hx hb dL_law_1326 (by decide) ?_
  refine lv_iadd hx hb dL_law_1327 ?_
  refine va_sld hx hb hX hbl hbA J.2.2 h1 dL_law_1328 ?_
  refine lv_aload_n hx hb dL_law_1329 rfl (lv_at hl 1 rfl) ?_
  refine lv_iload_n hx hb dL_law_1330 rfl (lv_at hl 0 rfl) ?_
  refine lv_iconst (v := 2) hx hb dL_law_1331 (by decide) ?_
  refine lv_iadd hx hb dL_law_1332 ?_
  refine va_sld hx hb hX hbl hbA J.2.2 h2 dL_law_1333 ?_
  refine lj_mi (va_runV (As := [.int (xs (x3 + 1).toNatClampNeg), .int (xs (x3 + 2).toNatClampNeg)]) (rest := [.int r]) CF (mo_m_ask l D di dz h adm (lj_m h adm) (xs (x3 + 1).toNatClampNeg) (xs (x3 + 2).toNatClampNeg) μ r μ' e2) (cwV 2 hta (lw_V q2013 q2014 q2015 q83 q2016) rfl rfl rfl mo_d_ask ⟨Nat.le_of_ble_eq_true rfl, Nat.le_of_ble_eq_true rfl⟩) (lj_pm F J [.int (xs (x3 + 1).toNatClampNeg), .int (xs (x3 + 2).toNatClampNeg)]) rfl rfl hl.1 rfl (lv_room (Nat.le_of_ble_eq_true rfl)) dL_law_1334 ⟨by show cells + 3 + 0 ≤ 603072; omega, by show slots + 20 + 0 ≤ 7262314; omega⟩) F J (fun H locs J => ?_)
  refine lv_icmp_eq (tgt := 1401) hx hb dL_law_1337 (by decide) (fun _ => ?_) (fun hne => absurd rfl hne)
  refine W.widen (k := cells + 611) (n := slots + 13324) (by show cells + 3 + 0 ≤ cells + 611; omega) (by show slots + 20 + 0 ≤ slots + 13324; omega) ?_
  exact kk ad2 σ' μ' S2 H locs ls J hR2 hM2 ((hag 19 h19).trans rfl) hl
set_option maxHeartbeats 4000000 in
theorem lc_33 {p : Program} {e : Env} {s : State} {m : MethodId} {below : List Frame} {meth : Method} {c : Code} {D : va_G} {dA : Nat → ClassId} {di dz : ClassId} {b1 : Nat → Nat} {h : Nat} {adm : Nat → Nat} {b a : Nat} {x3 : Int32} {cells slots L : Nat} {xs : Nat → Int32} (l : Launch) (hlt : l.stackTraces = false) (C0 : lw_At p s m meth c b L xs) (F : lj_F D dA di dz b1 s h adm) (hin : vp_in (x3 + 1) L ∧ vp_in (x3 + 2) L ∧ vp_in (x3 + 3) L ∧ vp_in (x3 + 4) L ∧ vp_in (x3 + 5) L) (hcs : cells + 611 ≤ 603072 ∧ slots + 13324 ≤ 7262314) (kk : lj_G p l e s m below meth c D dA di dz b1 h adm b a x3 (cells + 611) (slots + 13324) 1401) : lj_G p l e s m below meth c D dA di dz b1 h adm b a x3 cells slots 1342 := by
  intro ad σ μ S H locs ls J hR hM ha hl
  subst ha
  obtain ⟨hx, hb, hr, hml, hown, hts, hX, hbl, hlocks, -⟩ := id C0
  have hta : ∀ w ∈ lw_all, w.before #[Value.ref b] s = true := fun w hw => hts w (lw_all_tbl hw)
  have CF : CallFix p m c cL_law 4 s #[Value.ref b] lw_all R_law := ⟨hx, hb, hml, hown, hta⟩
  have hbA : ¬ (fun q : Nat => s.heap.size ≤ q) b := Nat.not_le.mpr hbl
  have hk : cl_k σ 19 = 0 := hR.1.2.1.1
  have h19 : 19 ≤ cl_n σ := Nat.le_trans (by decide) hR.1.1
  obtain ⟨h1, h2, h3, h4, h5⟩ := hin
  obtain ⟨r, e1, e2⟩ := pq_trace hR hM (xs (x3 + 1).toNatClampNeg)
  refine lv_aload_n hx hb dL_law_1342 rfl (lv_at hl 2 rfl) ?_
  refine lv_aload_n hx hb dL_law_1343 rfl (lv_at hl 1 rfl) ?_
  refine lv_iload_n hx hb dL_law_1344 rfl (lv_at hl 0 rfl) ?_
  refine lv_iconst (v := 1) hx hb dL_law_1345 (by decide) ?_
  refine lv_iadd hx hb dL_law_1346 ?_
  refine va_sld hx hb hX hbl hbA J.2.2 h1 dL_law_1347 ?_
  refine lj_ci (va_runV (As := [.int (xs (x3 + 1).toNatClampNeg)]) (rest := []) CF (cm_X0_trace l D dA ad (lj_c s h adm) (ad 19) 19 (xs (x3 + 1).toNatClampNeg) σ r  ⟨rfl, by decide, h19⟩ e1) (cwV 1 hta (lw_V q1588 q1589 q1590 q77 q1591) rfl rfl rfl ⟨rfl, cd_X0_trace⟩ ⟨Nat.le_of_ble_eq_true rfl, Nat.le_of_ble_eq_true rfl⟩) (lj_pc F J [.int (xs (x3 + 1).toNatClampNeg)] hk h19) rfl rfl hl.1 rfl (lv_room (Nat.le_of_ble_eq_true rfl)) dL_law_1348 ⟨by show cells + 0 ≤ 603072; omega, by show slots + 0 ≤ 7262314; omega⟩) F J (fun ad2 H locs hag J => ?_)
  refine lv_aload_n hx hb dL_law_1351 rfl (lv_at hl 3 rfl) ?_
  refine lv_aload_n hx hb dL_law_1352 rfl (lv_at hl 1 rfl) ?_
  refine lv_iload_n hx hb dL_law_1353 rfl (lv_at hl 0 rfl) ?_
  refine lv_iconst (v := 1) hx hb dL_law_1354 (by decide) ?_
  refine lv_iadd hx hb dL_law_1355 ?_
  refine va_sld hx hb hX hbl hbA J.2.2 h1 dL_law_1356 ?_
  refine lj_mi (va_runV (As := [.int (xs (x3 + 1).toNatClampNeg)]) (rest := [.int r]) CF (mo_m_trace l D di dz h adm (lj_m h adm) (xs (x3 + 1).toNatClampNeg) μ r  e2) (cwV 1 hta (lw_V q2041 q2042 q2043 q83 q2044) rfl rfl rfl mo_d_trace ⟨Nat.le_of_ble_eq_true rfl, Nat.le_of_ble_eq_true rfl⟩) (lj_pm F J [.int (xs (x3 + 1).toNatClampNeg)]) rfl rfl hl.1 rfl (lv_room (Nat.le_of_ble_eq_true rfl)) dL_law_1357 ⟨by show cells + 0 + 0 ≤ 603072; omega, by show slots + 0 + 0 ≤ 7262314; omega⟩) F J (fun H locs J => ?_)
  refine lv_icmp_eq (tgt := 1401) hx hb dL_law_1360 (by decide) (fun _ => ?_) (fun hne => absurd rfl hne)
  refine W.widen (k := cells + 611) (n := slots + 13324) (by show cells + 0 + 0 ≤ cells + 611; omega) (by show slots + 0 + 0 ≤ slots + 13324; omega) ?_
  exact kk ad2 σ μ S H locs ls J hR hM ((hag 19 h19).trans rfl) hl
set_option maxHeartbeats 4000000 in
theorem lc_34 {p : Program} {e : Env} {s : State} {m : MethodId} {below : List Frame} {meth : Method} {c : Code} {D : va_G} {dA : Nat → ClassId} {di dz : ClassId} {b1 : Nat → Nat} {h : Nat} {adm : Nat → Nat} {b a : Nat} {x3 : Int32} {cells slots L : Nat} {xs : Nat → Int32} (l : Launch) (hlt : l.stackTraces = false) (C0 : lw_At p s m meth c b L xs) (F : lj_F D dA di dz b1 s h adm) (hin : vp_in (x3 + 1) L ∧ vp_in (x3 + 2) L ∧ vp_in (x3 + 3) L ∧ vp_in (x3 + 4) L ∧ vp_in (x3 + 5) L) (hcs : cells + 611 ≤ 603072 ∧ slots + 13324 ≤ 7262314) (kk : lj_G p l e s m below meth c D dA di dz b1 h adm b a x3 (cells + 611) (slots + 13324) 1401) : lj_G p l e s m below meth c D dA di dz b1 h adm b a x3 cells slots 1365 := by
  intro ad σ μ S H locs ls J hR hM ha hl
  subst ha
  obtain ⟨hx, hb, hr, hml, hown, hts, hX, hbl, hlocks, -⟩ := id C0
  have hta : ∀ w ∈ lw_all, w.before #[Value.ref b] s = true := fun w hw => hts w (lw_all_tbl hw)
  have CF : CallFix p m c cL_law 4 s #[Value.ref b] lw_all R_law := ⟨hx, hb, hml, hown, hta⟩
  have hbA : ¬ (fun q : Nat => s.heap.size ≤ q) b := Nat.not_le.mpr hbl
  have hk : cl_k σ 19 = 0 := hR.1.2.1.1
  have h19 : 19 ≤ cl_n σ := Nat.le_trans (by decide) hR.1.1
  obtain ⟨h1, h2, h3, h4, h5⟩ := hin
  obtain ⟨r, e1, e2⟩ := pr_count hR hM (xs (x3 + 1).toNatClampNeg)
  refine lv_aload_n hx hb dL_law_1365 rfl (lv_at hl 2 rfl) ?_
  refine lv_aload_n hx hb dL_law_1366 rfl (lv_at hl 1 rfl) ?_
  refine lv_iload_n hx hb dL_law_1367 rfl (lv_at hl 0 rfl) ?_
  refine lv_iconst (v := 1) hx hb dL_law_1368 (by decide) ?_
  refine lv_iadd hx hb dL_law_1369 ?_
  refine va_sld hx hb hX hbl hbA J.2.2 h1 dL_law_1370 ?_
  refine lj_ci (va_runV (As := [.int (xs (x3 + 1).toNatClampNeg)]) (rest := []) CF (cm_X0_count l D dA ad (lj_c s h adm) (ad 19) 19 (xs (x3 + 1).toNatClampNeg) σ r  ⟨rfl, by decide, h19⟩ e1) (cwV 1 hta (lw_V q1592 q1593 q1594 q77 q1595) rfl rfl rfl ⟨rfl, cd_X0_count⟩ ⟨Nat.le_of_ble_eq_true rfl, Nat.le_of_ble_eq_true rfl⟩) (lj_pc F J [.int (xs (x3 + 1).toNatClampNeg)] hk h19) rfl rfl hl.1 rfl (lv_room (Nat.le_of_ble_eq_true rfl)) dL_law_1371 ⟨by show cells + 0 ≤ 603072; omega, by show slots + 0 ≤ 7262314; omega⟩) F J (fun ad2 H locs hag J => ?_)
  refine lv_aload_n hx hb dL_law_1374 rfl (lv_at hl 3 rfl) ?_
  refine lv_aload_n hx hb dL_law_1375 rfl (lv_at hl 1 rfl) ?_
  refine lv_iload_n hx hb dL_law_1376 rfl (lv_at hl 0 rfl) ?_
  refine lv_iconst (v := 1) hx hb dL_law_1377 (by decide) ?_
  refine lv_iadd hx hb dL_law_1378 ?_
  refine va_sld hx hb hX hbl hbA J.2.2 h1 dL_law_1379 ?_
  refine lj_mi (va_runV (As := [.int (xs (x3 + 1).toNatClampNeg)]) (rest := [.int r]) CF (mo_m_count l D di dz h adm (lj_m h adm) (xs (x3 + 1).toNatClampNeg) μ r  e2) (cwV 1 hta (lw_V q2045 q2046 q2047 q83 q2048) rfl rfl rfl mo_d_count ⟨Nat.le_of_ble_eq_true rfl, Nat.le_of_ble_eq_true rfl⟩) (lj_pm F J [.int (xs (x3 + 1).toNatClampNeg)]) rfl rfl hl.1 rfl (lv_room (Nat.le_of_ble_eq_true rfl)) dL_law_1380 ⟨by show cells + 0 + 0 ≤ 603072; omega, by show slots + 0 + 0 ≤ 7262314; omega⟩) F J (fun H locs J => ?_)
  refine lv_icmp_eq (tgt := 1401) hx hb dL_law_1383 (by decide) (fun _ => ?_) (fun hne => absurd rfl hne)
  refine W.widen (k := cells + 611) (n := slots + 13324) (by show cells + 0 + 0 ≤ cells + 611; omega) (by show slots + 0 + 0 ≤ slots + 13324; omega) ?_
  exact kk ad2 σ μ S H locs ls J hR hM ((hag 19 h19).trans rfl) hl
set_option maxHeartbeats 4000000 in
theorem lc_35 {p : Program} {e : Env} {s : State} {m : MethodId} {below : List Frame} {meth : Method} {c : Code} {D : va_G} {dA : Nat → ClassId} {di dz : ClassId} {b1 : Nat → Nat} {h : Nat} {adm : Nat → Nat} {b a : Nat} {x3 : Int32} {cells slots L : Nat} {xs : Nat → Int32} (l : Launch) (hlt : l.stackTraces = false) (C0 : lw_At p s m meth c b L xs) (F : lj_F D dA di dz b1 s h adm) (hin : vp_in (x3 + 1) L ∧ vp_in (x3 + 2) L ∧ vp_in (x3 + 3) L ∧ vp_in (x3 + 4) L ∧ vp_in (x3 + 5) L) (hcs : cells + 611 ≤ 603072 ∧ slots + 13324 ≤ 7262314) (kk : lj_G p l e s m below meth c D dA di dz b1 h adm b a x3 (cells + 611) (slots + 13324) 1401) : lj_G p l e s m below meth c D dA di dz b1 h adm b a x3 cells slots 1388 := by
  intro ad σ μ S H locs ls J hR hM ha hl
  subst ha
  obtain ⟨hx, hb, hr, hml, hown, hts, hX, hbl, hlocks, -⟩ := id C0
  have hta : ∀ w ∈ lw_all, w.before #[Value.ref b] s = true := fun w hw => hts w (lw_all_tbl hw)
  have CF : CallFix p m c cL_law 4 s #[Value.ref b] lw_all R_law := ⟨hx, hb, hml, hown, hta⟩
  have hbA : ¬ (fun q : Nat => s.heap.size ≤ q) b := Nat.not_le.mpr hbl
  have hk : cl_k σ 19 = 0 := hR.1.2.1.1
  have h19 : 19 ≤ cl_n σ := Nat.le_trans (by decide) hR.1.1
  obtain ⟨h1, h2, h3, h4, h5⟩ := hin
  obtain ⟨r, e1, e2⟩ := pq_status hR hM 
  refine lv_aload_n hx hb dL_law_1388 rfl (lv_at hl 2 rfl) ?_
  refine lj_ci (va_runV (As := []) (rest := []) CF (cm_X0_status l D dA ad (lj_c s h adm) (ad 19) 19  σ r  ⟨rfl, by decide, h19⟩ e1) (cwV 0 hta (lw_V q1604 q1605 q1606 q77 q1607) rfl rfl rfl ⟨rfl, cd_X0_status⟩ ⟨Nat.le_of_ble_eq_true rfl, Nat.le_of_ble_eq_true rfl⟩) (lj_pc F J [] hk h19) rfl rfl hl.1 rfl (lv_room (Nat.le_of_ble_eq_true rfl)) dL_law_1389 ⟨by show cells + 0 ≤ 603072; omega, by show slots + 0 ≤ 7262314; omega⟩) F J (fun ad2 H locs hag J => ?_)
  refine lv_aload_n hx hb dL_law_1392 rfl (lv_at hl 3 rfl) ?_
  refine lj_mi (va_runV (As := []) (rest := [.int r]) CF (mo_m_status l D di dz h adm (lj_m h adm)  μ r  e2) (cwV 0 hta (lw_V q2049 q2050 q2051 q83 q2052) rfl rfl rfl mo_d_status ⟨Nat.le_of_ble_eq_true rfl, Nat.le_of_ble_eq_true rfl⟩) (lj_pm F J []) rfl rfl hl.1 rfl (lv_room (Nat.le_of_ble_eq_true rfl)) dL_law_1393 ⟨by show cells + 0 + 0 ≤ 603072; omega, by show slots + 0 + 0 ≤ 7262314; omega⟩) F J (fun H locs J => ?_)
  refine lv_icmp_eq (tgt := 1401) hx hb dL_law_1396 (by decide) (fun _ => ?_) (fun hne => absurd rfl hne)
  refine W.widen (k := cells + 611) (n := slots + 13324) (by show cells + 0 + 0 ≤ cells + 611; omega) (by show slots + 0 + 0 ≤ slots + 13324; omega) ?_
  exact kk ad2 σ μ S H locs ls J hR hM ((hag 19 h19).trans rfl) hl
