/-! the law, its cases: date, ill, window, become, undo, person, contact, days, givers -/
set_option maxRecDepth 100000
set_option maxHeartbeats 4000000 in
theorem lc_9 {p : Program} {e : Env} {s : State} {m : MethodId} {below : List Frame} {meth : Method} {c : Code} {D : va_G} {dA : Nat → ClassId} {di dz : ClassId} {b1 : Nat → Nat} {h : Nat} {adm : Nat → Nat} {b a : Nat} {x3 : Int32} {cells slots L : Nat} {xs : Nat → Int32} (l : Launch) (hlt : l.stackTraces = false) (C0 : lw_At p s m meth c b L xs) (F : lj_F D dA di dz b1 s h adm) (hin : vp_in (x3 + 1) L ∧ vp_in (x3 + 2) L ∧ vp_in (x3 + 3) L ∧ vp_in (x3 + 4) L ∧ vp_in (x3 + 5) L) (hcs : cells + 611 ≤ 603072 ∧ slots + 13324 ≤ 7262314) (kk : lj_G p l e s m below meth c D dA di dz b1 h adm b a x3 (cells + 611) (slots + 13324) 1401) : lj_G p l e s m below meth c D dA di dz b1 h adm b a x3 cells slots 479 := by
  intro ad σ μ S H locs ls J hR hM ha hl
  subst ha
  obtain ⟨hx, hb, hr, hml, hown, hts, hX, hbl, hlocks, -⟩ := id C0
  have hta : ∀ w ∈ lw_all, w.before #[Value.ref b] s = true := fun w hw => hts w (lw_all_tbl hw)
  have CF : CallFix p m c cL_law 4 s #[Value.ref b] lw_all R_law := ⟨hx, hb, hml, hown, hta⟩
  have hbA : ¬ (fun q : Nat => s.heap.size ≤ q) b := Nat.not_le.mpr hbl
  have hk : cl_k σ 19 = 0 := hR.1.2.1.1
  have h19 : 19 ≤ cl_n σ := Nat.le_trans (by decide) hR.1.1
  obtain ⟨h1, h2, h3, h4, h5⟩ := hin
  obtain ⟨S2, r, σ', μ', e1, e2, hR2, hM2⟩ := pd_date hR hM (xs (x3 + 1).toNatClampNeg) (xs (x3 + 2).toNatClampNeg)
  refine lv_aload_n hx hb dL_law_479 rfl (lv_at hl 2 rfl) ?_
  refine lv_aload_n hx hb dL_law_480 rfl (lv_at hl 1 rfl) ?_
  refine lv_iload_n hx hb dL_law_481 rfl (lv_at hl 0 rfl) ?_
  refine lv_iconst (v := 1) hx hb dL_law_482 (by decide) ?_
  refine lv_iadd hx hb dL_law_483 ?_
  refine va_sld hx hb hX hbl hbA J.2.2 h1 dL_law_484 ?_
  refine lv_aload_n hx hb dL_law_485 rfl (lv_at hl 1 rfl) ?_
  refine lv_iload_n hx hb dL_law_486 rfl (lv_at hl 0 rfl) ?_
  refine lv_iconst (v := 2) hx hb dL_law_487 (by decide) ?_
  refine lv_iadd hx hb dL_law_488 ?_
  refine va_sld hx hb hX hbl hbA J.2.2 h2 dL_law_489 ?_
  refine lj_ci (va_runV (As := [.int (xs (x3 + 1).toNatClampNeg), .int (xs (x3 + 2).toNatClampNeg)]) (rest := []) CF (cm_X0_date l D dA ad (lj_c s h adm) (ad 19) 19 (xs (x3 + 1).toNatClampNeg) (xs (x3 + 2).toNatClampNeg) σ r σ' ⟨rfl, by decide, h19⟩ e1) (cwV 2 hta (lw_V q1079 q1080 q1081 q77 q1082) rfl rfl rfl ⟨rfl, cd_X0_date⟩ ⟨Nat.le_of_ble_eq_true rfl, Nat.le_of_ble_eq_true rfl⟩) (lj_pc F J [.int (xs (x3 + 1).toNatClampNeg), .int (xs (x3 + 2).toNatClampNeg)] hk h19) rfl rfl hl.1 rfl (lv_room (Nat.le_of_ble_eq_true rfl)) dL_law_490 ⟨by show cells + 7 ≤ 603072; omega, by show slots + 67 ≤ 7262314; omega⟩) F J (fun ad2 H locs hag J => ?_)
  refine lv_aload_n hx hb dL_law_493 rfl (lv_at hl 3 rfl) ?_
  refine lv_aload_n hx hb dL_law_494 rfl (lv_at hl 1 rfl) ?_
  refine lv_iload_n hx hb dL_law_495 rfl (lv_at hl 0 rfl) ?_
  refine lv_iconst (v := 1) hx hb dL_law_496 (by decide) ?_
  refine lv_iadd hx hb dL_law_497 ?_
  refine va_sld hx hb hX hbl hbA J.2.2 h1 dL_law_498 ?_
  refine lv_aload_n hx hb dL_law_499 rfl (lv_at hl 1 rfl) ?_
  refine lv_iload_n hx hb dL_law_500 rfl (lv_at hl 0 rfl) ?_
  refine lv_iconst (v := 2) hx hb dL_law_501 (by decide) ?_
  refine lv_iadd hx hb dL_law_502 ?_
  refine va_sld hx hb hX hbl hbA J.2.2 h2 dL_law_503 ?_
  refine lj_mi (va_runV (As := [.int (xs (x3 + 1).toNatClampNeg), .int (xs (x3 + 2).toNatClampNeg)]) (rest := [.int r]) CF (mo_m_date l D di dz h adm (lj_m h adm) (xs (x3 + 1).toNatClampNeg) (xs (x3 + 2).toNatClampNeg) μ r μ' e2) (cwV 2 hta (lw_V q1831 q1832 q1833 q83 q1834) rfl rfl rfl mo_d_date ⟨Nat.le_of_ble_eq_true rfl, Nat.le_of_ble_eq_true rfl⟩) (lj_pm F J [.int (xs (x3 + 1).toNatClampNeg), .int (xs (x3 + 2).toNatClampNeg)]) rfl rfl hl.1 rfl (lv_room (Nat.le_of_ble_eq_true rfl)) dL_law_504 ⟨by show cells + 7 + 0 ≤ 603072; omega, by show slots + 67 + 0 ≤ 7262314; omega⟩) F J (fun H locs J => ?_)
  refine lv_icmp_eq (tgt := 1401) hx hb dL_law_507 (by decide) (fun _ => ?_) (fun hne => absurd rfl hne)
  refine W.widen (k := cells + 611) (n := slots + 13324) (by show cells + 7 + 0 ≤ cells + 611; omega) (by show slots + 67 + 0 ≤ slots + 13324; omega) ?_
  exact kk ad2 σ' μ' S2 H locs ls J hR2 hM2 ((hag 19 h19).trans rfl) hl
set_option maxHeartbeats 4000000 in
theorem lc_10 {p : Program} {e : Env} {s : State} {m : MethodId} {below : List Frame} {meth : Method} {c : Code} {D : va_G} {dA : Nat → ClassId} {di dz : ClassId} {b1 : Nat → Nat} {h : Nat} {adm : Nat → Nat} {b a : Nat} {x3 : Int32} {cells slots L : Nat} {xs : Nat → Int32} (l : Launch) (hlt : l.stackTraces = false) (C0 : lw_At p s m meth c b L xs) (F : lj_F D dA di dz b1 s h adm) (hin : vp_in (x3 + 1) L ∧ vp_in (x3 + 2) L ∧ vp_in (x3 + 3) L ∧ vp_in (x3 + 4) L ∧ vp_in (x3 + 5) L) (hcs : cells + 611 ≤ 603072 ∧ slots + 13324 ≤ 7262314) (kk : lj_G p l e s m below meth c D dA di dz b1 h adm b a x3 (cells + 611) (slots + 13324) 1401) : lj_G p l e s m below meth c D dA di dz b1 h adm b a x3 cells slots 512 := by
  intro ad σ μ S H locs ls J hR hM ha hl
  subst ha
  obtain ⟨hx, hb, hr, hml, hown, hts, hX, hbl, hlocks, -⟩ := id C0
  have hta : ∀ w ∈ lw_all, w.before #[Value.ref b] s = true := fun w hw => hts w (lw_all_tbl hw)
  have CF : CallFix p m c cL_law 4 s #[Value.ref b] lw_all R_law := ⟨hx, hb, hml, hown, hta⟩
  have hbA : ¬ (fun q : Nat => s.heap.size ≤ q) b := Nat.not_le.mpr hbl
  have hk : cl_k σ 19 = 0 := hR.1.2.1.1
  have h19 : 19 ≤ cl_n σ := Nat.le_trans (by decide) hR.1.1
  obtain ⟨h1, h2, h3, h4, h5⟩ := hin
  obtain ⟨S2, r, σ', μ', e1, e2, hR2, hM2⟩ := pd_ill hR hM (xs (x3 + 1).toNatClampNeg) (xs (x3 + 2).toNatClampNeg)
  refine lv_aload_n hx hb dL_law_512 rfl (lv_at hl 2 rfl) ?_
  refine lv_aload_n hx hb dL_law_513 rfl (lv_at hl 1 rfl) ?_
  refine lv_iload_n hx hb dL_law_514 rfl (lv_at hl 0 rfl) ?_
  refine lv_iconst (v := 1) hx hb dL_law_515 (by decide) ?_
  refine lv_iadd hx hb dL_law_516 ?_
  refine va_sld hx hb hX hbl hbA J.2.2 h1 dL_law_517 ?_
  refine lv_aload_n hx hb dL_law_518 rfl (lv_at hl 1 rfl) ?_
  refine lv_iload_n hx hb dL_law_519 rfl (lv_at hl 0 rfl) ?_
  refine lv_iconst (v := 2) hx hb dL_law_520 (by decide) ?_
  refine lv_iadd hx hb dL_law_521 ?_
  refine va_sld hx hb hX hbl hbA J.2.2 h2 dL_law_522 ?_
  refine lj_ci (va_runV (As := [.int (xs (x3 + 1).toNatClampNeg), .int (xs (x3 + 2).toNatClampNeg)]) (rest := []) CF (cm_X0_ill l D dA ad (lj_c s h adm) (ad 19) 19 (xs (x3 + 1).toNatClampNeg) (xs (x3 + 2).toNatClampNeg) σ r σ' ⟨rfl, by decide, h19⟩ e1) (cwV 2 hta (lw_V q1084 q1085 q1086 q77 q1087) rfl rfl rfl ⟨rfl, cd_X0_ill⟩ ⟨Nat.le_of_ble_eq_true rfl, Nat.le_of_ble_eq_true rfl⟩) (lj_pc F J [.int (xs (x3 + 1).toNatClampNeg), .int (xs (x3 + 2).toNatClampNeg)] hk h19) rfl rfl hl.1 rfl (lv_room (Nat.le_of_ble_eq_true rfl)) dL_law_523 ⟨by show cells + 7 ≤ 603072; omega, by show slots + 67 ≤ 7262314; omega⟩) F J (fun ad2 H locs hag J => ?_)
  refine lv_aload_n hx hb dL_law_526 rfl (lv_at hl 3 rfl) ?_
  refine lv_aload_n hx hb dL_law_527 rfl (lv_at hl 1 rfl) ?_
  refine lv_iload_n hx hb dL_law_528 rfl (lv_at hl 0 rfl) ?_
  refine lv_iconst (v := 1) hx hb dL_law_529 (by decide) ?_
  refine lv_iadd hx hb dL_law_530 ?_
  refine va_sld hx hb hX hbl hbA J.2.2 h1 dL_law_531 ?_
  refine lv_aload_n hx hb dL_law_532 rfl (lv_at hl 1 rfl) ?_
  refine lv_iload_n hx hb dL_law_533 rfl (lv_at hl 0 rfl) ?_
  refine lv_iconst (v := 2) hx hb dL_law_534 (by decide) ?_
  refine lv_iadd hx hb dL_law_535 ?_
  refine va_sld hx hb hX hbl hbA J.2.2 h2 dL_law_536 ?_
  refine lj_mi (va_runV (As := [.int (xs (x3 + 1).toNatClampNeg), .int (xs (x3 + 2).toNatClampNeg)]) (rest := [.int r]) CF (mo_m_ill l D di dz h adm (lj_m h adm) (xs (x3 + 1).toNatClampNeg) (xs (x3 + 2).toNatClampNeg) μ r μ' e2) (cwV 2 hta (lw_V q1840 q1841 q1842 q83 q1843) rfl rfl rfl mo_d_ill ⟨Nat.le_of_ble_eq_true rfl, Nat.le_of_ble_eq_true rfl⟩) (lj_pm F J [.int (xs (x3 + 1).toNatClampNeg), .int (xs (x3 + 2).toNatClampNeg)]) rfl rfl hl.1 rfl (lv_room (Nat.le_of_ble_eq_true rfl)) dL_law_537 ⟨by show cells + 7 + 0 ≤ 603072; omega, by show slots + 67 + 0 ≤ 7262314; omega⟩) F J (fun H locs J => ?_)
  refine lv_icmp_eq (tgt := 1401) hx hb dL_law_540 (by decide) (fun _ => ?_) (fun hne => absurd rfl hne)
  refine W.widen (k := cells + 611) (n := slots + 13324) (by show cells + 7 + 0 ≤ cells + 611; omega) (by show slots + 67 + 0 ≤ slots + 13324; omega) ?_
  exact kk ad2 σ' μ' S2 H locs ls J hR2 hM2 ((hag 19 h19).trans rfl) hl
set_option maxHeartbeats 4000000 in
theorem lc_11 {p : Program} {e : Env} {s : State} {m : MethodId} {below : List Frame} {meth : Method} {c : Code} {D : va_G} {dA : Nat → ClassId} {di dz : ClassId} {b1 : Nat → Nat} {h : Nat} {adm : Nat → Nat} {b a : Nat} {x3 : Int32} {cells slots L : Nat} {xs : Nat → Int32} (l : Launch) (hlt : l.stackTraces = false) (C0 : lw_At p s m meth c b L xs) (F : lj_F D dA di dz b1 s h adm) (hin : vp_in (x3 + 1) L ∧ vp_in (x3 + 2) L ∧ vp_in (x3 + 3) L ∧ vp_in (x3 + 4) L ∧ vp_in (x3 + 5) L) (hcs : cells + 611 ≤ 603072 ∧ slots + 13324 ≤ 7262314) (kk : lj_G p l e s m below meth c D dA di dz b1 h adm b a x3 (cells + 611) (slots + 13324) 1401) : lj_G p l e s m below meth c D dA di dz b1 h adm b a x3 cells slots 545 := by
  intro ad σ μ S H locs ls J hR hM ha hl
  subst ha
  obtain ⟨hx, hb, hr, hml, hown, hts, hX, hbl, hlocks, -⟩ := id C0
  have hta : ∀ w ∈ lw_all, w.before #[Value.ref b] s = true := fun w hw => hts w (lw_all_tbl hw)
  have CF : CallFix p m c cL_law 4 s #[Value.ref b] lw_all R_law := ⟨hx, hb, hml, hown, hta⟩
  have hbA : ¬ (fun q : Nat => s.heap.size ≤ q) b := Nat.not_le.mpr hbl
  have hk : cl_k σ 19 = 0 := hR.1.2.1.1
  have h19 : 19 ≤ cl_n σ := Nat.le_trans (by decide) hR.1.1
  obtain ⟨h1, h2, h3, h4, h5⟩ := hin
  obtain ⟨S2, r, σ', μ', e1, e2, hR2, hM2⟩ := px_window hR hM (xs (x3 + 1).toNatClampNeg) (xs (x3 + 2).toNatClampNeg)
  refine lv_aload_n hx hb dL_law_545 rfl (lv_at hl 2 rfl) ?_
  refine lv_aload_n hx hb dL_law_546 rfl (lv_at hl 1 rfl) ?_
  refine lv_iload_n hx hb dL_law_547 rfl (lv_at hl 0 rfl) ?_
  refine lv_iconst (v := 1) hx hb dL_law_548 (by decide) ?_
  refine lv_iadd hx hb dL_law_549 ?_
  refine va_sld hx hb hX hbl hbA J.2.2 h1 dL_law_550 ?_
  refine lv_aload_n hx hb dL_law_551 rfl (lv_at hl 1 rfl) ?_
  refine lv_iload_n hx hb dL_law_552 rfl (lv_at hl 0 rfl) ?_
  refine lv_iconst (v := 2) hx hb dL_law_553 (by decide) ?_
  refine lv_iadd hx hb dL_law_554 ?_
  refine va_sld hx hb hX hbl hbA J.2.2 h2 dL_law_555 ?_
  refine lj_ci (va_runV (As := [.int (xs (x3 + 1).toNatClampNeg), .int (xs (x3 + 2).toNatClampNeg)]) (rest := []) CF (cm_X0_window l D dA ad (lj_c s h adm) (ad 19) 19 (xs (x3 + 1).toNatClampNeg) (xs (x3 + 2).toNatClampNeg) σ r σ' ⟨rfl, by decide, h19⟩ e1) (cwV 2 hta (lw_V q1088 q1089 q1090 q77 q1091) rfl rfl rfl ⟨rfl, cd_X0_window⟩ ⟨Nat.le_of_ble_eq_true rfl, Nat.le_of_ble_eq_true rfl⟩) (lj_pc F J [.int (xs (x3 + 1).toNatClampNeg), .int (xs (x3 + 2).toNatClampNeg)] hk h19) rfl rfl hl.1 rfl (lv_room (Nat.le_of_ble_eq_true rfl)) dL_law_556 ⟨by show cells + 18 ≤ 603072; omega, by show slots + 89 ≤ 7262314; omega⟩) F J (fun ad2 H locs hag J => ?_)
  refine lv_aload_n hx hb dL_law_559 rfl (lv_at hl 3 rfl) ?_
  refine lv_aload_n hx hb dL_law_560 rfl (lv_at hl 1 rfl) ?_
  refine lv_iload_n hx hb dL_law_561 rfl (lv_at hl 0 rfl) ?_
  refine lv_iconst (v := 1) hx hb dL_law_562 (by decide) ?_
  refine lv_iadd hx hb dL_law_563 ?_
  refine va_sld hx hb hX hbl hbA J.2.2 h1 dL_law_564 ?_
  refine lv_aload_n hx hb dL_law_565 rfl (lv_at hl 1 rfl) ?_
  refine lv_iload_n hx hb dL_law_566 rfl (lv_at hl 0 rfl) ?_
  refine lv_iconst (v := 2) hx hb dL_law_567 (by decide) ?_
  refine lv_iadd hx hb dL_law_568 ?_
  refine va_sld hx hb hX hbl hbA J.2.2 h2 dL_law_569 ?_
  refine lj_mi (va_runV (As := [.int (xs (x3 + 1).toNatClampNeg), .int (xs (x3 + 2).toNatClampNeg)]) (rest := [.int r]) CF (mo_m_window l D di dz h adm (lj_m h adm) (xs (x3 + 1).toNatClampNeg) (xs (x3 + 2).toNatClampNeg) μ r μ' e2) (cwV 2 hta (lw_V q1844 q1845 q1846 q83 q1847) rfl rfl rfl mo_d_window ⟨Nat.le_of_ble_eq_true rfl, Nat.le_of_ble_eq_true rfl⟩) (lj_pm F J [.int (xs (x3 + 1).toNatClampNeg), .int (xs (x3 + 2).toNatClampNeg)]) rfl rfl hl.1 rfl (lv_room (Nat.le_of_ble_eq_true rfl)) dL_law_570 ⟨by show cells + 18 + 0 ≤ 603072; omega, by show slots + 89 + 0 ≤ 7262314; omega⟩) F J (fun H locs J => ?_)
  refine lv_icmp_eq (tgt := 1401) hx hb dL_law_573 (by decide) (fun _ => ?_) (fun hne => absurd rfl hne)
  refine W.widen (k := cells + 611) (n := slots + 13324) (by show cells + 18 + 0 ≤ cells + 611; omega) (by show slots + 89 + 0 ≤ slots + 13324; omega) ?_
  exact kk ad2 σ' μ' S2 H locs ls J hR2 hM2 ((hag 19 h19).trans rfl) hl
set_option maxHeartbeats 4000000 in
theorem lc_12 {p : Program} {e : Env} {s : State} {m : MethodId} {below : List Frame} {meth : Method} {c : Code} {D : va_G} {dA : Nat → ClassId} {di dz : ClassId} {b1 : Nat → Nat} {h : Nat} {adm : Nat → Nat} {b a : Nat} {x3 : Int32} {cells slots L : Nat} {xs : Nat → Int32} (l : Launch) (hlt : l.stackTraces = false) (C0 : lw_At p s m meth c b L xs) (F : lj_F D dA di dz b1 s h adm) (hin : vp_in (x3 + 1) L ∧ vp_in (x3 + 2) L ∧ vp_in (x3 + 3) L ∧ vp_in (x3 + 4) L ∧ vp_in (x3 + 5) L) (hcs : cells + 611 ≤ 603072 ∧ slots + 13324 ≤ 7262314) (kk : lj_G p l e s m below meth c D dA di dz b1 h adm b a x3 (cells + 611) (slots + 13324) 1401) : lj_G p l e s m below meth c D dA di dz b1 h adm b a x3 cells slots 578 := by
  intro ad σ μ S H locs ls J hR hM ha hl
  subst ha
  obtain ⟨hx, hb, hr, hml, hown, hts, hX, hbl, hlocks, -⟩ := id C0
  have hta : ∀ w ∈ lw_all, w.before #[Value.ref b] s = true := fun w hw => hts w (lw_all_tbl hw)
  have CF : CallFix p m c cL_law 4 s #[Value.ref b] lw_all R_law := ⟨hx, hb, hml, hown, hta⟩
  have hbA : ¬ (fun q : Nat => s.heap.size ≤ q) b := Nat.not_le.mpr hbl
  have hk : cl_k σ 19 = 0 := hR.1.2.1.1
  have h19 : 19 ≤ cl_n σ := Nat.le_trans (by decide) hR.1.1
  obtain ⟨h1, h2, h3, h4, h5⟩ := hin
  obtain ⟨S2, r, σ', μ', e1, e2, hR2, hM2⟩ := px_become hR hM (xs (x3 + 1).toNatClampNeg) (xs (x3 + 2).toNatClampNeg)
  refine lv_aload_n hx hb dL_law_578 rfl (lv_at hl 2 rfl) ?_
  refine lv_aload_n hx hb dL_law_579 rfl (lv_at hl 1 rfl) ?_
  refine lv_iload_n hx hb dL_law_580 rfl (lv_at hl 0 rfl) ?_
  refine lv_iconst (v := 1) hx hb dL_law_581 (by decide) ?_
  refine lv_iadd hx hb dL_law_582 ?_
  refine va_sld hx hb hX hbl hbA J.2.2 h1 dL_law_583 ?_
  refine lv_aload_n hx hb dL_law_584 rfl (lv_at hl 1 rfl) ?_
  refine lv_iload_n hx hb dL_law_585 rfl (lv_at hl 0 rfl) ?_
  refine lv_iconst (v := 2) hx hb dL_law_586 (by decide) ?_
  refine lv_iadd hx hb dL_law_587 ?_
  refine va_sld hx hb hX hbl hbA J.2.2 h2 dL_law_588 ?_
  refine lj_ci (va_runV (As := [.int (xs (x3 + 1).toNatClampNeg), .int (xs (x3 + 2).toNatClampNeg)]) (rest := []) CF (cm_X0_become l D dA ad (lj_c s h adm) (ad 19) 19 (xs (x3 + 1).toNatClampNeg) (xs (x3 + 2).toNatClampNeg) σ r σ' ⟨rfl, by decide, h19⟩ e1) (cwV 2 hta (lw_V q1098 q1099 q1100 q77 q1101) rfl rfl rfl ⟨rfl, cd_X0_become⟩ ⟨Nat.le_of_ble_eq_true rfl, Nat.le_of_ble_eq_true rfl⟩) (lj_pc F J [.int (xs (x3 + 1).toNatClampNeg), .int (xs (x3 + 2).toNatClampNeg)] hk h19) rfl rfl hl.1 rfl (lv_room (Nat.le_of_ble_eq_true rfl)) dL_law_589 ⟨by show cells + 19 ≤ 603072; omega, by show slots + 90 ≤ 7262314; omega⟩) F J (fun ad2 H locs hag J => ?_)
  refine lv_aload_n hx hb dL_law_592 rfl (lv_at hl 3 rfl) ?_
  refine lv_aload_n hx hb dL_law_593 rfl (lv_at hl 1 rfl) ?_
  refine lv_iload_n hx hb dL_law_594 rfl (lv_at hl 0 rfl) ?_
  refine lv_iconst (v := 1) hx hb dL_law_595 (by decide) ?_
  refine lv_iadd hx hb dL_law_596 ?_
  refine va_sld hx hb hX hbl hbA J.2.2 h1 dL_law_597 ?_
  refine lv_aload_n hx hb dL_law_598 rfl (lv_at hl 1 rfl) ?_
  refine lv_iload_n hx hb dL_law_599 rfl (lv_at hl 0 rfl) ?_
  refine lv_iconst (v := 2) hx hb dL_law_600 (by decide) ?_
  refine lv_iadd hx hb dL_law_601 ?_
  refine va_sld hx hb hX hbl hbA J.2.2 h2 dL_law_602 ?_
  refine lj_mi (va_runV (As := [.int (xs (x3 + 1).toNatClampNeg), .int (xs (x3 + 2).toNatClampNeg)]) (rest := [.int r]) CF (mo_m_become l D di dz h adm (lj_m h adm) (xs (x3 + 1).toNatClampNeg) (xs (x3 + 2).toNatClampNeg) μ r μ' e2) (cwV 2 hta (lw_V q1852 q1853 q1854 q83 q1855) rfl rfl rfl mo_d_become ⟨Nat.le_of_ble_eq_true rfl, Nat.le_of_ble_eq_true rfl⟩) (lj_pm F J [.int (xs (x3 + 1).toNatClampNeg), .int (xs (x3 + 2).toNatClampNeg)]) rfl rfl hl.1 rfl (lv_room (Nat.le_of_ble_eq_true rfl)) dL_law_603 ⟨by show cells + 19 + 0 ≤ 603072; omega, by show slots + 90 + 0 ≤ 7262314; omega⟩) F J (fun H locs J => ?_)
  refine lv_icmp_eq (tgt := 1401) hx hb dL_law_606 (by decide) (fun _ => ?_) (fun hne => absurd rfl hne)
  refine W.widen (k := cells + 611) (n := slots + 13324) (by show cells + 19 + 0 ≤ cells + 611; omega) (by show slots + 90 + 0 ≤ slots + 13324; omega) ?_
  exact kk ad2 σ' μ' S2 H locs ls J hR2 hM2 ((hag 19 h19).trans rfl) hl
set_option maxHeartbeats 4000000 in
theorem lc_13 {p : Program} {e : Env} {s : State} {m : MethodId} {below : List Frame} {meth : Method} {c : Code} {D : va_G} {dA : Nat → ClassId} {di dz : ClassId} {b1 : Nat → Nat} {h : Nat} {adm : Nat → Nat} {b a : Nat} {x3 : Int32} {cells slots L : Nat} {xs : Nat → Int32} (l : Launch) (hlt : l.stackTraces = false) (C0 : lw_At p s m meth c b L xs) (F : lj_F D dA di dz b1 s h adm) (hin : vp_in (x3 + 1) L ∧ vp_in (x3 + 2) L ∧ vp_in (x3 + 3) L ∧ vp_in (x3 + 4) L ∧ vp_in (x3 + 5) L) (hcs : cells + 611 ≤ 603072 ∧ slots + 13324 ≤ 7262314) (kk : lj_G p l e s m below meth c D dA di dz b1 h adm b a x3 (cells + 611) (slots + 13324) 1401) : lj_G p l e s m below meth c D dA di dz b1 h adm b a x3 cells slots 611 := by
  intro ad σ μ S H locs ls J hR hM ha hl
  subst ha
  obtain ⟨hx, hb, hr, hml, hown, hts, hX, hbl, hlocks, -⟩ := id C0
  have hta : ∀ w ∈ lw_all, w.before #[Value.ref b] s = true := fun w hw => hts w (lw_all_tbl hw)
  have CF : CallFix p m c cL_law 4 s #[Value.ref b] lw_all R_law := ⟨hx, hb, hml, hown, hta⟩
  have hbA : ¬ (fun q : Nat => s.heap.size ≤ q) b := Nat.not_le.mpr hbl
  have hk : cl_k σ 19 = 0 := hR.1.2.1.1
  have h19 : 19 ≤ cl_n σ := Nat.le_trans (by decide) hR.1.1
  obtain ⟨h1, h2, h3, h4, h5⟩ := hin
  obtain ⟨S2, r, σ', μ', e1, e2, hR2, hM2⟩ := po_undo hR hM 
  refine lv_aload_n hx hb dL_law_611 rfl (lv_at hl 2 rfl) ?_
  refine lj_ci (va_runV (As := []) (rest := []) CF (cm_X0_undo l D dA ad (lj_c s h adm) (ad 19) 19  σ r σ' ⟨rfl, by decide, h19⟩ e1) (cwV 0 hta (lw_V q1122 q1123 q1124 q77 q1125) rfl rfl rfl ⟨rfl, cd_X0_undo⟩ ⟨Nat.le_of_ble_eq_true rfl, Nat.le_of_ble_eq_true rfl⟩) (lj_pc F J [] hk h19) rfl rfl hl.1 rfl (lv_room (Nat.le_of_ble_eq_true rfl)) dL_law_612 ⟨by show cells + 0 ≤ 603072; omega, by show slots + 0 ≤ 7262314; omega⟩) F J (fun ad2 H locs hag J => ?_)
  refine lv_aload_n hx hb dL_law_615 rfl (lv_at hl 3 rfl) ?_
  refine lj_mi (va_runV (As := []) (rest := [.int r]) CF (mo_m_undo l D di dz h adm (lj_m h adm)  μ r μ' e2) (cwV 0 hta (lw_V q1856 q1857 q1858 q83 q1859) rfl rfl rfl mo_d_undo ⟨Nat.le_of_ble_eq_true rfl, Nat.le_of_ble_eq_true rfl⟩) (lj_pm F J []) rfl rfl hl.1 rfl (lv_room (Nat.le_of_ble_eq_true rfl)) dL_law_616 ⟨by show cells + 0 + 0 ≤ 603072; omega, by show slots + 0 + 0 ≤ 7262314; omega⟩) F J (fun H locs J => ?_)
  refine lv_icmp_eq (tgt := 1401) hx hb dL_law_619 (by decide) (fun _ => ?_) (fun hne => absurd rfl hne)
  refine W.widen (k := cells + 611) (n := slots + 13324) (by show cells + 0 + 0 ≤ cells + 611; omega) (by show slots + 0 + 0 ≤ slots + 13324; omega) ?_
  exact kk ad2 σ' μ' S2 H locs ls J hR2 hM2 ((hag 19 h19).trans rfl) hl
set_option maxHeartbeats 4000000 in
theorem lc_14 {p : Program} {e : Env} {s : State} {m : MethodId} {below : List Frame} {meth : Method} {c : Code} {D : va_G} {dA : Nat → ClassId} {di dz : ClassId} {b1 : Nat → Nat} {h : Nat} {adm : Nat → Nat} {b a : Nat} {x3 : Int32} {cells slots L : Nat} {xs : Nat → Int32} (l : Launch) (hlt : l.stackTraces = false) (C0 : lw_At p s m meth c b L xs) (F : lj_F D dA di dz b1 s h adm) (hin : vp_in (x3 + 1) L ∧ vp_in (x3 + 2) L ∧ vp_in (x3 + 3) L ∧ vp_in (x3 + 4) L ∧ vp_in (x3 + 5) L) (hcs : cells + 611 ≤ 603072 ∧ slots + 13324 ≤ 7262314) (kk : lj_G p l e s m below meth c D dA di dz b1 h adm b a x3 (cells + 611) (slots + 13324) 1401) : lj_G p l e s m below meth c D dA di dz b1 h adm b a x3 cells slots 624 := by
  intro ad σ μ S H locs ls J hR hM ha hl
  subst ha
  obtain ⟨hx, hb, hr, hml, hown, hts, hX, hbl, hlocks, -⟩ := id C0
  have hta : ∀ w ∈ lw_all, w.before #[Value.ref b] s = true := fun w hw => hts w (lw_all_tbl hw)
  have CF : CallFix p m c cL_law 4 s #[Value.ref b] lw_all R_law := ⟨hx, hb, hml, hown, hta⟩
  have hbA : ¬ (fun q : Nat => s.heap.size ≤ q) b := Nat.not_le.mpr hbl
  have hk : cl_k σ 19 = 0 := hR.1.2.1.1
  have h19 : 19 ≤ cl_n σ := Nat.le_trans (by decide) hR.1.1
  obtain ⟨h1, h2, h3, h4, h5⟩ := hin
  obtain ⟨r, e1, e2⟩ := pr_person hR hM (xs (x3 + 1).toNatClampNeg) (xs (x3 + 2).toNatClampNeg)
  refine lv_aload_n hx hb dL_law_624 rfl (lv_at hl 2 rfl) ?_
  refine lv_aload_n hx hb dL_law_625 rfl (lv_at hl 1 rfl) ?_
  refine lv_iload_n hx hb dL_law_626 rfl (lv_at hl 0 rfl) ?_
  refine lv_iconst (v := 1) hx hb dL_law_627 (by decide) ?_
  refine lv_iadd hx hb dL_law_628 ?_
  refine va_sld hx hb hX hbl hbA J.2.2 h1 dL_law_629 ?_
  refine lv_aload_n hx hb dL_law_630 rfl (lv_at hl 1 rfl) ?_
  refine lv_iload_n hx hb dL_law_631 rfl (lv_at hl 0 rfl) ?_
  refine lv_iconst (v := 2) hx hb dL_law_632 (by decide) ?_
  refine lv_iadd hx hb dL_law_633 ?_
  refine va_sld hx hb hX hbl hbA J.2.2 h2 dL_law_634 ?_
  refine lj_ci (va_runV (As := [.int (xs (x3 + 1).toNatClampNeg), .int (xs (x3 + 2).toNatClampNeg)]) (rest := []) CF (cm_X0_person l D dA ad (lj_c s h adm) (ad 19) 19 (xs (x3 + 1).toNatClampNeg) (xs (x3 + 2).toNatClampNeg) σ r  ⟨rfl, by decide, h19⟩ e1) (cwV 2 hta (lw_V q1126 q1127 q1128 q77 q1129) rfl rfl rfl ⟨rfl, cd_X0_person⟩ ⟨Nat.le_of_ble_eq_true rfl, Nat.le_of_ble_eq_true rfl⟩) (lj_pc F J [.int (xs (x3 + 1).toNatClampNeg), .int (xs (x3 + 2).toNatClampNeg)] hk h19) rfl rfl hl.1 rfl (lv_room (Nat.le_of_ble_eq_true rfl)) dL_law_635 ⟨by show cells + 0 ≤ 603072; omega, by show slots + 0 ≤ 7262314; omega⟩) F J (fun ad2 H locs hag J => ?_)
  refine lv_aload_n hx hb dL_law_638 rfl (lv_at hl 3 rfl) ?_
  refine lv_aload_n hx hb dL_law_639 rfl (lv_at hl 1 rfl) ?_
  refine lv_iload_n hx hb dL_law_640 rfl (lv_at hl 0 rfl) ?_
  refine lv_iconst (v := 1) hx hb dL_law_641 (by decide) ?_
  refine lv_iadd hx hb dL_law_642 ?_
  refine va_sld hx hb hX hbl hbA J.2.2 h1 dL_law_643 ?_
  refine lv_aload_n hx hb dL_law_644 rfl (lv_at hl 1 rfl) ?_
  refine lv_iload_n hx hb dL_law_645 rfl (lv_at hl 0 rfl) ?_
  refine lv_iconst (v := 2) hx hb dL_law_646 (by decide) ?_
  refine lv_iadd hx hb dL_law_647 ?_
  refine va_sld hx hb hX hbl hbA J.2.2 h2 dL_law_648 ?_
  refine lj_mi (va_runV (As := [.int (xs (x3 + 1).toNatClampNeg), .int (xs (x3 + 2).toNatClampNeg)]) (rest := [.int r]) CF (mo_m_person l D di dz h adm (lj_m h adm) (xs (x3 + 1).toNatClampNeg) (xs (x3 + 2).toNatClampNeg) μ r  e2) (cwV 2 hta (lw_V q1860 q1861 q1862 q83 q1863) rfl rfl rfl mo_d_person ⟨Nat.le_of_ble_eq_true rfl, Nat.le_of_ble_eq_true rfl⟩) (lj_pm F J [.int (xs (x3 + 1).toNatClampNeg), .int (xs (x3 + 2).toNatClampNeg)]) rfl rfl hl.1 rfl (lv_room (Nat.le_of_ble_eq_true rfl)) dL_law_649 ⟨by show cells + 0 + 0 ≤ 603072; omega, by show slots + 0 + 0 ≤ 7262314; omega⟩) F J (fun H locs J => ?_)
  refine lv_icmp_eq (tgt := 1401) hx hb dL_law_652 (by decide) (fun _ => ?_) (fun hne => absurd rfl hne)
  refine W.widen (k := cells + 611) (n := slots + 13324) (by show cells + 0 + 0 ≤ cells + 611; omega) (by show slots + 0 + 0 ≤ slots + 13324; omega) ?_
  exact kk ad2 σ μ S H locs ls J hR hM ((hag 19 h19).trans rfl) hl
set_option maxHeartbeats 4000000 in
theorem lc_15 {p : Program} {e : Env} {s : State} {m : MethodId} {below : List Frame} {meth : Method} {c : Code} {D : va_G} {dA : Nat → ClassId} {di dz : ClassId} {b1 : Nat → Nat} {h : Nat} {adm : Nat → Nat} {b a : Nat} {x3 : Int32} {cells slots L : Nat} {xs : Nat → Int32} (l : Launch) (hlt : l.stackTraces = false) (C0 : lw_At p s m meth c b L xs) (F : lj_F D dA di dz b1 s h adm) (hin : vp_in (x3 + 1) L ∧ vp_in (x3 + 2) L ∧ vp_in (x3 + 3) L ∧ vp_in (x3 + 4) L ∧ vp_in (x3 + 5) L) (hcs : cells + 611 ≤ 603072 ∧ slots + 13324 ≤ 7262314) (kk : lj_G p l e s m below meth c D dA di dz b1 h adm b a x3 (cells + 611) (slots + 13324) 1401) : lj_G p l e s m below meth c D dA di dz b1 h adm b a x3 cells slots 657 := by
  intro ad σ μ S H locs ls J hR hM ha hl
  subst ha
  obtain ⟨hx, hb, hr, hml, hown, hts, hX, hbl, hlocks, -⟩ := id C0
  have hta : ∀ w ∈ lw_all, w.before #[Value.ref b] s = true := fun w hw => hts w (lw_all_tbl hw)
  have CF : CallFix p m c cL_law 4 s #[Value.ref b] lw_all R_law := ⟨hx, hb, hml, hown, hta⟩
  have hbA : ¬ (fun q : Nat => s.heap.size ≤ q) b := Nat.not_le.mpr hbl
  have hk : cl_k σ 19 = 0 := hR.1.2.1.1
  have h19 : 19 ≤ cl_n σ := Nat.le_trans (by decide) hR.1.1
  obtain ⟨h1, h2, h3, h4, h5⟩ := hin
  obtain ⟨r, e1, e2⟩ := pq_contact hR hM (xs (x3 + 1).toNatClampNeg) (xs (x3 + 2).toNatClampNeg)
  refine lv_aload_n hx hb dL_law_657 rfl (lv_at hl 2 rfl) ?_
  refine lv_aload_n hx hb dL_law_658 rfl (lv_at hl 1 rfl) ?_
  refine lv_iload_n hx hb dL_law_659 rfl (lv_at hl 0 rfl) ?_
  refine lv_iconst (v := 1) hx hb dL_law_660 (by decide) ?_
  refine lv_iadd hx hb dL_law_661 ?_
  refine va_sld hx hb hX hbl hbA J.2.2 h1 dL_law_662 ?_
  refine lv_aload_n hx hb dL_law_663 rfl (lv_at hl 1 rfl) ?_
  refine lv_iload_n hx hb dL_law_664 rfl (lv_at hl 0 rfl) ?_
  refine lv_iconst (v := 2) hx hb dL_law_665 (by decide) ?_
  refine lv_iadd hx hb dL_law_666 ?_
  refine va_sld hx hb hX hbl hbA J.2.2 h2 dL_law_667 ?_
  refine lj_ci (va_runV (As := [.int (xs (x3 + 1).toNatClampNeg), .int (xs (x3 + 2).toNatClampNeg)]) (rest := []) CF (cm_X0_contact l D dA ad (lj_c s h adm) (ad 19) 19 (xs (x3 + 1).toNatClampNeg) (xs (x3 + 2).toNatClampNeg) σ r  ⟨rfl, by decide, h19⟩ e1) (cwV 2 hta (lw_V q1143 q1144 q1145 q77 q1146) rfl rfl rfl ⟨rfl, cd_X0_contact⟩ ⟨Nat.le_of_ble_eq_true rfl, Nat.le_of_ble_eq_true rfl⟩) (lj_pc F J [.int (xs (x3 + 1).toNatClampNeg), .int (xs (x3 + 2).toNatClampNeg)] hk h19) rfl rfl hl.1 rfl (lv_room (Nat.le_of_ble_eq_true rfl)) dL_law_668 ⟨by show cells + 0 ≤ 603072; omega, by show slots + 0 ≤ 7262314; omega⟩) F J (fun ad2 H locs hag J => ?_)
  refine lv_aload_n hx hb dL_law_671 rfl (lv_at hl 3 rfl) ?_
  refine lv_aload_n hx hb dL_law_672 rfl (lv_at hl 1 rfl) ?_
  refine lv_iload_n hx hb dL_law_673 rfl (lv_at hl 0 rfl) ?_
  refine lv_iconst (v := 1) hx hb dL_law_674 (by decide) ?_
  refine lv_iadd hx hb dL_law_675 ?_
  refine va_sld hx hb hX hbl hbA J.2.2 h1 dL_law_676 ?_
  refine lv_aload_n hx hb dL_law_677 rfl (lv_at hl 1 rfl) ?_
  refine lv_iload_n hx hb dL_law_678 rfl (lv_at hl 0 rfl) ?_
  refine lv_iconst (v := 2) hx hb dL_law_679 (by decide) ?_
  refine lv_iadd hx hb dL_law_680 ?_
  refine va_sld hx hb hX hbl hbA J.2.2 h2 dL_law_681 ?_
  refine lj_mi (va_runV (As := [.int (xs (x3 + 1).toNatClampNeg), .int (xs (x3 + 2).toNatClampNeg)]) (rest := [.int r]) CF (mo_m_contact l D di dz h adm (lj_m h adm) (xs (x3 + 1).toNatClampNeg) (xs (x3 + 2).toNatClampNeg) μ r  e2) (cwV 2 hta (lw_V q1871 q1872 q1873 q83 q1874) rfl rfl rfl mo_d_contact ⟨Nat.le_of_ble_eq_true rfl, Nat.le_of_ble_eq_true rfl⟩) (lj_pm F J [.int (xs (x3 + 1).toNatClampNeg), .int (xs (x3 + 2).toNatClampNeg)]) rfl rfl hl.1 rfl (lv_room (Nat.le_of_ble_eq_true rfl)) dL_law_682 ⟨by show cells + 0 + 0 ≤ 603072; omega, by show slots + 0 + 0 ≤ 7262314; omega⟩) F J (fun H locs J => ?_)
  refine lv_icmp_eq (tgt := 1401) hx hb dL_law_685 (by decide) (fun _ => ?_) (fun hne => absurd rfl hne)
  refine W.widen (k := cells + 611) (n := slots + 13324) (by show cells + 0 + 0 ≤ cells + 611; omega) (by show slots + 0 + 0 ≤ slots + 13324; omega) ?_
  exact kk ad2 σ μ S H locs ls J hR hM ((hag 19 h19).trans rfl) hl
set_option maxHeartbeats 4000000 in
theorem lc_16 {p : Program} {e : Env} {s : State} {m : MethodId} {below : List Frame} {meth : Method} {c : Code} {D : va_G} {dA : Nat → ClassId} {di dz : ClassId} {b1 : Nat → Nat} {h : Nat} {adm : Nat → Nat} {b a : Nat} {x3 : Int32} {cells slots L : Nat} {xs : Nat → Int32} (l : Launch) (hlt : l.stackTraces = false) (C0 : lw_At p s m meth c b L xs) (F : lj_F D dA di dz b1 s h adm) (hin : vp_in (x3 + 1) L ∧ vp_in (x3 + 2) L ∧ vp_in (x3 + 3) L ∧ vp_in (x3 + 4) L ∧ vp_in (x3 + 5) L) (hcs : cells + 611 ≤ 603072 ∧ slots + 13324 ≤ 7262314) (kk : lj_G p l e s m below meth c D dA di dz b1 h adm b a x3 (cells + 611) (slots + 13324) 1401) : lj_G p l e s m below meth c D dA di dz b1 h adm b a x3 cells slots 690 := by
  intro ad σ μ S H locs ls J hR hM ha hl
  subst ha
  obtain ⟨hx, hb, hr, hml, hown, hts, hX, hbl, hlocks, -⟩ := id C0
  have hta : ∀ w ∈ lw_all, w.before #[Value.ref b] s = true := fun w hw => hts w (lw_all_tbl hw)
  have CF : CallFix p m c cL_law 4 s #[Value.ref b] lw_all R_law := ⟨hx, hb, hml, hown, hta⟩
  have hbA : ¬ (fun q : Nat => s.heap.size ≤ q) b := Nat.not_le.mpr hbl
  have hk : cl_k σ 19 = 0 := hR.1.2.1.1
  have h19 : 19 ≤ cl_n σ := Nat.le_trans (by decide) hR.1.1
  obtain ⟨h1, h2, h3, h4, h5⟩ := hin
  obtain ⟨r, σ', μ', e1, e2, hR2, hM2⟩ := pt_days hR hM (xs (x3 + 1).toNatClampNeg) (xs (x3 + 2).toNatClampNeg) (xs (x3 + 3).toNatClampNeg)
  refine lv_aload_n hx hb dL_law_690 rfl (lv_at hl 2 rfl) ?_
  refine lv_aload_n hx hb dL_law_691 rfl (lv_at hl 1 rfl) ?_
  refine lv_iload_n hx hb dL_law_692 rfl (lv_at hl 0 rfl) ?_
  refine lv_iconst (v := 1) hx hb dL_law_693 (by decide) ?_
  refine lv_iadd hx hb dL_law_694 ?_
  refine va_sld hx hb hX hbl hbA J.2.2 h1 dL_law_695 ?_
  refine lv_aload_n hx hb dL_law_696 rfl (lv_at hl 1 rfl) ?_
  refine lv_iload_n hx hb dL_law_697 rfl (lv_at hl 0 rfl) ?_
  refine lv_iconst (v := 2) hx hb dL_law_698 (by decide) ?_
  refine lv_iadd hx hb dL_law_699 ?_
  refine va_sld hx hb hX hbl hbA J.2.2 h2 dL_law_700 ?_
  refine lv_aload_n hx hb dL_law_701 rfl (lv_at hl 1 rfl) ?_
  refine lv_iload_n hx hb dL_law_702 rfl (lv_at hl 0 rfl) ?_
  refine lv_iconst (v := 3) hx hb dL_law_703 (by decide) ?_
  refine lv_iadd hx hb dL_law_704 ?_
  refine va_sld hx hb hX hbl hbA J.2.2 h3 dL_law_705 ?_
  refine lj_ci (va_runV (As := [.int (xs (x3 + 1).toNatClampNeg), .int (xs (x3 + 2).toNatClampNeg), .int (xs (x3 + 3).toNatClampNeg)]) (rest := []) CF (cm_X0_days l D dA ad (lj_c s h adm) (ad 19) 19 (xs (x3 + 1).toNatClampNeg) (xs (x3 + 2).toNatClampNeg) (xs (x3 + 3).toNatClampNeg) σ r σ' ⟨rfl, by decide, h19⟩ e1) (cwV 3 hta (lw_V q1147 q1148 q1149 q77 q1150) rfl rfl rfl ⟨rfl, cd_X0_days⟩ ⟨Nat.le_of_ble_eq_true rfl, Nat.le_of_ble_eq_true rfl⟩) (lj_pc F J [.int (xs (x3 + 1).toNatClampNeg), .int (xs (x3 + 2).toNatClampNeg), .int (xs (x3 + 3).toNatClampNeg)] hk h19) rfl rfl hl.1 rfl (lv_room (Nat.le_of_ble_eq_true rfl)) dL_law_706 ⟨by show cells + 0 ≤ 603072; omega, by show slots + 0 ≤ 7262314; omega⟩) F J (fun ad2 H locs hag J => ?_)
  refine lv_aload_n hx hb dL_law_709 rfl (lv_at hl 3 rfl) ?_
  refine lv_aload_n hx hb dL_law_710 rfl (lv_at hl 1 rfl) ?_
  refine lv_iload_n hx hb dL_law_711 rfl (lv_at hl 0 rfl) ?_
  refine lv_iconst (v := 1) hx hb dL_law_712 (by decide) ?_
  refine lv_iadd hx hb dL_law_713 ?_
  refine va_sld hx hb hX hbl hbA J.2.2 h1 dL_law_714 ?_
  refine lv_aload_n hx hb dL_law_715 rfl (lv_at hl 1 rfl) ?_
  refine lv_iload_n hx hb dL_law_716 rfl (lv_at hl 0 rfl) ?_
  refine lv_iconst (v := 2) hx hb dL_law_717 (by decide) ?_
  refine lv_iadd hx hb dL_law_718 ?_
  refine va_sld hx hb hX hbl hbA J.2.2 h2 dL_law_719 ?_
  refine lv_aload_n hx hb dL_law_720 rfl (lv_at hl 1 rfl) ?_
  refine lv_iload_n hx hb dL_law_721 rfl (lv_at hl 0 rfl) ?_
  refine lv_iconst (v := 3) hx hb dL_law_722 (by decide) ?_
  refine lv_iadd hx hb dL_law_723 ?_
  refine va_sld hx hb hX hbl hbA J.2.2 h3 dL_law_724 ?_
  refine lj_mi (va_runV (As := [.int (xs (x3 + 1).toNatClampNeg), .int (xs (x3 + 2).toNatClampNeg), .int (xs (x3 + 3).toNatClampNeg)]) (rest := [.int r]) CF (mo_m_days l D di dz h adm (lj_m h adm) (xs (x3 + 1).toNatClampNeg) (xs (x3 + 2).toNatClampNeg) (xs (x3 + 3).toNatClampNeg) μ r μ' e2) (cwV 3 hta (lw_V q1875 q1876 q1877 q83 q1878) rfl rfl rfl mo_d_days ⟨Nat.le_of_ble_eq_true rfl, Nat.le_of_ble_eq_true rfl⟩) (lj_pm F J [.int (xs (x3 + 1).toNatClampNeg), .int (xs (x3 + 2).toNatClampNeg), .int (xs (x3 + 3).toNatClampNeg)]) rfl rfl hl.1 rfl (lv_room (Nat.le_of_ble_eq_true rfl)) dL_law_725 ⟨by show cells + 0 + 0 ≤ 603072; omega, by show slots + 0 + 0 ≤ 7262314; omega⟩) F J (fun H locs J => ?_)
  refine lv_icmp_eq (tgt := 1401) hx hb dL_law_728 (by decide) (fun _ => ?_) (fun hne => absurd rfl hne)
  refine W.widen (k := cells + 611) (n := slots + 13324) (by show cells + 0 + 0 ≤ cells + 611; omega) (by show slots + 0 + 0 ≤ slots + 13324; omega) ?_
  exact kk ad2 σ' μ' S H locs ls J hR2 hM2 ((hag 19 h19).trans rfl) hl
set_option maxHeartbeats 4000000 in
theorem lc_17 {p : Program} {e : Env} {s : State} {m : MethodId} {below : List Frame} {meth : Method} {c : Code} {D : va_G} {dA : Nat → ClassId} {di dz : ClassId} {b1 : Nat → Nat} {h : Nat} {adm : Nat → Nat} {b a : Nat} {x3 : Int32} {cells slots L : Nat} {xs : Nat → Int32} (l : Launch) (hlt : l.stackTraces = false) (C0 : lw_At p s m meth c b L xs) (F : lj_F D dA di dz b1 s h adm) (hin : vp_in (x3 + 1) L ∧ vp_in (x3 + 2) L ∧ vp_in (x3 + 3) L ∧ vp_in (x3 + 4) L ∧ vp_in (x3 + 5) L) (hcs : cells + 611 ≤ 603072 ∧ slots + 13324 ≤ 7262314) (kk : lj_G p l e s m below meth c D dA di dz b1 h adm b a x3 (cells + 611) (slots + 13324) 1401) : lj_G p l e s m below meth c D dA di dz b1 h adm b a x3 cells slots 733 := by
  intro ad σ μ S H locs ls J hR hM ha hl
  subst ha
  obtain ⟨hx, hb, hr, hml, hown, hts, hX, hbl, hlocks, -⟩ := id C0
  have hta : ∀ w ∈ lw_all, w.before #[Value.ref b] s = true := fun w hw => hts w (lw_all_tbl hw)
  have CF : CallFix p m c cL_law 4 s #[Value.ref b] lw_all R_law := ⟨hx, hb, hml, hown, hta⟩
  have hbA : ¬ (fun q : Nat => s.heap.size ≤ q) b := Nat.not_le.mpr hbl
  have hk : cl_k σ 19 = 0 := hR.1.2.1.1
  have h19 : 19 ≤ cl_n σ := Nat.le_trans (by decide) hR.1.1
  obtain ⟨h1, h2, h3, h4, h5⟩ := hin
  obtain ⟨r, σ', μ', e1, e2, hR2, hM2⟩ := pg_givers hR hM (xs (x3 + 1).toNatClampNeg) (xs (x3 + 2).toNatClampNeg) (xs (x3 + 3).toNatClampNeg)
  refine lv_aload_n hx hb dL_law_733 rfl (lv_at hl 2 rfl) ?_
  refine lv_aload_n hx hb dL_law_734 rfl (lv_at hl 1 rfl) ?_
  refine lv_iload_n hx hb dL_law_735 rfl (lv_at hl 0 rfl) ?_
  refine lv_iconst (v := 1) hx hb dL_law_736 (by decide) ?_
  refine lv_iadd hx hb dL_law_737 ?_
  refine va_sld hx hb hX hbl hbA J.2.2 h1 dL_law_738 ?_
  refine lv_aload_n hx hb dL_law_739 rfl (lv_at hl 1 rfl) ?_
  refine lv_iload_n hx hb dL_law_740 rfl (lv_at hl 0 rfl) ?_
  refine lv_iconst (v := 2) hx hb dL_law_741 (by decide) ?_
  refine lv_iadd hx hb dL_law_742 ?_
  refine va_sld hx hb hX hbl hbA J.2.2 h2 dL_law_743 ?_
  refine lv_aload_n hx hb dL_law_744 rfl (lv_at hl 1 rfl) ?_
  refine lv_iload_n hx hb dL_law_745 rfl (lv_at hl 0 rfl) ?_
  refine lv_iconst (v := 3) hx hb dL_law_746 (by decide) ?_
  refine lv_iadd hx hb dL_law_747 ?_
  refine va_sld hx hb hX hbl hbA J.2.2 h3 dL_law_748 ?_
  refine lj_ci (va_runV (As := [.int (xs (x3 + 1).toNatClampNeg), .int (xs (x3 + 2).toNatClampNeg), .int (xs (x3 + 3).toNatClampNeg)]) (rest := []) CF (cm_X0_givers l D dA ad (lj_c s h adm) (ad 19) 19 (xs (x3 + 1).toNatClampNeg) (xs (x3 + 2).toNatClampNeg) (xs (x3 + 3).toNatClampNeg) σ r σ' ⟨rfl, by decide, h19⟩ e1) (cwV 3 hta (lw_V q1205 q1206 q1207 q77 q1208) rfl rfl rfl ⟨rfl, cd_X0_givers⟩ ⟨Nat.le_of_ble_eq_true rfl, Nat.le_of_ble_eq_true rfl⟩) (lj_pc F J [.int (xs (x3 + 1).toNatClampNeg), .int (xs (x3 + 2).toNatClampNeg), .int (xs (x3 + 3).toNatClampNeg)] hk h19) rfl rfl hl.1 rfl (lv_room (Nat.le_of_ble_eq_true rfl)) dL_law_749 ⟨by show cells + 0 ≤ 603072; omega, by show slots + 0 ≤ 7262314; omega⟩) F J (fun ad2 H locs hag J => ?_)
  refine lv_aload_n hx hb dL_law_752 rfl (lv_at hl 3 rfl) ?_
  refine lv_aload_n hx hb dL_law_753 rfl (lv_at hl 1 rfl) ?_
  refine lv_iload_n hx hb dL_law_754 rfl (lv_at hl 0 rfl) ?_
  refine lv_iconst (v := 1) hx hb dL_law_755 (by decide) ?_
  refine lv_iadd hx hb dL_law_756 ?_
  refine va_sld hx hb hX hbl hbA J.2.2 h1 dL_law_757 ?_
  refine lv_aload_n hx hb dL_law_758 rfl (lv_at hl 1 rfl) ?_
  refine lv_iload_n hx hb dL_law_759 rfl (lv_at hl 0 rfl) ?_
  refine lv_iconst (v := 2) hx hb dL_law_760 (by decide) ?_
  refine lv_iadd hx hb dL_law_761 ?_
  refine va_sld hx hb hX hbl hbA J.2.2 h2 dL_law_762 ?_
  refine lv_aload_n hx hb dL_law_763 rfl (lv_at hl 1 rfl) ?_
  refine lv_iload_n hx hb dL_law_764 rfl (lv_at hl 0 rfl) ?_
  refine lv_iconst (v := 3) hx hb dL_law_765 (by decide) ?_
  refine lv_iadd hx hb dL_law_766 ?_
  refine va_sld hx hb hX hbl hbA J.2.2 h3 dL_law_767 ?_
  refine lj_mi (va_runV (As := [.int (xs (x3 + 1).toNatClampNeg), .int (xs (x3 + 2).toNatClampNeg), .int (xs (x3 + 3).toNatClampNeg)]) (rest := [.int r]) CF (mo_m_givers l D di dz h adm (lj_m h adm) (xs (x3 + 1).toNatClampNeg) (xs (x3 + 2).toNatClampNeg) (xs (x3 + 3).toNatClampNeg) μ r μ' e2) (cwV 3 hta (lw_V q1901 q1902 q1903 q83 q1904) rfl rfl rfl mo_d_givers ⟨Nat.le_of_ble_eq_true rfl, Nat.le_of_ble_eq_true rfl⟩) (lj_pm F J [.int (xs (x3 + 1).toNatClampNeg), .int (xs (x3 + 2).toNatClampNeg), .int (xs (x3 + 3).toNatClampNeg)]) rfl rfl hl.1 rfl (lv_room (Nat.le_of_ble_eq_true rfl)) dL_law_768 ⟨by show cells + 0 + 0 ≤ 603072; omega, by show slots + 0 + 0 ≤ 7262314; omega⟩) F J (fun H locs J => ?_)
  refine lv_icmp_eq (tgt := 1401) hx hb dL_law_771 (by decide) (fun _ => ?_) (fun hne => absurd rfl hne)
  refine W.widen (k := cells + 611) (n := slots + 13324) (by show cells + 0 + 0 ≤ cells + 611; omega) (by show slots + 0 + 0 ≤ slots + 13324; omega) ?_
  exact kk ad2 σ' μ' S H locs ls J hR2 hM2 ((hag 19 h19).trans rfl) hl
