/-! the law, its cases: chain, written, accounts, sources, cut, common, spared, fits, tell -/
set_option maxRecDepth 100000
set_option maxHeartbeats 4000000 in
theorem lc_18 {p : Program} {e : Env} {s : State} {m : MethodId} {below : List Frame} {meth : Method} {c : Code} {D : va_G} {dA : Nat → ClassId} {di dz : ClassId} {b1 : Nat → Nat} {h : Nat} {adm : Nat → Nat} {b a : Nat} {x3 : Int32} {cells slots L : Nat} {xs : Nat → Int32} (l : Launch) (hlt : l.stackTraces = false) (C0 : lw_At p s m meth c b L xs) (F : lj_F D dA di dz b1 s h adm) (hin : vp_in (x3 + 1) L ∧ vp_in (x3 + 2) L ∧ vp_in (x3 + 3) L ∧ vp_in (x3 + 4) L ∧ vp_in (x3 + 5) L) (hcs : cells + 611 ≤ 603072 ∧ slots + 13324 ≤ 7262314) (kk : lj_G p l e s m below meth c D dA di dz b1 h adm b a x3 (cells + 611) (slots + 13324) 1401) : lj_G p l e s m below meth c D dA di dz b1 h adm b a x3 cells slots 776 := by
  intro ad σ μ S H locs ls J hR hM ha hl
  subst ha
  obtain ⟨hx, hb, hr, hml, hown, hts, hX, hbl, hlocks, -⟩ := id C0
  have hta : ∀ w ∈ lw_all, w.before #[Value.ref b] s = true := fun w hw => hts w (lw_all_tbl hw)
  have CF : CallFix p m c cL_law 4 s #[Value.ref b] lw_all R_law := ⟨hx, hb, hml, hown, hta⟩
  have hbA : ¬ (fun q : Nat => s.heap.size ≤ q) b := Nat.not_le.mpr hbl
  have hk : cl_k σ 19 = 0 := hR.1.2.1.1
  have h19 : 19 ≤ cl_n σ := Nat.le_trans (by decide) hR.1.1
  obtain ⟨h1, h2, h3, h4, h5⟩ := hin
  obtain ⟨r, σ', μ', e1, e2, hR2, hM2⟩ := cg_chain hR hM (xs (x3 + 1).toNatClampNeg) (xs (x3 + 2).toNatClampNeg) (xs (x3 + 3).toNatClampNeg) (xs (x3 + 4).toNatClampNeg)
  refine lv_aload_n hx hb dL_law_776 rfl (lv_at hl 2 rfl) ?_
  refine lv_aload_n hx hb dL_law_777 rfl (lv_at hl 1 rfl) ?_
  refine lv_iload_n hx hb dL_law_778 rfl (lv_at hl 0 rfl) ?_
  refine lv_iconst (v := 1) hx hb dL_law_779 (by decide) ?_
  refine lv_iadd hx hb dL_law_780 ?_
  refine va_sld hx hb hX hbl hbA J.2.2 h1 dL_law_781 ?_
  refine lv_aload_n hx hb dL_law_782 rfl (lv_at hl 1 rfl) ?_
  refine lv_iload_n hx hb dL_law_783 rfl (lv_at hl 0 rfl) ?_
  refine lv_iconst (v := 2) hx hb dL_law_784 (by decide) ?_
  refine lv_iadd hx hb dL_law_785 ?_
  refine va_sld hx hb hX hbl hbA J.2.2 h2 dL_law_786 ?_
  refine lv_aload_n hx hb dL_law_787 rfl (lv_at hl 1 rfl) ?_
  refine lv_iload_n hx hb dL_law_788 rfl (lv_at hl 0 rfl) ?_
  refine lv_iconst (v := 3) hx hb dL_law_789 (by decide) ?_
  refine lv_iadd hx hb dL_law_790 ?_
  refine va_sld hx hb hX hbl hbA J.2.2 h3 dL_law_791 ?_
  refine lv_aload_n hx hb dL_law_792 rfl (lv_at hl 1 rfl) ?_
  refine lv_iload_n hx hb dL_law_793 rfl (lv_at hl 0 rfl) ?_
  refine lv_iconst (v := 4) hx hb dL_law_794 (by decide) ?_
  refine lv_iadd hx hb dL_law_795 ?_
  refine va_sld hx hb hX hbl hbA J.2.2 h4 dL_law_796 ?_
  refine lj_ci (va_runV (As := [.int (xs (x3 + 1).toNatClampNeg), .int (xs (x3 + 2).toNatClampNeg), .int (xs (x3 + 3).toNatClampNeg), .int (xs (x3 + 4).toNatClampNeg)]) (rest := []) CF (cm_X0_chain l D dA ad (lj_c s h adm) (ad 19) 19 (xs (x3 + 1).toNatClampNeg) (xs (x3 + 2).toNatClampNeg) (xs (x3 + 3).toNatClampNeg) (xs (x3 + 4).toNatClampNeg) σ r σ' ⟨rfl, by decide, h19⟩ e1) (cwV 4 hta (lw_V q1211 q1212 q1213 q77 q1214) rfl rfl rfl ⟨rfl, cd_X0_chain⟩ ⟨Nat.le_of_ble_eq_true rfl, Nat.le_of_ble_eq_true rfl⟩) (lj_pc F J [.int (xs (x3 + 1).toNatClampNeg), .int (xs (x3 + 2).toNatClampNeg), .int (xs (x3 + 3).toNatClampNeg), .int (xs (x3 + 4).toNatClampNeg)] hk h19) rfl rfl hl.1 rfl (lv_room (Nat.le_of_ble_eq_true rfl)) dL_law_797 ⟨by show cells + 0 ≤ 603072; omega, by show slots + 0 ≤ 7262314; omega⟩) F J (fun ad2 H locs hag J => ?_)
  refine lv_aload_n hx hb dL_law_800 rfl (lv_at hl 3 rfl) ?_
  refine lv_aload_n hx hb dL_law_801 rfl (lv_at hl 1 rfl) ?_
  refine lv_iload_n hx hb dL_law_802 rfl (lv_at hl 0 rfl) ?_
  refine lv_iconst (v := 1) hx hb dL_law_803 (by decide) ?_
  refine lv_iadd hx hb dL_law_804 ?_
  refine va_sld hx hb hX hbl hbA J.2.2 h1 dL_law_805 ?_
  refine lv_aload_n hx hb dL_law_806 rfl (lv_at hl 1 rfl) ?_
  refine lv_iload_n hx hb dL_law_807 rfl (lv_at hl 0 rfl) ?_
  refine lv_iconst (v := 2) hx hb dL_law_808 (by decide) ?_
  refine lv_iadd hx hb dL_law_809 ?_
  refine va_sld hx hb hX hbl hbA J.2.2 h2 dL_law_810 ?_
  refine lv_aload_n hx hb dL_law_811 rfl (lv_at hl 1 rfl) ?_
  refine lv_iload_n hx hb dL_law_812 rfl (lv_at hl 0 rfl) ?_
  refine lv_iconst (v := 3) hx hb dL_law_813 (by decide) ?_
  refine lv_iadd hx hb dL_law_814 ?_
  refine va_sld hx hb hX hbl hbA J.2.2 h3 dL_law_815 ?_
  refine lv_aload_n hx hb dL_law_816 rfl (lv_at hl 1 rfl) ?_
  refine lv_iload_n hx hb dL_law_817 rfl (lv_at hl 0 rfl) ?_
  refine lv_iconst (v := 4) hx hb dL_law_818 (by decide) ?_
  refine lv_iadd hx hb dL_law_819 ?_
  refine va_sld hx hb hX hbl hbA J.2.2 h4 dL_law_820 ?_
  refine lj_mi (va_runV (As := [.int (xs (x3 + 1).toNatClampNeg), .int (xs (x3 + 2).toNatClampNeg), .int (xs (x3 + 3).toNatClampNeg), .int (xs (x3 + 4).toNatClampNeg)]) (rest := [.int r]) CF (mo_m_chain l D di dz h adm (lj_m h adm) (xs (x3 + 1).toNatClampNeg) (xs (x3 + 2).toNatClampNeg) (xs (x3 + 3).toNatClampNeg) (xs (x3 + 4).toNatClampNeg) μ r μ' e2) (cwV 4 hta (lw_V q1905 q1906 q1907 q83 q1908) rfl rfl rfl mo_d_chain ⟨Nat.le_of_ble_eq_true rfl, Nat.le_of_ble_eq_true rfl⟩) (lj_pm F J [.int (xs (x3 + 1).toNatClampNeg), .int (xs (x3 + 2).toNatClampNeg), .int (xs (x3 + 3).toNatClampNeg), .int (xs (x3 + 4).toNatClampNeg)]) rfl rfl hl.1 rfl (lv_room (Nat.le_of_ble_eq_true rfl)) dL_law_821 ⟨by show cells + 0 + 0 ≤ 603072; omega, by show slots + 0 + 0 ≤ 7262314; omega⟩) F J (fun H locs J => ?_)
  refine lv_icmp_eq (tgt := 1401) hx hb dL_law_824 (by decide) (fun _ => ?_) (fun hne => absurd rfl hne)
  refine W.widen (k := cells + 611) (n := slots + 13324) (by show cells + 0 + 0 ≤ cells + 611; omega) (by show slots + 0 + 0 ≤ slots + 13324; omega) ?_
  exact kk ad2 σ' μ' S H locs ls J hR2 hM2 ((hag 19 h19).trans rfl) hl
set_option maxHeartbeats 4000000 in
theorem lc_19 {p : Program} {e : Env} {s : State} {m : MethodId} {below : List Frame} {meth : Method} {c : Code} {D : va_G} {dA : Nat → ClassId} {di dz : ClassId} {b1 : Nat → Nat} {h : Nat} {adm : Nat → Nat} {b a : Nat} {x3 : Int32} {cells slots L : Nat} {xs : Nat → Int32} (l : Launch) (hlt : l.stackTraces = false) (C0 : lw_At p s m meth c b L xs) (F : lj_F D dA di dz b1 s h adm) (hin : vp_in (x3 + 1) L ∧ vp_in (x3 + 2) L ∧ vp_in (x3 + 3) L ∧ vp_in (x3 + 4) L ∧ vp_in (x3 + 5) L) (hcs : cells + 611 ≤ 603072 ∧ slots + 13324 ≤ 7262314) (kk : lj_G p l e s m below meth c D dA di dz b1 h adm b a x3 (cells + 611) (slots + 13324) 1401) : lj_G p l e s m below meth c D dA di dz b1 h adm b a x3 cells slots 829 := by
  intro ad σ μ S H locs ls J hR hM ha hl
  subst ha
  obtain ⟨hx, hb, hr, hml, hown, hts, hX, hbl, hlocks, -⟩ := id C0
  have hta : ∀ w ∈ lw_all, w.before #[Value.ref b] s = true := fun w hw => hts w (lw_all_tbl hw)
  have CF : CallFix p m c cL_law 4 s #[Value.ref b] lw_all R_law := ⟨hx, hb, hml, hown, hta⟩
  have hbA : ¬ (fun q : Nat => s.heap.size ≤ q) b := Nat.not_le.mpr hbl
  have hk : cl_k σ 19 = 0 := hR.1.2.1.1
  have h19 : 19 ≤ cl_n σ := Nat.le_trans (by decide) hR.1.1
  obtain ⟨h1, h2, h3, h4, h5⟩ := hin
  obtain ⟨r, σ', μ', e1, e2, hR2, hM2⟩ := sw_written hR hM (xs (x3 + 1).toNatClampNeg) (xs (x3 + 2).toNatClampNeg) (xs (x3 + 3).toNatClampNeg) (xs (x3 + 4).toNatClampNeg)
  refine lv_aload_n hx hb dL_law_829 rfl (lv_at hl 2 rfl) ?_
  refine lv_aload_n hx hb dL_law_830 rfl (lv_at hl 1 rfl) ?_
  refine lv_iload_n hx hb dL_law_831 rfl (lv_at hl 0 rfl) ?_
  refine lv_iconst (v := 1) hx hb dL_law_832 (by decide) ?_
  refine lv_iadd hx hb dL_law_833 ?_
  refine va_sld hx hb hX hbl hbA J.2.2 h1 dL_law_834 ?_
  refine lv_aload_n hx hb dL_law_835 rfl (lv_at hl 1 rfl) ?_
  refine lv_iload_n hx hb dL_law_836 rfl (lv_at hl 0 rfl) ?_
  refine lv_iconst (v := 2) hx hb dL_law_837 (by decide) ?_
  refine lv_iadd hx hb dL_law_838 ?_
  refine va_sld hx hb hX hbl hbA J.2.2 h2 dL_law_839 ?_
  refine lv_aload_n hx hb dL_law_840 rfl (lv_at hl 1 rfl) ?_
  refine lv_iload_n hx hb dL_law_841 rfl (lv_at hl 0 rfl) ?_
  refine lv_iconst (v := 3) hx hb dL_law_842 (by decide) ?_
  refine lv_iadd hx hb dL_law_843 ?_
  refine va_sld hx hb hX hbl hbA J.2.2 h3 dL_law_844 ?_
  refine lv_aload_n hx hb dL_law_845 rfl (lv_at hl 1 rfl) ?_
  refine lv_iload_n hx hb dL_law_846 rfl (lv_at hl 0 rfl) ?_
  refine lv_iconst (v := 4) hx hb dL_law_847 (by decide) ?_
  refine lv_iadd hx hb dL_law_848 ?_
  refine va_sld hx hb hX hbl hbA J.2.2 h4 dL_law_849 ?_
  refine lj_ci (va_runV (As := [.int (xs (x3 + 1).toNatClampNeg), .int (xs (x3 + 2).toNatClampNeg), .int (xs (x3 + 3).toNatClampNeg), .int (xs (x3 + 4).toNatClampNeg)]) (rest := []) CF (cm_X0_written l D dA ad (lj_c s h adm) (ad 19) 19 (xs (x3 + 1).toNatClampNeg) (xs (x3 + 2).toNatClampNeg) (xs (x3 + 3).toNatClampNeg) (xs (x3 + 4).toNatClampNeg) σ r σ' ⟨rfl, by decide, h19⟩ e1) (cwV 4 hta (lw_V q1231 q1232 q1233 q77 q1234) rfl rfl rfl ⟨rfl, cd_X0_written⟩ ⟨Nat.le_of_ble_eq_true rfl, Nat.le_of_ble_eq_true rfl⟩) (lj_pc F J [.int (xs (x3 + 1).toNatClampNeg), .int (xs (x3 + 2).toNatClampNeg), .int (xs (x3 + 3).toNatClampNeg), .int (xs (x3 + 4).toNatClampNeg)] hk h19) rfl rfl hl.1 rfl (lv_room (Nat.le_of_ble_eq_true rfl)) dL_law_850 ⟨by show cells + 130 ≤ 603072; omega, by show slots + 13324 ≤ 7262314; omega⟩) F J (fun ad2 H locs hag J => ?_)
  refine lv_aload_n hx hb dL_law_853 rfl (lv_at hl 3 rfl) ?_
  refine lv_aload_n hx hb dL_law_854 rfl (lv_at hl 1 rfl) ?_
  refine lv_iload_n hx hb dL_law_855 rfl (lv_at hl 0 rfl) ?_
  refine lv_iconst (v := 1) hx hb dL_law_856 (by decide) ?_
  refine lv_iadd hx hb dL_law_857 ?_
  refine va_sld hx hb hX hbl hbA J.2.2 h1 dL_law_858 ?_
  refine lv_aload_n hx hb dL_law_859 rfl (lv_at hl 1 rfl) ?_
  refine lv_iload_n hx hb dL_law_860 rfl (lv_at hl 0 rfl) ?_
  refine lv_iconst (v := 2) hx hb dL_law_861 (by decide) ?_
  refine lv_iadd hx hb dL_law_862 ?_
  refine va_sld hx hb hX hbl hbA J.2.2 h2 dL_law_863 ?_
  refine lv_aload_n hx hb dL_law_864 rfl (lv_at hl 1 rfl) ?_
  refine lv_iload_n hx hb dL_law_865 rfl (lv_at hl 0 rfl) ?_
  refine lv_iconst (v := 3) hx hb dL_law_866 (by decide) ?_
  refine lv_iadd hx hb dL_law_867 ?_
  refine va_sld hx hb hX hbl hbA J.2.2 h3 dL_law_868 ?_
  refine lv_aload_n hx hb dL_law_869 rfl (lv_at hl 1 rfl) ?_
  refine lv_iload_n hx hb dL_law_870 rfl (lv_at hl 0 rfl) ?_
  refine lv_iconst (v := 4) hx hb dL_law_871 (by decide) ?_
  refine lv_iadd hx hb dL_law_872 ?_
  refine va_sld hx hb hX hbl hbA J.2.2 h4 dL_law_873 ?_
  refine lj_mi (va_runV (As := [.int (xs (x3 + 1).toNatClampNeg), .int (xs (x3 + 2).toNatClampNeg), .int (xs (x3 + 3).toNatClampNeg), .int (xs (x3 + 4).toNatClampNeg)]) (rest := [.int r]) CF (mo_m_written l D di dz h adm (lj_m h adm) (xs (x3 + 1).toNatClampNeg) (xs (x3 + 2).toNatClampNeg) (xs (x3 + 3).toNatClampNeg) (xs (x3 + 4).toNatClampNeg) μ r μ' e2) (cwV 4 hta (lw_V q1925 q1926 q1927 q83 q1928) rfl rfl rfl mo_d_written ⟨Nat.le_of_ble_eq_true rfl, Nat.le_of_ble_eq_true rfl⟩) (lj_pm F J [.int (xs (x3 + 1).toNatClampNeg), .int (xs (x3 + 2).toNatClampNeg), .int (xs (x3 + 3).toNatClampNeg), .int (xs (x3 + 4).toNatClampNeg)]) rfl rfl hl.1 rfl (lv_room (Nat.le_of_ble_eq_true rfl)) dL_law_874 ⟨by show cells + 130 + 0 ≤ 603072; omega, by show slots + 13324 + 0 ≤ 7262314; omega⟩) F J (fun H locs J => ?_)
  refine lv_icmp_eq (tgt := 1401) hx hb dL_law_877 (by decide) (fun _ => ?_) (fun hne => absurd rfl hne)
  refine W.widen (k := cells + 611) (n := slots + 13324) (by show cells + 130 + 0 ≤ cells + 611; omega) (by show slots + 13324 + 0 ≤ slots + 13324; omega) ?_
  exact kk ad2 σ' μ' S H locs ls J hR2 hM2 ((hag 19 h19).trans rfl) hl
set_option maxHeartbeats 4000000 in
theorem lc_20 {p : Program} {e : Env} {s : State} {m : MethodId} {below : List Frame} {meth : Method} {c : Code} {D : va_G} {dA : Nat → ClassId} {di dz : ClassId} {b1 : Nat → Nat} {h : Nat} {adm : Nat → Nat} {b a : Nat} {x3 : Int32} {cells slots L : Nat} {xs : Nat → Int32} (l : Launch) (hlt : l.stackTraces = false) (C0 : lw_At p s m meth c b L xs) (F : lj_F D dA di dz b1 s h adm) (hin : vp_in (x3 + 1) L ∧ vp_in (x3 + 2) L ∧ vp_in (x3 + 3) L ∧ vp_in (x3 + 4) L ∧ vp_in (x3 + 5) L) (hcs : cells + 611 ≤ 603072 ∧ slots + 13324 ≤ 7262314) (kk : lj_G p l e s m below meth c D dA di dz b1 h adm b a x3 (cells + 611) (slots + 13324) 1401) : lj_G p l e s m below meth c D dA di dz b1 h adm b a x3 cells slots 882 := by
  intro ad σ μ S H locs ls J hR hM ha hl
  subst ha
  obtain ⟨hx, hb, hr, hml, hown, hts, hX, hbl, hlocks, -⟩ := id C0
  have hta : ∀ w ∈ lw_all, w.before #[Value.ref b] s = true := fun w hw => hts w (lw_all_tbl hw)
  have CF : CallFix p m c cL_law 4 s #[Value.ref b] lw_all R_law := ⟨hx, hb, hml, hown, hta⟩
  have hbA : ¬ (fun q : Nat => s.heap.size ≤ q) b := Nat.not_le.mpr hbl
  have hk : cl_k σ 19 = 0 := hR.1.2.1.1
  have h19 : 19 ≤ cl_n σ := Nat.le_trans (by decide) hR.1.1
  obtain ⟨h1, h2, h3, h4, h5⟩ := hin
  obtain ⟨r, σ', μ', e1, e2, hR2, hM2⟩ := pt_accounts hR hM (xs (x3 + 1).toNatClampNeg)
  refine lv_aload_n hx hb dL_law_882 rfl (lv_at hl 2 rfl) ?_
  refine lv_aload_n hx hb dL_law_883 rfl (lv_at hl 1 rfl) ?_
  refine lv_iload_n hx hb dL_law_884 rfl (lv_at hl 0 rfl) ?_
  refine lv_iconst (v := 1) hx hb dL_law_885 (by decide) ?_
  refine lv_iadd hx hb dL_law_886 ?_
  refine va_sld hx hb hX hbl hbA J.2.2 h1 dL_law_887 ?_
  refine lj_ci (va_runV (As := [.int (xs (x3 + 1).toNatClampNeg)]) (rest := []) CF (cm_X0_accounts l D dA ad (lj_c s h adm) (ad 19) 19 (xs (x3 + 1).toNatClampNeg) σ r σ' ⟨rfl, by decide, h19⟩ e1) (cwV 1 hta (lw_V q1325 q1326 q1327 q77 q1328) rfl rfl rfl ⟨rfl, cd_X0_accounts⟩ ⟨Nat.le_of_ble_eq_true rfl, Nat.le_of_ble_eq_true rfl⟩) (lj_pc F J [.int (xs (x3 + 1).toNatClampNeg)] hk h19) rfl rfl hl.1 rfl (lv_room (Nat.le_of_ble_eq_true rfl)) dL_law_888 ⟨by show cells + 0 ≤ 603072; omega, by show slots + 0 ≤ 7262314; omega⟩) F J (fun ad2 H locs hag J => ?_)
  refine lv_aload_n hx hb dL_law_891 rfl (lv_at hl 3 rfl) ?_
  refine lv_aload_n hx hb dL_law_892 rfl (lv_at hl 1 rfl) ?_
  refine lv_iload_n hx hb dL_law_893 rfl (lv_at hl 0 rfl) ?_
  refine lv_iconst (v := 1) hx hb dL_law_894 (by decide) ?_
  refine lv_iadd hx hb dL_law_895 ?_
  refine va_sld hx hb hX hbl hbA J.2.2 h1 dL_law_896 ?_
  refine lj_mi (va_runV (As := [.int (xs (x3 + 1).toNatClampNeg)]) (rest := [.int r]) CF (mo_m_accounts l D di dz h adm (lj_m h adm) (xs (x3 + 1).toNatClampNeg) μ r μ' e2) (cwV 1 hta (lw_V q1937 q1938 q1939 q83 q1940) rfl rfl rfl mo_d_accounts ⟨Nat.le_of_ble_eq_true rfl, Nat.le_of_ble_eq_true rfl⟩) (lj_pm F J [.int (xs (x3 + 1).toNatClampNeg)]) rfl rfl hl.1 rfl (lv_room (Nat.le_of_ble_eq_true rfl)) dL_law_897 ⟨by show cells + 0 + 0 ≤ 603072; omega, by show slots + 0 + 0 ≤ 7262314; omega⟩) F J (fun H locs J => ?_)
  refine lv_icmp_eq (tgt := 1401) hx hb dL_law_900 (by decide) (fun _ => ?_) (fun hne => absurd rfl hne)
  refine W.widen (k := cells + 611) (n := slots + 13324) (by show cells + 0 + 0 ≤ cells + 611; omega) (by show slots + 0 + 0 ≤ slots + 13324; omega) ?_
  exact kk ad2 σ' μ' S H locs ls J hR2 hM2 ((hag 19 h19).trans rfl) hl
set_option maxHeartbeats 4000000 in
theorem lc_21 {p : Program} {e : Env} {s : State} {m : MethodId} {below : List Frame} {meth : Method} {c : Code} {D : va_G} {dA : Nat → ClassId} {di dz : ClassId} {b1 : Nat → Nat} {h : Nat} {adm : Nat → Nat} {b a : Nat} {x3 : Int32} {cells slots L : Nat} {xs : Nat → Int32} (l : Launch) (hlt : l.stackTraces = false) (C0 : lw_At p s m meth c b L xs) (F : lj_F D dA di dz b1 s h adm) (hin : vp_in (x3 + 1) L ∧ vp_in (x3 + 2) L ∧ vp_in (x3 + 3) L ∧ vp_in (x3 + 4) L ∧ vp_in (x3 + 5) L) (hcs : cells + 611 ≤ 603072 ∧ slots + 13324 ≤ 7262314) (kk : lj_G p l e s m below meth c D dA di dz b1 h adm b a x3 (cells + 611) (slots + 13324) 1401) : lj_G p l e s m below meth c D dA di dz b1 h adm b a x3 cells slots 905 := by
  intro ad σ μ S H locs ls J hR hM ha hl
  subst ha
  obtain ⟨hx, hb, hr, hml, hown, hts, hX, hbl, hlocks, -⟩ := id C0
  have hta : ∀ w ∈ lw_all, w.before #[Value.ref b] s = true := fun w hw => hts w (lw_all_tbl hw)
  have CF : CallFix p m c cL_law 4 s #[Value.ref b] lw_all R_law := ⟨hx, hb, hml, hown, hta⟩
  have hbA : ¬ (fun q : Nat => s.heap.size ≤ q) b := Nat.not_le.mpr hbl
  have hk : cl_k σ 19 = 0 := hR.1.2.1.1
  have h19 : 19 ≤ cl_n σ := Nat.le_trans (by decide) hR.1.1
  obtain ⟨h1, h2, h3, h4, h5⟩ := hin
  obtain ⟨r, σ', μ', e1, e2, hR2, hM2⟩ := pt_sources hR hM 
  refine lv_aload_n hx hb dL_law_905 rfl (lv_at hl 2 rfl) ?_
  refine lj_ci (va_runV (As := []) (rest := []) CF (cm_X0_sources l D dA ad (lj_c s h adm) (ad 19) 19  σ r σ' ⟨rfl, by decide, h19⟩ e1) (cwV 0 hta (lw_V q1338 q1339 q1340 q77 q1341) rfl rfl rfl ⟨rfl, cd_X0_sources⟩ ⟨Nat.le_of_ble_eq_true rfl, Nat.le_of_ble_eq_true rfl⟩) (lj_pc F J [] hk h19) rfl rfl hl.1 rfl (lv_room (Nat.le_of_ble_eq_true rfl)) dL_law_906 ⟨by show cells + 0 ≤ 603072; omega, by show slots + 0 ≤ 7262314; omega⟩) F J (fun ad2 H locs hag J => ?_)
  refine lv_aload_n hx hb dL_law_909 rfl (lv_at hl 3 rfl) ?_
  refine lj_mi (va_runV (As := []) (rest := [.int r]) CF (mo_m_sources l D di dz h adm (lj_m h adm)  μ r μ' e2) (cwV 0 hta (lw_V q1949 q1950 q1951 q83 q1952) rfl rfl rfl mo_d_sources ⟨Nat.le_of_ble_eq_true rfl, Nat.le_of_ble_eq_true rfl⟩) (lj_pm F J []) rfl rfl hl.1 rfl (lv_room (Nat.le_of_ble_eq_true rfl)) dL_law_910 ⟨by show cells + 0 + 0 ≤ 603072; omega, by show slots + 0 + 0 ≤ 7262314; omega⟩) F J (fun H locs J => ?_)
  refine lv_icmp_eq (tgt := 1401) hx hb dL_law_913 (by decide) (fun _ => ?_) (fun hne => absurd rfl hne)
  refine W.widen (k := cells + 611) (n := slots + 13324) (by show cells + 0 + 0 ≤ cells + 611; omega) (by show slots + 0 + 0 ≤ slots + 13324; omega) ?_
  exact kk ad2 σ' μ' S H locs ls J hR2 hM2 ((hag 19 h19).trans rfl) hl
set_option maxHeartbeats 4000000 in
theorem lc_22 {p : Program} {e : Env} {s : State} {m : MethodId} {below : List Frame} {meth : Method} {c : Code} {D : va_G} {dA : Nat → ClassId} {di dz : ClassId} {b1 : Nat → Nat} {h : Nat} {adm : Nat → Nat} {b a : Nat} {x3 : Int32} {cells slots L : Nat} {xs : Nat → Int32} (l : Launch) (hlt : l.stackTraces = false) (C0 : lw_At p s m meth c b L xs) (F : lj_F D dA di dz b1 s h adm) (hin : vp_in (x3 + 1) L ∧ vp_in (x3 + 2) L ∧ vp_in (x3 + 3) L ∧ vp_in (x3 + 4) L ∧ vp_in (x3 + 5) L) (hcs : cells + 611 ≤ 603072 ∧ slots + 13324 ≤ 7262314) (kk : lj_G p l e s m below meth c D dA di dz b1 h adm b a x3 (cells + 611) (slots + 13324) 1401) : lj_G p l e s m below meth c D dA di dz b1 h adm b a x3 cells slots 918 := by
  intro ad σ μ S H locs ls J hR hM ha hl
  subst ha
  obtain ⟨hx, hb, hr, hml, hown, hts, hX, hbl, hlocks, -⟩ := id C0
  have hta : ∀ w ∈ lw_all, w.before #[Value.ref b] s = true := fun w hw => hts w (lw_all_tbl hw)
  have CF : CallFix p m c cL_law 4 s #[Value.ref b] lw_all R_law := ⟨hx, hb, hml, hown, hta⟩
  have hbA : ¬ (fun q : Nat => s.heap.size ≤ q) b := Nat.not_le.mpr hbl
  have hk : cl_k σ 19 = 0 := hR.1.2.1.1
  have h19 : 19 ≤ cl_n σ := Nat.le_trans (by decide) hR.1.1
  obtain ⟨h1, h2, h3, h4, h5⟩ := hin
  obtain ⟨r, σ', μ', e1, e2, hR2, hM2⟩ := pu_cut hR hM (xs (x3 + 1).toNatClampNeg) (xs (x3 + 2).toNatClampNeg) (xs (x3 + 3).toNatClampNeg)
  refine lv_aload_n hx hb dL_law_918 rfl (lv_at hl 2 rfl) ?_
  refine lv_aload_n hx hb dL_law_919 rfl (lv_at hl 1 rfl) ?_
  refine lv_iload_n hx hb dL_law_920 rfl (lv_at hl 0 rfl) ?_
  refine lv_iconst (v := 1) hx hb dL_law_921 (by decide) ?_
  refine lv_iadd hx hb dL_law_922 ?_
  refine va_sld hx hb hX hbl hbA J.2.2 h1 dL_law_923 ?_
  refine lv_aload_n hx hb dL_law_924 rfl (lv_at hl 1 rfl) ?_
  refine lv_iload_n hx hb dL_law_925 rfl (lv_at hl 0 rfl) ?_
  refine lv_iconst (v := 2) hx hb dL_law_926 (by decide) ?_
  refine lv_iadd hx hb dL_law_927 ?_
  refine va_sld hx hb hX hbl hbA J.2.2 h2 dL_law_928 ?_
  refine lv_aload_n hx hb dL_law_929 rfl (lv_at hl 1 rfl) ?_
  refine lv_iload_n hx hb dL_law_930 rfl (lv_at hl 0 rfl) ?_
  refine lv_iconst (v := 3) hx hb dL_law_931 (by decide) ?_
  refine lv_iadd hx hb dL_law_932 ?_
  refine va_sld hx hb hX hbl hbA J.2.2 h3 dL_law_933 ?_
  refine lj_ci (va_runV (As := [.int (xs (x3 + 1).toNatClampNeg), .int (xs (x3 + 2).toNatClampNeg), .int (xs (x3 + 3).toNatClampNeg)]) (rest := []) CF (cm_X0_cut l D dA ad (lj_c s h adm) (ad 19) 19 (xs (x3 + 1).toNatClampNeg) (xs (x3 + 2).toNatClampNeg) (xs (x3 + 3).toNatClampNeg) σ r σ' ⟨rfl, by decide, h19⟩ e1) (cwV 3 hta (lw_V q1342 q1343 q1344 q77 q1345) rfl rfl rfl ⟨rfl, cd_X0_cut⟩ ⟨Nat.le_of_ble_eq_true rfl, Nat.le_of_ble_eq_true rfl⟩) (lj_pc F J [.int (xs (x3 + 1).toNatClampNeg), .int (xs (x3 + 2).toNatClampNeg), .int (xs (x3 + 3).toNatClampNeg)] hk h19) rfl rfl hl.1 rfl (lv_room (Nat.le_of_ble_eq_true rfl)) dL_law_934 ⟨by show cells + 0 ≤ 603072; omega, by show slots + 0 ≤ 7262314; omega⟩) F J (fun ad2 H locs hag J => ?_)
  refine lv_aload_n hx hb dL_law_937 rfl (lv_at hl 3 rfl) ?_
  refine lv_aload_n hx hb dL_law_938 rfl (lv_at hl 1 rfl) ?_
  refine lv_iload_n hx hb dL_law_939 rfl (lv_at hl 0 rfl) ?_
  refine lv_iconst (v := 1) hx hb dL_law_940 (by decide) ?_
  refine lv_iadd hx hb dL_law_941 ?_
  refine va_sld hx hb hX hbl hbA J.2.2 h1 dL_law_942 ?_
  refine lv_aload_n hx hb dL_law_943 rfl (lv_at hl 1 rfl) ?_
  refine lv_iload_n hx hb dL_law_944 rfl (lv_at hl 0 rfl) ?_
  refine lv_iconst (v := 2) hx hb dL_law_945 (by decide) ?_
  refine lv_iadd hx hb dL_law_946 ?_
  refine va_sld hx hb hX hbl hbA J.2.2 h2 dL_law_947 ?_
  refine lv_aload_n hx hb dL_law_948 rfl (lv_at hl 1 rfl) ?_
  refine lv_iload_n hx hb dL_law_949 rfl (lv_at hl 0 rfl) ?_
  refine lv_iconst (v := 3) hx hb dL_law_950 (by decide) ?_
  refine lv_iadd hx hb dL_law_951 ?_
  refine va_sld hx hb hX hbl hbA J.2.2 h3 dL_law_952 ?_
  refine lj_mi (va_runV (As := [.int (xs (x3 + 1).toNatClampNeg), .int (xs (x3 + 2).toNatClampNeg), .int (xs (x3 + 3).toNatClampNeg)]) (rest := [.int r]) CF (mo_m_cut l D di dz h adm (lj_m h adm) (xs (x3 + 1).toNatClampNeg) (xs (x3 + 2).toNatClampNeg) (xs (x3 + 3).toNatClampNeg) μ r μ' e2) (cwV 3 hta (lw_V q1953 q1954 q1955 q83 q1956) rfl rfl rfl mo_d_cut ⟨Nat.le_of_ble_eq_true rfl, Nat.le_of_ble_eq_true rfl⟩) (lj_pm F J [.int (xs (x3 + 1).toNatClampNeg), .int (xs (x3 + 2).toNatClampNeg), .int (xs (x3 + 3).toNatClampNeg)]) rfl rfl hl.1 rfl (lv_room (Nat.le_of_ble_eq_true rfl)) dL_law_953 ⟨by show cells + 0 + 0 ≤ 603072; omega, by show slots + 0 + 0 ≤ 7262314; omega⟩) F J (fun H locs J => ?_)
  refine lv_icmp_eq (tgt := 1401) hx hb dL_law_956 (by decide) (fun _ => ?_) (fun hne => absurd rfl hne)
  refine W.widen (k := cells + 611) (n := slots + 13324) (by show cells + 0 + 0 ≤ cells + 611; omega) (by show slots + 0 + 0 ≤ slots + 13324; omega) ?_
  exact kk ad2 σ' μ' S H locs ls J hR2 hM2 ((hag 19 h19).trans rfl) hl
set_option maxHeartbeats 4000000 in
theorem lc_23 {p : Program} {e : Env} {s : State} {m : MethodId} {below : List Frame} {meth : Method} {c : Code} {D : va_G} {dA : Nat → ClassId} {di dz : ClassId} {b1 : Nat → Nat} {h : Nat} {adm : Nat → Nat} {b a : Nat} {x3 : Int32} {cells slots L : Nat} {xs : Nat → Int32} (l : Launch) (hlt : l.stackTraces = false) (C0 : lw_At p s m meth c b L xs) (F : lj_F D dA di dz b1 s h adm) (hin : vp_in (x3 + 1) L ∧ vp_in (x3 + 2) L ∧ vp_in (x3 + 3) L ∧ vp_in (x3 + 4) L ∧ vp_in (x3 + 5) L) (hcs : cells + 611 ≤ 603072 ∧ slots + 13324 ≤ 7262314) (kk : lj_G p l e s m below meth c D dA di dz b1 h adm b a x3 (cells + 611) (slots + 13324) 1401) : lj_G p l e s m below meth c D dA di dz b1 h adm b a x3 cells slots 961 := by
  intro ad σ μ S H locs ls J hR hM ha hl
  subst ha
  obtain ⟨hx, hb, hr, hml, hown, hts, hX, hbl, hlocks, -⟩ := id C0
  have hta : ∀ w ∈ lw_all, w.before #[Value.ref b] s = true := fun w hw => hts w (lw_all_tbl hw)
  have CF : CallFix p m c cL_law 4 s #[Value.ref b] lw_all R_law := ⟨hx, hb, hml, hown, hta⟩
  have hbA : ¬ (fun q : Nat => s.heap.size ≤ q) b := Nat.not_le.mpr hbl
  have hk : cl_k σ 19 = 0 := hR.1.2.1.1
  have h19 : 19 ≤ cl_n σ := Nat.le_trans (by decide) hR.1.1
  obtain ⟨h1, h2, h3, h4, h5⟩ := hin
  obtain ⟨r, σ', μ', e1, e2, hR2, hM2⟩ := pt_common hR hM (xs (x3 + 1).toNatClampNeg) (xs (x3 + 2).toNatClampNeg) (xs (x3 + 3).toNatClampNeg)
  refine lv_aload_n hx hb dL_law_961 rfl (lv_at hl 2 rfl) ?_
  refine lv_aload_n hx hb dL_law_962 rfl (lv_at hl 1 rfl) ?_
  refine lv_iload_n hx hb dL_law_963 rfl (lv_at hl 0 rfl) ?_
  refine lv_iconst (v := 1) hx hb dL_law_964 (by decide) ?_
  refine lv_iadd hx hb dL_law_965 ?_
  refine va_sld hx hb hX hbl hbA J.2.2 h1 dL_law_966 ?_
  refine lv_aload_n hx hb dL_law_967 rfl (lv_at hl 1 rfl) ?_
  refine lv_iload_n hx hb dL_law_968 rfl (lv_at hl 0 rfl) ?_
  refine lv_iconst (v := 2) hx hb dL_law_969 (by decide) ?_
  refine lv_iadd hx hb dL_law_970 ?_
  refine va_sld hx hb hX hbl hbA J.2.2 h2 dL_law_971 ?_
  refine lv_aload_n hx hb dL_law_972 rfl (lv_at hl 1 rfl) ?_
  refine lv_iload_n hx hb dL_law_973 rfl (lv_at hl 0 rfl) ?_
  refine lv_iconst (v := 3) hx hb dL_law_974 (by decide) ?_
  refine lv_iadd hx hb dL_law_975 ?_
  refine va_sld hx hb hX hbl hbA J.2.2 h3 dL_law_976 ?_
  refine lj_ci (va_runV (As := [.int (xs (x3 + 1).toNatClampNeg), .int (xs (x3 + 2).toNatClampNeg), .int (xs (x3 + 3).toNatClampNeg)]) (rest := []) CF (cm_X0_common l D dA ad (lj_c s h adm) (ad 19) 19 (xs (x3 + 1).toNatClampNeg) (xs (x3 + 2).toNatClampNeg) (xs (x3 + 3).toNatClampNeg) σ r σ' ⟨rfl, by decide, h19⟩ e1) (cwV 3 hta (lw_V q1356 q1357 q1358 q77 q1359) rfl rfl rfl ⟨rfl, cd_X0_common⟩ ⟨Nat.le_of_ble_eq_true rfl, Nat.le_of_ble_eq_true rfl⟩) (lj_pc F J [.int (xs (x3 + 1).toNatClampNeg), .int (xs (x3 + 2).toNatClampNeg), .int (xs (x3 + 3).toNatClampNeg)] hk h19) rfl rfl hl.1 rfl (lv_room (Nat.le_of_ble_eq_true rfl)) dL_law_977 ⟨by show cells + 0 ≤ 603072; omega, by show slots + 0 ≤ 7262314; omega⟩) F J (fun ad2 H locs hag J => ?_)
  refine lv_aload_n hx hb dL_law_980 rfl (lv_at hl 3 rfl) ?_
  refine lv_aload_n hx hb dL_law_981 rfl (lv_at hl 1 rfl) ?_
  refine lv_iload_n hx hb dL_law_982 rfl (lv_at hl 0 rfl) ?_
  refine lv_iconst (v := 1) hx hb dL_law_983 (by decide) ?_
  refine lv_iadd hx hb dL_law_984 ?_
  refine va_sld hx hb hX hbl hbA J.2.2 h1 dL_law_985 ?_
  refine lv_aload_n hx hb dL_law_986 rfl (lv_at hl 1 rfl) ?_
  refine lv_iload_n hx hb dL_law_987 rfl (lv_at hl 0 rfl) ?_
  refine lv_iconst (v := 2) hx hb dL_law_988 (by decide) ?_
  refine lv_iadd hx hb dL_law_989 ?_
  refine va_sld hx hb hX hbl hbA J.2.2 h2 dL_law_990 ?_
  refine lv_aload_n hx hb dL_law_991 rfl (lv_at hl 1 rfl) ?_
  refine lv_iload_n hx hb dL_law_992 rfl (lv_at hl 0 rfl) ?_
  refine lv_iconst (v := 3) hx hb dL_law_993 (by decide) ?_
  refine lv_iadd hx hb dL_law_994 ?_
  refine va_sld hx hb hX hbl hbA J.2.2 h3 dL_law_995 ?_
  refine lj_mi (va_runV (As := [.int (xs (x3 + 1).toNatClampNeg), .int (xs (x3 + 2).toNatClampNeg), .int (xs (x3 + 3).toNatClampNeg)]) (rest := [.int r]) CF (mo_m_common l D di dz h adm (lj_m h adm) (xs (x3 + 1).toNatClampNeg) (xs (x3 + 2).toNatClampNeg) (xs (x3 + 3).toNatClampNeg) μ r μ' e2) (cwV 3 hta (lw_V q1960 q1961 q1962 q83 q1963) rfl rfl rfl mo_d_common ⟨Nat.le_of_ble_eq_true rfl, Nat.le_of_ble_eq_true rfl⟩) (lj_pm F J [.int (xs (x3 + 1).toNatClampNeg), .int (xs (x3 + 2).toNatClampNeg), .int (xs (x3 + 3).toNatClampNeg)]) rfl rfl hl.1 rfl (lv_room (Nat.le_of_ble_eq_true rfl)) dL_law_996 ⟨by show cells + 0 + 0 ≤ 603072; omega, by show slots + 0 + 0 ≤ 7262314; omega⟩) F J (fun H locs J => ?_)
  refine lv_icmp_eq (tgt := 1401) hx hb dL_law_999 (by decide) (fun _ => ?_) (fun hne => absurd rfl hne)
  refine W.widen (k := cells + 611) (n := slots + 13324) (by show cells + 0 + 0 ≤ cells + 611; omega) (by show slots + 0 + 0 ≤ slots + 13324; omega) ?_
  exact kk ad2 σ' μ' S H locs ls J hR2 hM2 ((hag 19 h19).trans rfl) hl
set_option maxHeartbeats 4000000 in
theorem lc_24 {p : Program} {e : Env} {s : State} {m : MethodId} {below : List Frame} {meth : Method} {c : Code} {D : va_G} {dA : Nat → ClassId} {di dz : ClassId} {b1 : Nat → Nat} {h : Nat} {adm : Nat → Nat} {b a : Nat} {x3 : Int32} {cells slots L : Nat} {xs : Nat → Int32} (l : Launch) (hlt : l.stackTraces = false) (C0 : lw_At p s m meth c b L xs) (F : lj_F D dA di dz b1 s h adm) (hin : vp_in (x3 + 1) L ∧ vp_in (x3 + 2) L ∧ vp_in (x3 + 3) L ∧ vp_in (x3 + 4) L ∧ vp_in (x3 + 5) L) (hcs : cells + 611 ≤ 603072 ∧ slots + 13324 ≤ 7262314) (kk : lj_G p l e s m below meth c D dA di dz b1 h adm b a x3 (cells + 611) (slots + 13324) 1401) : lj_G p l e s m below meth c D dA di dz b1 h adm b a x3 cells slots 1004 := by
  intro ad σ μ S H locs ls J hR hM ha hl
  subst ha
  obtain ⟨hx, hb, hr, hml, hown, hts, hX, hbl, hlocks, -⟩ := id C0
  have hta : ∀ w ∈ lw_all, w.before #[Value.ref b] s = true := fun w hw => hts w (lw_all_tbl hw)
  have CF : CallFix p m c cL_law 4 s #[Value.ref b] lw_all R_law := ⟨hx, hb, hml, hown, hta⟩
  have hbA : ¬ (fun q : Nat => s.heap.size ≤ q) b := Nat.not_le.mpr hbl
  have hk : cl_k σ 19 = 0 := hR.1.2.1.1
  have h19 : 19 ≤ cl_n σ := Nat.le_trans (by decide) hR.1.1
  obtain ⟨h1, h2, h3, h4, h5⟩ := hin
  obtain ⟨r, σ', μ', e1, e2, hR2, hM2⟩ := pz_spared hR hM (xs (x3 + 1).toNatClampNeg) (xs (x3 + 2).toNatClampNeg) (xs (x3 + 3).toNatClampNeg) (xs (x3 + 4).toNatClampNeg)
  refine lv_aload_n hx hb dL_law_1004 rfl (lv_at hl 2 rfl) ?_
  refine lv_aload_n hx hb dL_law_1005 rfl (lv_at hl 1 rfl) ?_
  refine lv_iload_n hx hb dL_law_1006 rfl (lv_at hl 0 rfl) ?_
  refine lv_iconst (v := 1) hx hb dL_law_1007 (by decide) ?_
  refine lv_iadd hx hb dL_law_1008 ?_
  refine va_sld hx hb hX hbl hbA J.2.2 h1 dL_law_1009 ?_
  refine lv_aload_n hx hb dL_law_1010 rfl (lv_at hl 1 rfl) ?_
  refine lv_iload_n hx hb dL_law_1011 rfl (lv_at hl 0 rfl) ?_
  refine lv_iconst (v := 2) hx hb dL_law_1012 (by decide) ?_
  refine lv_iadd hx hb dL_law_1013 ?_
  refine va_sld hx hb hX hbl hbA J.2.2 h2 dL_law_1014 ?_
  refine lv_aload_n hx hb dL_law_1015 rfl (lv_at hl 1 rfl) ?_
  refine lv_iload_n hx hb dL_law_1016 rfl (lv_at hl 0 rfl) ?_
  refine lv_iconst (v := 3) hx hb dL_law_1017 (by decide) ?_
  refine lv_iadd hx hb dL_law_1018 ?_
  refine va_sld hx hb hX hbl hbA J.2.2 h3 dL_law_1019 ?_
  refine lv_aload_n hx hb dL_law_1020 rfl (lv_at hl 1 rfl) ?_
  refine lv_iload_n hx hb dL_law_1021 rfl (lv_at hl 0 rfl) ?_
  refine lv_iconst (v := 4) hx hb dL_law_1022 (by decide) ?_
  refine lv_iadd hx hb dL_law_1023 ?_
  refine va_sld hx hb hX hbl hbA J.2.2 h4 dL_law_1024 ?_
  refine lj_cll (va_runV (As := [.int (xs (x3 + 1).toNatClampNeg), .int (xs (x3 + 2).toNatClampNeg), .int (xs (x3 + 3).toNatClampNeg), .int (xs (x3 + 4).toNatClampNeg)]) (rest := []) CF (cm_X0_spared l D dA ad (lj_c s h adm) (ad 19) 19 (xs (x3 + 1).toNatClampNeg) (xs (x3 + 2).toNatClampNeg) (xs (x3 + 3).toNatClampNeg) (xs (x3 + 4).toNatClampNeg) σ r σ' ⟨rfl, by decide, h19⟩ e1) (cwV 4 hta (lw_V q1360 q1361 q1362 q77 q1363) rfl rfl rfl ⟨rfl, cd_X0_spared⟩ ⟨Nat.le_of_ble_eq_true rfl, Nat.le_of_ble_eq_true rfl⟩) (lj_pc F J [.int (xs (x3 + 1).toNatClampNeg), .int (xs (x3 + 2).toNatClampNeg), .int (xs (x3 + 3).toNatClampNeg), .int (xs (x3 + 4).toNatClampNeg)] hk h19) rfl rfl hl.1 rfl (lv_room (Nat.le_of_ble_eq_true rfl)) dL_law_1025 ⟨by show cells + 0 ≤ 603072; omega, by show slots + 0 ≤ 7262314; omega⟩) F J (fun ad2 H locs hag J => ?_)
  refine lv_aload_n hx hb dL_law_1028 rfl (lv_at hl 3 rfl) ?_
  refine lv_aload_n hx hb dL_law_1029 rfl (lv_at hl 1 rfl) ?_
  refine lv_iload_n hx hb dL_law_1030 rfl (lv_at hl 0 rfl) ?_
  refine lv_iconst (v := 1) hx hb dL_law_1031 (by decide) ?_
  refine lv_iadd hx hb dL_law_1032 ?_
  refine va_sld hx hb hX hbl hbA J.2.2 h1 dL_law_1033 ?_
  refine lv_aload_n hx hb dL_law_1034 rfl (lv_at hl 1 rfl) ?_
  refine lv_iload_n hx hb dL_law_1035 rfl (lv_at hl 0 rfl) ?_
  refine lv_iconst (v := 2) hx hb dL_law_1036 (by decide) ?_
  refine lv_iadd hx hb dL_law_1037 ?_
  refine va_sld hx hb hX hbl hbA J.2.2 h2 dL_law_1038 ?_
  refine lv_aload_n hx hb dL_law_1039 rfl (lv_at hl 1 rfl) ?_
  refine lv_iload_n hx hb dL_law_1040 rfl (lv_at hl 0 rfl) ?_
  refine lv_iconst (v := 3) hx hb dL_law_1041 (by decide) ?_
  refine lv_iadd hx hb dL_law_1042 ?_
  refine va_sld hx hb hX hbl hbA J.2.2 h3 dL_law_1043 ?_
  refine lv_aload_n hx hb dL_law_1044 rfl (lv_at hl 1 rfl) ?_
  refine lv_iload_n hx hb dL_law_1045 rfl (lv_at hl 0 rfl) ?_
  refine lv_iconst (v := 4) hx hb dL_law_1046 (by decide) ?_
  refine lv_iadd hx hb dL_law_1047 ?_
  refine va_sld hx hb hX hbl hbA J.2.2 h4 dL_law_1048 ?_
  refine lj_ml (va_runV (As := [.int (xs (x3 + 1).toNatClampNeg), .int (xs (x3 + 2).toNatClampNeg), .int (xs (x3 + 3).toNatClampNeg), .int (xs (x3 + 4).toNatClampNeg)]) (rest := [.long r]) CF (mo_m_spared l D di dz h adm (lj_m h adm) (xs (x3 + 1).toNatClampNeg) (xs (x3 + 2).toNatClampNeg) (xs (x3 + 3).toNatClampNeg) (xs (x3 + 4).toNatClampNeg) μ r μ' e2) (cwV 4 hta (lw_V q1964 q1965 q1966 q83 q1967) rfl rfl rfl mo_d_spared ⟨Nat.le_of_ble_eq_true rfl, Nat.le_of_ble_eq_true rfl⟩) (lj_pm F J [.int (xs (x3 + 1).toNatClampNeg), .int (xs (x3 + 2).toNatClampNeg), .int (xs (x3 + 3).toNatClampNeg), .int (xs (x3 + 4).toNatClampNeg)]) rfl rfl hl.1 rfl (lv_room (Nat.le_of_ble_eq_true rfl)) dL_law_1049 ⟨by show cells + 0 + 0 ≤ 603072; omega, by show slots + 0 + 0 ≤ 7262314; omega⟩) F J (fun H locs J => ?_)
  refine W.lcmp hx hb dL_law_1052 ?_
  refine lv_if_eq (tgt := 1401) hx hb dL_law_1053 (by decide) (fun _ => ?_) (fun hne => absurd (lj_lcmp r) hne)
  refine W.widen (k := cells + 611) (n := slots + 13324) (by show cells + 0 + 0 ≤ cells + 611; omega) (by show slots + 0 + 0 ≤ slots + 13324; omega) ?_
  exact kk ad2 σ' μ' S H locs ls J hR2 hM2 ((hag 19 h19).trans rfl) hl
set_option maxHeartbeats 4000000 in
theorem lc_25 {p : Program} {e : Env} {s : State} {m : MethodId} {below : List Frame} {meth : Method} {c : Code} {D : va_G} {dA : Nat → ClassId} {di dz : ClassId} {b1 : Nat → Nat} {h : Nat} {adm : Nat → Nat} {b a : Nat} {x3 : Int32} {cells slots L : Nat} {xs : Nat → Int32} (l : Launch) (hlt : l.stackTraces = false) (C0 : lw_At p s m meth c b L xs) (F : lj_F D dA di dz b1 s h adm) (hin : vp_in (x3 + 1) L ∧ vp_in (x3 + 2) L ∧ vp_in (x3 + 3) L ∧ vp_in (x3 + 4) L ∧ vp_in (x3 + 5) L) (hcs : cells + 611 ≤ 603072 ∧ slots + 13324 ≤ 7262314) (kk : lj_G p l e s m below meth c D dA di dz b1 h adm b a x3 (cells + 611) (slots + 13324) 1401) : lj_G p l e s m below meth c D dA di dz b1 h adm b a x3 cells slots 1058 := by
  intro ad σ μ S H locs ls J hR hM ha hl
  subst ha
  obtain ⟨hx, hb, hr, hml, hown, hts, hX, hbl, hlocks, -⟩ := id C0
  have hta : ∀ w ∈ lw_all, w.before #[Value.ref b] s = true := fun w hw => hts w (lw_all_tbl hw)
  have CF : CallFix p m c cL_law 4 s #[Value.ref b] lw_all R_law := ⟨hx, hb, hml, hown, hta⟩
  have hbA : ¬ (fun q : Nat => s.heap.size ≤ q) b := Nat.not_le.mpr hbl
  have hk : cl_k σ 19 = 0 := hR.1.2.1.1
  have h19 : 19 ≤ cl_n σ := Nat.le_trans (by decide) hR.1.1
  obtain ⟨h1, h2, h3, h4, h5⟩ := hin
  obtain ⟨S2, r, σ', μ', e1, e2, hR2, hM2⟩ := sc_fits hR hM (xs (x3 + 1).toNatClampNeg) (xs (x3 + 2).toNatClampNeg) (xs (x3 + 3).toNatClampNeg) (xs (x3 + 4).toNatClampNeg) (xs (x3 + 5).toNatClampNeg)
  refine lv_aload_n hx hb dL_law_1058 rfl (lv_at hl 2 rfl) ?_
  refine lv_aload_n hx hb dL_law_1059 rfl (lv_at hl 1 rfl) ?_
  refine lv_iload_n hx hb dL_law_1060 rfl (lv_at hl 0 rfl) ?_
  refine lv_iconst (v := 1) hx hb dL_law_1061 (by decide) ?_
  refine lv_iadd hx hb dL_law_1062 ?_
  refine va_sld hx hb hX hbl hbA J.2.2 h1 dL_law_1063 ?_
  refine lv_aload_n hx hb dL_law_1064 rfl (lv_at hl 1 rfl) ?_
  refine lv_iload_n hx hb dL_law_1065 rfl (lv_at hl 0 rfl) ?_
  refine lv_iconst (v := 2) hx hb dL_law_1066 (by decide) ?_
  refine lv_iadd hx hb dL_law_1067 ?_
  refine va_sld hx hb hX hbl hbA J.2.2 h2 dL_law_1068 ?_
  refine lv_aload_n hx hb dL_law_1069 rfl (lv_at hl 1 rfl) ?_
  refine lv_iload_n hx hb dL_law_1070 rfl (lv_at hl 0 rfl) ?_
  refine lv_iconst (v := 3) hx hb dL_law_1071 (by decide) ?_
  refine lv_iadd hx hb dL_law_1072 ?_
  refine va_sld hx hb hX hbl hbA J.2.2 h3 dL_law_1073 ?_
  refine lv_aload_n hx hb dL_law_1074 rfl (lv_at hl 1 rfl) ?_
  refine lv_iload_n hx hb dL_law_1075 rfl (lv_at hl 0 rfl) ?_
  refine lv_iconst (v := 4) hx hb dL_law_1076 (by decide) ?_
  refine lv_iadd hx hb dL_law_1077 ?_
  refine va_sld hx hb hX hbl hbA J.2.2 h4 dL_law_1078 ?_
  refine lv_aload_n hx hb dL_law_1079 rfl (lv_at hl 1 rfl) ?_
  refine lv_iload_n hx hb dL_law_1080 rfl (lv_at hl 0 rfl) ?_
  refine lv_iconst (v := 5) hx hb dL_law_1081 (by decide) ?_
  refine lv_iadd hx hb dL_law_1082 ?_
  refine va_sld hx hb hX hbl hbA J.2.2 h5 dL_law_1083 ?_
  refine lj_ci (vx_runVW (As := [.int (xs (x3 + 1).toNatClampNeg), .int (xs (x3 + 2).toNatClampNeg), .int (xs (x3 + 3).toNatClampNeg), .int (xs (x3 + 4).toNatClampNeg), .int (xs (x3 + 5).toNatClampNeg)]) (rest := []) CF (cm_X0_fits l hlt D dA ad (lj_c s h adm) (ad 19) 19 (xs (x3 + 1).toNatClampNeg) (xs (x3 + 2).toNatClampNeg) (xs (x3 + 3).toNatClampNeg) (xs (x3 + 4).toNatClampNeg) (xs (x3 + 5).toNatClampNeg) σ r σ' ⟨rfl, by decide, h19⟩ e1) (vx_cwVW 5 hta (lw_VW q1370 q1371 q1372 q77 q1373) rfl rfl rfl ⟨rfl, cd_X0_fits⟩ ⟨Nat.le_of_ble_eq_true rfl, Nat.le_of_ble_eq_true rfl⟩) (lj_pc F J [.int (xs (x3 + 1).toNatClampNeg), .int (xs (x3 + 2).toNatClampNeg), .int (xs (x3 + 3).toNatClampNeg), .int (xs (x3 + 4).toNatClampNeg), .int (xs (x3 + 5).toNatClampNeg)] hk h19) rfl rfl hl.1 rfl (lv_room (Nat.le_of_ble_eq_true rfl)) dL_law_1084 ⟨by show cells + 112 ≤ 603072; omega, by show slots + 268 ≤ 7262314; omega⟩) F J (fun ad2 H locs hag J => ?_)
  refine lv_aload_n hx hb dL_law_1087 rfl (lv_at hl 3 rfl) ?_
  refine lv_aload_n hx hb dL_law_1088 rfl (lv_at hl 1 rfl) ?_
  refine lv_iload_n hx hb dL_law_1089 rfl (lv_at hl 0 rfl) ?_
  refine lv_iconst (v := 1) hx hb dL_law_1090 (by decide) ?_
  refine lv_iadd hx hb dL_law_1091 ?_
  refine va_sld hx hb hX hbl hbA J.2.2 h1 dL_law_1092 ?_
  refine lv_aload_n hx hb dL_law_1093 rfl (lv_at hl 1 rfl) ?_
  refine lv_iload_n hx hb dL_law_1094 rfl (lv_at hl 0 rfl) ?_
  refine lv_iconst (v := 2) hx hb dL_law_1095 (by decide) ?_
  refine lv_iadd hx hb dL_law_1096 ?_
  refine va_sld hx hb hX hbl hbA J.2.2 h2 dL_law_1097 ?_
  refine lv_aload_n hx hb dL_law_1098 rfl (lv_at hl 1 rfl) ?_
  refine lv_iload_n hx hb dL_law_1099 rfl (lv_at hl 0 rfl) ?_
  refine lv_iconst (v := 3) hx hb dL_law_1100 (by decide) ?_
  refine lv_iadd hx hb dL_law_1101 ?_
  refine va_sld hx hb hX hbl hbA J.2.2 h3 dL_law_1102 ?_
  refine lv_aload_n hx hb dL_law_1103 rfl (lv_at hl 1 rfl) ?_
  refine lv_iload_n hx hb dL_law_1104 rfl (lv_at hl 0 rfl) ?_
  refine lv_iconst (v := 4) hx hb dL_law_1105 (by decide) ?_
  refine lv_iadd hx hb dL_law_1106 ?_
  refine va_sld hx hb hX hbl hbA J.2.2 h4 dL_law_1107 ?_
  refine lv_aload_n hx hb dL_law_1108 rfl (lv_at hl 1 rfl) ?_
  refine lv_iload_n hx hb dL_law_1109 rfl (lv_at hl 0 rfl) ?_
  refine lv_iconst (v := 5) hx hb dL_law_1110 (by decide) ?_
  refine lv_iadd hx hb dL_law_1111 ?_
  refine va_sld hx hb hX hbl hbA J.2.2 h5 dL_law_1112 ?_
  refine lj_mi (va_runV (As := [.int (xs (x3 + 1).toNatClampNeg), .int (xs (x3 + 2).toNatClampNeg), .int (xs (x3 + 3).toNatClampNeg), .int (xs (x3 + 4).toNatClampNeg), .int (xs (x3 + 5).toNatClampNeg)]) (rest := [.int r]) CF (mo_m_fits l D di dz h adm (lj_m h adm) (xs (x3 + 1).toNatClampNeg) (xs (x3 + 2).toNatClampNeg) (xs (x3 + 3).toNatClampNeg) (xs (x3 + 4).toNatClampNeg) (xs (x3 + 5).toNatClampNeg) μ r μ' e2) (cwV 5 hta (lw_V q1973 q1974 q1975 q83 q1976) rfl rfl rfl mo_d_fits ⟨Nat.le_of_ble_eq_true rfl, Nat.le_of_ble_eq_true rfl⟩) (lj_pm F J [.int (xs (x3 + 1).toNatClampNeg), .int (xs (x3 + 2).toNatClampNeg), .int (xs (x3 + 3).toNatClampNeg), .int (xs (x3 + 4).toNatClampNeg), .int (xs (x3 + 5).toNatClampNeg)]) rfl rfl hl.1 rfl (lv_room (Nat.le_of_ble_eq_true rfl)) dL_law_1113 ⟨by show cells + 112 + 0 ≤ 603072; omega, by show slots + 268 + 0 ≤ 7262314; omega⟩) F J (fun H locs J => ?_)
  refine lv_icmp_eq (tgt := 1401) hx hb dL_law_1116 (by decide) (fun _ => ?_) (fun hne => absurd rfl hne)
  refine W.widen (k := cells + 611) (n := slots + 13324) (by show cells + 112 + 0 ≤ cells + 611; omega) (by show slots + 268 + 0 ≤ slots + 13324; omega) ?_
  exact kk ad2 σ' μ' S2 H locs ls J hR2 hM2 ((hag 19 h19).trans rfl) hl
set_option maxHeartbeats 4000000 in
theorem lc_26 {p : Program} {e : Env} {s : State} {m : MethodId} {below : List Frame} {meth : Method} {c : Code} {D : va_G} {dA : Nat → ClassId} {di dz : ClassId} {b1 : Nat → Nat} {h : Nat} {adm : Nat → Nat} {b a : Nat} {x3 : Int32} {cells slots L : Nat} {xs : Nat → Int32} (l : Launch) (hlt : l.stackTraces = false) (C0 : lw_At p s m meth c b L xs) (F : lj_F D dA di dz b1 s h adm) (hin : vp_in (x3 + 1) L ∧ vp_in (x3 + 2) L ∧ vp_in (x3 + 3) L ∧ vp_in (x3 + 4) L ∧ vp_in (x3 + 5) L) (hcs : cells + 611 ≤ 603072 ∧ slots + 13324 ≤ 7262314) (kk : lj_G p l e s m below meth c D dA di dz b1 h adm b a x3 (cells + 611) (slots + 13324) 1401) : lj_G p l e s m below meth c D dA di dz b1 h adm b a x3 cells slots 1121 := by
  intro ad σ μ S H locs ls J hR hM ha hl
  subst ha
  obtain ⟨hx, hb, hr, hml, hown, hts, hX, hbl, hlocks, -⟩ := id C0
  have hta : ∀ w ∈ lw_all, w.before #[Value.ref b] s = true := fun w hw => hts w (lw_all_tbl hw)
  have CF : CallFix p m c cL_law 4 s #[Value.ref b] lw_all R_law := ⟨hx, hb, hml, hown, hta⟩
  have hbA : ¬ (fun q : Nat => s.heap.size ≤ q) b := Nat.not_le.mpr hbl
  have hk : cl_k σ 19 = 0 := hR.1.2.1.1
  have h19 : 19 ≤ cl_n σ := Nat.le_trans (by decide) hR.1.1
  obtain ⟨h1, h2, h3, h4, h5⟩ := hin
  obtain ⟨S2, r, σ', μ', e1, e2, hR2, hM2⟩ := rx_tell hR hM (xs (x3 + 1).toNatClampNeg) (xs (x3 + 2).toNatClampNeg) (xs (x3 + 3).toNatClampNeg)
  refine lv_aload_n hx hb dL_law_1121 rfl (lv_at hl 2 rfl) ?_
  refine lv_aload_n hx hb dL_law_1122 rfl (lv_at hl 1 rfl) ?_
  refine lv_iload_n hx hb dL_law_1123 rfl (lv_at hl 0 rfl) ?_
  refine lv_iconst (v := 1) hx hb dL_law_1124 (by decide) ?_
  refine lv_iadd hx hb dL_law_1125 ?_
  refine va_sld hx hb hX hbl hbA J.2.2 h1 dL_law_1126 ?_
  refine lv_aload_n hx hb dL_law_1127 rfl (lv_at hl 1 rfl) ?_
  refine lv_iload_n hx hb dL_law_1128 rfl (lv_at hl 0 rfl) ?_
  refine lv_iconst (v := 2) hx hb dL_law_1129 (by decide) ?_
  refine lv_iadd hx hb dL_law_1130 ?_
  refine va_sld hx hb hX hbl hbA J.2.2 h2 dL_law_1131 ?_
  refine lv_aload_n hx hb dL_law_1132 rfl (lv_at hl 1 rfl) ?_
  refine lv_iload_n hx hb dL_law_1133 rfl (lv_at hl 0 rfl) ?_
  refine lv_iconst (v := 3) hx hb dL_law_1134 (by decide) ?_
  refine lv_iadd hx hb dL_law_1135 ?_
  refine va_sld hx hb hX hbl hbA J.2.2 h3 dL_law_1136 ?_
  refine lj_ci (vx_runVW (As := [.int (xs (x3 + 1).toNatClampNeg), .int (xs (x3 + 2).toNatClampNeg), .int (xs (x3 + 3).toNatClampNeg)]) (rest := []) CF (cm_X0_tell l hlt D dA ad (lj_c s h adm) (ad 19) 19 (xs (x3 + 1).toNatClampNeg) (xs (x3 + 2).toNatClampNeg) (xs (x3 + 3).toNatClampNeg) σ r σ' ⟨rfl, by decide, h19⟩ e1) (vx_cwVW 3 hta (lw_VW q1419 q1420 q1421 q77 q1422) rfl rfl rfl ⟨rfl, cd_X0_tell⟩ ⟨Nat.le_of_ble_eq_true rfl, Nat.le_of_ble_eq_true rfl⟩) (lj_pc F J [.int (xs (x3 + 1).toNatClampNeg), .int (xs (x3 + 2).toNatClampNeg), .int (xs (x3 + 3).toNatClampNeg)] hk h19) rfl rfl hl.1 rfl (lv_room (Nat.le_of_ble_eq_true rfl)) dL_law_1137 ⟨by show cells + 31 ≤ 603072; omega, by show slots + 2228 ≤ 7262314; omega⟩) F J (fun ad2 H locs hag J => ?_)
  refine lv_aload_n hx hb dL_law_1140 rfl (lv_at hl 3 rfl) ?_
  refine lv_aload_n hx hb dL_law_1141 rfl (lv_at hl 1 rfl) ?_
  refine lv_iload_n hx hb dL_law_1142 rfl (lv_at hl 0 rfl) ?_
  refine lv_iconst (v := 1) hx hb dL_law_1143 (by decide) ?_
  refine lv_iadd hx hb dL_law_1144 ?_
  refine va_sld hx hb hX hbl hbA J.2.2 h1 dL_law_1145 ?_
  refine lv_aload_n hx hb dL_law_1146 rfl (lv_at hl 1 rfl) ?_
  refine lv_iload_n hx hb dL_law_1147 rfl (lv_at hl 0 rfl) ?_
  refine lv_iconst (v := 2) hx hb dL_law_1148 (by decide) ?_
  refine lv_iadd hx hb dL_law_1149 ?_
  refine va_sld hx hb hX hbl hbA J.2.2 h2 dL_law_1150 ?_
  refine lv_aload_n hx hb dL_law_1151 rfl (lv_at hl 1 rfl) ?_
  refine lv_iload_n hx hb dL_law_1152 rfl (lv_at hl 0 rfl) ?_
  refine lv_iconst (v := 3) hx hb dL_law_1153 (by decide) ?_
  refine lv_iadd hx hb dL_law_1154 ?_
  refine va_sld hx hb hX hbl hbA J.2.2 h3 dL_law_1155 ?_
  refine lj_mi (va_runV (As := [.int (xs (x3 + 1).toNatClampNeg), .int (xs (x3 + 2).toNatClampNeg), .int (xs (x3 + 3).toNatClampNeg)]) (rest := [.int r]) CF (mo_m_tell l D di dz h adm (lj_m h adm) (xs (x3 + 1).toNatClampNeg) (xs (x3 + 2).toNatClampNeg) (xs (x3 + 3).toNatClampNeg) μ r μ' e2) (cwV 3 hta (lw_V q1980 q1981 q1982 q83 q1983) rfl rfl rfl mo_d_tell ⟨Nat.le_of_ble_eq_true rfl, Nat.le_of_ble_eq_true rfl⟩) (lj_pm F J [.int (xs (x3 + 1).toNatClampNeg), .int (xs (x3 + 2).toNatClampNeg), .int (xs (x3 + 3).toNatClampNeg)]) rfl rfl hl.1 rfl (lv_room (Nat.le_of_ble_eq_true rfl)) dL_law_1156 ⟨by show cells + 31 + 0 ≤ 603072; omega, by show slots + 2228 + 0 ≤ 7262314; omega⟩) F J (fun H locs J => ?_)
  refine lv_icmp_eq (tgt := 1401) hx hb dL_law_1159 (by decide) (fun _ => ?_) (fun hne => absurd rfl hne)
  refine W.widen (k := cells + 611) (n := slots + 13324) (by show cells + 31 + 0 ≤ cells + 611; omega) (by show slots + 2228 + 0 ≤ slots + 13324; omega) ?_
  exact kk ad2 σ' μ' S2 H locs ls J hR2 hM2 ((hag 19 h19).trans rfl) hl
