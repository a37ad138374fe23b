/-! DatedContactsModel read back and walked (printed by gen/mo.py) -/
theorem mo_d_illOf : yX6_illOf.cls = RX6 ∧ yX6_illOf.cls ≠ "java/lang/invoke/MethodHandle" ∧ yX6_illOf.cls ≠ "java/lang/invoke/VarHandle" ∧ (parseMethodDescriptor yX6_illOf.desc).map (fun d => d.parameters.length) = some 1 := by decide +kernel
set_option maxHeartbeats 4000000 in
set_option maxRecDepth 100000 in
theorem mo_m_illOf (l : Launch) (D : va_G) (di dz : ClassId) (h : Nat) (ad : Nat → Nat) (A : Nat → Prop)  (p0 : Int32) (σ0 : mo_S) (r : Int32) (hF : mo_illOf σ0 p0 = some r) : mo_Ci l yX6_illOf cX6_illOf 3 .int ({ frames := 0, cells := 0, slots := 0, locals := 0 }) D di dz h ad A [.ref h, .int p0] σ0 r σ0 := by
  refine dx_in RX6 rfl (by decide) (Nat.le_of_ble_eq_true rfl) ?_
  intro p e s m below meth c ls S hr hlocks hv hl
  have hx := S.1
  have hb := S.2.1
  have hown := S.2.2.2.1
  have hts := S.2.2.2.2
  obtain ⟨hK, hP, hD⟩ := hv
  have V : mo_V D di dz h ad A s.heap σ0 s s.heap [] := ⟨hK, hP, hD, va_S.rf⟩
  replace hl : lv_has ls 3 [(0, .ref h), (1, .int p0)] := hl
  unfold mo_illOf at hF
  refine lv_aload_n hx hb dX6_illOf_0 rfl (lv_at hl 0 rfl) ?_
  refine mo_get S V 13 (by decide) rfl q1628 rfl dX6_illOf_1 ?_
  refine lv_iconst (v := 4) hx hb dX6_illOf_4 (by decide) ?_
  refine lv_iconst (v := 2) hx hb dX6_illOf_5 (by decide) ?_
  refine lv_iload_n hx hb dX6_illOf_6 rfl (lv_at hl 1 rfl) ?_
  refine lv_imul hx hb dX6_illOf_7 ?_
  refine lv_iadd hx hb dX6_illOf_8 ?_
  refine lv_iconst (v := 1) hx hb dX6_illOf_9 (by decide) ?_
  refine lv_iadd hx hb dX6_illOf_10 ?_
  obtain ⟨hg, hF⟩ := dx_gd_some hF
  refine mo_ld S V 5 (by decide) (dx_inb_in hg) dX6_illOf_11 ?_
  refine lv_istore_n (lv' := [(2, .int (σ0.2 5 (((4 : Int32) + ((2 : Int32) * p0)) + (1 : Int32)).toNatClampNeg)), (0, .ref h), (1, .int p0)]) hx hb dX6_illOf_12 rfl hl (by decide) rfl (fun ls hl => ?_)
  refine lv_iload_n hx hb dX6_illOf_13 rfl (lv_at hl 0 rfl) ?_
  refine lv_if_ge (tgt := 21) hx hb dX6_illOf_14 (by decide) (fun hc => ?_) (fun hc => ?_)
  · replace hF := (if_pos hc).symm.trans hF
    refine lv_iload_n hx hb dX6_illOf_21 rfl (lv_at hl 0 rfl) ?_
    replace hF := Option.some.inj hF
    subst hF
    exact mo_ri S V hr hlocks rfl dX6_illOf_22
  · replace hF := (if_neg hc).symm.trans hF
    refine lv_iconst (v := 0) hx hb dX6_illOf_17 (by decide) ?_
    refine lv_goto (tgt := 22) hx hb dX6_illOf_18 (by decide) ?_
    replace hF := Option.some.inj hF
    subst hF
    exact mo_ri S V hr hlocks rfl dX6_illOf_22
theorem mo_d_openMark : yX6_openMark.cls = RX6 ∧ yX6_openMark.cls ≠ "java/lang/invoke/MethodHandle" ∧ yX6_openMark.cls ≠ "java/lang/invoke/VarHandle" ∧ (parseMethodDescriptor yX6_openMark.desc).map (fun d => d.parameters.length) = some 1 := by decide +kernel
set_option maxHeartbeats 4000000 in
set_option maxRecDepth 100000 in
theorem mo_m_openMark (l : Launch) (D : va_G) (di dz : ClassId) (h : Nat) (ad : Nat → Nat) (A : Nat → Prop)  (p0 : Int32) (σ0 : mo_S) (r : Int32) (σ' : mo_S) (hF : mo_openMark σ0 p0 = some (r, σ')) : mo_Ci l yX6_openMark cX6_openMark 4 .int ({ frames := 1, cells := 0, slots := 0, locals := 22 }) D di dz h ad A [.ref h, .int p0] σ0 r σ' := by
  refine dx_in RX6 rfl (by decide) (Nat.le_of_ble_eq_true rfl) ?_
  intro p e s m below meth c ls S hr hlocks hv hl
  have hx := S.1
  have hb := S.2.1
  have hown := S.2.2.2.1
  have hts := S.2.2.2.2
  obtain ⟨hK, hP, hD⟩ := hv
  have V : mo_V D di dz h ad A s.heap σ0 s s.heap [] := ⟨hK, hP, hD, va_S.rf⟩
  replace hl : lv_has ls 4 [(0, .ref h), (1, .int p0)] := hl
  unfold mo_openMark at hF
  have hJ27 : ∀ (σ : mo_S) (v1 : Int32) (v2 : Int32) (H : Heap) (locs : List Loc) (ls : Array Slot), mo_openMark_J27 σ v1 v2 = some (r, σ') → mo_V D di dz h ad A s.heap σ s H locs → lv_has ls 4 [(0, .ref h), (1, .int v1), (2, .int v2)] → W p l e ({ frames := 1, cells := 0, slots := 0, locals := 22 }) s m ([.ref h, .int p0] : List Value).toArray below meth c H locs 0 0 (MQ below (mo_Qi D di dz h ad A r σ') ([.ref h, .int p0] : List Value).toArray s 0 0 A) (F0 m 27 ls []) := by
    intro σ v1 v2 H locs ls hF V hl
    unfold mo_openMark_J27 at hF
    refine lv_aload_n hx hb dX6_openMark_27 rfl (lv_at hl 0 rfl) ?_
    refine lv_bipush (v := 21) hx hb dX6_openMark_28 (by decide) ?_
    obtain ⟨σ2, h2c, hF⟩ := dx_b1_some hF
    refine mo_cVv S V [.int (21 : Int32)] (mo_m_begins l D di dz h ad A  (21 : Int32) σ _ h2c) (cwV 1 hts (lw_V q2021 q2023 qs71 q83 q2024) rfl rfl rfl mo_d_begins ⟨Nat.le_of_ble_eq_true rfl, Nat.le_of_ble_eq_true rfl⟩) rfl rfl hl.1 (Nat.le_of_ble_eq_true rfl) dX6_openMark_30 (fun _ _ V => ?_)
    refine lv_aload_n hx hb dX6_openMark_33 rfl (lv_at hl 0 rfl) ?_
    refine lv_bipush (v := 20) hx hb dX6_openMark_34 (by decide) ?_
    obtain ⟨σ3, h3c, hF⟩ := dx_b1_some hF
    refine mo_cVv S V [.int (20 : Int32)] (mo_m_begins l D di dz h ad A  (20 : Int32) σ2 _ h3c) (cwV 1 hts (lw_V q2021 q2023 qs71 q83 q2024) rfl rfl rfl mo_d_begins ⟨Nat.le_of_ble_eq_true rfl, Nat.le_of_ble_eq_true rfl⟩) rfl rfl hl.1 (Nat.le_of_ble_eq_true rfl) dX6_openMark_36 (fun _ _ V => ?_)
    refine lv_iload_n hx hb dX6_openMark_39 rfl (lv_at hl 1 rfl) ?_
    refine lv_aload_n hx hb dX6_openMark_40 rfl (lv_at hl 0 rfl) ?_
    refine lv_iload_n hx hb dX6_openMark_41 rfl (lv_at hl 1 rfl) ?_
    obtain ⟨r4, h4c, hF⟩ := dx_b1_some hF
    refine mo_cVi S V [.int v1] (mo_m_illOf l D di dz h ad A  v1 σ3 _ h4c) (cwV 1 hts (lw_V q2033 q2035 qs74 q83 q2036) rfl rfl rfl mo_d_illOf ⟨Nat.le_of_ble_eq_true rfl, Nat.le_of_ble_eq_true rfl⟩) rfl rfl hl.1 (Nat.le_of_ble_eq_true rfl) dX6_openMark_42 (fun _ _ V => ?_)
    refine lv_iadd hx hb dX6_openMark_45 ?_
    refine lv_istore_n (lv' := [(3, .int (v1 + r4)), (0, .ref h), (1, .int v1), (2, .int v2)]) hx hb dX6_openMark_46 rfl hl (by decide) rfl (fun ls hl => ?_)
    refine lv_iload_n hx hb dX6_openMark_47 rfl (lv_at hl 3 rfl) ?_
    refine lv_iconst (v := 2) hx hb dX6_openMark_48 (by decide) ?_
    refine lv_icmp_ne (tgt := 58) hx hb dX6_openMark_49 (by decide) (fun hc => ?_) (fun hc => ?_)
    · replace hF := (if_neg hc).symm.trans hF
      refine lv_iload_n hx hb dX6_openMark_58 rfl (lv_at hl 3 rfl) ?_
      refine lv_iconst (v := 3) hx hb dX6_openMark_59 (by decide) ?_
      refine lv_icmp_ne (tgt := 71) hx hb dX6_openMark_60 (by decide) (fun hc => ?_) (fun hc => ?_)
      · replace hF := (if_neg hc).symm.trans hF
        refine lv_iload_n hx hb dX6_openMark_71 rfl (lv_at hl 0 rfl) ?_
        obtain ⟨hF1, hF2⟩ := dx_r2 hF
        subst hF1
        subst hF2
        exact mo_ri S V hr hlocks rfl dX6_openMark_72
      · replace hF := (if_pos hc).symm.trans hF
        refine lv_iload_n hx hb dX6_openMark_63 rfl (lv_at hl 0 rfl) ?_
        refine lv_sipush (v := 1000) hx hb dX6_openMark_64 (by decide) ?_
        refine lv_isub hx hb dX6_openMark_67 ?_
        refine lv_goto (tgt := 72) hx hb dX6_openMark_68 (by decide) ?_
        obtain ⟨hF1, hF2⟩ := dx_r2 hF
        subst hF1
        subst hF2
        exact mo_ri S V hr hlocks rfl dX6_openMark_72
    · replace hF := (if_pos hc).symm.trans hF
      refine lv_iconst (v := 2) hx hb dX6_openMark_52 (by decide) ?_
      refine lv_iload_n hx hb dX6_openMark_53 rfl (lv_at hl 0 rfl) ?_
      refine lv_imul hx hb dX6_openMark_54 ?_
      refine lv_goto (tgt := 72) hx hb dX6_openMark_55 (by decide) ?_
      obtain ⟨hF1, hF2⟩ := dx_r2 hF
      subst hF1
      subst hF2
      exact mo_ri S V hr hlocks rfl dX6_openMark_72
  have hJ24 : ∀ (σ : mo_S) (v1 : Int32) (v2 : Int32) (t1 : Int32) (H : Heap) (locs : List Loc) (ls : Array Slot), mo_openMark_J24 σ v1 v2 t1 = some (r, σ') → mo_V D di dz h ad A s.heap σ s H locs → lv_has ls 4 [(0, .ref h), (1, .int v1), (2, .int v2)] → W p l e ({ frames := 1, cells := 0, slots := 0, locals := 22 }) s m ([.ref h, .int p0] : List Value).toArray below meth c H locs 0 0 (MQ below (mo_Qi D di dz h ad A r σ') ([.ref h, .int p0] : List Value).toArray s 0 0 A) (F0 m 24 ls [.int t1, .ref h]) := by
    intro σ v1 v2 t1 H locs ls hF V hl
    unfold mo_openMark_J24 at hF
    obtain ⟨σ5, h5c, hF⟩ := dx_b1_some hF
    refine mo_cVv S V [.int t1] (mo_m_begins l D di dz h ad A  t1 σ _ h5c) (cwV 1 hts (lw_V q2021 q2023 qs71 q83 q2024) rfl rfl rfl mo_d_begins ⟨Nat.le_of_ble_eq_true rfl, Nat.le_of_ble_eq_true rfl⟩) rfl rfl hl.1 (Nat.le_of_ble_eq_true rfl) dX6_openMark_24 (fun _ _ V => ?_)
    exact hJ27 σ5 v1 v2 _ _ _ hF V (lv_sub hl [0, 1, 2] rfl)
  refine lv_aload_n hx hb dX6_openMark_0 rfl (lv_at hl 0 rfl) ?_
  refine lv_iload_n hx hb dX6_openMark_1 rfl (lv_at hl 1 rfl) ?_
  obtain ⟨r1, h1c, hF⟩ := dx_b1_some hF
  refine mo_cVi S V [.int p0] (mo_m_kindIn l D di dz h ad A  p0 σ0 _ h1c) (cwV 1 hts (lw_V q2005 q2007 qs69 q83 q2008) rfl rfl rfl mo_d_kindIn ⟨Nat.le_of_ble_eq_true rfl, Nat.le_of_ble_eq_true rfl⟩) rfl rfl hl.1 (Nat.le_of_ble_eq_true rfl) dX6_openMark_2 (fun _ _ V => ?_)
  refine lv_istore_n (lv' := [(2, .int r1), (0, .ref h), (1, .int p0)]) hx hb dX6_openMark_5 rfl hl (by decide) rfl (fun ls hl => ?_)
  refine lv_iload_n hx hb dX6_openMark_6 rfl (lv_at hl 0 rfl) ?_
  refine lv_iconst (v := 1) hx hb dX6_openMark_7 (by decide) ?_
  refine lv_icmp_eq (tgt := 27) hx hb dX6_openMark_8 (by decide) (fun hc => ?_) (fun hc => ?_)
  · replace hF := (if_pos hc).symm.trans hF
    exact hJ27 σ0 p0 r1 _ _ _ hF V (lv_sub hl [1, 2, 0] rfl)
  · replace hF := (if_neg hc).symm.trans hF
    refine lv_aload_n hx hb dX6_openMark_11 rfl (lv_at hl 1 rfl) ?_
    refine lv_iload_n hx hb dX6_openMark_12 rfl (lv_at hl 0 rfl) ?_
    refine lv_iconst (v := 2) hx hb dX6_openMark_13 (by decide) ?_
    refine lv_icmp_ne (tgt := 22) hx hb dX6_openMark_14 (by decide) (fun hc => ?_) (fun hc => ?_)
    · replace hF := (if_neg hc).symm.trans hF
      refine lv_bipush (v := 22) hx hb dX6_openMark_22 (by decide) ?_
      exact hJ24 σ0 p0 r1 (22 : Int32) _ _ _ hF V (lv_sub hl [1, 2, 0] rfl)
    · replace hF := (if_pos hc).symm.trans hF
      refine lv_bipush (v := 24) hx hb dX6_openMark_17 (by decide) ?_
      refine lv_goto (tgt := 24) hx hb dX6_openMark_19 (by decide) ?_
      exact hJ24 σ0 p0 r1 (24 : Int32) _ _ _ hF V (lv_sub hl [1, 2, 0] rfl)
theorem mo_d_openSize : yX6_openSize.cls = RX6 ∧ yX6_openSize.cls ≠ "java/lang/invoke/MethodHandle" ∧ yX6_openSize.cls ≠ "java/lang/invoke/VarHandle" ∧ (parseMethodDescriptor yX6_openSize.desc).map (fun d => d.parameters.length) = some 1 := by decide +kernel
set_option maxHeartbeats 4000000 in
set_option maxRecDepth 100000 in
theorem mo_m_openSize (l : Launch) (D : va_G) (di dz : ClassId) (h : Nat) (ad : Nat → Nat) (A : Nat → Prop)  (p0 : Int32) (σ0 : mo_S) (r : Int32) (σ' : mo_S) (hF : mo_openSize σ0 p0 = some (r, σ')) : mo_Ci l yX6_openSize cX6_openSize 4 .int ({ frames := 2, cells := 0, slots := 0, locals := 45 }) D di dz h ad A [.ref h, .int p0] σ0 r σ' := by
  refine dx_in RX6 rfl (by decide) (Nat.le_of_ble_eq_true rfl) ?_
  intro p e s m below meth c ls S hr hlocks hv hl
  have hx := S.1
  have hb := S.2.1
  have hown := S.2.2.2.1
  have hts := S.2.2.2.2
  obtain ⟨hK, hP, hD⟩ := hv
  have V : mo_V D di dz h ad A s.heap σ0 s s.heap [] := ⟨hK, hP, hD, va_S.rf⟩
  replace hl : lv_has ls 4 [(0, .ref h), (1, .int p0)] := hl
  unfold mo_openSize at hF
  have hJ25 : ∀ (σ : mo_S) (v1 : Int32) (v2 : Bool) (H : Heap) (locs : List Loc) (ls : Array Slot), mo_openSize_J25 σ v1 v2 = some (r, σ') → mo_V D di dz h ad A s.heap σ s H locs → lv_has ls 4 [(0, .ref h), (1, .int v1), (2, .int (dx_bI v2))] → W p l e ({ frames := 2, cells := 0, slots := 0, locals := 45 }) s m ([.ref h, .int p0] : List Value).toArray below meth c H locs 0 0 (MQ below (mo_Qi D di dz h ad A r σ') ([.ref h, .int p0] : List Value).toArray s 0 0 A) (F0 m 25 ls []) := by
    intro σ v1 v2 H locs ls hF V hl
    unfold mo_openSize_J25 at hF
    refine lv_aload_n hx hb dX6_openSize_25 rfl (lv_at hl 0 rfl) ?_
    refine lv_bipush (v := 11) hx hb dX6_openSize_26 (by decide) ?_
    obtain ⟨σ2, h2c, hF⟩ := dx_b1_some hF
    refine mo_cVv S V [.int (11 : Int32)] (mo_m_begins l D di dz h ad A  (11 : Int32) σ _ h2c) (cwV 1 hts (lw_V q2021 q2023 qs71 q83 q2024) rfl rfl rfl mo_d_begins ⟨Nat.le_of_ble_eq_true rfl, Nat.le_of_ble_eq_true rfl⟩) rfl rfl hl.1 (Nat.le_of_ble_eq_true rfl) dX6_openSize_28 (fun _ _ V => ?_)
    refine lv_aload_n hx hb dX6_openSize_31 rfl (lv_at hl 0 rfl) ?_
    refine lv_bipush (v := 10) hx hb dX6_openSize_32 (by decide) ?_
    obtain ⟨σ3, h3c, hF⟩ := dx_b1_some hF
    refine mo_cVv S V [.int (10 : Int32)] (mo_m_begins l D di dz h ad A  (10 : Int32) σ2 _ h3c) (cwV 1 hts (lw_V q2021 q2023 qs71 q83 q2024) rfl rfl rfl mo_d_begins ⟨Nat.le_of_ble_eq_true rfl, Nat.le_of_ble_eq_true rfl⟩) rfl rfl hl.1 (Nat.le_of_ble_eq_true rfl) dX6_openSize_34 (fun _ _ V => ?_)
    refine lv_aload_n hx hb dX6_openSize_37 rfl (lv_at hl 0 rfl) ?_
    refine lv_aload_n hx hb dX6_openSize_38 rfl (lv_at hl 0 rfl) ?_
    refine mo_get S V 13 (by decide) rfl q1628 rfl dX6_openSize_39 ?_
    refine lv_iload_n hx hb dX6_openSize_42 rfl (lv_at hl 1 rfl) ?_
    obtain ⟨r4, h4c, hF⟩ := dx_b1_some hF
    refine mo_cVi S V [.ref (ad 5), .int v1] (mo_m_contactsOf l D di dz h ad A 5 (by decide) v1 σ3 _ h4c) (cwV 2 hts (lw_V q1867 q1869 qs56 q83 q1870) rfl rfl rfl mo_d_contactsOf ⟨Nat.le_of_ble_eq_true rfl, Nat.le_of_ble_eq_true rfl⟩) rfl rfl hl.1 (Nat.le_of_ble_eq_true rfl) dX6_openSize_43 (fun _ _ V => ?_)
    obtain ⟨r5, h5c, hF⟩ := dx_b1_some hF
    refine dx_cPi S [.int r4] (mo_m_ones l r4 _ h5c) (va_cwS 1 hts (lw_S q1957 q1958 q83 q1959) rfl rfl rfl mo_d_ones ⟨Nat.le_of_ble_eq_true rfl, Nat.le_of_ble_eq_true rfl⟩) rfl rfl hl.1 (Nat.le_of_ble_eq_true rfl) dX6_openSize_46 ⟨Nat.zero_le _, Nat.zero_le _⟩ ?_
    refine lv_aload_n hx hb dX6_openSize_49 rfl (lv_at hl 0 rfl) ?_
    refine lv_iload_n hx hb dX6_openSize_50 rfl (lv_at hl 1 rfl) ?_
    obtain ⟨r6, σ6, h6c, hF⟩ := dx_b2_some hF
    refine mo_cVi S V [.int v1] (mo_m_openMark l D di dz h ad A  v1 σ3 _ _ h6c) (cwV 1 hts (lw_V q2029 q2031 qs73 q83 q2032) rfl rfl rfl mo_d_openMark ⟨Nat.le_of_ble_eq_true rfl, Nat.le_of_ble_eq_true rfl⟩) rfl rfl hl.1 (Nat.le_of_ble_eq_true rfl) dX6_openSize_51 (fun _ _ V => ?_)
    refine lv_iadd hx hb dX6_openSize_54 ?_
    refine lv_istore_n (lv' := [(3, .int (r5 + r6)), (0, .ref h), (1, .int v1), (2, .int (dx_bI v2))]) hx hb dX6_openSize_55 rfl hl (by decide) rfl (fun ls hl => ?_)
    refine lv_iload_n hx hb dX6_openSize_56 rfl (lv_at hl 3 rfl) ?_
    refine lv_if_eq (tgt := 65) hx hb dX6_openSize_57 (by decide) (fun hc => ?_) (fun hc => ?_)
    · replace hF := dx_ib_f (dx_bI_0 hc) hF
      refine lv_iload_n hx hb dX6_openSize_65 rfl (lv_at hl 0 rfl) ?_
      obtain ⟨hF1, hF2⟩ := dx_r2 hF
      subst hF1
      subst hF2
      exact mo_ri S V hr hlocks rfl dX6_openSize_66
    · replace hF := dx_ib_t (dx_bI_n hc) hF
      refine lv_iload_n hx hb dX6_openSize_60 rfl (lv_at hl 0 rfl) ?_
      refine lv_ineg hx hb dX6_openSize_61 ?_
      refine lv_goto (tgt := 66) hx hb dX6_openSize_62 (by decide) ?_
      obtain ⟨hF1, hF2⟩ := dx_r2 hF
      subst hF1
      subst hF2
      exact mo_ri S V hr hlocks rfl dX6_openSize_66
  have hJ14 : ∀ (σ : mo_S) (v1 : Int32) (t0 : Bool) (H : Heap) (locs : List Loc) (ls : Array Slot), mo_openSize_J14 σ v1 t0 = some (r, σ') → mo_V D di dz h ad A s.heap σ s H locs → lv_has ls 4 [(0, .ref h), (1, .int v1)] → W p l e ({ frames := 2, cells := 0, slots := 0, locals := 45 }) s m ([.ref h, .int p0] : List Value).toArray below meth c H locs 0 0 (MQ below (mo_Qi D di dz h ad A r σ') ([.ref h, .int p0] : List Value).toArray s 0 0 A) (F0 m 14 ls [.int (dx_bI t0)]) := by
    intro σ v1 t0 H locs ls hF V hl
    unfold mo_openSize_J14 at hF
    refine lv_istore_n (lv' := [(2, .int (dx_bI t0)), (0, .ref h), (1, .int v1)]) hx hb dX6_openSize_14 rfl hl (by decide) rfl (fun ls hl => ?_)
    refine lv_iload_n hx hb dX6_openSize_15 rfl (lv_at hl 0 rfl) ?_
    refine lv_if_eq (tgt := 25) hx hb dX6_openSize_16 (by decide) (fun hc => ?_) (fun hc => ?_)
    · replace hF := dx_ib_f (dx_bI_0 hc) hF
      exact hJ25 σ v1 t0 _ _ _ hF V (lv_sub hl [1, 2, 0] rfl)
    · replace hF := dx_ib_t (dx_bI_n hc) hF
      refine lv_aload_n hx hb dX6_openSize_19 rfl (lv_at hl 1 rfl) ?_
      refine lv_bipush (v := 12) hx hb dX6_openSize_20 (by decide) ?_
      obtain ⟨σ7, h7c, hF⟩ := dx_b1_some hF
      refine mo_cVv S V [.int (12 : Int32)] (mo_m_begins l D di dz h ad A  (12 : Int32) σ _ h7c) (cwV 1 hts (lw_V q2021 q2023 qs71 q83 q2024) rfl rfl rfl mo_d_begins ⟨Nat.le_of_ble_eq_true rfl, Nat.le_of_ble_eq_true rfl⟩) rfl rfl hl.1 (Nat.le_of_ble_eq_true rfl) dX6_openSize_22 (fun _ _ V => ?_)
      exact hJ25 σ7 v1 t0 _ _ _ hF V (lv_sub hl [1, 2, 0] rfl)
  refine lv_aload_n hx hb dX6_openSize_0 rfl (lv_at hl 0 rfl) ?_
  refine lv_iload_n hx hb dX6_openSize_1 rfl (lv_at hl 1 rfl) ?_
  obtain ⟨r1, h1c, hF⟩ := dx_b1_some hF
  refine mo_cVi S V [.int p0] (mo_m_kindIn l D di dz h ad A  p0 σ0 _ h1c) (cwV 1 hts (lw_V q2005 q2007 qs69 q83 q2008) rfl rfl rfl mo_d_kindIn ⟨Nat.le_of_ble_eq_true rfl, Nat.le_of_ble_eq_true rfl⟩) rfl rfl hl.1 (Nat.le_of_ble_eq_true rfl) dX6_openSize_2 (fun _ _ V => ?_)
  refine lv_iconst (v := 2) hx hb dX6_openSize_5 (by decide) ?_
  refine lv_icmp_ne (tgt := 13) hx hb dX6_openSize_6 (by decide) (fun hc => ?_) (fun hc => ?_)
  · replace hF := (if_neg hc).symm.trans hF
    refine lv_iconst (v := 0) hx hb dX6_openSize_13 (by decide) ?_
    exact hJ14 σ0 p0 false _ _ _ hF V (lv_sub hl [0, 1] rfl)
  · replace hF := (if_pos hc).symm.trans hF
    refine lv_iconst (v := 1) hx hb dX6_openSize_9 (by decide) ?_
    refine lv_goto (tgt := 14) hx hb dX6_openSize_10 (by decide) ?_
    exact hJ14 σ0 p0 true _ _ _ hF V (lv_sub hl [0, 1] rfl)
theorem mo_d_wardMark : yX6_wardMark.cls = RX6 ∧ yX6_wardMark.cls ≠ "java/lang/invoke/MethodHandle" ∧ yX6_wardMark.cls ≠ "java/lang/invoke/VarHandle" ∧ (parseMethodDescriptor yX6_wardMark.desc).map (fun d => d.parameters.length) = some 1 := by decide +kernel
set_option maxHeartbeats 4000000 in
set_option maxRecDepth 100000 in
theorem mo_m_wardMark (l : Launch) (D : va_G) (di dz : ClassId) (h : Nat) (ad : Nat → Nat) (A : Nat → Prop)  (p0 : Int32) (σ0 : mo_S) (r : Int32) (σ' : mo_S) (hF : mo_wardMark σ0 p0 = some (r, σ')) : mo_Ci l yX6_wardMark cX6_wardMark 2 .int ({ frames := 2, cells := 0, slots := 0, locals := 47 }) D di dz h ad A [.ref h, .int p0] σ0 r σ' := by
  refine dx_in RX6 rfl (by decide) (Nat.le_of_ble_eq_true rfl) ?_
  intro p e s m below meth c ls S hr hlocks hv hl
  have hx := S.1
  have hb := S.2.1
  have hown := S.2.2.2.1
  have hts := S.2.2.2.2
  obtain ⟨hK, hP, hD⟩ := hv
  have V : mo_V D di dz h ad A s.heap σ0 s s.heap [] := ⟨hK, hP, hD, va_S.rf⟩
  replace hl : lv_has ls 2 [(0, .ref h), (1, .int p0)] := hl
  unfold mo_wardMark at hF
  refine lv_aload_n hx hb dX6_wardMark_0 rfl (lv_at hl 0 rfl) ?_
  refine lv_bipush (v := 23) hx hb dX6_wardMark_1 (by decide) ?_
  obtain ⟨σ1, h1c, hF⟩ := dx_b1_some hF
  refine mo_cVv S V [.int (23 : Int32)] (mo_m_begins l D di dz h ad A  (23 : Int32) σ0 _ h1c) (cwV 1 hts (lw_V q2021 q2023 qs71 q83 q2024) rfl rfl rfl mo_d_begins ⟨Nat.le_of_ble_eq_true rfl, Nat.le_of_ble_eq_true rfl⟩) rfl rfl hl.1 (Nat.le_of_ble_eq_true rfl) dX6_wardMark_3 (fun _ _ V => ?_)
  refine lv_aload_n hx hb dX6_wardMark_6 rfl (lv_at hl 0 rfl) ?_
  refine lv_bipush (v := 20) hx hb dX6_wardMark_7 (by decide) ?_
  obtain ⟨σ2, h2c, hF⟩ := dx_b1_some hF
  refine mo_cVv S V [.int (20 : Int32)] (mo_m_begins l D di dz h ad A  (20 : Int32) σ1 _ h2c) (cwV 1 hts (lw_V q2021 q2023 qs71 q83 q2024) rfl rfl rfl mo_d_begins ⟨Nat.le_of_ble_eq_true rfl, Nat.le_of_ble_eq_true rfl⟩) rfl rfl hl.1 (Nat.le_of_ble_eq_true rfl) dX6_wardMark_9 (fun _ _ V => ?_)
  refine lv_iload_n hx hb dX6_wardMark_12 rfl (lv_at hl 1 rfl) ?_
  refine lv_aload_n hx hb dX6_wardMark_13 rfl (lv_at hl 0 rfl) ?_
  refine lv_iload_n hx hb dX6_wardMark_14 rfl (lv_at hl 1 rfl) ?_
  obtain ⟨r3, σ3, h3c, hF⟩ := dx_b2_some hF
  refine mo_cVi S V [.int p0] (mo_m_wardSize l D di dz h ad A  p0 σ2 _ _ h3c) (cwV 1 hts (lw_V q2017 q2019 qs70 q83 q2020) rfl rfl rfl mo_d_wardSize ⟨Nat.le_of_ble_eq_true rfl, Nat.le_of_ble_eq_true rfl⟩) rfl rfl hl.1 (Nat.le_of_ble_eq_true rfl) dX6_wardMark_15 (fun _ _ V => ?_)
  refine lv_isub hx hb dX6_wardMark_18 ?_
  obtain ⟨hF1, hF2⟩ := dx_r2 hF
  subst hF1
  subst hF2
  exact mo_ri S V hr hlocks rfl dX6_wardMark_19
theorem mo_d_ask : yX6_ask.cls = RX6 ∧ yX6_ask.cls ≠ "java/lang/invoke/MethodHandle" ∧ yX6_ask.cls ≠ "java/lang/invoke/VarHandle" ∧ (parseMethodDescriptor yX6_ask.desc).map (fun d => d.parameters.length) = some 2 := by decide +kernel
set_option maxHeartbeats 4000000 in
set_option maxRecDepth 100000 in
theorem mo_m_ask (l : Launch) (D : va_G) (di dz : ClassId) (h : Nat) (ad : Nat → Nat) (A : Nat → Prop)  (p0 : Int32) (p1 : Int32) (σ0 : mo_S) (r : Int32) (σ' : mo_S) (hF : mo_ask σ0 p0 p1 = some (r, σ')) : mo_Ci l yX6_ask cX6_ask 4 .int ({ frames := 3, cells := 0, slots := 0, locals := 68 }) D di dz h ad A [.ref h, .int p0, .int p1] σ0 r σ' := by
  refine dx_in RX6 rfl (by decide) (Nat.le_of_ble_eq_true rfl) ?_
  intro p e s m below meth c ls S hr hlocks hv hl
  have hx := S.1
  have hb := S.2.1
  have hown := S.2.2.2.1
  have hts := S.2.2.2.2
  obtain ⟨hK, hP, hD⟩ := hv
  have V : mo_V D di dz h ad A s.heap σ0 s s.heap [] := ⟨hK, hP, hD, va_S.rf⟩
  replace hl : lv_has ls 4 [(0, .ref h), (1, .int p0), (2, .int p1)] := hl
  unfold mo_ask at hF
  have hJ39 : ∀ (σ : mo_S) (v1 : Int32) (v2 : Int32) (t0 : Bool) (H : Heap) (locs : List Loc) (ls : Array Slot), mo_ask_J39 σ v1 v2 t0 = some (r, σ') → mo_V D di dz h ad A s.heap σ s H locs → lv_has ls 4 [(0, .ref h), (1, .int v1), (2, .int v2)] → W p l e ({ frames := 3, cells := 0, slots := 0, locals := 68 }) s m ([.ref h, .int p0, .int p1] : List Value).toArray below meth c H locs 0 0 (MQ below (mo_Qi D di dz h ad A r σ') ([.ref h, .int p0, .int p1] : List Value).toArray s 0 0 A) (F0 m 39 ls [.int (dx_bI t0)]) := by
    intro σ v1 v2 t0 H locs ls hF V hl
    unfold mo_ask_J39 at hF
    refine lv_istore_n (lv' := [(3, .int (dx_bI t0)), (0, .ref h), (1, .int v1), (2, .int v2)]) hx hb dX6_ask_39 rfl hl (by decide) rfl (fun ls hl => ?_)
    refine lv_iload_n hx hb dX6_ask_40 rfl (lv_at hl 3 rfl) ?_
    refine lv_if_ne (tgt := 62) hx hb dX6_ask_41 (by decide) (fun hc => ?_) (fun hc => ?_)
    · replace hF := (if_neg hc).symm.trans hF
      refine lv_iload_n hx hb dX6_ask_62 rfl (lv_at hl 0 rfl) ?_
      refine lv_if_eq (tgt := 74) hx hb dX6_ask_63 (by decide) (fun hc => ?_) (fun hc => ?_)
      · replace hF := dx_ib_f (dx_bI_0 hc) hF
        refine lv_aload_n hx hb dX6_ask_74 rfl (lv_at hl 1 rfl) ?_
        refine lv_iload_n hx hb dX6_ask_75 rfl (lv_at hl 2 rfl) ?_
        obtain ⟨r4, σ4, h4c, hF⟩ := dx_b2_some hF
        refine mo_cVi S V [.int v1] (mo_m_openMark l D di dz h ad A  v1 σ _ _ h4c) (cwV 1 hts (lw_V q2029 q2031 qs73 q83 q2032) rfl rfl rfl mo_d_openMark ⟨Nat.le_of_ble_eq_true rfl, Nat.le_of_ble_eq_true rfl⟩) rfl rfl hl.1 (Nat.le_of_ble_eq_true rfl) dX6_ask_76 (fun _ _ V => ?_)
        obtain ⟨hF1, hF2⟩ := dx_r2 hF
        subst hF1
        subst hF2
        exact mo_ri S V hr hlocks rfl dX6_ask_79
      · replace hF := dx_ib_t (dx_bI_n hc) hF
        refine lv_aload_n hx hb dX6_ask_66 rfl (lv_at hl 1 rfl) ?_
        refine lv_iload_n hx hb dX6_ask_67 rfl (lv_at hl 2 rfl) ?_
        obtain ⟨r5, σ5, h5c, hF⟩ := dx_b2_some hF
        refine mo_cVi S V [.int v1] (mo_m_wardMark l D di dz h ad A  v1 σ _ _ h5c) (cwV 1 hts (lw_V q2037 q2039 qs75 q83 q2040) rfl rfl rfl mo_d_wardMark ⟨Nat.le_of_ble_eq_true rfl, Nat.le_of_ble_eq_true rfl⟩) rfl rfl hl.1 (Nat.le_of_ble_eq_true rfl) dX6_ask_68 (fun _ _ V => ?_)
        refine lv_goto (tgt := 79) hx hb dX6_ask_71 (by decide) ?_
        obtain ⟨hF1, hF2⟩ := dx_r2 hF
        subst hF1
        subst hF2
        exact mo_ri S V hr hlocks rfl dX6_ask_79
    · replace hF := (if_pos hc).symm.trans hF
      refine lv_iload_n hx hb dX6_ask_44 rfl (lv_at hl 0 rfl) ?_
      refine lv_if_eq (tgt := 56) hx hb dX6_ask_45 (by decide) (fun hc => ?_) (fun hc => ?_)
      · replace hF := dx_ib_f (dx_bI_0 hc) hF
        refine lv_aload_n hx hb dX6_ask_56 rfl (lv_at hl 1 rfl) ?_
        refine lv_iload_n hx hb dX6_ask_57 rfl (lv_at hl 2 rfl) ?_
        obtain ⟨r6, σ6, h6c, hF⟩ := dx_b2_some hF
        refine mo_cVi S V [.int v1] (mo_m_openSize l D di dz h ad A  v1 σ _ _ h6c) (cwV 1 hts (lw_V q2025 q2027 qs72 q83 q2028) rfl rfl rfl mo_d_openSize ⟨Nat.le_of_ble_eq_true rfl, Nat.le_of_ble_eq_true rfl⟩) rfl rfl hl.1 (Nat.le_of_ble_eq_true rfl) dX6_ask_58 (fun _ _ V => ?_)
        obtain ⟨hF1, hF2⟩ := dx_r2 hF
        subst hF1
        subst hF2
        exact mo_ri S V hr hlocks rfl dX6_ask_61
      · replace hF := dx_ib_t (dx_bI_n hc) hF
        refine lv_aload_n hx hb dX6_ask_48 rfl (lv_at hl 1 rfl) ?_
        refine lv_iload_n hx hb dX6_ask_49 rfl (lv_at hl 2 rfl) ?_
        obtain ⟨r7, σ7, h7c, hF⟩ := dx_b2_some hF
        refine mo_cVi S V [.int v1] (mo_m_wardSize l D di dz h ad A  v1 σ _ _ h7c) (cwV 1 hts (lw_V q2017 q2019 qs70 q83 q2020) rfl rfl rfl mo_d_wardSize ⟨Nat.le_of_ble_eq_true rfl, Nat.le_of_ble_eq_true rfl⟩) rfl rfl hl.1 (Nat.le_of_ble_eq_true rfl) dX6_ask_50 (fun _ _ V => ?_)
        refine lv_goto (tgt := 61) hx hb dX6_ask_53 (by decide) ?_
        obtain ⟨hF1, hF2⟩ := dx_r2 hF
        subst hF1
        subst hF2
        exact mo_ri S V hr hlocks rfl dX6_ask_61
  refine lv_aload_n hx hb dX6_ask_0 rfl (lv_at hl 0 rfl) ?_
  refine lv_iload_n hx hb dX6_ask_1 rfl (lv_at hl 1 rfl) ?_
  obtain ⟨r1, h1c, hF⟩ := dx_b1_some hF
  refine mo_cVi S V [.int p0] (mo_m_isPerson l D di dz h ad A  p0 σ0 _ h1c) (cwV 1 hts (lw_V q1815 q1817 qs51 q83 q1818) rfl rfl rfl mo_d_isPerson ⟨Nat.le_of_ble_eq_true rfl, Nat.le_of_ble_eq_true rfl⟩) rfl rfl hl.1 (Nat.le_of_ble_eq_true rfl) dX6_ask_2 (fun _ _ V => ?_)
  refine lv_if_eq (tgt := 17) hx hb dX6_ask_5 (by decide) (fun hc => ?_) (fun hc => ?_)
  · replace hF := dx_ib_f (dx_bI_0 hc) hF
    refine lv_ldc hx hb hown (hts _ q1714) dX6_ask_17 ?_
    obtain ⟨hF1, hF2⟩ := dx_r2 hF
    subst hF1
    subst hF2
    exact mo_ri S V hr hlocks rfl dX6_ask_19
  · replace hF := dx_ib_t (dx_bI_n hc) hF
    refine lv_iload_n hx hb dX6_ask_8 rfl (lv_at hl 2 rfl) ?_
    refine lv_iconst (v := 0) hx hb dX6_ask_9 (by decide) ?_
    refine lv_iconst (v := 1) hx hb dX6_ask_10 (by decide) ?_
    obtain ⟨r2, h2c, hF⟩ := dx_b1_some hF
    refine dx_cPi S [.int p1, .int (0 : Int32), .int (1 : Int32)] (mo_m_in l p1 (0 : Int32) (1 : Int32) _ h2c) (va_cwS 3 hts (lw_S q1711 q1712 q83 q1713) rfl rfl rfl mo_d_in ⟨Nat.le_of_ble_eq_true rfl, Nat.le_of_ble_eq_true rfl⟩) rfl rfl hl.1 (Nat.le_of_ble_eq_true rfl) dX6_ask_11 ⟨Nat.zero_le _, Nat.zero_le _⟩ ?_
    refine lv_if_ne (tgt := 20) hx hb dX6_ask_14 (by decide) (fun hc => ?_) (fun hc => ?_)
    · replace hF := dx_ib_t (dx_bI_n hc) hF
      refine lv_aload_n hx hb dX6_ask_20 rfl (lv_at hl 0 rfl) ?_
      refine lv_iconst (v := 0) hx hb dX6_ask_21 (by decide) ?_
      refine mo_put S V 28 11 (by decide) rfl q1643 rfl rfl rfl dX6_ask_22 (fun _ _ V => ?_)
      refine lv_aload_n hx hb dX6_ask_25 rfl (lv_at hl 0 rfl) ?_
      refine lv_iload_n hx hb dX6_ask_26 rfl (lv_at hl 1 rfl) ?_
      obtain ⟨r3, h3c, hF⟩ := dx_b1_some hF
      refine mo_cVi S V [.int p0] (mo_m_kindIn l D di dz h ad A  p0 (mo_I σ0 11 (0 : Int32)) _ h3c) (cwV 1 hts (lw_V q2005 q2007 qs69 q83 q2008) rfl rfl rfl mo_d_kindIn ⟨Nat.le_of_ble_eq_true rfl, Nat.le_of_ble_eq_true rfl⟩) rfl rfl hl.1 (Nat.le_of_ble_eq_true rfl) dX6_ask_27 (fun _ _ V => ?_)
      refine lv_iconst (v := 4) hx hb dX6_ask_30 (by decide) ?_
      refine lv_icmp_lt (tgt := 38) hx hb dX6_ask_31 (by decide) (fun hc => ?_) (fun hc => ?_)
      · replace hF := (if_pos hc).symm.trans hF
        refine lv_iconst (v := 0) hx hb dX6_ask_38 (by decide) ?_
        exact hJ39 (mo_I σ0 11 (0 : Int32)) p0 p1 false _ _ _ hF V (lv_sub hl [0, 1, 2] rfl)
      · replace hF := (if_neg hc).symm.trans hF
        refine lv_iconst (v := 1) hx hb dX6_ask_34 (by decide) ?_
        refine lv_goto (tgt := 39) hx hb dX6_ask_35 (by decide) ?_
        exact hJ39 (mo_I σ0 11 (0 : Int32)) p0 p1 true _ _ _ hF V (lv_sub hl [0, 1, 2] rfl)
    · replace hF := dx_ib_f (dx_bI_0 hc) hF
      refine lv_ldc hx hb hown (hts _ q1714) dX6_ask_17 ?_
      obtain ⟨hF1, hF2⟩ := dx_r2 hF
      subst hF1
      subst hF2
      exact mo_ri S V hr hlocks rfl dX6_ask_19
theorem mo_d_trace : yX6_trace.cls = RX6 ∧ yX6_trace.cls ≠ "java/lang/invoke/MethodHandle" ∧ yX6_trace.cls ≠ "java/lang/invoke/VarHandle" ∧ (parseMethodDescriptor yX6_trace.desc).map (fun d => d.parameters.length) = some 1 := by decide +kernel
set_option maxHeartbeats 4000000 in
set_option maxRecDepth 100000 in
theorem mo_m_trace (l : Launch) (D : va_G) (di dz : ClassId) (h : Nat) (ad : Nat → Nat) (A : Nat → Prop)  (p0 : Int32) (σ0 : mo_S) (r : Int32) (hF : mo_trace σ0 p0 = some r) : mo_Ci l yX6_trace cX6_trace 2 .int ({ frames := 1, cells := 0, slots := 0, locals := 22 }) D di dz h ad A [.ref h, .int p0] σ0 r σ0 := by
  refine dx_in RX6 rfl (by decide) (Nat.le_of_ble_eq_true rfl) ?_
  intro p e s m below meth c ls S hr hlocks hv hl
  have hx := S.1
  have hb := S.2.1
  have hown := S.2.2.2.1
  have hts := S.2.2.2.2
  obtain ⟨hK, hP, hD⟩ := hv
  have V : mo_V D di dz h ad A s.heap σ0 s s.heap [] := ⟨hK, hP, hD, va_S.rf⟩
  replace hl : lv_has ls 2 [(0, .ref h), (1, .int p0)] := hl
  unfold mo_trace at hF
  refine lv_iload_n hx hb dX6_trace_0 rfl (lv_at hl 1 rfl) ?_
  refine lv_iconst (v := 0) hx hb dX6_trace_1 (by decide) ?_
  refine lv_aload_n hx hb dX6_trace_2 rfl (lv_at hl 0 rfl) ?_
  refine mo_get S V 28 (by decide) rfl q1643 rfl dX6_trace_3 ?_
  refine lv_iconst (v := 1) hx hb dX6_trace_6 (by decide) ?_
  refine lv_isub hx hb dX6_trace_7 ?_
  obtain ⟨r1, h1c, hF⟩ := dx_b1_some hF
  refine dx_cPi S [.int p0, .int (0 : Int32), .int ((σ0.1 11) - (1 : Int32))] (mo_m_in l p0 (0 : Int32) ((σ0.1 11) - (1 : Int32)) _ h1c) (va_cwS 3 hts (lw_S q1711 q1712 q83 q1713) rfl rfl rfl mo_d_in ⟨Nat.le_of_ble_eq_true rfl, Nat.le_of_ble_eq_true rfl⟩) rfl rfl hl.1 (Nat.le_of_ble_eq_true rfl) dX6_trace_8 ⟨Nat.zero_le _, Nat.zero_le _⟩ ?_
  refine lv_if_eq (tgt := 23) hx hb dX6_trace_11 (by decide) (fun hc => ?_) (fun hc => ?_)
  · replace hF := dx_ib_f (dx_bI_0 hc) hF
    refine lv_ldc hx hb hown (hts _ q1614) dX6_trace_23 ?_
    replace hF := Option.some.inj hF
    subst hF
    exact mo_ri S V hr hlocks rfl dX6_trace_25
  · replace hF := dx_ib_t (dx_bI_n hc) hF
    refine lv_aload_n hx hb dX6_trace_14 rfl (lv_at hl 0 rfl) ?_
    refine mo_get S V 27 (by decide) rfl q1642 rfl dX6_trace_15 ?_
    refine lv_iload_n hx hb dX6_trace_18 rfl (lv_at hl 1 rfl) ?_
    obtain ⟨hg, hF⟩ := dx_gd_some hF
    refine mo_ld S V 16 (by decide) (dx_inb_in hg) dX6_trace_19 ?_
    refine lv_goto (tgt := 25) hx hb dX6_trace_20 (by decide) ?_
    replace hF := Option.some.inj hF
    subst hF
    exact mo_ri S V hr hlocks rfl dX6_trace_25
theorem mo_d_count : yX6_count.cls = RX6 ∧ yX6_count.cls ≠ "java/lang/invoke/MethodHandle" ∧ yX6_count.cls ≠ "java/lang/invoke/VarHandle" ∧ (parseMethodDescriptor yX6_count.desc).map (fun d => d.parameters.length) = some 1 := by decide +kernel
set_option maxHeartbeats 4000000 in
set_option maxRecDepth 100000 in
theorem mo_m_count (l : Launch) (D : va_G) (di dz : ClassId) (h : Nat) (ad : Nat → Nat) (A : Nat → Prop)  (p0 : Int32) (σ0 : mo_S) (r : Int32) (hF : mo_count σ0 p0 = some r) : mo_Ci l yX6_count cX6_count 4 .int ({ frames := 1, cells := 0, slots := 0, locals := 21 }) D di dz h ad A [.ref h, .int p0] σ0 r σ0 := by
  refine dx_in RX6 rfl (by decide) (Nat.le_of_ble_eq_true rfl) ?_
  intro p e s m below meth c ls S hr hlocks hv hl
  have hx := S.1
  have hb := S.2.1
  have hown := S.2.2.2.1
  have hts := S.2.2.2.2
  obtain ⟨hK, hP, hD⟩ := hv
  have V : mo_V D di dz h ad A s.heap σ0 s s.heap [] := ⟨hK, hP, hD, va_S.rf⟩
  replace hl : lv_has ls 4 [(0, .ref h), (1, .int p0)] := hl
  unfold mo_count at hF
  have hL50 : ∀  (n : Nat) (v2 : Int32) (v3 : Int32) (H : Heap) (locs : List Loc) (ls : Array Slot), dx_lp (fun x => mo_count_L50 σ0 x.1 x.2) n (v2, v3) = some r → mo_V D di dz h ad A s.heap σ0 s H locs → lv_has ls 4 [(0, .ref h), (2, .int v2), (3, .int v3)] → W p l e ({ frames := 1, cells := 0, slots := 0, locals := 21 }) s m ([.ref h, .int p0] : List Value).toArray below meth c H locs 0 0 (MQ below (mo_Qi D di dz h ad A r σ0) ([.ref h, .int p0] : List Value).toArray s 0 0 A) (F0 m 50 ls []) := by
    intro n
    induction n with
    | zero =>
      intro v2 v3 H locs ls hF V hl
      exact (dx_lp_0 hF).elim
    | succ n ih50 =>
      intro v2 v3 H locs ls hF V hl
      obtain ⟨y50, hF, hz50⟩ := dx_lp_s hF
      replace hF : mo_count_L50 σ0 v2 v3 = some y50 := hF
      unfold mo_count_L50 at hF
      refine lv_iload_n hx hb dX6_count_50 rfl (lv_at hl 2 rfl) ?_
      refine lv_bipush (v := 8) hx hb dX6_count_51 (by decide) ?_
      refine lv_icmp_ge (tgt := 78) hx hb dX6_count_53 (by decide) (fun hc => ?_) (fun hc => ?_)
      · replace hF := (if_pos hc).symm.trans hF
        replace hF := dx_ex_k hF hz50
        refine lv_iload_n hx hb dX6_count_78 rfl (lv_at hl 1 rfl) ?_
        replace hF := Option.some.inj hF
        subst hF
        exact mo_ri S V hr hlocks rfl dX6_count_79
      · replace hF := (if_neg hc).symm.trans hF
        refine lv_iload_n hx hb dX6_count_56 rfl (lv_at hl 1 rfl) ?_
        refine lv_aload_n hx hb dX6_count_57 rfl (lv_at hl 0 rfl) ?_
        refine lv_iload_n hx hb dX6_count_58 rfl (lv_at hl 2 rfl) ?_
        obtain ⟨r1, h1c, hF⟩ := dx_b1_some hF
        refine mo_cVi S V [.int v3] (mo_m_isMissing l D di dz h ad A  v3 σ0 _ h1c) (cwV 1 hts (lw_V q1728 q1730 qs38 q83 q1731) rfl rfl rfl mo_d_isMissing ⟨Nat.le_of_ble_eq_true rfl, Nat.le_of_ble_eq_true rfl⟩) rfl rfl hl.1 (Nat.le_of_ble_eq_true rfl) dX6_count_59 (fun _ _ V => ?_)
        refine lv_if_eq (tgt := 69) hx hb dX6_count_62 (by decide) (fun hc => ?_) (fun hc => ?_)
        · replace hF := dx_ib_f (dx_bI_0 hc) hF
          refine lv_iconst (v := 1) hx hb dX6_count_69 (by decide) ?_
          refine lv_iadd hx hb dX6_count_70 ?_
          refine lv_istore_n (lv' := [(2, .int (v2 + (1 : Int32))), (0, .ref h), (3, .int v3)]) hx hb dX6_count_71 rfl hl (by decide) rfl (fun ls hl => ?_)
          refine lv_iinc (v := (v3 + (1 : Int32))) (lv' := [(3, .int (v3 + (1 : Int32))), (2, .int (v2 + (1 : Int32))), (0, .ref h)]) hx hb dX6_count_72 hl (k := 2) rfl rfl (by decide) rfl (fun ls hl => ?_)
          refine lv_goto (tgt := 50) hx hb dX6_count_75 (by decide) ?_
          replace hF := Option.some.inj hF
          subst hF
          exact ih50 (v2 + (1 : Int32)) (v3 + (1 : Int32)) _ _ _ (dx_lk_l hz50) V (lv_sub hl [2, 1, 0] rfl)
        · replace hF := dx_ib_t (dx_bI_n hc) hF
          refine lv_iconst (v := 0) hx hb dX6_count_65 (by decide) ?_
          refine lv_goto (tgt := 70) hx hb dX6_count_66 (by decide) ?_
          refine lv_iadd hx hb dX6_count_70 ?_
          refine lv_istore_n (lv' := [(2, .int (v2 + (0 : Int32))), (0, .ref h), (3, .int v3)]) hx hb dX6_count_71 rfl hl (by decide) rfl (fun ls hl => ?_)
          refine lv_iinc (v := (v3 + (1 : Int32))) (lv' := [(3, .int (v3 + (1 : Int32))), (2, .int (v2 + (0 : Int32))), (0, .ref h)]) hx hb dX6_count_72 hl (k := 2) rfl rfl (by decide) rfl (fun ls hl => ?_)
          refine lv_goto (tgt := 50) hx hb dX6_count_75 (by decide) ?_
          replace hF := Option.some.inj hF
          subst hF
          exact ih50 (v2 + (0 : Int32)) (v3 + (1 : Int32)) _ _ _ (dx_lk_l hz50) V (lv_sub hl [2, 1, 0] rfl)
  have hL96 : ∀  (n : Nat) (v2 : Int32) (v3 : Int32) (H : Heap) (locs : List Loc) (ls : Array Slot), dx_lp (fun x => mo_count_L96 σ0 x.1 x.2) n (v2, v3) = some r → mo_V D di dz h ad A s.heap σ0 s H locs → lv_has ls 4 [(0, .ref h), (2, .int v2), (3, .int v3)] → W p l e ({ frames := 1, cells := 0, slots := 0, locals := 21 }) s m ([.ref h, .int p0] : List Value).toArray below meth c H locs 0 0 (MQ below (mo_Qi D di dz h ad A r σ0) ([.ref h, .int p0] : List Value).toArray s 0 0 A) (F0 m 96 ls []) := by
    intro n
    induction n with
    | zero =>
      intro v2 v3 H locs ls hF V hl
      exact (dx_lp_0 hF).elim
    | succ n ih96 =>
      intro v2 v3 H locs ls hF V hl
      obtain ⟨y96, hF, hz96⟩ := dx_lp_s hF
      replace hF : mo_count_L96 σ0 v2 v3 = some y96 := hF
      unfold mo_count_L96 at hF
      refine lv_iload_n hx hb dX6_count_96 rfl (lv_at hl 2 rfl) ?_
      refine lv_aload_n hx hb dX6_count_97 rfl (lv_at hl 0 rfl) ?_
      refine mo_get S V 13 (by decide) rfl q1628 rfl dX6_count_98 ?_
      refine lv_iconst (v := 0) hx hb dX6_count_101 (by decide) ?_
      refine mo_ld S V 5 (by decide) (dx_inb_in rfl) dX6_count_102 ?_
      refine lv_icmp_ge (tgt := 135) hx hb dX6_count_103 (by decide) (fun hc => ?_) (fun hc => ?_)
      · replace hF := (if_pos hc).symm.trans hF
        replace hF := dx_ex_k hF hz96
        refine lv_iload_n hx hb dX6_count_135 rfl (lv_at hl 1 rfl) ?_
        replace hF := Option.some.inj hF
        subst hF
        exact mo_ri S V hr hlocks rfl dX6_count_136
      · replace hF := (if_neg hc).symm.trans hF
        refine lv_iload_n hx hb dX6_count_106 rfl (lv_at hl 1 rfl) ?_
        refine lv_aload_n hx hb dX6_count_107 rfl (lv_at hl 0 rfl) ?_
        refine mo_get S V 13 (by decide) rfl q1628 rfl dX6_count_108 ?_
        refine lv_iconst (v := 4) hx hb dX6_count_111 (by decide) ?_
        refine lv_iconst (v := 2) hx hb dX6_count_112 (by decide) ?_
        refine lv_iload_n hx hb dX6_count_113 rfl (lv_at hl 2 rfl) ?_
        refine lv_imul hx hb dX6_count_114 ?_
        refine lv_iadd hx hb dX6_count_115 ?_
        refine lv_iconst (v := 1) hx hb dX6_count_116 (by decide) ?_
        refine lv_iadd hx hb dX6_count_117 ?_
        obtain ⟨hg, hF⟩ := dx_gd_some hF
        refine mo_ld S V 5 (by decide) (dx_inb_in hg) dX6_count_118 ?_
        refine lv_if_ge (tgt := 126) hx hb dX6_count_119 (by decide) (fun hc => ?_) (fun hc => ?_)
        · replace hF := (if_pos hc).symm.trans hF
          refine lv_iconst (v := 1) hx hb dX6_count_126 (by decide) ?_
          refine lv_iadd hx hb dX6_count_127 ?_
          refine lv_istore_n (lv' := [(2, .int (v2 + (1 : Int32))), (0, .ref h), (3, .int v3)]) hx hb dX6_count_128 rfl hl (by decide) rfl (fun ls hl => ?_)
          refine lv_iinc (v := (v3 + (1 : Int32))) (lv' := [(3, .int (v3 + (1 : Int32))), (2, .int (v2 + (1 : Int32))), (0, .ref h)]) hx hb dX6_count_129 hl (k := 2) rfl rfl (by decide) rfl (fun ls hl => ?_)
          refine lv_goto (tgt := 96) hx hb dX6_count_132 (by decide) ?_
          replace hF := Option.some.inj hF
          subst hF
          exact ih96 (v2 + (1 : Int32)) (v3 + (1 : Int32)) _ _ _ (dx_lk_l hz96) V (lv_sub hl [2, 1, 0] rfl)
        · replace hF := (if_neg hc).symm.trans hF
          refine lv_iconst (v := 0) hx hb dX6_count_122 (by decide) ?_
          refine lv_goto (tgt := 127) hx hb dX6_count_123 (by decide) ?_
          refine lv_iadd hx hb dX6_count_127 ?_
          refine lv_istore_n (lv' := [(2, .int (v2 + (0 : Int32))), (0, .ref h), (3, .int v3)]) hx hb dX6_count_128 rfl hl (by decide) rfl (fun ls hl => ?_)
          refine lv_iinc (v := (v3 + (1 : Int32))) (lv' := [(3, .int (v3 + (1 : Int32))), (2, .int (v2 + (0 : Int32))), (0, .ref h)]) hx hb dX6_count_129 hl (k := 2) rfl rfl (by decide) rfl (fun ls hl => ?_)
          refine lv_goto (tgt := 96) hx hb dX6_count_132 (by decide) ?_
          replace hF := Option.some.inj hF
          subst hF
          exact ih96 (v2 + (0 : Int32)) (v3 + (1 : Int32)) _ _ _ (dx_lk_l hz96) V (lv_sub hl [2, 1, 0] rfl)
  refine lv_iconst (v := 0) hx hb dX6_count_0 (by decide) ?_
  refine lv_istore_n (lv' := [(2, .int (0 : Int32)), (0, .ref h), (1, .int p0)]) hx hb dX6_count_1 rfl hl (by decide) rfl (fun ls hl => ?_)
  refine lv_iload_n hx hb dX6_count_2 rfl (lv_at hl 2 rfl) ?_
  by_cases hs0 : p0 = (0 : Int32)
  · replace hF := (if_pos hs0).symm.trans hF
    refine lv_tableIn (tgt := 48) hx hb dX6_count_3 (by rw [hs0]; decide) (by rw [hs0]; decide) (by rw [hs0]; rfl) (by decide) ?_
    refine lv_iconst (v := 0) hx hb dX6_count_48 (by decide) ?_
    refine lv_istore_n (lv' := [(3, .int (0 : Int32)), (2, .int (0 : Int32)), (0, .ref h), (1, .int p0)]) hx hb dX6_count_49 rfl hl (by decide) rfl (fun ls hl => ?_)
    exact hL50  dx_fu (0 : Int32) (0 : Int32) _ _ _ hF V (lv_sub hl [2, 1, 0] rfl)
  replace hF := (if_neg hs0).symm.trans hF
  by_cases hs1 : p0 = (1 : Int32)
  · replace hF := (if_pos hs1).symm.trans hF
    refine lv_tableIn (tgt := 80) hx hb dX6_count_3 (by rw [hs1]; decide) (by rw [hs1]; decide) (by rw [hs1]; rfl) (by decide) ?_
    refine lv_aload_n hx hb dX6_count_80 rfl (lv_at hl 1 rfl) ?_
    refine mo_get S V 13 (by decide) rfl q1628 rfl dX6_count_81 ?_
    refine lv_iconst (v := 0) hx hb dX6_count_84 (by decide) ?_
    refine mo_ld S V 5 (by decide) (dx_inb_in rfl) dX6_count_85 ?_
    replace hF := Option.some.inj hF
    subst hF
    exact mo_ri S V hr hlocks rfl dX6_count_86
  replace hF := (if_neg hs1).symm.trans hF
  by_cases hs2 : p0 = (2 : Int32)
  · replace hF := (if_pos hs2).symm.trans hF
    refine lv_tableIn (tgt := 87) hx hb dX6_count_3 (by rw [hs2]; decide) (by rw [hs2]; decide) (by rw [hs2]; rfl) (by decide) ?_
    refine lv_aload_n hx hb dX6_count_87 rfl (lv_at hl 1 rfl) ?_
    refine mo_get S V 13 (by decide) rfl q1628 rfl dX6_count_88 ?_
    refine lv_iconst (v := 1) hx hb dX6_count_91 (by decide) ?_
    refine mo_ld S V 5 (by decide) (dx_inb_in rfl) dX6_count_92 ?_
    replace hF := Option.some.inj hF
    subst hF
    exact mo_ri S V hr hlocks rfl dX6_count_93
  replace hF := (if_neg hs2).symm.trans hF
  by_cases hs3 : p0 = (3 : Int32)
  · replace hF := (if_pos hs3).symm.trans hF
    refine lv_tableIn (tgt := 94) hx hb dX6_count_3 (by rw [hs3]; decide) (by rw [hs3]; decide) (by rw [hs3]; rfl) (by decide) ?_
    refine lv_iconst (v := 0) hx hb dX6_count_94 (by decide) ?_
    refine lv_istore_n (lv' := [(3, .int (0 : Int32)), (2, .int (0 : Int32)), (0, .ref h), (1, .int p0)]) hx hb dX6_count_95 rfl hl (by decide) rfl (fun ls hl => ?_)
    exact hL96  dx_fu (0 : Int32) (0 : Int32) _ _ _ hF V (lv_sub hl [2, 1, 0] rfl)
  replace hF := (if_neg hs3).symm.trans hF
  by_cases hs4 : p0 = (4 : Int32)
  · replace hF := (if_pos hs4).symm.trans hF
    refine lv_tableIn (tgt := 137) hx hb dX6_count_3 (by rw [hs4]; decide) (by rw [hs4]; decide) (by rw [hs4]; rfl) (by decide) ?_
    refine lv_aload_n hx hb dX6_count_137 rfl (lv_at hl 1 rfl) ?_
    refine mo_get S V 13 (by decide) rfl q1628 rfl dX6_count_138 ?_
    refine lv_iconst (v := 2) hx hb dX6_count_141 (by decide) ?_
    refine mo_ld S V 5 (by decide) (dx_inb_in rfl) dX6_count_142 ?_
    replace hF := Option.some.inj hF
    subst hF
    exact mo_ri S V hr hlocks rfl dX6_count_143
  replace hF := (if_neg hs4).symm.trans hF
  by_cases hs5 : p0 = (5 : Int32)
  · replace hF := (if_pos hs5).symm.trans hF
    refine lv_tableIn (tgt := 144) hx hb dX6_count_3 (by rw [hs5]; decide) (by rw [hs5]; decide) (by rw [hs5]; rfl) (by decide) ?_
    refine lv_aload_n hx hb dX6_count_144 rfl (lv_at hl 1 rfl) ?_
    refine mo_get S V 13 (by decide) rfl q1628 rfl dX6_count_145 ?_
    refine lv_iconst (v := 3) hx hb dX6_count_148 (by decide) ?_
    refine mo_ld S V 5 (by decide) (dx_inb_in rfl) dX6_count_149 ?_
    replace hF := Option.some.inj hF
    subst hF
    exact mo_ri S V hr hlocks rfl dX6_count_150
  replace hF := (if_neg hs5).symm.trans hF
  by_cases hs6 : p0 = (6 : Int32)
  · replace hF := (if_pos hs6).symm.trans hF
    refine lv_tableIn (tgt := 151) hx hb dX6_count_3 (by rw [hs6]; decide) (by rw [hs6]; decide) (by rw [hs6]; rfl) (by decide) ?_
    refine lv_aload_n hx hb dX6_count_151 rfl (lv_at hl 1 rfl) ?_
    refine mo_get S V 17 (by decide) rfl q1632 rfl dX6_count_152 ?_
    replace hF := Option.some.inj hF
    subst hF
    exact mo_ri S V hr hlocks rfl dX6_count_155
  replace hF := (if_neg hs6).symm.trans hF
  by_cases hs7 : p0 = (7 : Int32)
  · replace hF := (if_pos hs7).symm.trans hF
    refine lv_tableIn (tgt := 156) hx hb dX6_count_3 (by rw [hs7]; decide) (by rw [hs7]; decide) (by rw [hs7]; rfl) (by decide) ?_
    refine lv_aload_n hx hb dX6_count_156 rfl (lv_at hl 1 rfl) ?_
    refine mo_get S V 6 (by decide) rfl q1621 rfl dX6_count_157 ?_
    replace hF := Option.some.inj hF
    subst hF
    exact mo_ri S V hr hlocks rfl dX6_count_160
  replace hF := (if_neg hs7).symm.trans hF
  refine lv_tableOut (tgt := 161) hx hb dX6_count_3 (by have nhs0 := lv_neT hs0 (show ((0 : Int32)).toInt = 0 from rfl); have nhs1 := lv_neT hs1 (show ((1 : Int32)).toInt = 1 from rfl); have nhs2 := lv_neT hs2 (show ((2 : Int32)).toInt = 2 from rfl); have nhs3 := lv_neT hs3 (show ((3 : Int32)).toInt = 3 from rfl); have nhs4 := lv_neT hs4 (show ((4 : Int32)).toInt = 4 from rfl); have nhs5 := lv_neT hs5 (show ((5 : Int32)).toInt = 5 from rfl); have nhs6 := lv_neT hs6 (show ((6 : Int32)).toInt = 6 from rfl); have nhs7 := lv_neT hs7 (show ((7 : Int32)).toInt = 7 from rfl); omega) (by decide) ?_
  refine lv_ldc hx hb hown (hts _ q1714) dX6_count_161 ?_
  replace hF := Option.some.inj hF
  subst hF
  exact mo_ri S V hr hlocks rfl dX6_count_163
theorem mo_d_status : yX6_status.cls = RX6 ∧ yX6_status.cls ≠ "java/lang/invoke/MethodHandle" ∧ yX6_status.cls ≠ "java/lang/invoke/VarHandle" ∧ (parseMethodDescriptor yX6_status.desc).map (fun d => d.parameters.length) = some 0 := by decide +kernel
set_option maxHeartbeats 4000000 in
set_option maxRecDepth 100000 in
theorem mo_m_status (l : Launch) (D : va_G) (di dz : ClassId) (h : Nat) (ad : Nat → Nat) (A : Nat → Prop)   (σ0 : mo_S) (r : Int32) (hF : mo_status σ0 = some r) : mo_Ci l yX6_status cX6_status 1 .int ({ frames := 0, cells := 0, slots := 0, locals := 0 }) D di dz h ad A [.ref h] σ0 r σ0 := by
  refine dx_in RX6 rfl (by decide) (Nat.le_of_ble_eq_true rfl) ?_
  intro p e s m below meth c ls S hr hlocks hv hl
  have hx := S.1
  have hb := S.2.1
  have hown := S.2.2.2.1
  have hts := S.2.2.2.2
  obtain ⟨hK, hP, hD⟩ := hv
  have V : mo_V D di dz h ad A s.heap σ0 s s.heap [] := ⟨hK, hP, hD, va_S.rf⟩
  replace hl : lv_has ls 1 [(0, .ref h)] := hl
  unfold mo_status at hF
  refine lv_aload_n hx hb dX6_status_0 rfl (lv_at hl 0 rfl) ?_
  refine mo_get S V 4 (by decide) rfl q1619 rfl dX6_status_1 ?_
  replace hF := Option.some.inj hF
  subst hF
  exact mo_ri S V hr hlocks rfl dX6_status_4
